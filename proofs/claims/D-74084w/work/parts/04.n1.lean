/-! StripeShelf -/
set_option maxRecDepth 100000
def RX1 : String := "StripeShelf"
def TX1 : u_T := fun k => match k with
  | 0 => ("StripeShelf", "fault", "LStripeShelf$Fault;", true)
  | 1 => ("StripeShelf", "tape", "[B", true)
  | 2 => ("StripeShelf", "taped", "I", false)
  | 3 => ("StripeShelf", "place", "I", false)
  | 4 => ("StripeShelf", "toldMany", "I", false)
  | 5 => ("StripeShelf", "readRule", "[I", true)
  | 6 => ("StripeShelf", "rules", "[I", true)
  | 7 => ("StripeShelf", "readByte", "[I", true)
  | 8 => ("StripeShelf", "ruleLow", "[I", true)
  | 9 => ("StripeShelf", "ruleHigh", "[I", true)
  | 10 => ("StripeShelf", "ruleUsual", "[I", true)
  | 11 => ("StripeShelf", "byteLow", "[I", true)
  | 12 => ("StripeShelf", "byteHigh", "[I", true)
  | 13 => ("StripeShelf", "byteUsual", "[I", true)
  | 14 => ("StripeShelf", "scripts", "[I", true)
  | 15 => ("StripeShelf", "scriptLong", "[I", true)
  | 16 => ("StripeShelf", "numbers", "[I", true)
  | 17 => ("StripeShelf", "scriptMany", "I", false)
  | 18 => ("StripeShelf", "field", "LStripeShelf$Field;", true)
  | 19 => ("StripeShelf", "now", "LStripeShelf$State;", false)
  | 20 => ("StripeShelf", "image", "LStripeShelf$State;", false)
  | 21 => ("StripeShelf", "past", "LStripeShelf$Past;", true)
  | 22 => ("StripeShelf", "refused", "[I", true)
  | 23 => ("StripeShelf", "spotDisk", "I", false)
  | 24 => ("StripeShelf", "spotStripe", "I", false)
  | 25 => ("StripeShelf", "spotByte", "I", false)
  | 26 => ("StripeShelf", "spotPart", "I", false)
  | 27 => ("StripeShelf", "solved", "[I", true)
  | 28 => ("StripeShelf", "ways", "LStripeShelf$Row;", true)
  | 29 => ("StripeShelf", "off", "I", false)
  | 30 => ("StripeShelf", "weighedOff", "I", false)
  | _ => ("StripeShelf", "drawn", "J", false)
def tyX1 : Nat → FieldType := fun k => match k with
  | 0 => .object "StripeShelf$Fault"
  | 1 => .array .byte
  | 2 => .int
  | 3 => .int
  | 4 => .int
  | 5 => .array .int
  | 6 => .array .int
  | 7 => .array .int
  | 8 => .array .int
  | 9 => .array .int
  | 10 => .array .int
  | 11 => .array .int
  | 12 => .array .int
  | 13 => .array .int
  | 14 => .array .int
  | 15 => .array .int
  | 16 => .array .int
  | 17 => .int
  | 18 => .object "StripeShelf$Field"
  | 19 => .object "StripeShelf$State"
  | 20 => .object "StripeShelf$State"
  | 21 => .object "StripeShelf$Past"
  | 22 => .array .int
  | 23 => .int
  | 24 => .int
  | 25 => .int
  | 26 => .int
  | 27 => .array .int
  | 28 => .object "StripeShelf$Row"
  | 29 => .int
  | 30 => .int
  | _ => .long
abbrev wsX10 : List Cond := u_ws RX1 TX1 32
set_option maxRecDepth 100000 in
theorem nmX1 : ∀ a, a < 32 → ∀ b, b < 32 → a ≠ b → (TX1 a).2.1 ≠ (TX1 b).2.1 := by decide +kernel
set_option maxRecDepth 100000 in
theorem tyX1_ok : ∀ k, k < 32 → parseFieldDescriptor (TX1 k).2.2.1 = some (tyX1 k) := by decide +kernel
abbrev cX1_feed : ByteArray := prog_1_method_6_code
def yX1_feed : MethodName := ⟨RX1, "feed", "(IIIII)I"⟩
def dkwX1_feed_4 : List UInt8 := [4, 96, 181, 0, 40, 21, 8, 145, 84, 132, 7, 1, 167, 255, 208, 42, 180, 0, 40, 172]
abbrev dktX1_feed_4 : List UInt8 := dkwX1_feed_4 ++ []
def dkwX1_feed_3 : List UInt8 := [21, 5, 21, 7, 184, 0, 34, 54, 8, 21, 8, 153, 0, 22, 42, 180, 0, 43, 42, 89, 180, 0, 40, 90]
abbrev dktX1_feed_3 : List UInt8 := dkwX1_feed_3 ++ dktX1_feed_4
def dkwX1_feed_2 : List UInt8 := [17, 1, 24, 164, 0, 5, 2, 172, 3, 54, 7, 21, 7, 16, 20, 162, 0, 47, 27, 28, 29, 21, 4]
abbrev dktX1_feed_2 : List UInt8 := dkwX1_feed_2 ++ dktX1_feed_3
def dkwX1_feed_1 : List UInt8 := [184, 0, 34, 153, 0, 6, 132, 6, 1, 132, 7, 1, 167, 255, 228, 42, 180, 0, 40, 21, 6, 96]
abbrev dktX1_feed_1 : List UInt8 := dkwX1_feed_1 ++ dktX1_feed_2
def dkwX1_feed_0 : List UInt8 := [3, 54, 6, 3, 54, 7, 21, 7, 16, 20, 162, 0, 27, 27, 28, 29, 21, 4, 21, 5, 21, 7]
abbrev dktX1_feed_0 : List UInt8 := dkwX1_feed_0 ++ dktX1_feed_1
theorem dksX1_feed_0 : cX1_feed.data.toList.drop 0 = dktX1_feed_0 := by decide +kernel
theorem dksX1_feed_1 : cX1_feed.data.toList.drop 22 = dktX1_feed_1 := dk_seg dksX1_feed_0 22 rfl rfl
theorem dksX1_feed_2 : cX1_feed.data.toList.drop 44 = dktX1_feed_2 := dk_seg dksX1_feed_1 22 rfl rfl
theorem dksX1_feed_3 : cX1_feed.data.toList.drop 67 = dktX1_feed_3 := dk_seg dksX1_feed_2 23 rfl rfl
theorem dksX1_feed_4 : cX1_feed.data.toList.drop 91 = dktX1_feed_4 := dk_seg dksX1_feed_3 24 rfl rfl
theorem dX1_feed_0 : decode cX1_feed 0 = .ok (.iconst 0, 1) := dk_3 (dk_at dksX1_feed_0 0 rfl rfl)
theorem dX1_feed_1 : decode cX1_feed 1 = .ok (.istore 6, 2) := dk_54 6 (dk_at dksX1_feed_0 1 rfl rfl)
theorem dX1_feed_3 : decode cX1_feed 3 = .ok (.iconst 0, 1) := dk_3 (dk_at dksX1_feed_0 3 rfl rfl)
theorem dX1_feed_4 : decode cX1_feed 4 = .ok (.istore 7, 2) := dk_54 7 (dk_at dksX1_feed_0 4 rfl rfl)
theorem dX1_feed_6 : decode cX1_feed 6 = .ok (.iload 7, 2) := dk_21 7 (dk_at dksX1_feed_0 6 rfl rfl)
theorem dX1_feed_8 : decode cX1_feed 8 = .ok (.bipush 20, 2) := dk_16 20 (dk_at dksX1_feed_0 8 rfl rfl)
theorem dX1_feed_10 : decode cX1_feed 10 = .ok (.if_icmp .ge 27, 3) := dk_162 0 27 (dk_at dksX1_feed_0 10 rfl rfl)
theorem dX1_feed_13 : decode cX1_feed 13 = .ok (.iload_n 1, 1) := dk_27 (dk_at dksX1_feed_0 13 rfl rfl)
theorem dX1_feed_14 : decode cX1_feed 14 = .ok (.iload_n 2, 1) := dk_28 (dk_at dksX1_feed_0 14 rfl rfl)
theorem dX1_feed_15 : decode cX1_feed 15 = .ok (.iload_n 3, 1) := dk_29 (dk_at dksX1_feed_0 15 rfl rfl)
theorem dX1_feed_16 : decode cX1_feed 16 = .ok (.iload 4, 2) := dk_21 4 (dk_at dksX1_feed_0 16 rfl rfl)
theorem dX1_feed_18 : decode cX1_feed 18 = .ok (.iload 5, 2) := dk_21 5 (dk_at dksX1_feed_0 18 rfl rfl)
theorem dX1_feed_20 : decode cX1_feed 20 = .ok (.iload 7, 2) := dk_21 7 (dk_at dksX1_feed_0 20 rfl rfl)
theorem dX1_feed_22 : decode cX1_feed 22 = .ok (.invokestatic 34, 3) := dk_184 0 34 (dk_at dksX1_feed_1 0 rfl rfl)
theorem dX1_feed_25 : decode cX1_feed 25 = .ok (.ifCond .eq 6, 3) := dk_153 0 6 (dk_at dksX1_feed_1 3 rfl rfl)
theorem dX1_feed_28 : decode cX1_feed 28 = .ok (.iinc 6 1, 3) := dk_132 6 1 (dk_at dksX1_feed_1 6 rfl rfl)
theorem dX1_feed_31 : decode cX1_feed 31 = .ok (.iinc 7 1, 3) := dk_132 7 1 (dk_at dksX1_feed_1 9 rfl rfl)
theorem dX1_feed_34 : decode cX1_feed 34 = .ok (.goto (-28), 3) := dk_167 255 228 (dk_at dksX1_feed_1 12 rfl rfl)
theorem dX1_feed_37 : decode cX1_feed 37 = .ok (.aload_n 0, 1) := dk_42 (dk_at dksX1_feed_1 15 rfl rfl)
theorem dX1_feed_38 : decode cX1_feed 38 = .ok (.getfield 40, 3) := dk_180 0 40 (dk_at dksX1_feed_1 16 rfl rfl)
theorem dX1_feed_41 : decode cX1_feed 41 = .ok (.iload 6, 2) := dk_21 6 (dk_at dksX1_feed_1 19 rfl rfl)
theorem dX1_feed_43 : decode cX1_feed 43 = .ok (.iadd, 1) := dk_96 (dk_at dksX1_feed_1 21 rfl rfl)
theorem dX1_feed_44 : decode cX1_feed 44 = .ok (.sipush 280, 3) := dk_17 1 24 (dk_at dksX1_feed_2 0 rfl rfl)
theorem dX1_feed_47 : decode cX1_feed 47 = .ok (.if_icmp .le 5, 3) := dk_164 0 5 (dk_at dksX1_feed_2 3 rfl rfl)
theorem dX1_feed_50 : decode cX1_feed 50 = .ok (.iconst (-1), 1) := dk_2 (dk_at dksX1_feed_2 6 rfl rfl)
theorem dX1_feed_51 : decode cX1_feed 51 = .ok (.ireturn, 1) := dk_172 (dk_at dksX1_feed_2 7 rfl rfl)
theorem dX1_feed_52 : decode cX1_feed 52 = .ok (.iconst 0, 1) := dk_3 (dk_at dksX1_feed_2 8 rfl rfl)
theorem dX1_feed_53 : decode cX1_feed 53 = .ok (.istore 7, 2) := dk_54 7 (dk_at dksX1_feed_2 9 rfl rfl)
theorem dX1_feed_55 : decode cX1_feed 55 = .ok (.iload 7, 2) := dk_21 7 (dk_at dksX1_feed_2 11 rfl rfl)
theorem dX1_feed_57 : decode cX1_feed 57 = .ok (.bipush 20, 2) := dk_16 20 (dk_at dksX1_feed_2 13 rfl rfl)
theorem dX1_feed_59 : decode cX1_feed 59 = .ok (.if_icmp .ge 47, 3) := dk_162 0 47 (dk_at dksX1_feed_2 15 rfl rfl)
theorem dX1_feed_62 : decode cX1_feed 62 = .ok (.iload_n 1, 1) := dk_27 (dk_at dksX1_feed_2 18 rfl rfl)
theorem dX1_feed_63 : decode cX1_feed 63 = .ok (.iload_n 2, 1) := dk_28 (dk_at dksX1_feed_2 19 rfl rfl)
theorem dX1_feed_64 : decode cX1_feed 64 = .ok (.iload_n 3, 1) := dk_29 (dk_at dksX1_feed_2 20 rfl rfl)
theorem dX1_feed_65 : decode cX1_feed 65 = .ok (.iload 4, 2) := dk_21 4 (dk_at dksX1_feed_2 21 rfl rfl)
theorem dX1_feed_67 : decode cX1_feed 67 = .ok (.iload 5, 2) := dk_21 5 (dk_at dksX1_feed_3 0 rfl rfl)
theorem dX1_feed_69 : decode cX1_feed 69 = .ok (.iload 7, 2) := dk_21 7 (dk_at dksX1_feed_3 2 rfl rfl)
theorem dX1_feed_71 : decode cX1_feed 71 = .ok (.invokestatic 34, 3) := dk_184 0 34 (dk_at dksX1_feed_3 4 rfl rfl)
theorem dX1_feed_74 : decode cX1_feed 74 = .ok (.istore 8, 2) := dk_54 8 (dk_at dksX1_feed_3 7 rfl rfl)
theorem dX1_feed_76 : decode cX1_feed 76 = .ok (.iload 8, 2) := dk_21 8 (dk_at dksX1_feed_3 9 rfl rfl)
theorem dX1_feed_78 : decode cX1_feed 78 = .ok (.ifCond .eq 22, 3) := dk_153 0 22 (dk_at dksX1_feed_3 11 rfl rfl)
theorem dX1_feed_81 : decode cX1_feed 81 = .ok (.aload_n 0, 1) := dk_42 (dk_at dksX1_feed_3 14 rfl rfl)
theorem dX1_feed_82 : decode cX1_feed 82 = .ok (.getfield 43, 3) := dk_180 0 43 (dk_at dksX1_feed_3 15 rfl rfl)
theorem dX1_feed_85 : decode cX1_feed 85 = .ok (.aload_n 0, 1) := dk_42 (dk_at dksX1_feed_3 18 rfl rfl)
theorem dX1_feed_86 : decode cX1_feed 86 = .ok (.dup, 1) := dk_89 (dk_at dksX1_feed_3 19 rfl rfl)
theorem dX1_feed_87 : decode cX1_feed 87 = .ok (.getfield 40, 3) := dk_180 0 40 (dk_at dksX1_feed_3 20 rfl rfl)
theorem dX1_feed_90 : decode cX1_feed 90 = .ok (.dup_x1, 1) := dk_90 (dk_at dksX1_feed_3 23 rfl rfl)
theorem dX1_feed_91 : decode cX1_feed 91 = .ok (.iconst 1, 1) := dk_4 (dk_at dksX1_feed_4 0 rfl rfl)
theorem dX1_feed_92 : decode cX1_feed 92 = .ok (.iadd, 1) := dk_96 (dk_at dksX1_feed_4 1 rfl rfl)
theorem dX1_feed_93 : decode cX1_feed 93 = .ok (.putfield 40, 3) := dk_181 0 40 (dk_at dksX1_feed_4 2 rfl rfl)
theorem dX1_feed_96 : decode cX1_feed 96 = .ok (.iload 8, 2) := dk_21 8 (dk_at dksX1_feed_4 5 rfl rfl)
theorem dX1_feed_98 : decode cX1_feed 98 = .ok (.i2b, 1) := dk_145 (dk_at dksX1_feed_4 7 rfl rfl)
theorem dX1_feed_99 : decode cX1_feed 99 = .ok (.bastore, 1) := dk_84 (dk_at dksX1_feed_4 8 rfl rfl)
theorem dX1_feed_100 : decode cX1_feed 100 = .ok (.iinc 7 1, 3) := dk_132 7 1 (dk_at dksX1_feed_4 9 rfl rfl)
theorem dX1_feed_103 : decode cX1_feed 103 = .ok (.goto (-48), 3) := dk_167 255 208 (dk_at dksX1_feed_4 12 rfl rfl)
theorem dX1_feed_106 : decode cX1_feed 106 = .ok (.aload_n 0, 1) := dk_42 (dk_at dksX1_feed_4 15 rfl rfl)
theorem dX1_feed_107 : decode cX1_feed 107 = .ok (.getfield 40, 3) := dk_180 0 40 (dk_at dksX1_feed_4 16 rfl rfl)
theorem dX1_feed_110 : decode cX1_feed 110 = .ok (.ireturn, 1) := dk_172 (dk_at dksX1_feed_4 19 rfl rfl)
abbrev cX1_byteOf : ByteArray := prog_1_method_5_code
def yX1_byteOf : MethodName := ⟨RX1, "byteOf", "(IIIIII)I"⟩
def dkwX1_byteOf_2 : List UInt8 := [21, 6, 16, 24, 16, 8, 21, 5, 7, 112, 104, 100, 122, 17, 0, 255, 126, 172]
abbrev dktX1_byteOf_2 : List UInt8 := dkwX1_byteOf_2 ++ []
def dkwX1_byteOf_1 : List UInt8 := [16, 12, 162, 0, 7, 28, 167, 0, 16, 21, 5, 16, 16, 162, 0, 7, 29, 167, 0, 5, 21, 4, 54, 6]
abbrev dktX1_byteOf_1 : List UInt8 := dkwX1_byteOf_1 ++ dktX1_byteOf_2
def dkwX1_byteOf_0 : List UInt8 := [21, 5, 7, 162, 0, 7, 26, 167, 0, 38, 21, 5, 16, 8, 162, 0, 7, 27, 167, 0, 27, 21, 5]
abbrev dktX1_byteOf_0 : List UInt8 := dkwX1_byteOf_0 ++ dktX1_byteOf_1
theorem dksX1_byteOf_0 : cX1_byteOf.data.toList.drop 0 = dktX1_byteOf_0 := by decide +kernel
theorem dksX1_byteOf_1 : cX1_byteOf.data.toList.drop 23 = dktX1_byteOf_1 := dk_seg dksX1_byteOf_0 23 rfl rfl
theorem dksX1_byteOf_2 : cX1_byteOf.data.toList.drop 47 = dktX1_byteOf_2 := dk_seg dksX1_byteOf_1 24 rfl rfl
theorem dX1_byteOf_0 : decode cX1_byteOf 0 = .ok (.iload 5, 2) := dk_21 5 (dk_at dksX1_byteOf_0 0 rfl rfl)
theorem dX1_byteOf_2 : decode cX1_byteOf 2 = .ok (.iconst 4, 1) := dk_7 (dk_at dksX1_byteOf_0 2 rfl rfl)
theorem dX1_byteOf_3 : decode cX1_byteOf 3 = .ok (.if_icmp .ge 7, 3) := dk_162 0 7 (dk_at dksX1_byteOf_0 3 rfl rfl)
theorem dX1_byteOf_6 : decode cX1_byteOf 6 = .ok (.iload_n 0, 1) := dk_26 (dk_at dksX1_byteOf_0 6 rfl rfl)
theorem dX1_byteOf_7 : decode cX1_byteOf 7 = .ok (.goto 38, 3) := dk_167 0 38 (dk_at dksX1_byteOf_0 7 rfl rfl)
theorem dX1_byteOf_10 : decode cX1_byteOf 10 = .ok (.iload 5, 2) := dk_21 5 (dk_at dksX1_byteOf_0 10 rfl rfl)
theorem dX1_byteOf_12 : decode cX1_byteOf 12 = .ok (.bipush 8, 2) := dk_16 8 (dk_at dksX1_byteOf_0 12 rfl rfl)
theorem dX1_byteOf_14 : decode cX1_byteOf 14 = .ok (.if_icmp .ge 7, 3) := dk_162 0 7 (dk_at dksX1_byteOf_0 14 rfl rfl)
theorem dX1_byteOf_17 : decode cX1_byteOf 17 = .ok (.iload_n 1, 1) := dk_27 (dk_at dksX1_byteOf_0 17 rfl rfl)
theorem dX1_byteOf_18 : decode cX1_byteOf 18 = .ok (.goto 27, 3) := dk_167 0 27 (dk_at dksX1_byteOf_0 18 rfl rfl)
theorem dX1_byteOf_21 : decode cX1_byteOf 21 = .ok (.iload 5, 2) := dk_21 5 (dk_at dksX1_byteOf_0 21 rfl rfl)
theorem dX1_byteOf_23 : decode cX1_byteOf 23 = .ok (.bipush 12, 2) := dk_16 12 (dk_at dksX1_byteOf_1 0 rfl rfl)
theorem dX1_byteOf_25 : decode cX1_byteOf 25 = .ok (.if_icmp .ge 7, 3) := dk_162 0 7 (dk_at dksX1_byteOf_1 2 rfl rfl)
theorem dX1_byteOf_28 : decode cX1_byteOf 28 = .ok (.iload_n 2, 1) := dk_28 (dk_at dksX1_byteOf_1 5 rfl rfl)
theorem dX1_byteOf_29 : decode cX1_byteOf 29 = .ok (.goto 16, 3) := dk_167 0 16 (dk_at dksX1_byteOf_1 6 rfl rfl)
theorem dX1_byteOf_32 : decode cX1_byteOf 32 = .ok (.iload 5, 2) := dk_21 5 (dk_at dksX1_byteOf_1 9 rfl rfl)
theorem dX1_byteOf_34 : decode cX1_byteOf 34 = .ok (.bipush 16, 2) := dk_16 16 (dk_at dksX1_byteOf_1 11 rfl rfl)
theorem dX1_byteOf_36 : decode cX1_byteOf 36 = .ok (.if_icmp .ge 7, 3) := dk_162 0 7 (dk_at dksX1_byteOf_1 13 rfl rfl)
theorem dX1_byteOf_39 : decode cX1_byteOf 39 = .ok (.iload_n 3, 1) := dk_29 (dk_at dksX1_byteOf_1 16 rfl rfl)
theorem dX1_byteOf_40 : decode cX1_byteOf 40 = .ok (.goto 5, 3) := dk_167 0 5 (dk_at dksX1_byteOf_1 17 rfl rfl)
theorem dX1_byteOf_43 : decode cX1_byteOf 43 = .ok (.iload 4, 2) := dk_21 4 (dk_at dksX1_byteOf_1 20 rfl rfl)
theorem dX1_byteOf_45 : decode cX1_byteOf 45 = .ok (.istore 6, 2) := dk_54 6 (dk_at dksX1_byteOf_1 22 rfl rfl)
theorem dX1_byteOf_47 : decode cX1_byteOf 47 = .ok (.iload 6, 2) := dk_21 6 (dk_at dksX1_byteOf_2 0 rfl rfl)
theorem dX1_byteOf_49 : decode cX1_byteOf 49 = .ok (.bipush 24, 2) := dk_16 24 (dk_at dksX1_byteOf_2 2 rfl rfl)
theorem dX1_byteOf_51 : decode cX1_byteOf 51 = .ok (.bipush 8, 2) := dk_16 8 (dk_at dksX1_byteOf_2 4 rfl rfl)
theorem dX1_byteOf_53 : decode cX1_byteOf 53 = .ok (.iload 5, 2) := dk_21 5 (dk_at dksX1_byteOf_2 6 rfl rfl)
theorem dX1_byteOf_55 : decode cX1_byteOf 55 = .ok (.iconst 4, 1) := dk_7 (dk_at dksX1_byteOf_2 8 rfl rfl)
theorem dX1_byteOf_56 : decode cX1_byteOf 56 = .ok (.irem, 1) := dk_112 (dk_at dksX1_byteOf_2 9 rfl rfl)
theorem dX1_byteOf_57 : decode cX1_byteOf 57 = .ok (.imul, 1) := dk_104 (dk_at dksX1_byteOf_2 10 rfl rfl)
theorem dX1_byteOf_58 : decode cX1_byteOf 58 = .ok (.isub, 1) := dk_100 (dk_at dksX1_byteOf_2 11 rfl rfl)
theorem dX1_byteOf_59 : decode cX1_byteOf 59 = .ok (.ishr, 1) := dk_122 (dk_at dksX1_byteOf_2 12 rfl rfl)
theorem dX1_byteOf_60 : decode cX1_byteOf 60 = .ok (.sipush 255, 3) := dk_17 0 255 (dk_at dksX1_byteOf_2 13 rfl rfl)
theorem dX1_byteOf_63 : decode cX1_byteOf 63 = .ok (.iand, 1) := dk_126 (dk_at dksX1_byteOf_2 16 rfl rfl)
theorem dX1_byteOf_64 : decode cX1_byteOf 64 = .ok (.ireturn, 1) := dk_172 (dk_at dksX1_byteOf_2 17 rfl rfl)
abbrev cX1_end : ByteArray := prog_1_method_7_code
def yX1_end : MethodName := ⟨RX1, "end", "(I)Z"⟩
def dkwX1_end_0 : List UInt8 := [27, 3, 42, 180, 0, 40, 184, 0, 47, 154, 0, 5, 3, 172, 42, 27, 181, 0, 40, 4, 172]
abbrev dktX1_end_0 : List UInt8 := dkwX1_end_0 ++ []
theorem dksX1_end_0 : cX1_end.data.toList.drop 0 = dktX1_end_0 := by decide +kernel
theorem dX1_end_0 : decode cX1_end 0 = .ok (.iload_n 1, 1) := dk_27 (dk_at dksX1_end_0 0 rfl rfl)
theorem dX1_end_1 : decode cX1_end 1 = .ok (.iconst 0, 1) := dk_3 (dk_at dksX1_end_0 1 rfl rfl)
theorem dX1_end_2 : decode cX1_end 2 = .ok (.aload_n 0, 1) := dk_42 (dk_at dksX1_end_0 2 rfl rfl)
theorem dX1_end_3 : decode cX1_end 3 = .ok (.getfield 40, 3) := dk_180 0 40 (dk_at dksX1_end_0 3 rfl rfl)
theorem dX1_end_6 : decode cX1_end 6 = .ok (.invokestatic 47, 3) := dk_184 0 47 (dk_at dksX1_end_0 6 rfl rfl)
theorem dX1_end_9 : decode cX1_end 9 = .ok (.ifCond .ne 5, 3) := dk_154 0 5 (dk_at dksX1_end_0 9 rfl rfl)
theorem dX1_end_12 : decode cX1_end 12 = .ok (.iconst 0, 1) := dk_3 (dk_at dksX1_end_0 12 rfl rfl)
theorem dX1_end_13 : decode cX1_end 13 = .ok (.ireturn, 1) := dk_172 (dk_at dksX1_end_0 13 rfl rfl)
theorem dX1_end_14 : decode cX1_end 14 = .ok (.aload_n 0, 1) := dk_42 (dk_at dksX1_end_0 14 rfl rfl)
theorem dX1_end_15 : decode cX1_end 15 = .ok (.iload_n 1, 1) := dk_27 (dk_at dksX1_end_0 15 rfl rfl)
theorem dX1_end_16 : decode cX1_end 16 = .ok (.putfield 40, 3) := dk_181 0 40 (dk_at dksX1_end_0 16 rfl rfl)
theorem dX1_end_19 : decode cX1_end 19 = .ok (.iconst 1, 1) := dk_4 (dk_at dksX1_end_0 19 rfl rfl)
theorem dX1_end_20 : decode cX1_end 20 = .ok (.ireturn, 1) := dk_172 (dk_at dksX1_end_0 20 rfl rfl)
abbrev cX1_in : ByteArray := prog_1_method_1_code
def yX1_in : MethodName := ⟨RX1, "in", "(III)Z"⟩
def dkwX1_in_0 : List UInt8 := [26, 27, 161, 0, 12, 26, 28, 163, 0, 7, 4, 167, 0, 4, 3, 172]
abbrev dktX1_in_0 : List UInt8 := dkwX1_in_0 ++ []
theorem dksX1_in_0 : cX1_in.data.toList.drop 0 = dktX1_in_0 := by decide +kernel
theorem dX1_in_0 : decode cX1_in 0 = .ok (.iload_n 0, 1) := dk_26 (dk_at dksX1_in_0 0 rfl rfl)
theorem dX1_in_1 : decode cX1_in 1 = .ok (.iload_n 1, 1) := dk_27 (dk_at dksX1_in_0 1 rfl rfl)
theorem dX1_in_2 : decode cX1_in 2 = .ok (.if_icmp .lt 12, 3) := dk_161 0 12 (dk_at dksX1_in_0 2 rfl rfl)
theorem dX1_in_5 : decode cX1_in 5 = .ok (.iload_n 0, 1) := dk_26 (dk_at dksX1_in_0 5 rfl rfl)
theorem dX1_in_6 : decode cX1_in 6 = .ok (.iload_n 2, 1) := dk_28 (dk_at dksX1_in_0 6 rfl rfl)
theorem dX1_in_7 : decode cX1_in 7 = .ok (.if_icmp .gt 7, 3) := dk_163 0 7 (dk_at dksX1_in_0 7 rfl rfl)
theorem dX1_in_10 : decode cX1_in 10 = .ok (.iconst 1, 1) := dk_4 (dk_at dksX1_in_0 10 rfl rfl)
theorem dX1_in_11 : decode cX1_in 11 = .ok (.goto 4, 3) := dk_167 0 4 (dk_at dksX1_in_0 11 rfl rfl)
theorem dX1_in_14 : decode cX1_in 14 = .ok (.iconst 0, 1) := dk_3 (dk_at dksX1_in_0 14 rfl rfl)
theorem dX1_in_15 : decode cX1_in 15 = .ok (.ireturn, 1) := dk_172 (dk_at dksX1_in_0 15 rfl rfl)
abbrev cX1_fault : ByteArray := prog_1_method_18_code
def yX1_fault : MethodName := ⟨RX1, "fault", "(I)I"⟩
def dkwX1_fault_1 : List UInt8 := [7, 182, 0, 147, 2, 172, 77, 42, 180, 0, 51, 172]
abbrev dktX1_fault_1 : List UInt8 := dkwX1_fault_1 ++ []
def dkwX1_fault_0 : List UInt8 := [27, 3, 4, 184, 0, 47, 154, 0, 6, 16, 254, 172, 27, 154, 0, 10, 42, 182, 0, 144, 167, 0, 8, 42]
abbrev dktX1_fault_0 : List UInt8 := dkwX1_fault_0 ++ dktX1_fault_1
theorem dksX1_fault_0 : cX1_fault.data.toList.drop 0 = dktX1_fault_0 := by decide +kernel
theorem dksX1_fault_1 : cX1_fault.data.toList.drop 24 = dktX1_fault_1 := dk_seg dksX1_fault_0 24 rfl rfl
theorem dX1_fault_0 : decode cX1_fault 0 = .ok (.iload_n 1, 1) := dk_27 (dk_at dksX1_fault_0 0 rfl rfl)
theorem dX1_fault_1 : decode cX1_fault 1 = .ok (.iconst 0, 1) := dk_3 (dk_at dksX1_fault_0 1 rfl rfl)
theorem dX1_fault_2 : decode cX1_fault 2 = .ok (.iconst 1, 1) := dk_4 (dk_at dksX1_fault_0 2 rfl rfl)
theorem dX1_fault_3 : decode cX1_fault 3 = .ok (.invokestatic 47, 3) := dk_184 0 47 (dk_at dksX1_fault_0 3 rfl rfl)
theorem dX1_fault_6 : decode cX1_fault 6 = .ok (.ifCond .ne 6, 3) := dk_154 0 6 (dk_at dksX1_fault_0 6 rfl rfl)
theorem dX1_fault_9 : decode cX1_fault 9 = .ok (.bipush (-2), 2) := dk_16 254 (dk_at dksX1_fault_0 9 rfl rfl)
theorem dX1_fault_11 : decode cX1_fault 11 = .ok (.ireturn, 1) := dk_172 (dk_at dksX1_fault_0 11 rfl rfl)
theorem dX1_fault_12 : decode cX1_fault 12 = .ok (.iload_n 1, 1) := dk_27 (dk_at dksX1_fault_0 12 rfl rfl)
theorem dX1_fault_13 : decode cX1_fault 13 = .ok (.ifCond .ne 10, 3) := dk_154 0 10 (dk_at dksX1_fault_0 13 rfl rfl)
theorem dX1_fault_16 : decode cX1_fault 16 = .ok (.aload_n 0, 1) := dk_42 (dk_at dksX1_fault_0 16 rfl rfl)
theorem dX1_fault_17 : decode cX1_fault 17 = .ok (.invokevirtual 144, 3) := dk_182 0 144 (dk_at dksX1_fault_0 17 rfl rfl)
theorem dX1_fault_20 : decode cX1_fault 20 = .ok (.goto 8, 3) := dk_167 0 8 (dk_at dksX1_fault_0 20 rfl rfl)
theorem dX1_fault_23 : decode cX1_fault 23 = .ok (.aload_n 0, 1) := dk_42 (dk_at dksX1_fault_0 23 rfl rfl)
theorem dX1_fault_24 : decode cX1_fault 24 = .ok (.iconst 4, 1) := dk_7 (dk_at dksX1_fault_1 0 rfl rfl)
theorem dX1_fault_25 : decode cX1_fault 25 = .ok (.invokevirtual 147, 3) := dk_182 0 147 (dk_at dksX1_fault_1 1 rfl rfl)
theorem dX1_fault_28 : decode cX1_fault 28 = .ok (.iconst (-1), 1) := dk_2 (dk_at dksX1_fault_1 4 rfl rfl)
theorem dX1_fault_29 : decode cX1_fault 29 = .ok (.ireturn, 1) := dk_172 (dk_at dksX1_fault_1 5 rfl rfl)
theorem dX1_fault_30 : decode cX1_fault 30 = .ok (.astore_n 2, 1) := dk_77 (dk_at dksX1_fault_1 6 rfl rfl)
theorem dX1_fault_31 : decode cX1_fault 31 = .ok (.aload_n 0, 1) := dk_42 (dk_at dksX1_fault_1 7 rfl rfl)
theorem dX1_fault_32 : decode cX1_fault 32 = .ok (.getfield 51, 3) := dk_180 0 51 (dk_at dksX1_fault_1 8 rfl rfl)
theorem dX1_fault_35 : decode cX1_fault 35 = .ok (.ireturn, 1) := dk_172 (dk_at dksX1_fault_1 11 rfl rfl)
abbrev cX1_wholeShelf : ByteArray := prog_1_method_15_code
def yX1_wholeShelf : MethodName := ⟨RX1, "wholeShelf", "()V"⟩
def dkwX1_wholeShelf_9 : List UInt8 := [177]
abbrev dktX1_wholeShelf_9 : List UInt8 := dkwX1_wholeShelf_9 ++ []
def dkwX1_wholeShelf_8 : List UInt8 := [96, 181, 0, 51, 167, 255, 102, 42, 42, 182, 0, 62, 2, 160, 0, 7, 4, 167, 0, 4, 3, 182, 0, 65]
abbrev dktX1_wholeShelf_8 : List UInt8 := dkwX1_wholeShelf_8 ++ dktX1_wholeShelf_9
def dkwX1_wholeShelf_7 : List UInt8 := [182, 0, 62, 16, 59, 160, 0, 7, 4, 167, 0, 4, 3, 61, 28, 153, 0, 13, 42, 89, 180, 0, 51, 4]
abbrev dktX1_wholeShelf_7 : List UInt8 := dkwX1_wholeShelf_7 ++ dktX1_wholeShelf_8
def dkwX1_wholeShelf_6 : List UInt8 := [180, 0, 123, 5, 42, 180, 0, 90, 104, 182, 0, 108, 42, 89, 180, 0, 90, 4, 96, 181, 0, 90, 42]
abbrev dktX1_wholeShelf_6 : List UInt8 := dkwX1_wholeShelf_6 ++ dktX1_wholeShelf_7
def dkwX1_wholeShelf_5 : List UInt8 := [182, 0, 108, 4, 60, 167, 0, 41, 42, 18, 112, 42, 180, 0, 114, 42, 180, 0, 117, 42, 180, 0, 120, 42]
abbrev dktX1_wholeShelf_5 : List UInt8 := dkwX1_wholeShelf_5 ++ dktX1_wholeShelf_6
def dkwX1_wholeShelf_4 : List UInt8 := [160, 0, 31, 42, 18, 100, 42, 180, 0, 102, 42, 180, 0, 105, 42, 180, 0, 97, 42, 180, 0, 93, 3]
abbrev dktX1_wholeShelf_4 : List UInt8 := dkwX1_wholeShelf_4 ++ dktX1_wholeShelf_5
def dkwX1_wholeShelf_3 : List UInt8 := [162, 0, 7, 4, 167, 0, 4, 3, 182, 0, 65, 42, 89, 180, 0, 51, 4, 96, 181, 0, 51, 29, 16, 115]
abbrev dktX1_wholeShelf_3 : List UInt8 := dkwX1_wholeShelf_3 ++ dktX1_wholeShelf_4
def dkwX1_wholeShelf_2 : List UInt8 := [62, 42, 29, 16, 115, 160, 0, 7, 27, 153, 0, 18, 29, 16, 118, 160, 0, 16, 42, 180, 0, 90, 16, 16]
abbrev dktX1_wholeShelf_2 : List UInt8 := dkwX1_wholeShelf_2 ++ dktX1_wholeShelf_3
def dkwX1_wholeShelf_1 : List UInt8 := [180, 0, 97, 27, 46, 79, 132, 1, 1, 167, 255, 236, 3, 60, 4, 61, 28, 153, 0, 156, 42, 182, 0, 62]
abbrev dktX1_wholeShelf_1 : List UInt8 := dkwX1_wholeShelf_1 ++ dktX1_wholeShelf_2
def dkwX1_wholeShelf_0 : List UInt8 := [42, 3, 181, 0, 51, 42, 3, 181, 0, 90, 3, 60, 27, 8, 162, 0, 21, 42, 180, 0, 93, 27, 42]
abbrev dktX1_wholeShelf_0 : List UInt8 := dkwX1_wholeShelf_0 ++ dktX1_wholeShelf_1
theorem dksX1_wholeShelf_0 : cX1_wholeShelf.data.toList.drop 0 = dktX1_wholeShelf_0 := by decide +kernel
theorem dksX1_wholeShelf_1 : cX1_wholeShelf.data.toList.drop 23 = dktX1_wholeShelf_1 := dk_seg dksX1_wholeShelf_0 23 rfl rfl
theorem dksX1_wholeShelf_2 : cX1_wholeShelf.data.toList.drop 47 = dktX1_wholeShelf_2 := dk_seg dksX1_wholeShelf_1 24 rfl rfl
theorem dksX1_wholeShelf_3 : cX1_wholeShelf.data.toList.drop 71 = dktX1_wholeShelf_3 := dk_seg dksX1_wholeShelf_2 24 rfl rfl
theorem dksX1_wholeShelf_4 : cX1_wholeShelf.data.toList.drop 95 = dktX1_wholeShelf_4 := dk_seg dksX1_wholeShelf_3 24 rfl rfl
theorem dksX1_wholeShelf_5 : cX1_wholeShelf.data.toList.drop 118 = dktX1_wholeShelf_5 := dk_seg dksX1_wholeShelf_4 23 rfl rfl
theorem dksX1_wholeShelf_6 : cX1_wholeShelf.data.toList.drop 142 = dktX1_wholeShelf_6 := dk_seg dksX1_wholeShelf_5 24 rfl rfl
theorem dksX1_wholeShelf_7 : cX1_wholeShelf.data.toList.drop 165 = dktX1_wholeShelf_7 := dk_seg dksX1_wholeShelf_6 23 rfl rfl
theorem dksX1_wholeShelf_8 : cX1_wholeShelf.data.toList.drop 189 = dktX1_wholeShelf_8 := dk_seg dksX1_wholeShelf_7 24 rfl rfl
theorem dksX1_wholeShelf_9 : cX1_wholeShelf.data.toList.drop 213 = dktX1_wholeShelf_9 := dk_seg dksX1_wholeShelf_8 24 rfl rfl
theorem dX1_wholeShelf_0 : decode cX1_wholeShelf 0 = .ok (.aload_n 0, 1) := dk_42 (dk_at dksX1_wholeShelf_0 0 rfl rfl)
theorem dX1_wholeShelf_1 : decode cX1_wholeShelf 1 = .ok (.iconst 0, 1) := dk_3 (dk_at dksX1_wholeShelf_0 1 rfl rfl)
theorem dX1_wholeShelf_2 : decode cX1_wholeShelf 2 = .ok (.putfield 51, 3) := dk_181 0 51 (dk_at dksX1_wholeShelf_0 2 rfl rfl)
theorem dX1_wholeShelf_5 : decode cX1_wholeShelf 5 = .ok (.aload_n 0, 1) := dk_42 (dk_at dksX1_wholeShelf_0 5 rfl rfl)
theorem dX1_wholeShelf_6 : decode cX1_wholeShelf 6 = .ok (.iconst 0, 1) := dk_3 (dk_at dksX1_wholeShelf_0 6 rfl rfl)
theorem dX1_wholeShelf_7 : decode cX1_wholeShelf 7 = .ok (.putfield 90, 3) := dk_181 0 90 (dk_at dksX1_wholeShelf_0 7 rfl rfl)
theorem dX1_wholeShelf_10 : decode cX1_wholeShelf 10 = .ok (.iconst 0, 1) := dk_3 (dk_at dksX1_wholeShelf_0 10 rfl rfl)
theorem dX1_wholeShelf_11 : decode cX1_wholeShelf 11 = .ok (.istore_n 1, 1) := dk_60 (dk_at dksX1_wholeShelf_0 11 rfl rfl)
theorem dX1_wholeShelf_12 : decode cX1_wholeShelf 12 = .ok (.iload_n 1, 1) := dk_27 (dk_at dksX1_wholeShelf_0 12 rfl rfl)
theorem dX1_wholeShelf_13 : decode cX1_wholeShelf 13 = .ok (.iconst 5, 1) := dk_8 (dk_at dksX1_wholeShelf_0 13 rfl rfl)
theorem dX1_wholeShelf_14 : decode cX1_wholeShelf 14 = .ok (.if_icmp .ge 21, 3) := dk_162 0 21 (dk_at dksX1_wholeShelf_0 14 rfl rfl)
theorem dX1_wholeShelf_17 : decode cX1_wholeShelf 17 = .ok (.aload_n 0, 1) := dk_42 (dk_at dksX1_wholeShelf_0 17 rfl rfl)
theorem dX1_wholeShelf_18 : decode cX1_wholeShelf 18 = .ok (.getfield 93, 3) := dk_180 0 93 (dk_at dksX1_wholeShelf_0 18 rfl rfl)
theorem dX1_wholeShelf_21 : decode cX1_wholeShelf 21 = .ok (.iload_n 1, 1) := dk_27 (dk_at dksX1_wholeShelf_0 21 rfl rfl)
theorem dX1_wholeShelf_22 : decode cX1_wholeShelf 22 = .ok (.aload_n 0, 1) := dk_42 (dk_at dksX1_wholeShelf_0 22 rfl rfl)
theorem dX1_wholeShelf_23 : decode cX1_wholeShelf 23 = .ok (.getfield 97, 3) := dk_180 0 97 (dk_at dksX1_wholeShelf_1 0 rfl rfl)
theorem dX1_wholeShelf_26 : decode cX1_wholeShelf 26 = .ok (.iload_n 1, 1) := dk_27 (dk_at dksX1_wholeShelf_1 3 rfl rfl)
theorem dX1_wholeShelf_27 : decode cX1_wholeShelf 27 = .ok (.iaload, 1) := dk_46 (dk_at dksX1_wholeShelf_1 4 rfl rfl)
theorem dX1_wholeShelf_28 : decode cX1_wholeShelf 28 = .ok (.iastore, 1) := dk_79 (dk_at dksX1_wholeShelf_1 5 rfl rfl)
theorem dX1_wholeShelf_29 : decode cX1_wholeShelf 29 = .ok (.iinc 1 1, 3) := dk_132 1 1 (dk_at dksX1_wholeShelf_1 6 rfl rfl)
theorem dX1_wholeShelf_32 : decode cX1_wholeShelf 32 = .ok (.goto (-20), 3) := dk_167 255 236 (dk_at dksX1_wholeShelf_1 9 rfl rfl)
theorem dX1_wholeShelf_35 : decode cX1_wholeShelf 35 = .ok (.iconst 0, 1) := dk_3 (dk_at dksX1_wholeShelf_1 12 rfl rfl)
theorem dX1_wholeShelf_36 : decode cX1_wholeShelf 36 = .ok (.istore_n 1, 1) := dk_60 (dk_at dksX1_wholeShelf_1 13 rfl rfl)
theorem dX1_wholeShelf_37 : decode cX1_wholeShelf 37 = .ok (.iconst 1, 1) := dk_4 (dk_at dksX1_wholeShelf_1 14 rfl rfl)
theorem dX1_wholeShelf_38 : decode cX1_wholeShelf 38 = .ok (.istore_n 2, 1) := dk_61 (dk_at dksX1_wholeShelf_1 15 rfl rfl)
theorem dX1_wholeShelf_39 : decode cX1_wholeShelf 39 = .ok (.iload_n 2, 1) := dk_28 (dk_at dksX1_wholeShelf_1 16 rfl rfl)
theorem dX1_wholeShelf_40 : decode cX1_wholeShelf 40 = .ok (.ifCond .eq 156, 3) := dk_153 0 156 (dk_at dksX1_wholeShelf_1 17 rfl rfl)
theorem dX1_wholeShelf_43 : decode cX1_wholeShelf 43 = .ok (.aload_n 0, 1) := dk_42 (dk_at dksX1_wholeShelf_1 20 rfl rfl)
theorem dX1_wholeShelf_44 : decode cX1_wholeShelf 44 = .ok (.invokevirtual 62, 3) := dk_182 0 62 (dk_at dksX1_wholeShelf_1 21 rfl rfl)
theorem dX1_wholeShelf_47 : decode cX1_wholeShelf 47 = .ok (.istore_n 3, 1) := dk_62 (dk_at dksX1_wholeShelf_2 0 rfl rfl)
theorem dX1_wholeShelf_48 : decode cX1_wholeShelf 48 = .ok (.aload_n 0, 1) := dk_42 (dk_at dksX1_wholeShelf_2 1 rfl rfl)
theorem dX1_wholeShelf_49 : decode cX1_wholeShelf 49 = .ok (.iload_n 3, 1) := dk_29 (dk_at dksX1_wholeShelf_2 2 rfl rfl)
theorem dX1_wholeShelf_50 : decode cX1_wholeShelf 50 = .ok (.bipush 115, 2) := dk_16 115 (dk_at dksX1_wholeShelf_2 3 rfl rfl)
theorem dX1_wholeShelf_52 : decode cX1_wholeShelf 52 = .ok (.if_icmp .ne 7, 3) := dk_160 0 7 (dk_at dksX1_wholeShelf_2 5 rfl rfl)
theorem dX1_wholeShelf_55 : decode cX1_wholeShelf 55 = .ok (.iload_n 1, 1) := dk_27 (dk_at dksX1_wholeShelf_2 8 rfl rfl)
theorem dX1_wholeShelf_56 : decode cX1_wholeShelf 56 = .ok (.ifCond .eq 18, 3) := dk_153 0 18 (dk_at dksX1_wholeShelf_2 9 rfl rfl)
theorem dX1_wholeShelf_59 : decode cX1_wholeShelf 59 = .ok (.iload_n 3, 1) := dk_29 (dk_at dksX1_wholeShelf_2 12 rfl rfl)
theorem dX1_wholeShelf_60 : decode cX1_wholeShelf 60 = .ok (.bipush 118, 2) := dk_16 118 (dk_at dksX1_wholeShelf_2 13 rfl rfl)
theorem dX1_wholeShelf_62 : decode cX1_wholeShelf 62 = .ok (.if_icmp .ne 16, 3) := dk_160 0 16 (dk_at dksX1_wholeShelf_2 15 rfl rfl)
theorem dX1_wholeShelf_65 : decode cX1_wholeShelf 65 = .ok (.aload_n 0, 1) := dk_42 (dk_at dksX1_wholeShelf_2 18 rfl rfl)
theorem dX1_wholeShelf_66 : decode cX1_wholeShelf 66 = .ok (.getfield 90, 3) := dk_180 0 90 (dk_at dksX1_wholeShelf_2 19 rfl rfl)
theorem dX1_wholeShelf_69 : decode cX1_wholeShelf 69 = .ok (.bipush 16, 2) := dk_16 16 (dk_at dksX1_wholeShelf_2 22 rfl rfl)
theorem dX1_wholeShelf_71 : decode cX1_wholeShelf 71 = .ok (.if_icmp .ge 7, 3) := dk_162 0 7 (dk_at dksX1_wholeShelf_3 0 rfl rfl)
theorem dX1_wholeShelf_74 : decode cX1_wholeShelf 74 = .ok (.iconst 1, 1) := dk_4 (dk_at dksX1_wholeShelf_3 3 rfl rfl)
theorem dX1_wholeShelf_75 : decode cX1_wholeShelf 75 = .ok (.goto 4, 3) := dk_167 0 4 (dk_at dksX1_wholeShelf_3 4 rfl rfl)
theorem dX1_wholeShelf_78 : decode cX1_wholeShelf 78 = .ok (.iconst 0, 1) := dk_3 (dk_at dksX1_wholeShelf_3 7 rfl rfl)
theorem dX1_wholeShelf_79 : decode cX1_wholeShelf 79 = .ok (.invokevirtual 65, 3) := dk_182 0 65 (dk_at dksX1_wholeShelf_3 8 rfl rfl)
theorem dX1_wholeShelf_82 : decode cX1_wholeShelf 82 = .ok (.aload_n 0, 1) := dk_42 (dk_at dksX1_wholeShelf_3 11 rfl rfl)
theorem dX1_wholeShelf_83 : decode cX1_wholeShelf 83 = .ok (.dup, 1) := dk_89 (dk_at dksX1_wholeShelf_3 12 rfl rfl)
theorem dX1_wholeShelf_84 : decode cX1_wholeShelf 84 = .ok (.getfield 51, 3) := dk_180 0 51 (dk_at dksX1_wholeShelf_3 13 rfl rfl)
theorem dX1_wholeShelf_87 : decode cX1_wholeShelf 87 = .ok (.iconst 1, 1) := dk_4 (dk_at dksX1_wholeShelf_3 16 rfl rfl)
theorem dX1_wholeShelf_88 : decode cX1_wholeShelf 88 = .ok (.iadd, 1) := dk_96 (dk_at dksX1_wholeShelf_3 17 rfl rfl)
theorem dX1_wholeShelf_89 : decode cX1_wholeShelf 89 = .ok (.putfield 51, 3) := dk_181 0 51 (dk_at dksX1_wholeShelf_3 18 rfl rfl)
theorem dX1_wholeShelf_92 : decode cX1_wholeShelf 92 = .ok (.iload_n 3, 1) := dk_29 (dk_at dksX1_wholeShelf_3 21 rfl rfl)
theorem dX1_wholeShelf_93 : decode cX1_wholeShelf 93 = .ok (.bipush 115, 2) := dk_16 115 (dk_at dksX1_wholeShelf_3 22 rfl rfl)
theorem dX1_wholeShelf_95 : decode cX1_wholeShelf 95 = .ok (.if_icmp .ne 31, 3) := dk_160 0 31 (dk_at dksX1_wholeShelf_4 0 rfl rfl)
theorem dX1_wholeShelf_98 : decode cX1_wholeShelf 98 = .ok (.aload_n 0, 1) := dk_42 (dk_at dksX1_wholeShelf_4 3 rfl rfl)
theorem dX1_wholeShelf_99 : decode cX1_wholeShelf 99 = .ok (.ldc 100, 2) := dk_18 100 (dk_at dksX1_wholeShelf_4 4 rfl rfl)
theorem dX1_wholeShelf_101 : decode cX1_wholeShelf 101 = .ok (.aload_n 0, 1) := dk_42 (dk_at dksX1_wholeShelf_4 6 rfl rfl)
theorem dX1_wholeShelf_102 : decode cX1_wholeShelf 102 = .ok (.getfield 102, 3) := dk_180 0 102 (dk_at dksX1_wholeShelf_4 7 rfl rfl)
theorem dX1_wholeShelf_105 : decode cX1_wholeShelf 105 = .ok (.aload_n 0, 1) := dk_42 (dk_at dksX1_wholeShelf_4 10 rfl rfl)
theorem dX1_wholeShelf_106 : decode cX1_wholeShelf 106 = .ok (.getfield 105, 3) := dk_180 0 105 (dk_at dksX1_wholeShelf_4 11 rfl rfl)
theorem dX1_wholeShelf_109 : decode cX1_wholeShelf 109 = .ok (.aload_n 0, 1) := dk_42 (dk_at dksX1_wholeShelf_4 14 rfl rfl)
theorem dX1_wholeShelf_110 : decode cX1_wholeShelf 110 = .ok (.getfield 97, 3) := dk_180 0 97 (dk_at dksX1_wholeShelf_4 15 rfl rfl)
theorem dX1_wholeShelf_113 : decode cX1_wholeShelf 113 = .ok (.aload_n 0, 1) := dk_42 (dk_at dksX1_wholeShelf_4 18 rfl rfl)
theorem dX1_wholeShelf_114 : decode cX1_wholeShelf 114 = .ok (.getfield 93, 3) := dk_180 0 93 (dk_at dksX1_wholeShelf_4 19 rfl rfl)
theorem dX1_wholeShelf_117 : decode cX1_wholeShelf 117 = .ok (.iconst 0, 1) := dk_3 (dk_at dksX1_wholeShelf_4 22 rfl rfl)
theorem dX1_wholeShelf_118 : decode cX1_wholeShelf 118 = .ok (.invokevirtual 108, 3) := dk_182 0 108 (dk_at dksX1_wholeShelf_5 0 rfl rfl)
theorem dX1_wholeShelf_121 : decode cX1_wholeShelf 121 = .ok (.iconst 1, 1) := dk_4 (dk_at dksX1_wholeShelf_5 3 rfl rfl)
theorem dX1_wholeShelf_122 : decode cX1_wholeShelf 122 = .ok (.istore_n 1, 1) := dk_60 (dk_at dksX1_wholeShelf_5 4 rfl rfl)
theorem dX1_wholeShelf_123 : decode cX1_wholeShelf 123 = .ok (.goto 41, 3) := dk_167 0 41 (dk_at dksX1_wholeShelf_5 5 rfl rfl)
theorem dX1_wholeShelf_126 : decode cX1_wholeShelf 126 = .ok (.aload_n 0, 1) := dk_42 (dk_at dksX1_wholeShelf_5 8 rfl rfl)
theorem dX1_wholeShelf_127 : decode cX1_wholeShelf 127 = .ok (.ldc 112, 2) := dk_18 112 (dk_at dksX1_wholeShelf_5 9 rfl rfl)
theorem dX1_wholeShelf_129 : decode cX1_wholeShelf 129 = .ok (.aload_n 0, 1) := dk_42 (dk_at dksX1_wholeShelf_5 11 rfl rfl)
theorem dX1_wholeShelf_130 : decode cX1_wholeShelf 130 = .ok (.getfield 114, 3) := dk_180 0 114 (dk_at dksX1_wholeShelf_5 12 rfl rfl)
theorem dX1_wholeShelf_133 : decode cX1_wholeShelf 133 = .ok (.aload_n 0, 1) := dk_42 (dk_at dksX1_wholeShelf_5 15 rfl rfl)
theorem dX1_wholeShelf_134 : decode cX1_wholeShelf 134 = .ok (.getfield 117, 3) := dk_180 0 117 (dk_at dksX1_wholeShelf_5 16 rfl rfl)
theorem dX1_wholeShelf_137 : decode cX1_wholeShelf 137 = .ok (.aload_n 0, 1) := dk_42 (dk_at dksX1_wholeShelf_5 19 rfl rfl)
theorem dX1_wholeShelf_138 : decode cX1_wholeShelf 138 = .ok (.getfield 120, 3) := dk_180 0 120 (dk_at dksX1_wholeShelf_5 20 rfl rfl)
theorem dX1_wholeShelf_141 : decode cX1_wholeShelf 141 = .ok (.aload_n 0, 1) := dk_42 (dk_at dksX1_wholeShelf_5 23 rfl rfl)
theorem dX1_wholeShelf_142 : decode cX1_wholeShelf 142 = .ok (.getfield 123, 3) := dk_180 0 123 (dk_at dksX1_wholeShelf_6 0 rfl rfl)
theorem dX1_wholeShelf_145 : decode cX1_wholeShelf 145 = .ok (.iconst 2, 1) := dk_5 (dk_at dksX1_wholeShelf_6 3 rfl rfl)
theorem dX1_wholeShelf_146 : decode cX1_wholeShelf 146 = .ok (.aload_n 0, 1) := dk_42 (dk_at dksX1_wholeShelf_6 4 rfl rfl)
theorem dX1_wholeShelf_147 : decode cX1_wholeShelf 147 = .ok (.getfield 90, 3) := dk_180 0 90 (dk_at dksX1_wholeShelf_6 5 rfl rfl)
theorem dX1_wholeShelf_150 : decode cX1_wholeShelf 150 = .ok (.imul, 1) := dk_104 (dk_at dksX1_wholeShelf_6 8 rfl rfl)
theorem dX1_wholeShelf_151 : decode cX1_wholeShelf 151 = .ok (.invokevirtual 108, 3) := dk_182 0 108 (dk_at dksX1_wholeShelf_6 9 rfl rfl)
theorem dX1_wholeShelf_154 : decode cX1_wholeShelf 154 = .ok (.aload_n 0, 1) := dk_42 (dk_at dksX1_wholeShelf_6 12 rfl rfl)
theorem dX1_wholeShelf_155 : decode cX1_wholeShelf 155 = .ok (.dup, 1) := dk_89 (dk_at dksX1_wholeShelf_6 13 rfl rfl)
theorem dX1_wholeShelf_156 : decode cX1_wholeShelf 156 = .ok (.getfield 90, 3) := dk_180 0 90 (dk_at dksX1_wholeShelf_6 14 rfl rfl)
theorem dX1_wholeShelf_159 : decode cX1_wholeShelf 159 = .ok (.iconst 1, 1) := dk_4 (dk_at dksX1_wholeShelf_6 17 rfl rfl)
theorem dX1_wholeShelf_160 : decode cX1_wholeShelf 160 = .ok (.iadd, 1) := dk_96 (dk_at dksX1_wholeShelf_6 18 rfl rfl)
theorem dX1_wholeShelf_161 : decode cX1_wholeShelf 161 = .ok (.putfield 90, 3) := dk_181 0 90 (dk_at dksX1_wholeShelf_6 19 rfl rfl)
theorem dX1_wholeShelf_164 : decode cX1_wholeShelf 164 = .ok (.aload_n 0, 1) := dk_42 (dk_at dksX1_wholeShelf_6 22 rfl rfl)
theorem dX1_wholeShelf_165 : decode cX1_wholeShelf 165 = .ok (.invokevirtual 62, 3) := dk_182 0 62 (dk_at dksX1_wholeShelf_7 0 rfl rfl)
theorem dX1_wholeShelf_168 : decode cX1_wholeShelf 168 = .ok (.bipush 59, 2) := dk_16 59 (dk_at dksX1_wholeShelf_7 3 rfl rfl)
theorem dX1_wholeShelf_170 : decode cX1_wholeShelf 170 = .ok (.if_icmp .ne 7, 3) := dk_160 0 7 (dk_at dksX1_wholeShelf_7 5 rfl rfl)
theorem dX1_wholeShelf_173 : decode cX1_wholeShelf 173 = .ok (.iconst 1, 1) := dk_4 (dk_at dksX1_wholeShelf_7 8 rfl rfl)
theorem dX1_wholeShelf_174 : decode cX1_wholeShelf 174 = .ok (.goto 4, 3) := dk_167 0 4 (dk_at dksX1_wholeShelf_7 9 rfl rfl)
theorem dX1_wholeShelf_177 : decode cX1_wholeShelf 177 = .ok (.iconst 0, 1) := dk_3 (dk_at dksX1_wholeShelf_7 12 rfl rfl)
theorem dX1_wholeShelf_178 : decode cX1_wholeShelf 178 = .ok (.istore_n 2, 1) := dk_61 (dk_at dksX1_wholeShelf_7 13 rfl rfl)
theorem dX1_wholeShelf_179 : decode cX1_wholeShelf 179 = .ok (.iload_n 2, 1) := dk_28 (dk_at dksX1_wholeShelf_7 14 rfl rfl)
theorem dX1_wholeShelf_180 : decode cX1_wholeShelf 180 = .ok (.ifCond .eq 13, 3) := dk_153 0 13 (dk_at dksX1_wholeShelf_7 15 rfl rfl)
theorem dX1_wholeShelf_183 : decode cX1_wholeShelf 183 = .ok (.aload_n 0, 1) := dk_42 (dk_at dksX1_wholeShelf_7 18 rfl rfl)
theorem dX1_wholeShelf_184 : decode cX1_wholeShelf 184 = .ok (.dup, 1) := dk_89 (dk_at dksX1_wholeShelf_7 19 rfl rfl)
theorem dX1_wholeShelf_185 : decode cX1_wholeShelf 185 = .ok (.getfield 51, 3) := dk_180 0 51 (dk_at dksX1_wholeShelf_7 20 rfl rfl)
theorem dX1_wholeShelf_188 : decode cX1_wholeShelf 188 = .ok (.iconst 1, 1) := dk_4 (dk_at dksX1_wholeShelf_7 23 rfl rfl)
theorem dX1_wholeShelf_189 : decode cX1_wholeShelf 189 = .ok (.iadd, 1) := dk_96 (dk_at dksX1_wholeShelf_8 0 rfl rfl)
theorem dX1_wholeShelf_190 : decode cX1_wholeShelf 190 = .ok (.putfield 51, 3) := dk_181 0 51 (dk_at dksX1_wholeShelf_8 1 rfl rfl)
theorem dX1_wholeShelf_193 : decode cX1_wholeShelf 193 = .ok (.goto (-154), 3) := dk_167 255 102 (dk_at dksX1_wholeShelf_8 4 rfl rfl)
theorem dX1_wholeShelf_196 : decode cX1_wholeShelf 196 = .ok (.aload_n 0, 1) := dk_42 (dk_at dksX1_wholeShelf_8 7 rfl rfl)
theorem dX1_wholeShelf_197 : decode cX1_wholeShelf 197 = .ok (.aload_n 0, 1) := dk_42 (dk_at dksX1_wholeShelf_8 8 rfl rfl)
theorem dX1_wholeShelf_198 : decode cX1_wholeShelf 198 = .ok (.invokevirtual 62, 3) := dk_182 0 62 (dk_at dksX1_wholeShelf_8 9 rfl rfl)
theorem dX1_wholeShelf_201 : decode cX1_wholeShelf 201 = .ok (.iconst (-1), 1) := dk_2 (dk_at dksX1_wholeShelf_8 12 rfl rfl)
theorem dX1_wholeShelf_202 : decode cX1_wholeShelf 202 = .ok (.if_icmp .ne 7, 3) := dk_160 0 7 (dk_at dksX1_wholeShelf_8 13 rfl rfl)
theorem dX1_wholeShelf_205 : decode cX1_wholeShelf 205 = .ok (.iconst 1, 1) := dk_4 (dk_at dksX1_wholeShelf_8 16 rfl rfl)
theorem dX1_wholeShelf_206 : decode cX1_wholeShelf 206 = .ok (.goto 4, 3) := dk_167 0 4 (dk_at dksX1_wholeShelf_8 17 rfl rfl)
theorem dX1_wholeShelf_209 : decode cX1_wholeShelf 209 = .ok (.iconst 0, 1) := dk_3 (dk_at dksX1_wholeShelf_8 20 rfl rfl)
theorem dX1_wholeShelf_210 : decode cX1_wholeShelf 210 = .ok (.invokevirtual 65, 3) := dk_182 0 65 (dk_at dksX1_wholeShelf_8 21 rfl rfl)
theorem dX1_wholeShelf_213 : decode cX1_wholeShelf 213 = .ok (.return_, 1) := dk_177 (dk_at dksX1_wholeShelf_9 0 rfl rfl)
abbrev cX1_ahead : ByteArray := prog_1_method_9_code
def yX1_ahead : MethodName := ⟨RX1, "ahead", "()I"⟩
def dkwX1_ahead_1 : List UInt8 := [182, 0, 54, 172]
abbrev dktX1_ahead_1 : List UInt8 := dkwX1_ahead_1 ++ []
def dkwX1_ahead_0 : List UInt8 := [42, 182, 0, 54, 16, 32, 160, 0, 16, 42, 89, 180, 0, 51, 4, 96, 181, 0, 51, 167, 255, 237, 42]
abbrev dktX1_ahead_0 : List UInt8 := dkwX1_ahead_0 ++ dktX1_ahead_1
theorem dksX1_ahead_0 : cX1_ahead.data.toList.drop 0 = dktX1_ahead_0 := by decide +kernel
theorem dksX1_ahead_1 : cX1_ahead.data.toList.drop 23 = dktX1_ahead_1 := dk_seg dksX1_ahead_0 23 rfl rfl
theorem dX1_ahead_0 : decode cX1_ahead 0 = .ok (.aload_n 0, 1) := dk_42 (dk_at dksX1_ahead_0 0 rfl rfl)
theorem dX1_ahead_1 : decode cX1_ahead 1 = .ok (.invokevirtual 54, 3) := dk_182 0 54 (dk_at dksX1_ahead_0 1 rfl rfl)
theorem dX1_ahead_4 : decode cX1_ahead 4 = .ok (.bipush 32, 2) := dk_16 32 (dk_at dksX1_ahead_0 4 rfl rfl)
theorem dX1_ahead_6 : decode cX1_ahead 6 = .ok (.if_icmp .ne 16, 3) := dk_160 0 16 (dk_at dksX1_ahead_0 6 rfl rfl)
theorem dX1_ahead_9 : decode cX1_ahead 9 = .ok (.aload_n 0, 1) := dk_42 (dk_at dksX1_ahead_0 9 rfl rfl)
theorem dX1_ahead_10 : decode cX1_ahead 10 = .ok (.dup, 1) := dk_89 (dk_at dksX1_ahead_0 10 rfl rfl)
theorem dX1_ahead_11 : decode cX1_ahead 11 = .ok (.getfield 51, 3) := dk_180 0 51 (dk_at dksX1_ahead_0 11 rfl rfl)
theorem dX1_ahead_14 : decode cX1_ahead 14 = .ok (.iconst 1, 1) := dk_4 (dk_at dksX1_ahead_0 14 rfl rfl)
theorem dX1_ahead_15 : decode cX1_ahead 15 = .ok (.iadd, 1) := dk_96 (dk_at dksX1_ahead_0 15 rfl rfl)
theorem dX1_ahead_16 : decode cX1_ahead 16 = .ok (.putfield 51, 3) := dk_181 0 51 (dk_at dksX1_ahead_0 16 rfl rfl)
theorem dX1_ahead_19 : decode cX1_ahead 19 = .ok (.goto (-19), 3) := dk_167 255 237 (dk_at dksX1_ahead_0 19 rfl rfl)
theorem dX1_ahead_22 : decode cX1_ahead 22 = .ok (.aload_n 0, 1) := dk_42 (dk_at dksX1_ahead_0 22 rfl rfl)
theorem dX1_ahead_23 : decode cX1_ahead 23 = .ok (.invokevirtual 54, 3) := dk_182 0 54 (dk_at dksX1_ahead_1 0 rfl rfl)
theorem dX1_ahead_26 : decode cX1_ahead 26 = .ok (.ireturn, 1) := dk_172 (dk_at dksX1_ahead_1 3 rfl rfl)
abbrev cX1_here : ByteArray := prog_1_method_8_code
def yX1_here : MethodName := ⟨RX1, "here", "()I"⟩
def dkwX1_here_1 : List UInt8 := [167, 0, 4, 2, 172]
abbrev dktX1_here_1 : List UInt8 := dkwX1_here_1 ++ []
def dkwX1_here_0 : List UInt8 := [42, 180, 0, 51, 42, 180, 0, 40, 162, 0, 19, 42, 180, 0, 43, 42, 180, 0, 51, 51, 17, 0, 255, 126]
abbrev dktX1_here_0 : List UInt8 := dkwX1_here_0 ++ dktX1_here_1
theorem dksX1_here_0 : cX1_here.data.toList.drop 0 = dktX1_here_0 := by decide +kernel
theorem dksX1_here_1 : cX1_here.data.toList.drop 24 = dktX1_here_1 := dk_seg dksX1_here_0 24 rfl rfl
theorem dX1_here_0 : decode cX1_here 0 = .ok (.aload_n 0, 1) := dk_42 (dk_at dksX1_here_0 0 rfl rfl)
theorem dX1_here_1 : decode cX1_here 1 = .ok (.getfield 51, 3) := dk_180 0 51 (dk_at dksX1_here_0 1 rfl rfl)
theorem dX1_here_4 : decode cX1_here 4 = .ok (.aload_n 0, 1) := dk_42 (dk_at dksX1_here_0 4 rfl rfl)
theorem dX1_here_5 : decode cX1_here 5 = .ok (.getfield 40, 3) := dk_180 0 40 (dk_at dksX1_here_0 5 rfl rfl)
theorem dX1_here_8 : decode cX1_here 8 = .ok (.if_icmp .ge 19, 3) := dk_162 0 19 (dk_at dksX1_here_0 8 rfl rfl)
theorem dX1_here_11 : decode cX1_here 11 = .ok (.aload_n 0, 1) := dk_42 (dk_at dksX1_here_0 11 rfl rfl)
theorem dX1_here_12 : decode cX1_here 12 = .ok (.getfield 43, 3) := dk_180 0 43 (dk_at dksX1_here_0 12 rfl rfl)
theorem dX1_here_15 : decode cX1_here 15 = .ok (.aload_n 0, 1) := dk_42 (dk_at dksX1_here_0 15 rfl rfl)
theorem dX1_here_16 : decode cX1_here 16 = .ok (.getfield 51, 3) := dk_180 0 51 (dk_at dksX1_here_0 16 rfl rfl)
theorem dX1_here_19 : decode cX1_here 19 = .ok (.baload, 1) := dk_51 (dk_at dksX1_here_0 19 rfl rfl)
theorem dX1_here_20 : decode cX1_here 20 = .ok (.sipush 255, 3) := dk_17 0 255 (dk_at dksX1_here_0 20 rfl rfl)
theorem dX1_here_23 : decode cX1_here 23 = .ok (.iand, 1) := dk_126 (dk_at dksX1_here_0 23 rfl rfl)
theorem dX1_here_24 : decode cX1_here 24 = .ok (.goto 4, 3) := dk_167 0 4 (dk_at dksX1_here_1 0 rfl rfl)
theorem dX1_here_27 : decode cX1_here 27 = .ok (.iconst (-1), 1) := dk_2 (dk_at dksX1_here_1 3 rfl rfl)
theorem dX1_here_28 : decode cX1_here 28 = .ok (.ireturn, 1) := dk_172 (dk_at dksX1_here_1 4 rfl rfl)
abbrev cX1_must : ByteArray := prog_1_method_10_code
def yX1_must : MethodName := ⟨RX1, "must", "(Z)V"⟩
def dkwX1_must_0 : List UInt8 := [27, 154, 0, 8, 42, 180, 0, 58, 191, 177]
abbrev dktX1_must_0 : List UInt8 := dkwX1_must_0 ++ []
theorem dksX1_must_0 : cX1_must.data.toList.drop 0 = dktX1_must_0 := by decide +kernel
theorem dX1_must_0 : decode cX1_must 0 = .ok (.iload_n 1, 1) := dk_27 (dk_at dksX1_must_0 0 rfl rfl)
theorem dX1_must_1 : decode cX1_must 1 = .ok (.ifCond .ne 8, 3) := dk_154 0 8 (dk_at dksX1_must_0 1 rfl rfl)
theorem dX1_must_4 : decode cX1_must 4 = .ok (.aload_n 0, 1) := dk_42 (dk_at dksX1_must_0 4 rfl rfl)
theorem dX1_must_5 : decode cX1_must 5 = .ok (.getfield 58, 3) := dk_180 0 58 (dk_at dksX1_must_0 5 rfl rfl)
theorem dX1_must_8 : decode cX1_must 8 = .ok (.athrow, 1) := dk_191 (dk_at dksX1_must_0 8 rfl rfl)
theorem dX1_must_9 : decode cX1_must 9 = .ok (.return_, 1) := dk_177 (dk_at dksX1_must_0 9 rfl rfl)
abbrev cX1_items : ByteArray := prog_1_method_14_code
def yX1_items : MethodName := ⟨RX1, "items", "(Ljava/lang/String;[I[I[I[II)V"⟩
def dkwX1_items_5 : List UInt8 := [167, 255, 172, 177]
abbrev dktX1_items_5 : List UInt8 := dkwX1_items_5 ++ []
def dkwX1_items_4 : List UInt8 := [181, 0, 51, 25, 5, 21, 6, 21, 8, 96, 42, 44, 21, 8, 46, 45, 21, 8, 46, 182, 0, 86, 79]
abbrev dktX1_items_4 : List UInt8 := dkwX1_items_4 ++ dktX1_items_5
def dkwX1_items_3 : List UInt8 := [182, 0, 54, 182, 0, 78, 54, 8, 21, 7, 4, 21, 8, 120, 128, 54, 7, 42, 89, 180, 0, 51, 4, 96]
abbrev dktX1_items_3 : List UInt8 := dkwX1_items_3 ++ dktX1_items_4
def dkwX1_items_2 : List UInt8 := [182, 0, 78, 155, 0, 71, 21, 7, 43, 42, 182, 0, 54, 182, 0, 78, 184, 0, 82, 154, 0, 55, 43, 42]
abbrev dktX1_items_2 : List UInt8 := dkwX1_items_2 ++ dktX1_items_3
def dkwX1_items_1 : List UInt8 := [79, 132, 7, 1, 167, 255, 231, 3, 54, 7, 42, 182, 0, 62, 2, 159, 0, 82, 43, 42, 182, 0, 54]
abbrev dktX1_items_1 : List UInt8 := dkwX1_items_1 ++ dktX1_items_2
def dkwX1_items_0 : List UInt8 := [3, 54, 7, 21, 7, 43, 182, 0, 73, 162, 0, 22, 25, 5, 21, 6, 21, 7, 96, 25, 4, 21, 7, 46]
abbrev dktX1_items_0 : List UInt8 := dkwX1_items_0 ++ dktX1_items_1
theorem dksX1_items_0 : cX1_items.data.toList.drop 0 = dktX1_items_0 := by decide +kernel
theorem dksX1_items_1 : cX1_items.data.toList.drop 24 = dktX1_items_1 := dk_seg dksX1_items_0 24 rfl rfl
theorem dksX1_items_2 : cX1_items.data.toList.drop 47 = dktX1_items_2 := dk_seg dksX1_items_1 23 rfl rfl
theorem dksX1_items_3 : cX1_items.data.toList.drop 71 = dktX1_items_3 := dk_seg dksX1_items_2 24 rfl rfl
theorem dksX1_items_4 : cX1_items.data.toList.drop 95 = dktX1_items_4 := dk_seg dksX1_items_3 24 rfl rfl
theorem dksX1_items_5 : cX1_items.data.toList.drop 118 = dktX1_items_5 := dk_seg dksX1_items_4 23 rfl rfl
theorem dX1_items_0 : decode cX1_items 0 = .ok (.iconst 0, 1) := dk_3 (dk_at dksX1_items_0 0 rfl rfl)
theorem dX1_items_1 : decode cX1_items 1 = .ok (.istore 7, 2) := dk_54 7 (dk_at dksX1_items_0 1 rfl rfl)
theorem dX1_items_3 : decode cX1_items 3 = .ok (.iload 7, 2) := dk_21 7 (dk_at dksX1_items_0 3 rfl rfl)
theorem dX1_items_5 : decode cX1_items 5 = .ok (.aload_n 1, 1) := dk_43 (dk_at dksX1_items_0 5 rfl rfl)
theorem dX1_items_6 : decode cX1_items 6 = .ok (.invokevirtual 73, 3) := dk_182 0 73 (dk_at dksX1_items_0 6 rfl rfl)
theorem dX1_items_9 : decode cX1_items 9 = .ok (.if_icmp .ge 22, 3) := dk_162 0 22 (dk_at dksX1_items_0 9 rfl rfl)
theorem dX1_items_12 : decode cX1_items 12 = .ok (.aload 5, 2) := dk_25 5 (dk_at dksX1_items_0 12 rfl rfl)
theorem dX1_items_14 : decode cX1_items 14 = .ok (.iload 6, 2) := dk_21 6 (dk_at dksX1_items_0 14 rfl rfl)
theorem dX1_items_16 : decode cX1_items 16 = .ok (.iload 7, 2) := dk_21 7 (dk_at dksX1_items_0 16 rfl rfl)
theorem dX1_items_18 : decode cX1_items 18 = .ok (.iadd, 1) := dk_96 (dk_at dksX1_items_0 18 rfl rfl)
theorem dX1_items_19 : decode cX1_items 19 = .ok (.aload 4, 2) := dk_25 4 (dk_at dksX1_items_0 19 rfl rfl)
theorem dX1_items_21 : decode cX1_items 21 = .ok (.iload 7, 2) := dk_21 7 (dk_at dksX1_items_0 21 rfl rfl)
theorem dX1_items_23 : decode cX1_items 23 = .ok (.iaload, 1) := dk_46 (dk_at dksX1_items_0 23 rfl rfl)
theorem dX1_items_24 : decode cX1_items 24 = .ok (.iastore, 1) := dk_79 (dk_at dksX1_items_1 0 rfl rfl)
theorem dX1_items_25 : decode cX1_items 25 = .ok (.iinc 7 1, 3) := dk_132 7 1 (dk_at dksX1_items_1 1 rfl rfl)
theorem dX1_items_28 : decode cX1_items 28 = .ok (.goto (-25), 3) := dk_167 255 231 (dk_at dksX1_items_1 4 rfl rfl)
theorem dX1_items_31 : decode cX1_items 31 = .ok (.iconst 0, 1) := dk_3 (dk_at dksX1_items_1 7 rfl rfl)
theorem dX1_items_32 : decode cX1_items 32 = .ok (.istore 7, 2) := dk_54 7 (dk_at dksX1_items_1 8 rfl rfl)
theorem dX1_items_34 : decode cX1_items 34 = .ok (.aload_n 0, 1) := dk_42 (dk_at dksX1_items_1 10 rfl rfl)
theorem dX1_items_35 : decode cX1_items 35 = .ok (.invokevirtual 62, 3) := dk_182 0 62 (dk_at dksX1_items_1 11 rfl rfl)
theorem dX1_items_38 : decode cX1_items 38 = .ok (.iconst (-1), 1) := dk_2 (dk_at dksX1_items_1 14 rfl rfl)
theorem dX1_items_39 : decode cX1_items 39 = .ok (.if_icmp .eq 82, 3) := dk_159 0 82 (dk_at dksX1_items_1 15 rfl rfl)
theorem dX1_items_42 : decode cX1_items 42 = .ok (.aload_n 1, 1) := dk_43 (dk_at dksX1_items_1 18 rfl rfl)
theorem dX1_items_43 : decode cX1_items 43 = .ok (.aload_n 0, 1) := dk_42 (dk_at dksX1_items_1 19 rfl rfl)
theorem dX1_items_44 : decode cX1_items 44 = .ok (.invokevirtual 54, 3) := dk_182 0 54 (dk_at dksX1_items_1 20 rfl rfl)
theorem dX1_items_47 : decode cX1_items 47 = .ok (.invokevirtual 78, 3) := dk_182 0 78 (dk_at dksX1_items_2 0 rfl rfl)
theorem dX1_items_50 : decode cX1_items 50 = .ok (.ifCond .lt 71, 3) := dk_155 0 71 (dk_at dksX1_items_2 3 rfl rfl)
theorem dX1_items_53 : decode cX1_items 53 = .ok (.iload 7, 2) := dk_21 7 (dk_at dksX1_items_2 6 rfl rfl)
theorem dX1_items_55 : decode cX1_items 55 = .ok (.aload_n 1, 1) := dk_43 (dk_at dksX1_items_2 8 rfl rfl)
theorem dX1_items_56 : decode cX1_items 56 = .ok (.aload_n 0, 1) := dk_42 (dk_at dksX1_items_2 9 rfl rfl)
theorem dX1_items_57 : decode cX1_items 57 = .ok (.invokevirtual 54, 3) := dk_182 0 54 (dk_at dksX1_items_2 10 rfl rfl)
theorem dX1_items_60 : decode cX1_items 60 = .ok (.invokevirtual 78, 3) := dk_182 0 78 (dk_at dksX1_items_2 13 rfl rfl)
theorem dX1_items_63 : decode cX1_items 63 = .ok (.invokestatic 82, 3) := dk_184 0 82 (dk_at dksX1_items_2 16 rfl rfl)
theorem dX1_items_66 : decode cX1_items 66 = .ok (.ifCond .ne 55, 3) := dk_154 0 55 (dk_at dksX1_items_2 19 rfl rfl)
theorem dX1_items_69 : decode cX1_items 69 = .ok (.aload_n 1, 1) := dk_43 (dk_at dksX1_items_2 22 rfl rfl)
theorem dX1_items_70 : decode cX1_items 70 = .ok (.aload_n 0, 1) := dk_42 (dk_at dksX1_items_2 23 rfl rfl)
theorem dX1_items_71 : decode cX1_items 71 = .ok (.invokevirtual 54, 3) := dk_182 0 54 (dk_at dksX1_items_3 0 rfl rfl)
theorem dX1_items_74 : decode cX1_items 74 = .ok (.invokevirtual 78, 3) := dk_182 0 78 (dk_at dksX1_items_3 3 rfl rfl)
theorem dX1_items_77 : decode cX1_items 77 = .ok (.istore 8, 2) := dk_54 8 (dk_at dksX1_items_3 6 rfl rfl)
theorem dX1_items_79 : decode cX1_items 79 = .ok (.iload 7, 2) := dk_21 7 (dk_at dksX1_items_3 8 rfl rfl)
theorem dX1_items_81 : decode cX1_items 81 = .ok (.iconst 1, 1) := dk_4 (dk_at dksX1_items_3 10 rfl rfl)
theorem dX1_items_82 : decode cX1_items 82 = .ok (.iload 8, 2) := dk_21 8 (dk_at dksX1_items_3 11 rfl rfl)
theorem dX1_items_84 : decode cX1_items 84 = .ok (.ishl, 1) := dk_120 (dk_at dksX1_items_3 13 rfl rfl)
theorem dX1_items_85 : decode cX1_items 85 = .ok (.ior, 1) := dk_128 (dk_at dksX1_items_3 14 rfl rfl)
theorem dX1_items_86 : decode cX1_items 86 = .ok (.istore 7, 2) := dk_54 7 (dk_at dksX1_items_3 15 rfl rfl)
theorem dX1_items_88 : decode cX1_items 88 = .ok (.aload_n 0, 1) := dk_42 (dk_at dksX1_items_3 17 rfl rfl)
theorem dX1_items_89 : decode cX1_items 89 = .ok (.dup, 1) := dk_89 (dk_at dksX1_items_3 18 rfl rfl)
theorem dX1_items_90 : decode cX1_items 90 = .ok (.getfield 51, 3) := dk_180 0 51 (dk_at dksX1_items_3 19 rfl rfl)
theorem dX1_items_93 : decode cX1_items 93 = .ok (.iconst 1, 1) := dk_4 (dk_at dksX1_items_3 22 rfl rfl)
theorem dX1_items_94 : decode cX1_items 94 = .ok (.iadd, 1) := dk_96 (dk_at dksX1_items_3 23 rfl rfl)
theorem dX1_items_95 : decode cX1_items 95 = .ok (.putfield 51, 3) := dk_181 0 51 (dk_at dksX1_items_4 0 rfl rfl)
theorem dX1_items_98 : decode cX1_items 98 = .ok (.aload 5, 2) := dk_25 5 (dk_at dksX1_items_4 3 rfl rfl)
theorem dX1_items_100 : decode cX1_items 100 = .ok (.iload 6, 2) := dk_21 6 (dk_at dksX1_items_4 5 rfl rfl)
theorem dX1_items_102 : decode cX1_items 102 = .ok (.iload 8, 2) := dk_21 8 (dk_at dksX1_items_4 7 rfl rfl)
theorem dX1_items_104 : decode cX1_items 104 = .ok (.iadd, 1) := dk_96 (dk_at dksX1_items_4 9 rfl rfl)
theorem dX1_items_105 : decode cX1_items 105 = .ok (.aload_n 0, 1) := dk_42 (dk_at dksX1_items_4 10 rfl rfl)
theorem dX1_items_106 : decode cX1_items 106 = .ok (.aload_n 2, 1) := dk_44 (dk_at dksX1_items_4 11 rfl rfl)
theorem dX1_items_107 : decode cX1_items 107 = .ok (.iload 8, 2) := dk_21 8 (dk_at dksX1_items_4 12 rfl rfl)
theorem dX1_items_109 : decode cX1_items 109 = .ok (.iaload, 1) := dk_46 (dk_at dksX1_items_4 14 rfl rfl)
theorem dX1_items_110 : decode cX1_items 110 = .ok (.aload_n 3, 1) := dk_45 (dk_at dksX1_items_4 15 rfl rfl)
theorem dX1_items_111 : decode cX1_items 111 = .ok (.iload 8, 2) := dk_21 8 (dk_at dksX1_items_4 16 rfl rfl)
theorem dX1_items_113 : decode cX1_items 113 = .ok (.iaload, 1) := dk_46 (dk_at dksX1_items_4 18 rfl rfl)
theorem dX1_items_114 : decode cX1_items 114 = .ok (.invokevirtual 86, 3) := dk_182 0 86 (dk_at dksX1_items_4 19 rfl rfl)
theorem dX1_items_117 : decode cX1_items 117 = .ok (.iastore, 1) := dk_79 (dk_at dksX1_items_4 22 rfl rfl)
theorem dX1_items_118 : decode cX1_items 118 = .ok (.goto (-84), 3) := dk_167 255 172 (dk_at dksX1_items_5 0 rfl rfl)
theorem dX1_items_121 : decode cX1_items 121 = .ok (.return_, 1) := dk_177 (dk_at dksX1_items_5 3 rfl rfl)
abbrev cX1_has : ByteArray := prog_1_method_2_code
def yX1_has : MethodName := ⟨RX1, "has", "(II)Z"⟩
def dkwX1_has_0 : List UInt8 := [26, 27, 122, 4, 126, 4, 160, 0, 7, 4, 167, 0, 4, 3, 172]
abbrev dktX1_has_0 : List UInt8 := dkwX1_has_0 ++ []
theorem dksX1_has_0 : cX1_has.data.toList.drop 0 = dktX1_has_0 := by decide +kernel
theorem dX1_has_0 : decode cX1_has 0 = .ok (.iload_n 0, 1) := dk_26 (dk_at dksX1_has_0 0 rfl rfl)
theorem dX1_has_1 : decode cX1_has 1 = .ok (.iload_n 1, 1) := dk_27 (dk_at dksX1_has_0 1 rfl rfl)
theorem dX1_has_2 : decode cX1_has 2 = .ok (.ishr, 1) := dk_122 (dk_at dksX1_has_0 2 rfl rfl)
theorem dX1_has_3 : decode cX1_has 3 = .ok (.iconst 1, 1) := dk_4 (dk_at dksX1_has_0 3 rfl rfl)
theorem dX1_has_4 : decode cX1_has 4 = .ok (.iand, 1) := dk_126 (dk_at dksX1_has_0 4 rfl rfl)
theorem dX1_has_5 : decode cX1_has 5 = .ok (.iconst 1, 1) := dk_4 (dk_at dksX1_has_0 5 rfl rfl)
theorem dX1_has_6 : decode cX1_has 6 = .ok (.if_icmp .ne 7, 3) := dk_160 0 7 (dk_at dksX1_has_0 6 rfl rfl)
theorem dX1_has_9 : decode cX1_has 9 = .ok (.iconst 1, 1) := dk_4 (dk_at dksX1_has_0 9 rfl rfl)
theorem dX1_has_10 : decode cX1_has 10 = .ok (.goto 4, 3) := dk_167 0 4 (dk_at dksX1_has_0 10 rfl rfl)
theorem dX1_has_13 : decode cX1_has 13 = .ok (.iconst 0, 1) := dk_3 (dk_at dksX1_has_0 13 rfl rfl)
theorem dX1_has_14 : decode cX1_has 14 = .ok (.ireturn, 1) := dk_172 (dk_at dksX1_has_0 14 rfl rfl)
abbrev cX1_number : ByteArray := prog_1_method_13_code
def yX1_number : MethodName := ⟨RX1, "number", "(II)I"⟩
def dkwX1_number_4 : List UInt8 := [180, 0, 51, 4, 100, 181, 0, 51, 42, 180, 0, 58, 191, 29, 172]
abbrev dktX1_number_4 : List UInt8 := dkwX1_number_4 ++ []
def dkwX1_number_3 : List UInt8 := [154, 0, 7, 4, 167, 0, 4, 3, 182, 0, 65, 29, 27, 28, 184, 0, 47, 154, 0, 18, 42, 89]
abbrev dktX1_number_3 : List UInt8 := dkwX1_number_3 ++ dktX1_number_4
def dkwX1_number_2 : List UInt8 := [96, 181, 0, 51, 51, 96, 16, 48, 100, 62, 132, 4, 1, 167, 255, 212, 42, 42, 182, 0, 54, 184, 0, 69]
abbrev dktX1_number_2 : List UInt8 := dkwX1_number_2 ++ dktX1_number_3
def dkwX1_number_1 : List UInt8 := [182, 0, 54, 184, 0, 69, 153, 0, 34, 16, 10, 29, 104, 42, 180, 0, 43, 42, 89, 180, 0, 51, 90, 4]
abbrev dktX1_number_1 : List UInt8 := dkwX1_number_1 ++ dktX1_number_2
def dkwX1_number_0 : List UInt8 := [42, 42, 182, 0, 62, 184, 0, 69, 182, 0, 65, 3, 62, 3, 54, 4, 21, 4, 6, 162, 0, 44, 42]
abbrev dktX1_number_0 : List UInt8 := dkwX1_number_0 ++ dktX1_number_1
theorem dksX1_number_0 : cX1_number.data.toList.drop 0 = dktX1_number_0 := by decide +kernel
theorem dksX1_number_1 : cX1_number.data.toList.drop 23 = dktX1_number_1 := dk_seg dksX1_number_0 23 rfl rfl
theorem dksX1_number_2 : cX1_number.data.toList.drop 47 = dktX1_number_2 := dk_seg dksX1_number_1 24 rfl rfl
theorem dksX1_number_3 : cX1_number.data.toList.drop 71 = dktX1_number_3 := dk_seg dksX1_number_2 24 rfl rfl
theorem dksX1_number_4 : cX1_number.data.toList.drop 93 = dktX1_number_4 := dk_seg dksX1_number_3 22 rfl rfl
theorem dX1_number_0 : decode cX1_number 0 = .ok (.aload_n 0, 1) := dk_42 (dk_at dksX1_number_0 0 rfl rfl)
theorem dX1_number_1 : decode cX1_number 1 = .ok (.aload_n 0, 1) := dk_42 (dk_at dksX1_number_0 1 rfl rfl)
theorem dX1_number_2 : decode cX1_number 2 = .ok (.invokevirtual 62, 3) := dk_182 0 62 (dk_at dksX1_number_0 2 rfl rfl)
theorem dX1_number_5 : decode cX1_number 5 = .ok (.invokestatic 69, 3) := dk_184 0 69 (dk_at dksX1_number_0 5 rfl rfl)
theorem dX1_number_8 : decode cX1_number 8 = .ok (.invokevirtual 65, 3) := dk_182 0 65 (dk_at dksX1_number_0 8 rfl rfl)
theorem dX1_number_11 : decode cX1_number 11 = .ok (.iconst 0, 1) := dk_3 (dk_at dksX1_number_0 11 rfl rfl)
theorem dX1_number_12 : decode cX1_number 12 = .ok (.istore_n 3, 1) := dk_62 (dk_at dksX1_number_0 12 rfl rfl)
theorem dX1_number_13 : decode cX1_number 13 = .ok (.iconst 0, 1) := dk_3 (dk_at dksX1_number_0 13 rfl rfl)
theorem dX1_number_14 : decode cX1_number 14 = .ok (.istore 4, 2) := dk_54 4 (dk_at dksX1_number_0 14 rfl rfl)
theorem dX1_number_16 : decode cX1_number 16 = .ok (.iload 4, 2) := dk_21 4 (dk_at dksX1_number_0 16 rfl rfl)
theorem dX1_number_18 : decode cX1_number 18 = .ok (.iconst 3, 1) := dk_6 (dk_at dksX1_number_0 18 rfl rfl)
theorem dX1_number_19 : decode cX1_number 19 = .ok (.if_icmp .ge 44, 3) := dk_162 0 44 (dk_at dksX1_number_0 19 rfl rfl)
theorem dX1_number_22 : decode cX1_number 22 = .ok (.aload_n 0, 1) := dk_42 (dk_at dksX1_number_0 22 rfl rfl)
theorem dX1_number_23 : decode cX1_number 23 = .ok (.invokevirtual 54, 3) := dk_182 0 54 (dk_at dksX1_number_1 0 rfl rfl)
theorem dX1_number_26 : decode cX1_number 26 = .ok (.invokestatic 69, 3) := dk_184 0 69 (dk_at dksX1_number_1 3 rfl rfl)
theorem dX1_number_29 : decode cX1_number 29 = .ok (.ifCond .eq 34, 3) := dk_153 0 34 (dk_at dksX1_number_1 6 rfl rfl)
theorem dX1_number_32 : decode cX1_number 32 = .ok (.bipush 10, 2) := dk_16 10 (dk_at dksX1_number_1 9 rfl rfl)
theorem dX1_number_34 : decode cX1_number 34 = .ok (.iload_n 3, 1) := dk_29 (dk_at dksX1_number_1 11 rfl rfl)
theorem dX1_number_35 : decode cX1_number 35 = .ok (.imul, 1) := dk_104 (dk_at dksX1_number_1 12 rfl rfl)
theorem dX1_number_36 : decode cX1_number 36 = .ok (.aload_n 0, 1) := dk_42 (dk_at dksX1_number_1 13 rfl rfl)
theorem dX1_number_37 : decode cX1_number 37 = .ok (.getfield 43, 3) := dk_180 0 43 (dk_at dksX1_number_1 14 rfl rfl)
theorem dX1_number_40 : decode cX1_number 40 = .ok (.aload_n 0, 1) := dk_42 (dk_at dksX1_number_1 17 rfl rfl)
theorem dX1_number_41 : decode cX1_number 41 = .ok (.dup, 1) := dk_89 (dk_at dksX1_number_1 18 rfl rfl)
theorem dX1_number_42 : decode cX1_number 42 = .ok (.getfield 51, 3) := dk_180 0 51 (dk_at dksX1_number_1 19 rfl rfl)
theorem dX1_number_45 : decode cX1_number 45 = .ok (.dup_x1, 1) := dk_90 (dk_at dksX1_number_1 22 rfl rfl)
theorem dX1_number_46 : decode cX1_number 46 = .ok (.iconst 1, 1) := dk_4 (dk_at dksX1_number_1 23 rfl rfl)
theorem dX1_number_47 : decode cX1_number 47 = .ok (.iadd, 1) := dk_96 (dk_at dksX1_number_2 0 rfl rfl)
theorem dX1_number_48 : decode cX1_number 48 = .ok (.putfield 51, 3) := dk_181 0 51 (dk_at dksX1_number_2 1 rfl rfl)
theorem dX1_number_51 : decode cX1_number 51 = .ok (.baload, 1) := dk_51 (dk_at dksX1_number_2 4 rfl rfl)
theorem dX1_number_52 : decode cX1_number 52 = .ok (.iadd, 1) := dk_96 (dk_at dksX1_number_2 5 rfl rfl)
theorem dX1_number_53 : decode cX1_number 53 = .ok (.bipush 48, 2) := dk_16 48 (dk_at dksX1_number_2 6 rfl rfl)
theorem dX1_number_55 : decode cX1_number 55 = .ok (.isub, 1) := dk_100 (dk_at dksX1_number_2 8 rfl rfl)
theorem dX1_number_56 : decode cX1_number 56 = .ok (.istore_n 3, 1) := dk_62 (dk_at dksX1_number_2 9 rfl rfl)
theorem dX1_number_57 : decode cX1_number 57 = .ok (.iinc 4 1, 3) := dk_132 4 1 (dk_at dksX1_number_2 10 rfl rfl)
theorem dX1_number_60 : decode cX1_number 60 = .ok (.goto (-44), 3) := dk_167 255 212 (dk_at dksX1_number_2 13 rfl rfl)
theorem dX1_number_63 : decode cX1_number 63 = .ok (.aload_n 0, 1) := dk_42 (dk_at dksX1_number_2 16 rfl rfl)
theorem dX1_number_64 : decode cX1_number 64 = .ok (.aload_n 0, 1) := dk_42 (dk_at dksX1_number_2 17 rfl rfl)
theorem dX1_number_65 : decode cX1_number 65 = .ok (.invokevirtual 54, 3) := dk_182 0 54 (dk_at dksX1_number_2 18 rfl rfl)
theorem dX1_number_68 : decode cX1_number 68 = .ok (.invokestatic 69, 3) := dk_184 0 69 (dk_at dksX1_number_2 21 rfl rfl)
theorem dX1_number_71 : decode cX1_number 71 = .ok (.ifCond .ne 7, 3) := dk_154 0 7 (dk_at dksX1_number_3 0 rfl rfl)
theorem dX1_number_74 : decode cX1_number 74 = .ok (.iconst 1, 1) := dk_4 (dk_at dksX1_number_3 3 rfl rfl)
theorem dX1_number_75 : decode cX1_number 75 = .ok (.goto 4, 3) := dk_167 0 4 (dk_at dksX1_number_3 4 rfl rfl)
theorem dX1_number_78 : decode cX1_number 78 = .ok (.iconst 0, 1) := dk_3 (dk_at dksX1_number_3 7 rfl rfl)
theorem dX1_number_79 : decode cX1_number 79 = .ok (.invokevirtual 65, 3) := dk_182 0 65 (dk_at dksX1_number_3 8 rfl rfl)
theorem dX1_number_82 : decode cX1_number 82 = .ok (.iload_n 3, 1) := dk_29 (dk_at dksX1_number_3 11 rfl rfl)
theorem dX1_number_83 : decode cX1_number 83 = .ok (.iload_n 1, 1) := dk_27 (dk_at dksX1_number_3 12 rfl rfl)
theorem dX1_number_84 : decode cX1_number 84 = .ok (.iload_n 2, 1) := dk_28 (dk_at dksX1_number_3 13 rfl rfl)
theorem dX1_number_85 : decode cX1_number 85 = .ok (.invokestatic 47, 3) := dk_184 0 47 (dk_at dksX1_number_3 14 rfl rfl)
theorem dX1_number_88 : decode cX1_number 88 = .ok (.ifCond .ne 18, 3) := dk_154 0 18 (dk_at dksX1_number_3 17 rfl rfl)
theorem dX1_number_91 : decode cX1_number 91 = .ok (.aload_n 0, 1) := dk_42 (dk_at dksX1_number_3 20 rfl rfl)
theorem dX1_number_92 : decode cX1_number 92 = .ok (.dup, 1) := dk_89 (dk_at dksX1_number_3 21 rfl rfl)
theorem dX1_number_93 : decode cX1_number 93 = .ok (.getfield 51, 3) := dk_180 0 51 (dk_at dksX1_number_4 0 rfl rfl)
theorem dX1_number_96 : decode cX1_number 96 = .ok (.iconst 1, 1) := dk_4 (dk_at dksX1_number_4 3 rfl rfl)
theorem dX1_number_97 : decode cX1_number 97 = .ok (.isub, 1) := dk_100 (dk_at dksX1_number_4 4 rfl rfl)
theorem dX1_number_98 : decode cX1_number 98 = .ok (.putfield 51, 3) := dk_181 0 51 (dk_at dksX1_number_4 5 rfl rfl)
theorem dX1_number_101 : decode cX1_number 101 = .ok (.aload_n 0, 1) := dk_42 (dk_at dksX1_number_4 8 rfl rfl)
theorem dX1_number_102 : decode cX1_number 102 = .ok (.getfield 58, 3) := dk_180 0 58 (dk_at dksX1_number_4 9 rfl rfl)
theorem dX1_number_105 : decode cX1_number 105 = .ok (.athrow, 1) := dk_191 (dk_at dksX1_number_4 12 rfl rfl)
theorem dX1_number_106 : decode cX1_number 106 = .ok (.iload_n 3, 1) := dk_29 (dk_at dksX1_number_4 13 rfl rfl)
theorem dX1_number_107 : decode cX1_number 107 = .ok (.ireturn, 1) := dk_172 (dk_at dksX1_number_4 14 rfl rfl)
abbrev cX1_isDigit : ByteArray := prog_1_method_12_code
def yX1_isDigit : MethodName := ⟨RX1, "isDigit", "(I)Z"⟩
def dkwX1_isDigit_0 : List UInt8 := [26, 16, 48, 16, 57, 184, 0, 47, 172]
abbrev dktX1_isDigit_0 : List UInt8 := dkwX1_isDigit_0 ++ []
theorem dksX1_isDigit_0 : cX1_isDigit.data.toList.drop 0 = dktX1_isDigit_0 := by decide +kernel
theorem dX1_isDigit_0 : decode cX1_isDigit 0 = .ok (.iload_n 0, 1) := dk_26 (dk_at dksX1_isDigit_0 0 rfl rfl)
theorem dX1_isDigit_1 : decode cX1_isDigit 1 = .ok (.bipush 48, 2) := dk_16 48 (dk_at dksX1_isDigit_0 1 rfl rfl)
theorem dX1_isDigit_3 : decode cX1_isDigit 3 = .ok (.bipush 57, 2) := dk_16 57 (dk_at dksX1_isDigit_0 3 rfl rfl)
theorem dX1_isDigit_5 : decode cX1_isDigit 5 = .ok (.invokestatic 47, 3) := dk_184 0 47 (dk_at dksX1_isDigit_0 5 rfl rfl)
theorem dX1_isDigit_8 : decode cX1_isDigit 8 = .ok (.ireturn, 1) := dk_172 (dk_at dksX1_isDigit_0 8 rfl rfl)
abbrev cX1_wholeScript : ByteArray := prog_1_method_17_code
def yX1_wholeScript : MethodName := ⟨RX1, "wholeScript", "(I)V"⟩
def dkwX1_wholeScript_4 : List UInt8 := [160, 0, 7, 4, 167, 0, 4, 3, 182, 0, 65, 177]
abbrev dktX1_wholeScript_4 : List UInt8 := dkwX1_wholeScript_4 ++ []
def dkwX1_wholeScript_3 : List UInt8 := [61, 28, 153, 255, 198, 42, 89, 180, 0, 51, 4, 96, 181, 0, 51, 167, 255, 185, 42, 42, 182, 0, 62, 2]
abbrev dktX1_wholeScript_3 : List UInt8 := dkwX1_wholeScript_3 ++ dktX1_wholeScript_4
def dkwX1_wholeScript_2 : List UInt8 := [182, 0, 62, 16, 59, 160, 0, 18, 42, 180, 0, 138, 27, 46, 16, 16, 162, 0, 7, 4, 167, 0, 4, 3]
abbrev dktX1_wholeScript_2 : List UInt8 := dkwX1_wholeScript_2 ++ dktX1_wholeScript_3
def dkwX1_wholeScript_1 : List UInt8 := [42, 180, 0, 138, 27, 46, 96, 104, 182, 0, 141, 42, 180, 0, 138, 27, 92, 46, 4, 96, 79, 42]
abbrev dktX1_wholeScript_1 : List UInt8 := dkwX1_wholeScript_1 ++ dktX1_wholeScript_2
def dkwX1_wholeScript_0 : List UInt8 := [42, 3, 181, 0, 51, 42, 180, 0, 138, 27, 3, 79, 4, 61, 28, 153, 0, 73, 42, 8, 16, 16, 27, 104]
abbrev dktX1_wholeScript_0 : List UInt8 := dkwX1_wholeScript_0 ++ dktX1_wholeScript_1
theorem dksX1_wholeScript_0 : cX1_wholeScript.data.toList.drop 0 = dktX1_wholeScript_0 := by decide +kernel
theorem dksX1_wholeScript_1 : cX1_wholeScript.data.toList.drop 24 = dktX1_wholeScript_1 := dk_seg dksX1_wholeScript_0 24 rfl rfl
theorem dksX1_wholeScript_2 : cX1_wholeScript.data.toList.drop 46 = dktX1_wholeScript_2 := dk_seg dksX1_wholeScript_1 22 rfl rfl
theorem dksX1_wholeScript_3 : cX1_wholeScript.data.toList.drop 70 = dktX1_wholeScript_3 := dk_seg dksX1_wholeScript_2 24 rfl rfl
theorem dksX1_wholeScript_4 : cX1_wholeScript.data.toList.drop 94 = dktX1_wholeScript_4 := dk_seg dksX1_wholeScript_3 24 rfl rfl
theorem dX1_wholeScript_0 : decode cX1_wholeScript 0 = .ok (.aload_n 0, 1) := dk_42 (dk_at dksX1_wholeScript_0 0 rfl rfl)
theorem dX1_wholeScript_1 : decode cX1_wholeScript 1 = .ok (.iconst 0, 1) := dk_3 (dk_at dksX1_wholeScript_0 1 rfl rfl)
theorem dX1_wholeScript_2 : decode cX1_wholeScript 2 = .ok (.putfield 51, 3) := dk_181 0 51 (dk_at dksX1_wholeScript_0 2 rfl rfl)
theorem dX1_wholeScript_5 : decode cX1_wholeScript 5 = .ok (.aload_n 0, 1) := dk_42 (dk_at dksX1_wholeScript_0 5 rfl rfl)
theorem dX1_wholeScript_6 : decode cX1_wholeScript 6 = .ok (.getfield 138, 3) := dk_180 0 138 (dk_at dksX1_wholeScript_0 6 rfl rfl)
theorem dX1_wholeScript_9 : decode cX1_wholeScript 9 = .ok (.iload_n 1, 1) := dk_27 (dk_at dksX1_wholeScript_0 9 rfl rfl)
theorem dX1_wholeScript_10 : decode cX1_wholeScript 10 = .ok (.iconst 0, 1) := dk_3 (dk_at dksX1_wholeScript_0 10 rfl rfl)
theorem dX1_wholeScript_11 : decode cX1_wholeScript 11 = .ok (.iastore, 1) := dk_79 (dk_at dksX1_wholeScript_0 11 rfl rfl)
theorem dX1_wholeScript_12 : decode cX1_wholeScript 12 = .ok (.iconst 1, 1) := dk_4 (dk_at dksX1_wholeScript_0 12 rfl rfl)
theorem dX1_wholeScript_13 : decode cX1_wholeScript 13 = .ok (.istore_n 2, 1) := dk_61 (dk_at dksX1_wholeScript_0 13 rfl rfl)
theorem dX1_wholeScript_14 : decode cX1_wholeScript 14 = .ok (.iload_n 2, 1) := dk_28 (dk_at dksX1_wholeScript_0 14 rfl rfl)
theorem dX1_wholeScript_15 : decode cX1_wholeScript 15 = .ok (.ifCond .eq 73, 3) := dk_153 0 73 (dk_at dksX1_wholeScript_0 15 rfl rfl)
theorem dX1_wholeScript_18 : decode cX1_wholeScript 18 = .ok (.aload_n 0, 1) := dk_42 (dk_at dksX1_wholeScript_0 18 rfl rfl)
theorem dX1_wholeScript_19 : decode cX1_wholeScript 19 = .ok (.iconst 5, 1) := dk_8 (dk_at dksX1_wholeScript_0 19 rfl rfl)
theorem dX1_wholeScript_20 : decode cX1_wholeScript 20 = .ok (.bipush 16, 2) := dk_16 16 (dk_at dksX1_wholeScript_0 20 rfl rfl)
theorem dX1_wholeScript_22 : decode cX1_wholeScript 22 = .ok (.iload_n 1, 1) := dk_27 (dk_at dksX1_wholeScript_0 22 rfl rfl)
theorem dX1_wholeScript_23 : decode cX1_wholeScript 23 = .ok (.imul, 1) := dk_104 (dk_at dksX1_wholeScript_0 23 rfl rfl)
theorem dX1_wholeScript_24 : decode cX1_wholeScript 24 = .ok (.aload_n 0, 1) := dk_42 (dk_at dksX1_wholeScript_1 0 rfl rfl)
theorem dX1_wholeScript_25 : decode cX1_wholeScript 25 = .ok (.getfield 138, 3) := dk_180 0 138 (dk_at dksX1_wholeScript_1 1 rfl rfl)
theorem dX1_wholeScript_28 : decode cX1_wholeScript 28 = .ok (.iload_n 1, 1) := dk_27 (dk_at dksX1_wholeScript_1 4 rfl rfl)
theorem dX1_wholeScript_29 : decode cX1_wholeScript 29 = .ok (.iaload, 1) := dk_46 (dk_at dksX1_wholeScript_1 5 rfl rfl)
theorem dX1_wholeScript_30 : decode cX1_wholeScript 30 = .ok (.iadd, 1) := dk_96 (dk_at dksX1_wholeScript_1 6 rfl rfl)
theorem dX1_wholeScript_31 : decode cX1_wholeScript 31 = .ok (.imul, 1) := dk_104 (dk_at dksX1_wholeScript_1 7 rfl rfl)
theorem dX1_wholeScript_32 : decode cX1_wholeScript 32 = .ok (.invokevirtual 141, 3) := dk_182 0 141 (dk_at dksX1_wholeScript_1 8 rfl rfl)
theorem dX1_wholeScript_35 : decode cX1_wholeScript 35 = .ok (.aload_n 0, 1) := dk_42 (dk_at dksX1_wholeScript_1 11 rfl rfl)
theorem dX1_wholeScript_36 : decode cX1_wholeScript 36 = .ok (.getfield 138, 3) := dk_180 0 138 (dk_at dksX1_wholeScript_1 12 rfl rfl)
theorem dX1_wholeScript_39 : decode cX1_wholeScript 39 = .ok (.iload_n 1, 1) := dk_27 (dk_at dksX1_wholeScript_1 15 rfl rfl)
theorem dX1_wholeScript_40 : decode cX1_wholeScript 40 = .ok (.dup2, 1) := dk_92 (dk_at dksX1_wholeScript_1 16 rfl rfl)
theorem dX1_wholeScript_41 : decode cX1_wholeScript 41 = .ok (.iaload, 1) := dk_46 (dk_at dksX1_wholeScript_1 17 rfl rfl)
theorem dX1_wholeScript_42 : decode cX1_wholeScript 42 = .ok (.iconst 1, 1) := dk_4 (dk_at dksX1_wholeScript_1 18 rfl rfl)
theorem dX1_wholeScript_43 : decode cX1_wholeScript 43 = .ok (.iadd, 1) := dk_96 (dk_at dksX1_wholeScript_1 19 rfl rfl)
theorem dX1_wholeScript_44 : decode cX1_wholeScript 44 = .ok (.iastore, 1) := dk_79 (dk_at dksX1_wholeScript_1 20 rfl rfl)
theorem dX1_wholeScript_45 : decode cX1_wholeScript 45 = .ok (.aload_n 0, 1) := dk_42 (dk_at dksX1_wholeScript_1 21 rfl rfl)
theorem dX1_wholeScript_46 : decode cX1_wholeScript 46 = .ok (.invokevirtual 62, 3) := dk_182 0 62 (dk_at dksX1_wholeScript_2 0 rfl rfl)
theorem dX1_wholeScript_49 : decode cX1_wholeScript 49 = .ok (.bipush 59, 2) := dk_16 59 (dk_at dksX1_wholeScript_2 3 rfl rfl)
theorem dX1_wholeScript_51 : decode cX1_wholeScript 51 = .ok (.if_icmp .ne 18, 3) := dk_160 0 18 (dk_at dksX1_wholeScript_2 5 rfl rfl)
theorem dX1_wholeScript_54 : decode cX1_wholeScript 54 = .ok (.aload_n 0, 1) := dk_42 (dk_at dksX1_wholeScript_2 8 rfl rfl)
theorem dX1_wholeScript_55 : decode cX1_wholeScript 55 = .ok (.getfield 138, 3) := dk_180 0 138 (dk_at dksX1_wholeScript_2 9 rfl rfl)
theorem dX1_wholeScript_58 : decode cX1_wholeScript 58 = .ok (.iload_n 1, 1) := dk_27 (dk_at dksX1_wholeScript_2 12 rfl rfl)
theorem dX1_wholeScript_59 : decode cX1_wholeScript 59 = .ok (.iaload, 1) := dk_46 (dk_at dksX1_wholeScript_2 13 rfl rfl)
theorem dX1_wholeScript_60 : decode cX1_wholeScript 60 = .ok (.bipush 16, 2) := dk_16 16 (dk_at dksX1_wholeScript_2 14 rfl rfl)
theorem dX1_wholeScript_62 : decode cX1_wholeScript 62 = .ok (.if_icmp .ge 7, 3) := dk_162 0 7 (dk_at dksX1_wholeScript_2 16 rfl rfl)
theorem dX1_wholeScript_65 : decode cX1_wholeScript 65 = .ok (.iconst 1, 1) := dk_4 (dk_at dksX1_wholeScript_2 19 rfl rfl)
theorem dX1_wholeScript_66 : decode cX1_wholeScript 66 = .ok (.goto 4, 3) := dk_167 0 4 (dk_at dksX1_wholeScript_2 20 rfl rfl)
theorem dX1_wholeScript_69 : decode cX1_wholeScript 69 = .ok (.iconst 0, 1) := dk_3 (dk_at dksX1_wholeScript_2 23 rfl rfl)
theorem dX1_wholeScript_70 : decode cX1_wholeScript 70 = .ok (.istore_n 2, 1) := dk_61 (dk_at dksX1_wholeScript_3 0 rfl rfl)
theorem dX1_wholeScript_71 : decode cX1_wholeScript 71 = .ok (.iload_n 2, 1) := dk_28 (dk_at dksX1_wholeScript_3 1 rfl rfl)
theorem dX1_wholeScript_72 : decode cX1_wholeScript 72 = .ok (.ifCond .eq (-58), 3) := dk_153 255 198 (dk_at dksX1_wholeScript_3 2 rfl rfl)
theorem dX1_wholeScript_75 : decode cX1_wholeScript 75 = .ok (.aload_n 0, 1) := dk_42 (dk_at dksX1_wholeScript_3 5 rfl rfl)
theorem dX1_wholeScript_76 : decode cX1_wholeScript 76 = .ok (.dup, 1) := dk_89 (dk_at dksX1_wholeScript_3 6 rfl rfl)
theorem dX1_wholeScript_77 : decode cX1_wholeScript 77 = .ok (.getfield 51, 3) := dk_180 0 51 (dk_at dksX1_wholeScript_3 7 rfl rfl)
theorem dX1_wholeScript_80 : decode cX1_wholeScript 80 = .ok (.iconst 1, 1) := dk_4 (dk_at dksX1_wholeScript_3 10 rfl rfl)
theorem dX1_wholeScript_81 : decode cX1_wholeScript 81 = .ok (.iadd, 1) := dk_96 (dk_at dksX1_wholeScript_3 11 rfl rfl)
theorem dX1_wholeScript_82 : decode cX1_wholeScript 82 = .ok (.putfield 51, 3) := dk_181 0 51 (dk_at dksX1_wholeScript_3 12 rfl rfl)
theorem dX1_wholeScript_85 : decode cX1_wholeScript 85 = .ok (.goto (-71), 3) := dk_167 255 185 (dk_at dksX1_wholeScript_3 15 rfl rfl)
theorem dX1_wholeScript_88 : decode cX1_wholeScript 88 = .ok (.aload_n 0, 1) := dk_42 (dk_at dksX1_wholeScript_3 18 rfl rfl)
theorem dX1_wholeScript_89 : decode cX1_wholeScript 89 = .ok (.aload_n 0, 1) := dk_42 (dk_at dksX1_wholeScript_3 19 rfl rfl)
theorem dX1_wholeScript_90 : decode cX1_wholeScript 90 = .ok (.invokevirtual 62, 3) := dk_182 0 62 (dk_at dksX1_wholeScript_3 20 rfl rfl)
theorem dX1_wholeScript_93 : decode cX1_wholeScript 93 = .ok (.iconst (-1), 1) := dk_2 (dk_at dksX1_wholeScript_3 23 rfl rfl)
theorem dX1_wholeScript_94 : decode cX1_wholeScript 94 = .ok (.if_icmp .ne 7, 3) := dk_160 0 7 (dk_at dksX1_wholeScript_4 0 rfl rfl)
theorem dX1_wholeScript_97 : decode cX1_wholeScript 97 = .ok (.iconst 1, 1) := dk_4 (dk_at dksX1_wholeScript_4 3 rfl rfl)
theorem dX1_wholeScript_98 : decode cX1_wholeScript 98 = .ok (.goto 4, 3) := dk_167 0 4 (dk_at dksX1_wholeScript_4 4 rfl rfl)
theorem dX1_wholeScript_101 : decode cX1_wholeScript 101 = .ok (.iconst 0, 1) := dk_3 (dk_at dksX1_wholeScript_4 7 rfl rfl)
theorem dX1_wholeScript_102 : decode cX1_wholeScript 102 = .ok (.invokevirtual 65, 3) := dk_182 0 65 (dk_at dksX1_wholeScript_4 8 rfl rfl)
theorem dX1_wholeScript_105 : decode cX1_wholeScript 105 = .ok (.return_, 1) := dk_177 (dk_at dksX1_wholeScript_4 11 rfl rfl)
abbrev cX1_stepRead : ByteArray := prog_1_method_16_code
def yX1_stepRead : MethodName := ⟨RX1, "stepRead", "(I)V"⟩
def dkwX1_stepRead_5 : List UInt8 := [167, 255, 216, 177]
abbrev dktX1_stepRead_5 : List UInt8 := dkwX1_stepRead_5 ++ []
def dkwX1_stepRead_4 : List UInt8 := [16, 44, 182, 0, 134, 42, 180, 0, 128, 27, 29, 96, 42, 3, 17, 3, 231, 182, 0, 86, 79, 132, 3, 1]
abbrev dktX1_stepRead_4 : List UInt8 := dkwX1_stepRead_4 ++ dktX1_stepRead_5
def dkwX1_stepRead_3 : List UInt8 := [132, 3, 1, 167, 255, 239, 4, 62, 29, 42, 180, 0, 131, 28, 46, 163, 0, 36, 29, 4, 164, 0, 9, 42]
abbrev dktX1_stepRead_3 : List UInt8 := dkwX1_stepRead_3 ++ dktX1_stepRead_4
def dkwX1_stepRead_2 : List UInt8 := [180, 0, 128, 27, 28, 79, 4, 62, 29, 8, 162, 0, 18, 42, 180, 0, 128, 27, 29, 96, 2, 79]
abbrev dktX1_stepRead_2 : List UInt8 := dkwX1_stepRead_2 ++ dktX1_stepRead_3
def dkwX1_stepRead_1 : List UInt8 := [155, 0, 7, 4, 167, 0, 4, 3, 182, 0, 65, 42, 89, 180, 0, 51, 4, 96, 181, 0, 51, 42]
abbrev dktX1_stepRead_1 : List UInt8 := dkwX1_stepRead_1 ++ dktX1_stepRead_2
def dkwX1_stepRead_0 : List UInt8 := [42, 182, 0, 62, 2, 160, 0, 7, 2, 167, 0, 12, 18, 126, 42, 182, 0, 54, 182, 0, 78, 61, 42, 28]
abbrev dktX1_stepRead_0 : List UInt8 := dkwX1_stepRead_0 ++ dktX1_stepRead_1
theorem dksX1_stepRead_0 : cX1_stepRead.data.toList.drop 0 = dktX1_stepRead_0 := by decide +kernel
theorem dksX1_stepRead_1 : cX1_stepRead.data.toList.drop 24 = dktX1_stepRead_1 := dk_seg dksX1_stepRead_0 24 rfl rfl
theorem dksX1_stepRead_2 : cX1_stepRead.data.toList.drop 46 = dktX1_stepRead_2 := dk_seg dksX1_stepRead_1 22 rfl rfl
theorem dksX1_stepRead_3 : cX1_stepRead.data.toList.drop 68 = dktX1_stepRead_3 := dk_seg dksX1_stepRead_2 22 rfl rfl
theorem dksX1_stepRead_4 : cX1_stepRead.data.toList.drop 92 = dktX1_stepRead_4 := dk_seg dksX1_stepRead_3 24 rfl rfl
theorem dksX1_stepRead_5 : cX1_stepRead.data.toList.drop 116 = dktX1_stepRead_5 := dk_seg dksX1_stepRead_4 24 rfl rfl
theorem dX1_stepRead_0 : decode cX1_stepRead 0 = .ok (.aload_n 0, 1) := dk_42 (dk_at dksX1_stepRead_0 0 rfl rfl)
theorem dX1_stepRead_1 : decode cX1_stepRead 1 = .ok (.invokevirtual 62, 3) := dk_182 0 62 (dk_at dksX1_stepRead_0 1 rfl rfl)
theorem dX1_stepRead_4 : decode cX1_stepRead 4 = .ok (.iconst (-1), 1) := dk_2 (dk_at dksX1_stepRead_0 4 rfl rfl)
theorem dX1_stepRead_5 : decode cX1_stepRead 5 = .ok (.if_icmp .ne 7, 3) := dk_160 0 7 (dk_at dksX1_stepRead_0 5 rfl rfl)
theorem dX1_stepRead_8 : decode cX1_stepRead 8 = .ok (.iconst (-1), 1) := dk_2 (dk_at dksX1_stepRead_0 8 rfl rfl)
theorem dX1_stepRead_9 : decode cX1_stepRead 9 = .ok (.goto 12, 3) := dk_167 0 12 (dk_at dksX1_stepRead_0 9 rfl rfl)
theorem dX1_stepRead_12 : decode cX1_stepRead 12 = .ok (.ldc 126, 2) := dk_18 126 (dk_at dksX1_stepRead_0 12 rfl rfl)
theorem dX1_stepRead_14 : decode cX1_stepRead 14 = .ok (.aload_n 0, 1) := dk_42 (dk_at dksX1_stepRead_0 14 rfl rfl)
theorem dX1_stepRead_15 : decode cX1_stepRead 15 = .ok (.invokevirtual 54, 3) := dk_182 0 54 (dk_at dksX1_stepRead_0 15 rfl rfl)
theorem dX1_stepRead_18 : decode cX1_stepRead 18 = .ok (.invokevirtual 78, 3) := dk_182 0 78 (dk_at dksX1_stepRead_0 18 rfl rfl)
theorem dX1_stepRead_21 : decode cX1_stepRead 21 = .ok (.istore_n 2, 1) := dk_61 (dk_at dksX1_stepRead_0 21 rfl rfl)
theorem dX1_stepRead_22 : decode cX1_stepRead 22 = .ok (.aload_n 0, 1) := dk_42 (dk_at dksX1_stepRead_0 22 rfl rfl)
theorem dX1_stepRead_23 : decode cX1_stepRead 23 = .ok (.iload_n 2, 1) := dk_28 (dk_at dksX1_stepRead_0 23 rfl rfl)
theorem dX1_stepRead_24 : decode cX1_stepRead 24 = .ok (.ifCond .lt 7, 3) := dk_155 0 7 (dk_at dksX1_stepRead_1 0 rfl rfl)
theorem dX1_stepRead_27 : decode cX1_stepRead 27 = .ok (.iconst 1, 1) := dk_4 (dk_at dksX1_stepRead_1 3 rfl rfl)
theorem dX1_stepRead_28 : decode cX1_stepRead 28 = .ok (.goto 4, 3) := dk_167 0 4 (dk_at dksX1_stepRead_1 4 rfl rfl)
theorem dX1_stepRead_31 : decode cX1_stepRead 31 = .ok (.iconst 0, 1) := dk_3 (dk_at dksX1_stepRead_1 7 rfl rfl)
theorem dX1_stepRead_32 : decode cX1_stepRead 32 = .ok (.invokevirtual 65, 3) := dk_182 0 65 (dk_at dksX1_stepRead_1 8 rfl rfl)
theorem dX1_stepRead_35 : decode cX1_stepRead 35 = .ok (.aload_n 0, 1) := dk_42 (dk_at dksX1_stepRead_1 11 rfl rfl)
theorem dX1_stepRead_36 : decode cX1_stepRead 36 = .ok (.dup, 1) := dk_89 (dk_at dksX1_stepRead_1 12 rfl rfl)
theorem dX1_stepRead_37 : decode cX1_stepRead 37 = .ok (.getfield 51, 3) := dk_180 0 51 (dk_at dksX1_stepRead_1 13 rfl rfl)
theorem dX1_stepRead_40 : decode cX1_stepRead 40 = .ok (.iconst 1, 1) := dk_4 (dk_at dksX1_stepRead_1 16 rfl rfl)
theorem dX1_stepRead_41 : decode cX1_stepRead 41 = .ok (.iadd, 1) := dk_96 (dk_at dksX1_stepRead_1 17 rfl rfl)
theorem dX1_stepRead_42 : decode cX1_stepRead 42 = .ok (.putfield 51, 3) := dk_181 0 51 (dk_at dksX1_stepRead_1 18 rfl rfl)
theorem dX1_stepRead_45 : decode cX1_stepRead 45 = .ok (.aload_n 0, 1) := dk_42 (dk_at dksX1_stepRead_1 21 rfl rfl)
theorem dX1_stepRead_46 : decode cX1_stepRead 46 = .ok (.getfield 128, 3) := dk_180 0 128 (dk_at dksX1_stepRead_2 0 rfl rfl)
theorem dX1_stepRead_49 : decode cX1_stepRead 49 = .ok (.iload_n 1, 1) := dk_27 (dk_at dksX1_stepRead_2 3 rfl rfl)
theorem dX1_stepRead_50 : decode cX1_stepRead 50 = .ok (.iload_n 2, 1) := dk_28 (dk_at dksX1_stepRead_2 4 rfl rfl)
theorem dX1_stepRead_51 : decode cX1_stepRead 51 = .ok (.iastore, 1) := dk_79 (dk_at dksX1_stepRead_2 5 rfl rfl)
theorem dX1_stepRead_52 : decode cX1_stepRead 52 = .ok (.iconst 1, 1) := dk_4 (dk_at dksX1_stepRead_2 6 rfl rfl)
theorem dX1_stepRead_53 : decode cX1_stepRead 53 = .ok (.istore_n 3, 1) := dk_62 (dk_at dksX1_stepRead_2 7 rfl rfl)
theorem dX1_stepRead_54 : decode cX1_stepRead 54 = .ok (.iload_n 3, 1) := dk_29 (dk_at dksX1_stepRead_2 8 rfl rfl)
theorem dX1_stepRead_55 : decode cX1_stepRead 55 = .ok (.iconst 5, 1) := dk_8 (dk_at dksX1_stepRead_2 9 rfl rfl)
theorem dX1_stepRead_56 : decode cX1_stepRead 56 = .ok (.if_icmp .ge 18, 3) := dk_162 0 18 (dk_at dksX1_stepRead_2 10 rfl rfl)
theorem dX1_stepRead_59 : decode cX1_stepRead 59 = .ok (.aload_n 0, 1) := dk_42 (dk_at dksX1_stepRead_2 13 rfl rfl)
theorem dX1_stepRead_60 : decode cX1_stepRead 60 = .ok (.getfield 128, 3) := dk_180 0 128 (dk_at dksX1_stepRead_2 14 rfl rfl)
theorem dX1_stepRead_63 : decode cX1_stepRead 63 = .ok (.iload_n 1, 1) := dk_27 (dk_at dksX1_stepRead_2 17 rfl rfl)
theorem dX1_stepRead_64 : decode cX1_stepRead 64 = .ok (.iload_n 3, 1) := dk_29 (dk_at dksX1_stepRead_2 18 rfl rfl)
theorem dX1_stepRead_65 : decode cX1_stepRead 65 = .ok (.iadd, 1) := dk_96 (dk_at dksX1_stepRead_2 19 rfl rfl)
theorem dX1_stepRead_66 : decode cX1_stepRead 66 = .ok (.iconst (-1), 1) := dk_2 (dk_at dksX1_stepRead_2 20 rfl rfl)
theorem dX1_stepRead_67 : decode cX1_stepRead 67 = .ok (.iastore, 1) := dk_79 (dk_at dksX1_stepRead_2 21 rfl rfl)
theorem dX1_stepRead_68 : decode cX1_stepRead 68 = .ok (.iinc 3 1, 3) := dk_132 3 1 (dk_at dksX1_stepRead_3 0 rfl rfl)
theorem dX1_stepRead_71 : decode cX1_stepRead 71 = .ok (.goto (-17), 3) := dk_167 255 239 (dk_at dksX1_stepRead_3 3 rfl rfl)
theorem dX1_stepRead_74 : decode cX1_stepRead 74 = .ok (.iconst 1, 1) := dk_4 (dk_at dksX1_stepRead_3 6 rfl rfl)
theorem dX1_stepRead_75 : decode cX1_stepRead 75 = .ok (.istore_n 3, 1) := dk_62 (dk_at dksX1_stepRead_3 7 rfl rfl)
theorem dX1_stepRead_76 : decode cX1_stepRead 76 = .ok (.iload_n 3, 1) := dk_29 (dk_at dksX1_stepRead_3 8 rfl rfl)
theorem dX1_stepRead_77 : decode cX1_stepRead 77 = .ok (.aload_n 0, 1) := dk_42 (dk_at dksX1_stepRead_3 9 rfl rfl)
theorem dX1_stepRead_78 : decode cX1_stepRead 78 = .ok (.getfield 131, 3) := dk_180 0 131 (dk_at dksX1_stepRead_3 10 rfl rfl)
theorem dX1_stepRead_81 : decode cX1_stepRead 81 = .ok (.iload_n 2, 1) := dk_28 (dk_at dksX1_stepRead_3 13 rfl rfl)
theorem dX1_stepRead_82 : decode cX1_stepRead 82 = .ok (.iaload, 1) := dk_46 (dk_at dksX1_stepRead_3 14 rfl rfl)
theorem dX1_stepRead_83 : decode cX1_stepRead 83 = .ok (.if_icmp .gt 36, 3) := dk_163 0 36 (dk_at dksX1_stepRead_3 15 rfl rfl)
theorem dX1_stepRead_86 : decode cX1_stepRead 86 = .ok (.iload_n 3, 1) := dk_29 (dk_at dksX1_stepRead_3 18 rfl rfl)
theorem dX1_stepRead_87 : decode cX1_stepRead 87 = .ok (.iconst 1, 1) := dk_4 (dk_at dksX1_stepRead_3 19 rfl rfl)
theorem dX1_stepRead_88 : decode cX1_stepRead 88 = .ok (.if_icmp .le 9, 3) := dk_164 0 9 (dk_at dksX1_stepRead_3 20 rfl rfl)
theorem dX1_stepRead_91 : decode cX1_stepRead 91 = .ok (.aload_n 0, 1) := dk_42 (dk_at dksX1_stepRead_3 23 rfl rfl)
theorem dX1_stepRead_92 : decode cX1_stepRead 92 = .ok (.bipush 44, 2) := dk_16 44 (dk_at dksX1_stepRead_4 0 rfl rfl)
theorem dX1_stepRead_94 : decode cX1_stepRead 94 = .ok (.invokevirtual 134, 3) := dk_182 0 134 (dk_at dksX1_stepRead_4 2 rfl rfl)
theorem dX1_stepRead_97 : decode cX1_stepRead 97 = .ok (.aload_n 0, 1) := dk_42 (dk_at dksX1_stepRead_4 5 rfl rfl)
theorem dX1_stepRead_98 : decode cX1_stepRead 98 = .ok (.getfield 128, 3) := dk_180 0 128 (dk_at dksX1_stepRead_4 6 rfl rfl)
theorem dX1_stepRead_101 : decode cX1_stepRead 101 = .ok (.iload_n 1, 1) := dk_27 (dk_at dksX1_stepRead_4 9 rfl rfl)
theorem dX1_stepRead_102 : decode cX1_stepRead 102 = .ok (.iload_n 3, 1) := dk_29 (dk_at dksX1_stepRead_4 10 rfl rfl)
theorem dX1_stepRead_103 : decode cX1_stepRead 103 = .ok (.iadd, 1) := dk_96 (dk_at dksX1_stepRead_4 11 rfl rfl)
theorem dX1_stepRead_104 : decode cX1_stepRead 104 = .ok (.aload_n 0, 1) := dk_42 (dk_at dksX1_stepRead_4 12 rfl rfl)
theorem dX1_stepRead_105 : decode cX1_stepRead 105 = .ok (.iconst 0, 1) := dk_3 (dk_at dksX1_stepRead_4 13 rfl rfl)
theorem dX1_stepRead_106 : decode cX1_stepRead 106 = .ok (.sipush 999, 3) := dk_17 3 231 (dk_at dksX1_stepRead_4 14 rfl rfl)
theorem dX1_stepRead_109 : decode cX1_stepRead 109 = .ok (.invokevirtual 86, 3) := dk_182 0 86 (dk_at dksX1_stepRead_4 17 rfl rfl)
theorem dX1_stepRead_112 : decode cX1_stepRead 112 = .ok (.iastore, 1) := dk_79 (dk_at dksX1_stepRead_4 20 rfl rfl)
theorem dX1_stepRead_113 : decode cX1_stepRead 113 = .ok (.iinc 3 1, 3) := dk_132 3 1 (dk_at dksX1_stepRead_4 21 rfl rfl)
theorem dX1_stepRead_116 : decode cX1_stepRead 116 = .ok (.goto (-40), 3) := dk_167 255 216 (dk_at dksX1_stepRead_5 0 rfl rfl)
theorem dX1_stepRead_119 : decode cX1_stepRead 119 = .ok (.return_, 1) := dk_177 (dk_at dksX1_stepRead_5 3 rfl rfl)
abbrev cX1_sign : ByteArray := prog_1_method_11_code
def yX1_sign : MethodName := ⟨RX1, "sign", "(I)V"⟩
def dkwX1_sign_1 : List UInt8 := [181, 0, 51, 177]
abbrev dktX1_sign_1 : List UInt8 := dkwX1_sign_1 ++ []
def dkwX1_sign_0 : List UInt8 := [42, 42, 182, 0, 62, 27, 160, 0, 7, 4, 167, 0, 4, 3, 182, 0, 65, 42, 89, 180, 0, 51, 4, 96]
abbrev dktX1_sign_0 : List UInt8 := dkwX1_sign_0 ++ dktX1_sign_1
theorem dksX1_sign_0 : cX1_sign.data.toList.drop 0 = dktX1_sign_0 := by decide +kernel
theorem dksX1_sign_1 : cX1_sign.data.toList.drop 24 = dktX1_sign_1 := dk_seg dksX1_sign_0 24 rfl rfl
theorem dX1_sign_0 : decode cX1_sign 0 = .ok (.aload_n 0, 1) := dk_42 (dk_at dksX1_sign_0 0 rfl rfl)
theorem dX1_sign_1 : decode cX1_sign 1 = .ok (.aload_n 0, 1) := dk_42 (dk_at dksX1_sign_0 1 rfl rfl)
theorem dX1_sign_2 : decode cX1_sign 2 = .ok (.invokevirtual 62, 3) := dk_182 0 62 (dk_at dksX1_sign_0 2 rfl rfl)
theorem dX1_sign_5 : decode cX1_sign 5 = .ok (.iload_n 1, 1) := dk_27 (dk_at dksX1_sign_0 5 rfl rfl)
theorem dX1_sign_6 : decode cX1_sign 6 = .ok (.if_icmp .ne 7, 3) := dk_160 0 7 (dk_at dksX1_sign_0 6 rfl rfl)
theorem dX1_sign_9 : decode cX1_sign 9 = .ok (.iconst 1, 1) := dk_4 (dk_at dksX1_sign_0 9 rfl rfl)
theorem dX1_sign_10 : decode cX1_sign 10 = .ok (.goto 4, 3) := dk_167 0 4 (dk_at dksX1_sign_0 10 rfl rfl)
theorem dX1_sign_13 : decode cX1_sign 13 = .ok (.iconst 0, 1) := dk_3 (dk_at dksX1_sign_0 13 rfl rfl)
theorem dX1_sign_14 : decode cX1_sign 14 = .ok (.invokevirtual 65, 3) := dk_182 0 65 (dk_at dksX1_sign_0 14 rfl rfl)
theorem dX1_sign_17 : decode cX1_sign 17 = .ok (.aload_n 0, 1) := dk_42 (dk_at dksX1_sign_0 17 rfl rfl)
theorem dX1_sign_18 : decode cX1_sign 18 = .ok (.dup, 1) := dk_89 (dk_at dksX1_sign_0 18 rfl rfl)
theorem dX1_sign_19 : decode cX1_sign 19 = .ok (.getfield 51, 3) := dk_180 0 51 (dk_at dksX1_sign_0 19 rfl rfl)
theorem dX1_sign_22 : decode cX1_sign 22 = .ok (.iconst 1, 1) := dk_4 (dk_at dksX1_sign_0 22 rfl rfl)
theorem dX1_sign_23 : decode cX1_sign 23 = .ok (.iadd, 1) := dk_96 (dk_at dksX1_sign_0 23 rfl rfl)
theorem dX1_sign_24 : decode cX1_sign 24 = .ok (.putfield 51, 3) := dk_181 0 51 (dk_at dksX1_sign_1 0 rfl rfl)
theorem dX1_sign_27 : decode cX1_sign 27 = .ok (.return_, 1) := dk_177 (dk_at dksX1_sign_1 3 rfl rfl)
abbrev cX1_text : ByteArray := prog_1_method_21_code
def yX1_text : MethodName := ⟨RX1, "text", "(I)I"⟩
def dkwX1_text_2 : List UInt8 := [167, 0, 7, 42, 182, 0, 231, 172]
abbrev dktX1_text_2 : List UInt8 := dkwX1_text_2 ++ []
def dkwX1_text_1 : List UInt8 := [180, 0, 152, 7, 160, 0, 5, 2, 172, 42, 3, 181, 0, 40, 27, 154, 0, 10, 42, 182, 0, 228]
abbrev dktX1_text_1 : List UInt8 := dkwX1_text_1 ++ dktX1_text_2
def dkwX1_text_0 : List UInt8 := [27, 3, 4, 184, 0, 47, 153, 0, 25, 42, 27, 182, 0, 226, 2, 160, 0, 16, 27, 4, 160, 0, 13, 42]
abbrev dktX1_text_0 : List UInt8 := dkwX1_text_0 ++ dktX1_text_1
theorem dksX1_text_0 : cX1_text.data.toList.drop 0 = dktX1_text_0 := by decide +kernel
theorem dksX1_text_1 : cX1_text.data.toList.drop 24 = dktX1_text_1 := dk_seg dksX1_text_0 24 rfl rfl
theorem dksX1_text_2 : cX1_text.data.toList.drop 46 = dktX1_text_2 := dk_seg dksX1_text_1 22 rfl rfl
theorem dX1_text_0 : decode cX1_text 0 = .ok (.iload_n 1, 1) := dk_27 (dk_at dksX1_text_0 0 rfl rfl)
theorem dX1_text_1 : decode cX1_text 1 = .ok (.iconst 0, 1) := dk_3 (dk_at dksX1_text_0 1 rfl rfl)
theorem dX1_text_2 : decode cX1_text 2 = .ok (.iconst 1, 1) := dk_4 (dk_at dksX1_text_0 2 rfl rfl)
theorem dX1_text_3 : decode cX1_text 3 = .ok (.invokestatic 47, 3) := dk_184 0 47 (dk_at dksX1_text_0 3 rfl rfl)
theorem dX1_text_6 : decode cX1_text 6 = .ok (.ifCond .eq 25, 3) := dk_153 0 25 (dk_at dksX1_text_0 6 rfl rfl)
theorem dX1_text_9 : decode cX1_text 9 = .ok (.aload_n 0, 1) := dk_42 (dk_at dksX1_text_0 9 rfl rfl)
theorem dX1_text_10 : decode cX1_text 10 = .ok (.iload_n 1, 1) := dk_27 (dk_at dksX1_text_0 10 rfl rfl)
theorem dX1_text_11 : decode cX1_text 11 = .ok (.invokevirtual 226, 3) := dk_182 0 226 (dk_at dksX1_text_0 11 rfl rfl)
theorem dX1_text_14 : decode cX1_text 14 = .ok (.iconst (-1), 1) := dk_2 (dk_at dksX1_text_0 14 rfl rfl)
theorem dX1_text_15 : decode cX1_text 15 = .ok (.if_icmp .ne 16, 3) := dk_160 0 16 (dk_at dksX1_text_0 15 rfl rfl)
theorem dX1_text_18 : decode cX1_text 18 = .ok (.iload_n 1, 1) := dk_27 (dk_at dksX1_text_0 18 rfl rfl)
theorem dX1_text_19 : decode cX1_text 19 = .ok (.iconst 1, 1) := dk_4 (dk_at dksX1_text_0 19 rfl rfl)
theorem dX1_text_20 : decode cX1_text 20 = .ok (.if_icmp .ne 13, 3) := dk_160 0 13 (dk_at dksX1_text_0 20 rfl rfl)
theorem dX1_text_23 : decode cX1_text 23 = .ok (.aload_n 0, 1) := dk_42 (dk_at dksX1_text_0 23 rfl rfl)
theorem dX1_text_24 : decode cX1_text 24 = .ok (.getfield 152, 3) := dk_180 0 152 (dk_at dksX1_text_1 0 rfl rfl)
theorem dX1_text_27 : decode cX1_text 27 = .ok (.iconst 4, 1) := dk_7 (dk_at dksX1_text_1 3 rfl rfl)
theorem dX1_text_28 : decode cX1_text 28 = .ok (.if_icmp .ne 5, 3) := dk_160 0 5 (dk_at dksX1_text_1 4 rfl rfl)
theorem dX1_text_31 : decode cX1_text 31 = .ok (.iconst (-1), 1) := dk_2 (dk_at dksX1_text_1 7 rfl rfl)
theorem dX1_text_32 : decode cX1_text 32 = .ok (.ireturn, 1) := dk_172 (dk_at dksX1_text_1 8 rfl rfl)
theorem dX1_text_33 : decode cX1_text 33 = .ok (.aload_n 0, 1) := dk_42 (dk_at dksX1_text_1 9 rfl rfl)
theorem dX1_text_34 : decode cX1_text 34 = .ok (.iconst 0, 1) := dk_3 (dk_at dksX1_text_1 10 rfl rfl)
theorem dX1_text_35 : decode cX1_text 35 = .ok (.putfield 40, 3) := dk_181 0 40 (dk_at dksX1_text_1 11 rfl rfl)
theorem dX1_text_38 : decode cX1_text 38 = .ok (.iload_n 1, 1) := dk_27 (dk_at dksX1_text_1 14 rfl rfl)
theorem dX1_text_39 : decode cX1_text 39 = .ok (.ifCond .ne 10, 3) := dk_154 0 10 (dk_at dksX1_text_1 15 rfl rfl)
theorem dX1_text_42 : decode cX1_text 42 = .ok (.aload_n 0, 1) := dk_42 (dk_at dksX1_text_1 18 rfl rfl)
theorem dX1_text_43 : decode cX1_text 43 = .ok (.invokevirtual 228, 3) := dk_182 0 228 (dk_at dksX1_text_1 19 rfl rfl)
theorem dX1_text_46 : decode cX1_text 46 = .ok (.goto 7, 3) := dk_167 0 7 (dk_at dksX1_text_2 0 rfl rfl)
theorem dX1_text_49 : decode cX1_text 49 = .ok (.aload_n 0, 1) := dk_42 (dk_at dksX1_text_2 3 rfl rfl)
theorem dX1_text_50 : decode cX1_text 50 = .ok (.invokevirtual 231, 3) := dk_182 0 231 (dk_at dksX1_text_2 4 rfl rfl)
theorem dX1_text_53 : decode cX1_text 53 = .ok (.ireturn, 1) := dk_172 (dk_at dksX1_text_2 7 rfl rfl)
abbrev cX1_takeShelf : ByteArray := prog_1_method_20_code
def yX1_takeShelf : MethodName := ⟨RX1, "takeShelf", "()I"⟩
def dkwX1_takeShelf_6 : List UInt8 := [180, 0, 214, 182, 0, 220, 42, 1, 181, 0, 223, 42, 182, 0, 185, 172]
abbrev dktX1_takeShelf_6 : List UInt8 := dkwX1_takeShelf_6 ++ []
def dkwX1_takeShelf_5 : List UInt8 := [42, 180, 0, 200, 184, 0, 203, 46, 130, 182, 0, 207, 132, 1, 1, 167, 255, 177, 42, 180, 0, 210]
abbrev dktX1_takeShelf_5 : List UInt8 := dkwX1_takeShelf_5 ++ dktX1_takeShelf_6
def dkwX1_takeShelf_4 : List UInt8 := [180, 0, 123, 5, 27, 104, 4, 96, 46, 42, 180, 0, 178, 180, 0, 191, 42, 180, 0, 194, 42, 180, 0, 197]
abbrev dktX1_takeShelf_4 : List UInt8 := dkwX1_takeShelf_4 ++ dktX1_takeShelf_5
def dkwX1_takeShelf_3 : List UInt8 := [182, 0, 185, 161, 0, 6, 167, 0, 53, 42, 42, 180, 0, 123, 5, 27, 104, 46, 182, 0, 188, 42, 42]
abbrev dktX1_takeShelf_3 : List UInt8 := dkwX1_takeShelf_3 ++ dktX1_takeShelf_4
def dkwX1_takeShelf_2 : List UInt8 := [181, 0, 182, 3, 60, 27, 42, 180, 0, 90, 162, 0, 77, 42, 180, 0, 123, 5, 27, 104, 46, 42]
abbrev dktX1_takeShelf_2 : List UInt8 := dkwX1_takeShelf_2 ++ dktX1_takeShelf_3
def dkwX1_takeShelf_1 : List UInt8 := [182, 0, 168, 42, 187, 0, 173, 89, 183, 0, 175, 181, 0, 178, 42, 180, 0, 178, 42, 180, 0, 155, 7, 46]
abbrev dktX1_takeShelf_1 : List UInt8 := dkwX1_takeShelf_1 ++ dktX1_takeShelf_2
def dkwX1_takeShelf_0 : List UInt8 := [42, 180, 0, 93, 3, 42, 180, 0, 155, 3, 8, 184, 0, 158, 42, 180, 0, 164, 42, 180, 0, 155, 6, 46]
abbrev dktX1_takeShelf_0 : List UInt8 := dkwX1_takeShelf_0 ++ dktX1_takeShelf_1
theorem dksX1_takeShelf_0 : cX1_takeShelf.data.toList.drop 0 = dktX1_takeShelf_0 := by decide +kernel
theorem dksX1_takeShelf_1 : cX1_takeShelf.data.toList.drop 24 = dktX1_takeShelf_1 := dk_seg dksX1_takeShelf_0 24 rfl rfl
theorem dksX1_takeShelf_2 : cX1_takeShelf.data.toList.drop 48 = dktX1_takeShelf_2 := dk_seg dksX1_takeShelf_1 24 rfl rfl
theorem dksX1_takeShelf_3 : cX1_takeShelf.data.toList.drop 70 = dktX1_takeShelf_3 := dk_seg dksX1_takeShelf_2 22 rfl rfl
theorem dksX1_takeShelf_4 : cX1_takeShelf.data.toList.drop 93 = dktX1_takeShelf_4 := dk_seg dksX1_takeShelf_3 23 rfl rfl
theorem dksX1_takeShelf_5 : cX1_takeShelf.data.toList.drop 117 = dktX1_takeShelf_5 := dk_seg dksX1_takeShelf_4 24 rfl rfl
theorem dksX1_takeShelf_6 : cX1_takeShelf.data.toList.drop 139 = dktX1_takeShelf_6 := dk_seg dksX1_takeShelf_5 22 rfl rfl
theorem dX1_takeShelf_0 : decode cX1_takeShelf 0 = .ok (.aload_n 0, 1) := dk_42 (dk_at dksX1_takeShelf_0 0 rfl rfl)
theorem dX1_takeShelf_1 : decode cX1_takeShelf 1 = .ok (.getfield 93, 3) := dk_180 0 93 (dk_at dksX1_takeShelf_0 1 rfl rfl)
theorem dX1_takeShelf_4 : decode cX1_takeShelf 4 = .ok (.iconst 0, 1) := dk_3 (dk_at dksX1_takeShelf_0 4 rfl rfl)
theorem dX1_takeShelf_5 : decode cX1_takeShelf 5 = .ok (.aload_n 0, 1) := dk_42 (dk_at dksX1_takeShelf_0 5 rfl rfl)
theorem dX1_takeShelf_6 : decode cX1_takeShelf 6 = .ok (.getfield 155, 3) := dk_180 0 155 (dk_at dksX1_takeShelf_0 6 rfl rfl)
theorem dX1_takeShelf_9 : decode cX1_takeShelf 9 = .ok (.iconst 0, 1) := dk_3 (dk_at dksX1_takeShelf_0 9 rfl rfl)
theorem dX1_takeShelf_10 : decode cX1_takeShelf 10 = .ok (.iconst 5, 1) := dk_8 (dk_at dksX1_takeShelf_0 10 rfl rfl)
theorem dX1_takeShelf_11 : decode cX1_takeShelf 11 = .ok (.invokestatic 158, 3) := dk_184 0 158 (dk_at dksX1_takeShelf_0 11 rfl rfl)
theorem dX1_takeShelf_14 : decode cX1_takeShelf 14 = .ok (.aload_n 0, 1) := dk_42 (dk_at dksX1_takeShelf_0 14 rfl rfl)
theorem dX1_takeShelf_15 : decode cX1_takeShelf 15 = .ok (.getfield 164, 3) := dk_180 0 164 (dk_at dksX1_takeShelf_0 15 rfl rfl)
theorem dX1_takeShelf_18 : decode cX1_takeShelf 18 = .ok (.aload_n 0, 1) := dk_42 (dk_at dksX1_takeShelf_0 18 rfl rfl)
theorem dX1_takeShelf_19 : decode cX1_takeShelf 19 = .ok (.getfield 155, 3) := dk_180 0 155 (dk_at dksX1_takeShelf_0 19 rfl rfl)
theorem dX1_takeShelf_22 : decode cX1_takeShelf 22 = .ok (.iconst 3, 1) := dk_6 (dk_at dksX1_takeShelf_0 22 rfl rfl)
theorem dX1_takeShelf_23 : decode cX1_takeShelf 23 = .ok (.iaload, 1) := dk_46 (dk_at dksX1_takeShelf_0 23 rfl rfl)
theorem dX1_takeShelf_24 : decode cX1_takeShelf 24 = .ok (.invokevirtual 168, 3) := dk_182 0 168 (dk_at dksX1_takeShelf_1 0 rfl rfl)
theorem dX1_takeShelf_27 : decode cX1_takeShelf 27 = .ok (.aload_n 0, 1) := dk_42 (dk_at dksX1_takeShelf_1 3 rfl rfl)
theorem dX1_takeShelf_28 : decode cX1_takeShelf 28 = .ok (.new 173, 3) := dk_187 0 173 (dk_at dksX1_takeShelf_1 4 rfl rfl)
theorem dX1_takeShelf_31 : decode cX1_takeShelf 31 = .ok (.dup, 1) := dk_89 (dk_at dksX1_takeShelf_1 7 rfl rfl)
theorem dX1_takeShelf_32 : decode cX1_takeShelf 32 = .ok (.invokespecial 175, 3) := dk_183 0 175 (dk_at dksX1_takeShelf_1 8 rfl rfl)
theorem dX1_takeShelf_35 : decode cX1_takeShelf 35 = .ok (.putfield 178, 3) := dk_181 0 178 (dk_at dksX1_takeShelf_1 11 rfl rfl)
theorem dX1_takeShelf_38 : decode cX1_takeShelf 38 = .ok (.aload_n 0, 1) := dk_42 (dk_at dksX1_takeShelf_1 14 rfl rfl)
theorem dX1_takeShelf_39 : decode cX1_takeShelf 39 = .ok (.getfield 178, 3) := dk_180 0 178 (dk_at dksX1_takeShelf_1 15 rfl rfl)
theorem dX1_takeShelf_42 : decode cX1_takeShelf 42 = .ok (.aload_n 0, 1) := dk_42 (dk_at dksX1_takeShelf_1 18 rfl rfl)
theorem dX1_takeShelf_43 : decode cX1_takeShelf 43 = .ok (.getfield 155, 3) := dk_180 0 155 (dk_at dksX1_takeShelf_1 19 rfl rfl)
theorem dX1_takeShelf_46 : decode cX1_takeShelf 46 = .ok (.iconst 4, 1) := dk_7 (dk_at dksX1_takeShelf_1 22 rfl rfl)
theorem dX1_takeShelf_47 : decode cX1_takeShelf 47 = .ok (.iaload, 1) := dk_46 (dk_at dksX1_takeShelf_1 23 rfl rfl)
theorem dX1_takeShelf_48 : decode cX1_takeShelf 48 = .ok (.putfield 182, 3) := dk_181 0 182 (dk_at dksX1_takeShelf_2 0 rfl rfl)
theorem dX1_takeShelf_51 : decode cX1_takeShelf 51 = .ok (.iconst 0, 1) := dk_3 (dk_at dksX1_takeShelf_2 3 rfl rfl)
theorem dX1_takeShelf_52 : decode cX1_takeShelf 52 = .ok (.istore_n 1, 1) := dk_60 (dk_at dksX1_takeShelf_2 4 rfl rfl)
theorem dX1_takeShelf_53 : decode cX1_takeShelf 53 = .ok (.iload_n 1, 1) := dk_27 (dk_at dksX1_takeShelf_2 5 rfl rfl)
theorem dX1_takeShelf_54 : decode cX1_takeShelf 54 = .ok (.aload_n 0, 1) := dk_42 (dk_at dksX1_takeShelf_2 6 rfl rfl)
theorem dX1_takeShelf_55 : decode cX1_takeShelf 55 = .ok (.getfield 90, 3) := dk_180 0 90 (dk_at dksX1_takeShelf_2 7 rfl rfl)
theorem dX1_takeShelf_58 : decode cX1_takeShelf 58 = .ok (.if_icmp .ge 77, 3) := dk_162 0 77 (dk_at dksX1_takeShelf_2 10 rfl rfl)
theorem dX1_takeShelf_61 : decode cX1_takeShelf 61 = .ok (.aload_n 0, 1) := dk_42 (dk_at dksX1_takeShelf_2 13 rfl rfl)
theorem dX1_takeShelf_62 : decode cX1_takeShelf 62 = .ok (.getfield 123, 3) := dk_180 0 123 (dk_at dksX1_takeShelf_2 14 rfl rfl)
theorem dX1_takeShelf_65 : decode cX1_takeShelf 65 = .ok (.iconst 2, 1) := dk_5 (dk_at dksX1_takeShelf_2 17 rfl rfl)
theorem dX1_takeShelf_66 : decode cX1_takeShelf 66 = .ok (.iload_n 1, 1) := dk_27 (dk_at dksX1_takeShelf_2 18 rfl rfl)
theorem dX1_takeShelf_67 : decode cX1_takeShelf 67 = .ok (.imul, 1) := dk_104 (dk_at dksX1_takeShelf_2 19 rfl rfl)
theorem dX1_takeShelf_68 : decode cX1_takeShelf 68 = .ok (.iaload, 1) := dk_46 (dk_at dksX1_takeShelf_2 20 rfl rfl)
theorem dX1_takeShelf_69 : decode cX1_takeShelf 69 = .ok (.aload_n 0, 1) := dk_42 (dk_at dksX1_takeShelf_2 21 rfl rfl)
theorem dX1_takeShelf_70 : decode cX1_takeShelf 70 = .ok (.invokevirtual 185, 3) := dk_182 0 185 (dk_at dksX1_takeShelf_3 0 rfl rfl)
theorem dX1_takeShelf_73 : decode cX1_takeShelf 73 = .ok (.if_icmp .lt 6, 3) := dk_161 0 6 (dk_at dksX1_takeShelf_3 3 rfl rfl)
theorem dX1_takeShelf_76 : decode cX1_takeShelf 76 = .ok (.goto 53, 3) := dk_167 0 53 (dk_at dksX1_takeShelf_3 6 rfl rfl)
theorem dX1_takeShelf_79 : decode cX1_takeShelf 79 = .ok (.aload_n 0, 1) := dk_42 (dk_at dksX1_takeShelf_3 9 rfl rfl)
theorem dX1_takeShelf_80 : decode cX1_takeShelf 80 = .ok (.aload_n 0, 1) := dk_42 (dk_at dksX1_takeShelf_3 10 rfl rfl)
theorem dX1_takeShelf_81 : decode cX1_takeShelf 81 = .ok (.getfield 123, 3) := dk_180 0 123 (dk_at dksX1_takeShelf_3 11 rfl rfl)
theorem dX1_takeShelf_84 : decode cX1_takeShelf 84 = .ok (.iconst 2, 1) := dk_5 (dk_at dksX1_takeShelf_3 14 rfl rfl)
theorem dX1_takeShelf_85 : decode cX1_takeShelf 85 = .ok (.iload_n 1, 1) := dk_27 (dk_at dksX1_takeShelf_3 15 rfl rfl)
theorem dX1_takeShelf_86 : decode cX1_takeShelf 86 = .ok (.imul, 1) := dk_104 (dk_at dksX1_takeShelf_3 16 rfl rfl)
theorem dX1_takeShelf_87 : decode cX1_takeShelf 87 = .ok (.iaload, 1) := dk_46 (dk_at dksX1_takeShelf_3 17 rfl rfl)
theorem dX1_takeShelf_88 : decode cX1_takeShelf 88 = .ok (.invokevirtual 188, 3) := dk_182 0 188 (dk_at dksX1_takeShelf_3 18 rfl rfl)
theorem dX1_takeShelf_91 : decode cX1_takeShelf 91 = .ok (.aload_n 0, 1) := dk_42 (dk_at dksX1_takeShelf_3 21 rfl rfl)
theorem dX1_takeShelf_92 : decode cX1_takeShelf 92 = .ok (.aload_n 0, 1) := dk_42 (dk_at dksX1_takeShelf_3 22 rfl rfl)
theorem dX1_takeShelf_93 : decode cX1_takeShelf 93 = .ok (.getfield 123, 3) := dk_180 0 123 (dk_at dksX1_takeShelf_4 0 rfl rfl)
theorem dX1_takeShelf_96 : decode cX1_takeShelf 96 = .ok (.iconst 2, 1) := dk_5 (dk_at dksX1_takeShelf_4 3 rfl rfl)
theorem dX1_takeShelf_97 : decode cX1_takeShelf 97 = .ok (.iload_n 1, 1) := dk_27 (dk_at dksX1_takeShelf_4 4 rfl rfl)
theorem dX1_takeShelf_98 : decode cX1_takeShelf 98 = .ok (.imul, 1) := dk_104 (dk_at dksX1_takeShelf_4 5 rfl rfl)
theorem dX1_takeShelf_99 : decode cX1_takeShelf 99 = .ok (.iconst 1, 1) := dk_4 (dk_at dksX1_takeShelf_4 6 rfl rfl)
theorem dX1_takeShelf_100 : decode cX1_takeShelf 100 = .ok (.iadd, 1) := dk_96 (dk_at dksX1_takeShelf_4 7 rfl rfl)
theorem dX1_takeShelf_101 : decode cX1_takeShelf 101 = .ok (.iaload, 1) := dk_46 (dk_at dksX1_takeShelf_4 8 rfl rfl)
theorem dX1_takeShelf_102 : decode cX1_takeShelf 102 = .ok (.aload_n 0, 1) := dk_42 (dk_at dksX1_takeShelf_4 9 rfl rfl)
theorem dX1_takeShelf_103 : decode cX1_takeShelf 103 = .ok (.getfield 178, 3) := dk_180 0 178 (dk_at dksX1_takeShelf_4 10 rfl rfl)
theorem dX1_takeShelf_106 : decode cX1_takeShelf 106 = .ok (.getfield 191, 3) := dk_180 0 191 (dk_at dksX1_takeShelf_4 13 rfl rfl)
theorem dX1_takeShelf_109 : decode cX1_takeShelf 109 = .ok (.aload_n 0, 1) := dk_42 (dk_at dksX1_takeShelf_4 16 rfl rfl)
theorem dX1_takeShelf_110 : decode cX1_takeShelf 110 = .ok (.getfield 194, 3) := dk_180 0 194 (dk_at dksX1_takeShelf_4 17 rfl rfl)
theorem dX1_takeShelf_113 : decode cX1_takeShelf 113 = .ok (.aload_n 0, 1) := dk_42 (dk_at dksX1_takeShelf_4 20 rfl rfl)
theorem dX1_takeShelf_114 : decode cX1_takeShelf 114 = .ok (.getfield 197, 3) := dk_180 0 197 (dk_at dksX1_takeShelf_4 21 rfl rfl)
theorem dX1_takeShelf_117 : decode cX1_takeShelf 117 = .ok (.aload_n 0, 1) := dk_42 (dk_at dksX1_takeShelf_5 0 rfl rfl)
theorem dX1_takeShelf_118 : decode cX1_takeShelf 118 = .ok (.getfield 200, 3) := dk_180 0 200 (dk_at dksX1_takeShelf_5 1 rfl rfl)
theorem dX1_takeShelf_121 : decode cX1_takeShelf 121 = .ok (.invokestatic 203, 3) := dk_184 0 203 (dk_at dksX1_takeShelf_5 4 rfl rfl)
theorem dX1_takeShelf_124 : decode cX1_takeShelf 124 = .ok (.iaload, 1) := dk_46 (dk_at dksX1_takeShelf_5 7 rfl rfl)
theorem dX1_takeShelf_125 : decode cX1_takeShelf 125 = .ok (.ixor, 1) := dk_130 (dk_at dksX1_takeShelf_5 8 rfl rfl)
theorem dX1_takeShelf_126 : decode cX1_takeShelf 126 = .ok (.invokevirtual 207, 3) := dk_182 0 207 (dk_at dksX1_takeShelf_5 9 rfl rfl)
theorem dX1_takeShelf_129 : decode cX1_takeShelf 129 = .ok (.iinc 1 1, 3) := dk_132 1 1 (dk_at dksX1_takeShelf_5 12 rfl rfl)
theorem dX1_takeShelf_132 : decode cX1_takeShelf 132 = .ok (.goto (-79), 3) := dk_167 255 177 (dk_at dksX1_takeShelf_5 15 rfl rfl)
theorem dX1_takeShelf_135 : decode cX1_takeShelf 135 = .ok (.aload_n 0, 1) := dk_42 (dk_at dksX1_takeShelf_5 18 rfl rfl)
theorem dX1_takeShelf_136 : decode cX1_takeShelf 136 = .ok (.getfield 210, 3) := dk_180 0 210 (dk_at dksX1_takeShelf_5 19 rfl rfl)
theorem dX1_takeShelf_139 : decode cX1_takeShelf 139 = .ok (.getfield 214, 3) := dk_180 0 214 (dk_at dksX1_takeShelf_6 0 rfl rfl)
theorem dX1_takeShelf_142 : decode cX1_takeShelf 142 = .ok (.invokevirtual 220, 3) := dk_182 0 220 (dk_at dksX1_takeShelf_6 3 rfl rfl)
theorem dX1_takeShelf_145 : decode cX1_takeShelf 145 = .ok (.aload_n 0, 1) := dk_42 (dk_at dksX1_takeShelf_6 6 rfl rfl)
theorem dX1_takeShelf_146 : decode cX1_takeShelf 146 = .ok (.aconst_null, 1) := dk_1 (dk_at dksX1_takeShelf_6 7 rfl rfl)
theorem dX1_takeShelf_147 : decode cX1_takeShelf 147 = .ok (.putfield 223, 3) := dk_181 0 223 (dk_at dksX1_takeShelf_6 8 rfl rfl)
theorem dX1_takeShelf_150 : decode cX1_takeShelf 150 = .ok (.aload_n 0, 1) := dk_42 (dk_at dksX1_takeShelf_6 11 rfl rfl)
theorem dX1_takeShelf_151 : decode cX1_takeShelf 151 = .ok (.invokevirtual 185, 3) := dk_182 0 185 (dk_at dksX1_takeShelf_6 12 rfl rfl)
theorem dX1_takeShelf_154 : decode cX1_takeShelf 154 = .ok (.ireturn, 1) := dk_172 (dk_at dksX1_takeShelf_6 15 rfl rfl)
abbrev cX1_addresses : ByteArray := prog_1_method_27_code
def yX1_addresses : MethodName := ⟨RX1, "addresses", "()I"⟩
def dkwX1_addresses_0 : List UInt8 := [42, 182, 0, 234, 42, 182, 0, 237, 104, 42, 182, 0, 240, 104, 172]
abbrev dktX1_addresses_0 : List UInt8 := dkwX1_addresses_0 ++ []
theorem dksX1_addresses_0 : cX1_addresses.data.toList.drop 0 = dktX1_addresses_0 := by decide +kernel
theorem dX1_addresses_0 : decode cX1_addresses 0 = .ok (.aload_n 0, 1) := dk_42 (dk_at dksX1_addresses_0 0 rfl rfl)
theorem dX1_addresses_1 : decode cX1_addresses 1 = .ok (.invokevirtual 234, 3) := dk_182 0 234 (dk_at dksX1_addresses_0 1 rfl rfl)
theorem dX1_addresses_4 : decode cX1_addresses 4 = .ok (.aload_n 0, 1) := dk_42 (dk_at dksX1_addresses_0 4 rfl rfl)
theorem dX1_addresses_5 : decode cX1_addresses 5 = .ok (.invokevirtual 237, 3) := dk_182 0 237 (dk_at dksX1_addresses_0 5 rfl rfl)
theorem dX1_addresses_8 : decode cX1_addresses 8 = .ok (.imul, 1) := dk_104 (dk_at dksX1_addresses_0 8 rfl rfl)
theorem dX1_addresses_9 : decode cX1_addresses 9 = .ok (.aload_n 0, 1) := dk_42 (dk_at dksX1_addresses_0 9 rfl rfl)
theorem dX1_addresses_10 : decode cX1_addresses 10 = .ok (.invokevirtual 240, 3) := dk_182 0 240 (dk_at dksX1_addresses_0 10 rfl rfl)
theorem dX1_addresses_13 : decode cX1_addresses 13 = .ok (.imul, 1) := dk_104 (dk_at dksX1_addresses_0 13 rfl rfl)
theorem dX1_addresses_14 : decode cX1_addresses 14 = .ok (.ireturn, 1) := dk_172 (dk_at dksX1_addresses_0 14 rfl rfl)
abbrev cX1_data : ByteArray := prog_1_method_23_code
def yX1_data : MethodName := ⟨RX1, "data", "()I"⟩
def dkwX1_data_0 : List UInt8 := [42, 180, 0, 155, 3, 46, 172]
abbrev dktX1_data_0 : List UInt8 := dkwX1_data_0 ++ []
theorem dksX1_data_0 : cX1_data.data.toList.drop 0 = dktX1_data_0 := by decide +kernel
theorem dX1_data_0 : decode cX1_data 0 = .ok (.aload_n 0, 1) := dk_42 (dk_at dksX1_data_0 0 rfl rfl)
theorem dX1_data_1 : decode cX1_data 1 = .ok (.getfield 155, 3) := dk_180 0 155 (dk_at dksX1_data_0 1 rfl rfl)
theorem dX1_data_4 : decode cX1_data 4 = .ok (.iconst 0, 1) := dk_3 (dk_at dksX1_data_0 4 rfl rfl)
theorem dX1_data_5 : decode cX1_data 5 = .ok (.iaload, 1) := dk_46 (dk_at dksX1_data_0 5 rfl rfl)
theorem dX1_data_6 : decode cX1_data 6 = .ok (.ireturn, 1) := dk_172 (dk_at dksX1_data_0 6 rfl rfl)
abbrev cX1_stripes : ByteArray := prog_1_method_25_code
def yX1_stripes : MethodName := ⟨RX1, "stripes", "()I"⟩
def dkwX1_stripes_0 : List UInt8 := [42, 180, 0, 155, 4, 46, 172]
abbrev dktX1_stripes_0 : List UInt8 := dkwX1_stripes_0 ++ []
theorem dksX1_stripes_0 : cX1_stripes.data.toList.drop 0 = dktX1_stripes_0 := by decide +kernel
theorem dX1_stripes_0 : decode cX1_stripes 0 = .ok (.aload_n 0, 1) := dk_42 (dk_at dksX1_stripes_0 0 rfl rfl)
theorem dX1_stripes_1 : decode cX1_stripes 1 = .ok (.getfield 155, 3) := dk_180 0 155 (dk_at dksX1_stripes_0 1 rfl rfl)
theorem dX1_stripes_4 : decode cX1_stripes 4 = .ok (.iconst 1, 1) := dk_4 (dk_at dksX1_stripes_0 4 rfl rfl)
theorem dX1_stripes_5 : decode cX1_stripes 5 = .ok (.iaload, 1) := dk_46 (dk_at dksX1_stripes_0 5 rfl rfl)
theorem dX1_stripes_6 : decode cX1_stripes 6 = .ok (.ireturn, 1) := dk_172 (dk_at dksX1_stripes_0 6 rfl rfl)
abbrev cX1_chunk : ByteArray := prog_1_method_26_code
def yX1_chunk : MethodName := ⟨RX1, "chunk", "()I"⟩
def dkwX1_chunk_0 : List UInt8 := [42, 180, 0, 155, 5, 46, 172]
abbrev dktX1_chunk_0 : List UInt8 := dkwX1_chunk_0 ++ []
theorem dksX1_chunk_0 : cX1_chunk.data.toList.drop 0 = dktX1_chunk_0 := by decide +kernel
theorem dX1_chunk_0 : decode cX1_chunk 0 = .ok (.aload_n 0, 1) := dk_42 (dk_at dksX1_chunk_0 0 rfl rfl)
theorem dX1_chunk_1 : decode cX1_chunk 1 = .ok (.getfield 155, 3) := dk_180 0 155 (dk_at dksX1_chunk_0 1 rfl rfl)
theorem dX1_chunk_4 : decode cX1_chunk 4 = .ok (.iconst 2, 1) := dk_5 (dk_at dksX1_chunk_0 4 rfl rfl)
theorem dX1_chunk_5 : decode cX1_chunk 5 = .ok (.iaload, 1) := dk_46 (dk_at dksX1_chunk_0 5 rfl rfl)
theorem dX1_chunk_6 : decode cX1_chunk 6 = .ok (.ireturn, 1) := dk_172 (dk_at dksX1_chunk_0 6 rfl rfl)
abbrev cX1_lays : ByteArray := prog_1_method_34_code
def yX1_lays : MethodName := ⟨RX1, "lays", "(I)V"⟩
def dkwX1_lays_2 : List UInt8 := [42, 180, 0, 253, 182, 0, 250, 181, 0, 194, 177]
abbrev dktX1_lays_2 : List UInt8 := dkwX1_lays_2 ++ []
def dkwX1_lays_1 : List UInt8 := [181, 0, 253, 42, 27, 42, 182, 0, 240, 108, 42, 182, 0, 234, 108, 181, 0, 197, 42, 42, 42, 180, 0, 197]
abbrev dktX1_lays_1 : List UInt8 := dkwX1_lays_1 ++ dktX1_lays_2
def dkwX1_lays_0 : List UInt8 := [42, 27, 42, 182, 0, 240, 112, 181, 0, 200, 42, 27, 42, 182, 0, 240, 108, 42, 182, 0, 234, 112]
abbrev dktX1_lays_0 : List UInt8 := dkwX1_lays_0 ++ dktX1_lays_1
theorem dksX1_lays_0 : cX1_lays.data.toList.drop 0 = dktX1_lays_0 := by decide +kernel
theorem dksX1_lays_1 : cX1_lays.data.toList.drop 22 = dktX1_lays_1 := dk_seg dksX1_lays_0 22 rfl rfl
theorem dksX1_lays_2 : cX1_lays.data.toList.drop 46 = dktX1_lays_2 := dk_seg dksX1_lays_1 24 rfl rfl
theorem dX1_lays_0 : decode cX1_lays 0 = .ok (.aload_n 0, 1) := dk_42 (dk_at dksX1_lays_0 0 rfl rfl)
theorem dX1_lays_1 : decode cX1_lays 1 = .ok (.iload_n 1, 1) := dk_27 (dk_at dksX1_lays_0 1 rfl rfl)
theorem dX1_lays_2 : decode cX1_lays 2 = .ok (.aload_n 0, 1) := dk_42 (dk_at dksX1_lays_0 2 rfl rfl)
theorem dX1_lays_3 : decode cX1_lays 3 = .ok (.invokevirtual 240, 3) := dk_182 0 240 (dk_at dksX1_lays_0 3 rfl rfl)
theorem dX1_lays_6 : decode cX1_lays 6 = .ok (.irem, 1) := dk_112 (dk_at dksX1_lays_0 6 rfl rfl)
theorem dX1_lays_7 : decode cX1_lays 7 = .ok (.putfield 200, 3) := dk_181 0 200 (dk_at dksX1_lays_0 7 rfl rfl)
theorem dX1_lays_10 : decode cX1_lays 10 = .ok (.aload_n 0, 1) := dk_42 (dk_at dksX1_lays_0 10 rfl rfl)
theorem dX1_lays_11 : decode cX1_lays 11 = .ok (.iload_n 1, 1) := dk_27 (dk_at dksX1_lays_0 11 rfl rfl)
theorem dX1_lays_12 : decode cX1_lays 12 = .ok (.aload_n 0, 1) := dk_42 (dk_at dksX1_lays_0 12 rfl rfl)
theorem dX1_lays_13 : decode cX1_lays 13 = .ok (.invokevirtual 240, 3) := dk_182 0 240 (dk_at dksX1_lays_0 13 rfl rfl)
theorem dX1_lays_16 : decode cX1_lays 16 = .ok (.idiv, 1) := dk_108 (dk_at dksX1_lays_0 16 rfl rfl)
theorem dX1_lays_17 : decode cX1_lays 17 = .ok (.aload_n 0, 1) := dk_42 (dk_at dksX1_lays_0 17 rfl rfl)
theorem dX1_lays_18 : decode cX1_lays 18 = .ok (.invokevirtual 234, 3) := dk_182 0 234 (dk_at dksX1_lays_0 18 rfl rfl)
theorem dX1_lays_21 : decode cX1_lays 21 = .ok (.irem, 1) := dk_112 (dk_at dksX1_lays_0 21 rfl rfl)
theorem dX1_lays_22 : decode cX1_lays 22 = .ok (.putfield 253, 3) := dk_181 0 253 (dk_at dksX1_lays_1 0 rfl rfl)
theorem dX1_lays_25 : decode cX1_lays 25 = .ok (.aload_n 0, 1) := dk_42 (dk_at dksX1_lays_1 3 rfl rfl)
theorem dX1_lays_26 : decode cX1_lays 26 = .ok (.iload_n 1, 1) := dk_27 (dk_at dksX1_lays_1 4 rfl rfl)
theorem dX1_lays_27 : decode cX1_lays 27 = .ok (.aload_n 0, 1) := dk_42 (dk_at dksX1_lays_1 5 rfl rfl)
theorem dX1_lays_28 : decode cX1_lays 28 = .ok (.invokevirtual 240, 3) := dk_182 0 240 (dk_at dksX1_lays_1 6 rfl rfl)
theorem dX1_lays_31 : decode cX1_lays 31 = .ok (.idiv, 1) := dk_108 (dk_at dksX1_lays_1 9 rfl rfl)
theorem dX1_lays_32 : decode cX1_lays 32 = .ok (.aload_n 0, 1) := dk_42 (dk_at dksX1_lays_1 10 rfl rfl)
theorem dX1_lays_33 : decode cX1_lays 33 = .ok (.invokevirtual 234, 3) := dk_182 0 234 (dk_at dksX1_lays_1 11 rfl rfl)
theorem dX1_lays_36 : decode cX1_lays 36 = .ok (.idiv, 1) := dk_108 (dk_at dksX1_lays_1 14 rfl rfl)
theorem dX1_lays_37 : decode cX1_lays 37 = .ok (.putfield 197, 3) := dk_181 0 197 (dk_at dksX1_lays_1 15 rfl rfl)
theorem dX1_lays_40 : decode cX1_lays 40 = .ok (.aload_n 0, 1) := dk_42 (dk_at dksX1_lays_1 18 rfl rfl)
theorem dX1_lays_41 : decode cX1_lays 41 = .ok (.aload_n 0, 1) := dk_42 (dk_at dksX1_lays_1 19 rfl rfl)
theorem dX1_lays_42 : decode cX1_lays 42 = .ok (.aload_n 0, 1) := dk_42 (dk_at dksX1_lays_1 20 rfl rfl)
theorem dX1_lays_43 : decode cX1_lays 43 = .ok (.getfield 197, 3) := dk_180 0 197 (dk_at dksX1_lays_1 21 rfl rfl)
theorem dX1_lays_46 : decode cX1_lays 46 = .ok (.aload_n 0, 1) := dk_42 (dk_at dksX1_lays_2 0 rfl rfl)
theorem dX1_lays_47 : decode cX1_lays 47 = .ok (.getfield 253, 3) := dk_180 0 253 (dk_at dksX1_lays_2 1 rfl rfl)
theorem dX1_lays_50 : decode cX1_lays 50 = .ok (.invokevirtual 250, 3) := dk_182 0 250 (dk_at dksX1_lays_2 4 rfl rfl)
theorem dX1_lays_53 : decode cX1_lays 53 = .ok (.putfield 194, 3) := dk_181 0 194 (dk_at dksX1_lays_2 7 rfl rfl)
theorem dX1_lays_56 : decode cX1_lays 56 = .ok (.return_, 1) := dk_177 (dk_at dksX1_lays_2 10 rfl rfl)
abbrev cX1_diskOf : ByteArray := prog_1_method_32_code
def yX1_diskOf : MethodName := ⟨RX1, "diskOf", "(II)I"⟩
def dkwX1_diskOf_2 : List UInt8 := [96, 29, 112, 172]
abbrev dktX1_diskOf_2 : List UInt8 := dkwX1_diskOf_2 ++ []
def dkwX1_diskOf_1 : List UInt8 := [167, 0, 27, 21, 4, 4, 96, 28, 42, 182, 0, 234, 4, 96, 160, 0, 7, 3, 167, 0, 6, 28, 4, 96]
abbrev dktX1_diskOf_1 : List UInt8 := dkwX1_diskOf_1 ++ dktX1_diskOf_2
def dkwX1_diskOf_0 : List UInt8 := [42, 182, 0, 247, 62, 29, 4, 100, 27, 29, 112, 100, 54, 4, 28, 42, 182, 0, 234, 160, 0, 8, 21, 4]
abbrev dktX1_diskOf_0 : List UInt8 := dkwX1_diskOf_0 ++ dktX1_diskOf_1
theorem dksX1_diskOf_0 : cX1_diskOf.data.toList.drop 0 = dktX1_diskOf_0 := by decide +kernel
theorem dksX1_diskOf_1 : cX1_diskOf.data.toList.drop 24 = dktX1_diskOf_1 := dk_seg dksX1_diskOf_0 24 rfl rfl
theorem dksX1_diskOf_2 : cX1_diskOf.data.toList.drop 48 = dktX1_diskOf_2 := dk_seg dksX1_diskOf_1 24 rfl rfl
theorem dX1_diskOf_0 : decode cX1_diskOf 0 = .ok (.aload_n 0, 1) := dk_42 (dk_at dksX1_diskOf_0 0 rfl rfl)
theorem dX1_diskOf_1 : decode cX1_diskOf 1 = .ok (.invokevirtual 247, 3) := dk_182 0 247 (dk_at dksX1_diskOf_0 1 rfl rfl)
theorem dX1_diskOf_4 : decode cX1_diskOf 4 = .ok (.istore_n 3, 1) := dk_62 (dk_at dksX1_diskOf_0 4 rfl rfl)
theorem dX1_diskOf_5 : decode cX1_diskOf 5 = .ok (.iload_n 3, 1) := dk_29 (dk_at dksX1_diskOf_0 5 rfl rfl)
theorem dX1_diskOf_6 : decode cX1_diskOf 6 = .ok (.iconst 1, 1) := dk_4 (dk_at dksX1_diskOf_0 6 rfl rfl)
theorem dX1_diskOf_7 : decode cX1_diskOf 7 = .ok (.isub, 1) := dk_100 (dk_at dksX1_diskOf_0 7 rfl rfl)
theorem dX1_diskOf_8 : decode cX1_diskOf 8 = .ok (.iload_n 1, 1) := dk_27 (dk_at dksX1_diskOf_0 8 rfl rfl)
theorem dX1_diskOf_9 : decode cX1_diskOf 9 = .ok (.iload_n 3, 1) := dk_29 (dk_at dksX1_diskOf_0 9 rfl rfl)
theorem dX1_diskOf_10 : decode cX1_diskOf 10 = .ok (.irem, 1) := dk_112 (dk_at dksX1_diskOf_0 10 rfl rfl)
theorem dX1_diskOf_11 : decode cX1_diskOf 11 = .ok (.isub, 1) := dk_100 (dk_at dksX1_diskOf_0 11 rfl rfl)
theorem dX1_diskOf_12 : decode cX1_diskOf 12 = .ok (.istore 4, 2) := dk_54 4 (dk_at dksX1_diskOf_0 12 rfl rfl)
theorem dX1_diskOf_14 : decode cX1_diskOf 14 = .ok (.iload_n 2, 1) := dk_28 (dk_at dksX1_diskOf_0 14 rfl rfl)
theorem dX1_diskOf_15 : decode cX1_diskOf 15 = .ok (.aload_n 0, 1) := dk_42 (dk_at dksX1_diskOf_0 15 rfl rfl)
theorem dX1_diskOf_16 : decode cX1_diskOf 16 = .ok (.invokevirtual 234, 3) := dk_182 0 234 (dk_at dksX1_diskOf_0 16 rfl rfl)
theorem dX1_diskOf_19 : decode cX1_diskOf 19 = .ok (.if_icmp .ne 8, 3) := dk_160 0 8 (dk_at dksX1_diskOf_0 19 rfl rfl)
theorem dX1_diskOf_22 : decode cX1_diskOf 22 = .ok (.iload 4, 2) := dk_21 4 (dk_at dksX1_diskOf_0 22 rfl rfl)
theorem dX1_diskOf_24 : decode cX1_diskOf 24 = .ok (.goto 27, 3) := dk_167 0 27 (dk_at dksX1_diskOf_1 0 rfl rfl)
theorem dX1_diskOf_27 : decode cX1_diskOf 27 = .ok (.iload 4, 2) := dk_21 4 (dk_at dksX1_diskOf_1 3 rfl rfl)
theorem dX1_diskOf_29 : decode cX1_diskOf 29 = .ok (.iconst 1, 1) := dk_4 (dk_at dksX1_diskOf_1 5 rfl rfl)
theorem dX1_diskOf_30 : decode cX1_diskOf 30 = .ok (.iadd, 1) := dk_96 (dk_at dksX1_diskOf_1 6 rfl rfl)
theorem dX1_diskOf_31 : decode cX1_diskOf 31 = .ok (.iload_n 2, 1) := dk_28 (dk_at dksX1_diskOf_1 7 rfl rfl)
theorem dX1_diskOf_32 : decode cX1_diskOf 32 = .ok (.aload_n 0, 1) := dk_42 (dk_at dksX1_diskOf_1 8 rfl rfl)
theorem dX1_diskOf_33 : decode cX1_diskOf 33 = .ok (.invokevirtual 234, 3) := dk_182 0 234 (dk_at dksX1_diskOf_1 9 rfl rfl)
theorem dX1_diskOf_36 : decode cX1_diskOf 36 = .ok (.iconst 1, 1) := dk_4 (dk_at dksX1_diskOf_1 12 rfl rfl)
theorem dX1_diskOf_37 : decode cX1_diskOf 37 = .ok (.iadd, 1) := dk_96 (dk_at dksX1_diskOf_1 13 rfl rfl)
theorem dX1_diskOf_38 : decode cX1_diskOf 38 = .ok (.if_icmp .ne 7, 3) := dk_160 0 7 (dk_at dksX1_diskOf_1 14 rfl rfl)
theorem dX1_diskOf_41 : decode cX1_diskOf 41 = .ok (.iconst 0, 1) := dk_3 (dk_at dksX1_diskOf_1 17 rfl rfl)
theorem dX1_diskOf_42 : decode cX1_diskOf 42 = .ok (.goto 6, 3) := dk_167 0 6 (dk_at dksX1_diskOf_1 18 rfl rfl)
theorem dX1_diskOf_45 : decode cX1_diskOf 45 = .ok (.iload_n 2, 1) := dk_28 (dk_at dksX1_diskOf_1 21 rfl rfl)
theorem dX1_diskOf_46 : decode cX1_diskOf 46 = .ok (.iconst 1, 1) := dk_4 (dk_at dksX1_diskOf_1 22 rfl rfl)
theorem dX1_diskOf_47 : decode cX1_diskOf 47 = .ok (.iadd, 1) := dk_96 (dk_at dksX1_diskOf_1 23 rfl rfl)
theorem dX1_diskOf_48 : decode cX1_diskOf 48 = .ok (.iadd, 1) := dk_96 (dk_at dksX1_diskOf_2 0 rfl rfl)
theorem dX1_diskOf_49 : decode cX1_diskOf 49 = .ok (.iload_n 3, 1) := dk_29 (dk_at dksX1_diskOf_2 1 rfl rfl)
theorem dX1_diskOf_50 : decode cX1_diskOf 50 = .ok (.irem, 1) := dk_112 (dk_at dksX1_diskOf_2 2 rfl rfl)
theorem dX1_diskOf_51 : decode cX1_diskOf 51 = .ok (.ireturn, 1) := dk_172 (dk_at dksX1_diskOf_2 3 rfl rfl)
abbrev cX1_disks : ByteArray := prog_1_method_24_code
def yX1_disks : MethodName := ⟨RX1, "disks", "()I"⟩
def dkwX1_disks_0 : List UInt8 := [42, 180, 0, 155, 3, 46, 5, 96, 172]
abbrev dktX1_disks_0 : List UInt8 := dkwX1_disks_0 ++ []
theorem dksX1_disks_0 : cX1_disks.data.toList.drop 0 = dktX1_disks_0 := by decide +kernel
theorem dX1_disks_0 : decode cX1_disks 0 = .ok (.aload_n 0, 1) := dk_42 (dk_at dksX1_disks_0 0 rfl rfl)
theorem dX1_disks_1 : decode cX1_disks 1 = .ok (.getfield 155, 3) := dk_180 0 155 (dk_at dksX1_disks_0 1 rfl rfl)
theorem dX1_disks_4 : decode cX1_disks 4 = .ok (.iconst 0, 1) := dk_3 (dk_at dksX1_disks_0 4 rfl rfl)
theorem dX1_disks_5 : decode cX1_disks 5 = .ok (.iaload, 1) := dk_46 (dk_at dksX1_disks_0 5 rfl rfl)
theorem dX1_disks_6 : decode cX1_disks 6 = .ok (.iconst 2, 1) := dk_5 (dk_at dksX1_disks_0 6 rfl rfl)
theorem dX1_disks_7 : decode cX1_disks 7 = .ok (.iadd, 1) := dk_96 (dk_at dksX1_disks_0 7 rfl rfl)
theorem dX1_disks_8 : decode cX1_disks 8 = .ok (.ireturn, 1) := dk_172 (dk_at dksX1_disks_0 8 rfl rfl)
abbrev cX1_cellOf : ByteArray := prog_1_method_31_code
def yX1_cellOf : MethodName := ⟨RX1, "cellOf", "(III)I"⟩
def dkwX1_cellOf_0 : List UInt8 := [7, 16, 12, 26, 104, 27, 96, 104, 28, 96, 172]
abbrev dktX1_cellOf_0 : List UInt8 := dkwX1_cellOf_0 ++ []
theorem dksX1_cellOf_0 : cX1_cellOf.data.toList.drop 0 = dktX1_cellOf_0 := by decide +kernel
theorem dX1_cellOf_0 : decode cX1_cellOf 0 = .ok (.iconst 4, 1) := dk_7 (dk_at dksX1_cellOf_0 0 rfl rfl)
theorem dX1_cellOf_1 : decode cX1_cellOf 1 = .ok (.bipush 12, 2) := dk_16 12 (dk_at dksX1_cellOf_0 1 rfl rfl)
theorem dX1_cellOf_3 : decode cX1_cellOf 3 = .ok (.iload_n 0, 1) := dk_26 (dk_at dksX1_cellOf_0 3 rfl rfl)
theorem dX1_cellOf_4 : decode cX1_cellOf 4 = .ok (.imul, 1) := dk_104 (dk_at dksX1_cellOf_0 4 rfl rfl)
theorem dX1_cellOf_5 : decode cX1_cellOf 5 = .ok (.iload_n 1, 1) := dk_27 (dk_at dksX1_cellOf_0 5 rfl rfl)
theorem dX1_cellOf_6 : decode cX1_cellOf 6 = .ok (.iadd, 1) := dk_96 (dk_at dksX1_cellOf_0 6 rfl rfl)
theorem dX1_cellOf_7 : decode cX1_cellOf 7 = .ok (.imul, 1) := dk_104 (dk_at dksX1_cellOf_0 7 rfl rfl)
theorem dX1_cellOf_8 : decode cX1_cellOf 8 = .ok (.iload_n 2, 1) := dk_28 (dk_at dksX1_cellOf_0 8 rfl rfl)
theorem dX1_cellOf_9 : decode cX1_cellOf 9 = .ok (.iadd, 1) := dk_96 (dk_at dksX1_cellOf_0 9 rfl rfl)
theorem dX1_cellOf_10 : decode cX1_cellOf 10 = .ok (.ireturn, 1) := dk_172 (dk_at dksX1_cellOf_0 10 rfl rfl)
abbrev cX1_changesBy : ByteArray := prog_1_method_46_code
def yX1_changesBy : MethodName := ⟨RX1, "changesBy", "(I)V"⟩
def dkwX1_changesBy_2 : List UInt8 := [182, 1, 32, 42, 42, 180, 0, 197, 42, 182, 0, 234, 4, 96, 182, 1, 32, 182, 1, 58, 177]
abbrev dktX1_changesBy_2 : List UInt8 := dkwX1_changesBy_2 ++ []
def dkwX1_changesBy_1 : List UInt8 := [180, 0, 200, 182, 1, 12, 27, 130, 182, 1, 54, 42, 27, 42, 42, 180, 0, 197, 42, 182, 0, 234]
abbrev dktX1_changesBy_1 : List UInt8 := dkwX1_changesBy_1 ++ dktX1_changesBy_2
def dkwX1_changesBy_0 : List UInt8 := [42, 42, 180, 0, 197, 42, 180, 0, 253, 42, 180, 0, 200, 42, 42, 180, 0, 197, 42, 180, 0, 253, 42]
abbrev dktX1_changesBy_0 : List UInt8 := dkwX1_changesBy_0 ++ dktX1_changesBy_1
theorem dksX1_changesBy_0 : cX1_changesBy.data.toList.drop 0 = dktX1_changesBy_0 := by decide +kernel
theorem dksX1_changesBy_1 : cX1_changesBy.data.toList.drop 23 = dktX1_changesBy_1 := dk_seg dksX1_changesBy_0 23 rfl rfl
theorem dksX1_changesBy_2 : cX1_changesBy.data.toList.drop 45 = dktX1_changesBy_2 := dk_seg dksX1_changesBy_1 22 rfl rfl
theorem dX1_changesBy_0 : decode cX1_changesBy 0 = .ok (.aload_n 0, 1) := dk_42 (dk_at dksX1_changesBy_0 0 rfl rfl)
theorem dX1_changesBy_1 : decode cX1_changesBy 1 = .ok (.aload_n 0, 1) := dk_42 (dk_at dksX1_changesBy_0 1 rfl rfl)
theorem dX1_changesBy_2 : decode cX1_changesBy 2 = .ok (.getfield 197, 3) := dk_180 0 197 (dk_at dksX1_changesBy_0 2 rfl rfl)
theorem dX1_changesBy_5 : decode cX1_changesBy 5 = .ok (.aload_n 0, 1) := dk_42 (dk_at dksX1_changesBy_0 5 rfl rfl)
theorem dX1_changesBy_6 : decode cX1_changesBy 6 = .ok (.getfield 253, 3) := dk_180 0 253 (dk_at dksX1_changesBy_0 6 rfl rfl)
theorem dX1_changesBy_9 : decode cX1_changesBy 9 = .ok (.aload_n 0, 1) := dk_42 (dk_at dksX1_changesBy_0 9 rfl rfl)
theorem dX1_changesBy_10 : decode cX1_changesBy 10 = .ok (.getfield 200, 3) := dk_180 0 200 (dk_at dksX1_changesBy_0 10 rfl rfl)
theorem dX1_changesBy_13 : decode cX1_changesBy 13 = .ok (.aload_n 0, 1) := dk_42 (dk_at dksX1_changesBy_0 13 rfl rfl)
theorem dX1_changesBy_14 : decode cX1_changesBy 14 = .ok (.aload_n 0, 1) := dk_42 (dk_at dksX1_changesBy_0 14 rfl rfl)
theorem dX1_changesBy_15 : decode cX1_changesBy 15 = .ok (.getfield 197, 3) := dk_180 0 197 (dk_at dksX1_changesBy_0 15 rfl rfl)
theorem dX1_changesBy_18 : decode cX1_changesBy 18 = .ok (.aload_n 0, 1) := dk_42 (dk_at dksX1_changesBy_0 18 rfl rfl)
theorem dX1_changesBy_19 : decode cX1_changesBy 19 = .ok (.getfield 253, 3) := dk_180 0 253 (dk_at dksX1_changesBy_0 19 rfl rfl)
theorem dX1_changesBy_22 : decode cX1_changesBy 22 = .ok (.aload_n 0, 1) := dk_42 (dk_at dksX1_changesBy_0 22 rfl rfl)
theorem dX1_changesBy_23 : decode cX1_changesBy 23 = .ok (.getfield 200, 3) := dk_180 0 200 (dk_at dksX1_changesBy_1 0 rfl rfl)
theorem dX1_changesBy_26 : decode cX1_changesBy 26 = .ok (.invokevirtual 268, 3) := dk_182 1 12 (dk_at dksX1_changesBy_1 3 rfl rfl)
theorem dX1_changesBy_29 : decode cX1_changesBy 29 = .ok (.iload_n 1, 1) := dk_27 (dk_at dksX1_changesBy_1 6 rfl rfl)
theorem dX1_changesBy_30 : decode cX1_changesBy 30 = .ok (.ixor, 1) := dk_130 (dk_at dksX1_changesBy_1 7 rfl rfl)
theorem dX1_changesBy_31 : decode cX1_changesBy 31 = .ok (.invokevirtual 310, 3) := dk_182 1 54 (dk_at dksX1_changesBy_1 8 rfl rfl)
theorem dX1_changesBy_34 : decode cX1_changesBy 34 = .ok (.aload_n 0, 1) := dk_42 (dk_at dksX1_changesBy_1 11 rfl rfl)
theorem dX1_changesBy_35 : decode cX1_changesBy 35 = .ok (.iload_n 1, 1) := dk_27 (dk_at dksX1_changesBy_1 12 rfl rfl)
theorem dX1_changesBy_36 : decode cX1_changesBy 36 = .ok (.aload_n 0, 1) := dk_42 (dk_at dksX1_changesBy_1 13 rfl rfl)
theorem dX1_changesBy_37 : decode cX1_changesBy 37 = .ok (.aload_n 0, 1) := dk_42 (dk_at dksX1_changesBy_1 14 rfl rfl)
theorem dX1_changesBy_38 : decode cX1_changesBy 38 = .ok (.getfield 197, 3) := dk_180 0 197 (dk_at dksX1_changesBy_1 15 rfl rfl)
theorem dX1_changesBy_41 : decode cX1_changesBy 41 = .ok (.aload_n 0, 1) := dk_42 (dk_at dksX1_changesBy_1 18 rfl rfl)
theorem dX1_changesBy_42 : decode cX1_changesBy 42 = .ok (.invokevirtual 234, 3) := dk_182 0 234 (dk_at dksX1_changesBy_1 19 rfl rfl)
theorem dX1_changesBy_45 : decode cX1_changesBy 45 = .ok (.invokevirtual 288, 3) := dk_182 1 32 (dk_at dksX1_changesBy_2 0 rfl rfl)
theorem dX1_changesBy_48 : decode cX1_changesBy 48 = .ok (.aload_n 0, 1) := dk_42 (dk_at dksX1_changesBy_2 3 rfl rfl)
theorem dX1_changesBy_49 : decode cX1_changesBy 49 = .ok (.aload_n 0, 1) := dk_42 (dk_at dksX1_changesBy_2 4 rfl rfl)
theorem dX1_changesBy_50 : decode cX1_changesBy 50 = .ok (.getfield 197, 3) := dk_180 0 197 (dk_at dksX1_changesBy_2 5 rfl rfl)
theorem dX1_changesBy_53 : decode cX1_changesBy 53 = .ok (.aload_n 0, 1) := dk_42 (dk_at dksX1_changesBy_2 8 rfl rfl)
theorem dX1_changesBy_54 : decode cX1_changesBy 54 = .ok (.invokevirtual 234, 3) := dk_182 0 234 (dk_at dksX1_changesBy_2 9 rfl rfl)
theorem dX1_changesBy_57 : decode cX1_changesBy 57 = .ok (.iconst 1, 1) := dk_4 (dk_at dksX1_changesBy_2 12 rfl rfl)
theorem dX1_changesBy_58 : decode cX1_changesBy 58 = .ok (.iadd, 1) := dk_96 (dk_at dksX1_changesBy_2 13 rfl rfl)
theorem dX1_changesBy_59 : decode cX1_changesBy 59 = .ok (.invokevirtual 288, 3) := dk_182 1 32 (dk_at dksX1_changesBy_2 14 rfl rfl)
theorem dX1_changesBy_62 : decode cX1_changesBy 62 = .ok (.invokevirtual 314, 3) := dk_182 1 58 (dk_at dksX1_changesBy_2 17 rfl rfl)
theorem dX1_changesBy_65 : decode cX1_changesBy 65 = .ok (.return_, 1) := dk_177 (dk_at dksX1_changesBy_2 20 rfl rfl)
abbrev cX1_get : ByteArray := prog_1_method_36_code
def yX1_get : MethodName := ⟨RX1, "get", "(III)I"⟩
def dkwX1_get_0 : List UInt8 := [42, 180, 0, 178, 180, 0, 191, 42, 27, 28, 182, 0, 250, 27, 29, 184, 0, 203, 46, 172]
abbrev dktX1_get_0 : List UInt8 := dkwX1_get_0 ++ []
theorem dksX1_get_0 : cX1_get.data.toList.drop 0 = dktX1_get_0 := by decide +kernel
theorem dX1_get_0 : decode cX1_get 0 = .ok (.aload_n 0, 1) := dk_42 (dk_at dksX1_get_0 0 rfl rfl)
theorem dX1_get_1 : decode cX1_get 1 = .ok (.getfield 178, 3) := dk_180 0 178 (dk_at dksX1_get_0 1 rfl rfl)
theorem dX1_get_4 : decode cX1_get 4 = .ok (.getfield 191, 3) := dk_180 0 191 (dk_at dksX1_get_0 4 rfl rfl)
theorem dX1_get_7 : decode cX1_get 7 = .ok (.aload_n 0, 1) := dk_42 (dk_at dksX1_get_0 7 rfl rfl)
theorem dX1_get_8 : decode cX1_get 8 = .ok (.iload_n 1, 1) := dk_27 (dk_at dksX1_get_0 8 rfl rfl)
theorem dX1_get_9 : decode cX1_get 9 = .ok (.iload_n 2, 1) := dk_28 (dk_at dksX1_get_0 9 rfl rfl)
theorem dX1_get_10 : decode cX1_get 10 = .ok (.invokevirtual 250, 3) := dk_182 0 250 (dk_at dksX1_get_0 10 rfl rfl)
theorem dX1_get_13 : decode cX1_get 13 = .ok (.iload_n 1, 1) := dk_27 (dk_at dksX1_get_0 13 rfl rfl)
theorem dX1_get_14 : decode cX1_get 14 = .ok (.iload_n 3, 1) := dk_29 (dk_at dksX1_get_0 14 rfl rfl)
theorem dX1_get_15 : decode cX1_get 15 = .ok (.invokestatic 203, 3) := dk_184 0 203 (dk_at dksX1_get_0 15 rfl rfl)
theorem dX1_get_18 : decode cX1_get 18 = .ok (.iaload, 1) := dk_46 (dk_at dksX1_get_0 18 rfl rfl)
theorem dX1_get_19 : decode cX1_get 19 = .ok (.ireturn, 1) := dk_172 (dk_at dksX1_get_0 19 rfl rfl)
abbrev cX1_put : ByteArray := prog_1_method_37_code
def yX1_put : MethodName := ⟨RX1, "put", "(IIII)V"⟩
def dkwX1_put_0 : List UInt8 := [42, 180, 0, 178, 180, 0, 191, 42, 27, 28, 182, 0, 250, 27, 29, 184, 0, 203, 21, 4, 79, 177]
abbrev dktX1_put_0 : List UInt8 := dkwX1_put_0 ++ []
theorem dksX1_put_0 : cX1_put.data.toList.drop 0 = dktX1_put_0 := by decide +kernel
theorem dX1_put_0 : decode cX1_put 0 = .ok (.aload_n 0, 1) := dk_42 (dk_at dksX1_put_0 0 rfl rfl)
theorem dX1_put_1 : decode cX1_put 1 = .ok (.getfield 178, 3) := dk_180 0 178 (dk_at dksX1_put_0 1 rfl rfl)
theorem dX1_put_4 : decode cX1_put 4 = .ok (.getfield 191, 3) := dk_180 0 191 (dk_at dksX1_put_0 4 rfl rfl)
theorem dX1_put_7 : decode cX1_put 7 = .ok (.aload_n 0, 1) := dk_42 (dk_at dksX1_put_0 7 rfl rfl)
theorem dX1_put_8 : decode cX1_put 8 = .ok (.iload_n 1, 1) := dk_27 (dk_at dksX1_put_0 8 rfl rfl)
theorem dX1_put_9 : decode cX1_put 9 = .ok (.iload_n 2, 1) := dk_28 (dk_at dksX1_put_0 9 rfl rfl)
theorem dX1_put_10 : decode cX1_put 10 = .ok (.invokevirtual 250, 3) := dk_182 0 250 (dk_at dksX1_put_0 10 rfl rfl)
theorem dX1_put_13 : decode cX1_put 13 = .ok (.iload_n 1, 1) := dk_27 (dk_at dksX1_put_0 13 rfl rfl)
theorem dX1_put_14 : decode cX1_put 14 = .ok (.iload_n 3, 1) := dk_29 (dk_at dksX1_put_0 14 rfl rfl)
theorem dX1_put_15 : decode cX1_put 15 = .ok (.invokestatic 203, 3) := dk_184 0 203 (dk_at dksX1_put_0 15 rfl rfl)
theorem dX1_put_18 : decode cX1_put 18 = .ok (.iload 4, 2) := dk_21 4 (dk_at dksX1_put_0 18 rfl rfl)
theorem dX1_put_20 : decode cX1_put 20 = .ok (.iastore, 1) := dk_79 (dk_at dksX1_put_0 20 rfl rfl)
theorem dX1_put_21 : decode cX1_put 21 = .ok (.return_, 1) := dk_177 (dk_at dksX1_put_0 21 rfl rfl)
abbrev cX1_isThere : ByteArray := prog_1_method_35_code
def yX1_isThere : MethodName := ⟨RX1, "isThere", "(II)Z"⟩
def dkwX1_isThere_0 : List UInt8 := [42, 180, 0, 178, 42, 27, 28, 182, 0, 250, 27, 182, 1, 0, 172]
abbrev dktX1_isThere_0 : List UInt8 := dkwX1_isThere_0 ++ []
theorem dksX1_isThere_0 : cX1_isThere.data.toList.drop 0 = dktX1_isThere_0 := by decide +kernel
theorem dX1_isThere_0 : decode cX1_isThere 0 = .ok (.aload_n 0, 1) := dk_42 (dk_at dksX1_isThere_0 0 rfl rfl)
theorem dX1_isThere_1 : decode cX1_isThere 1 = .ok (.getfield 178, 3) := dk_180 0 178 (dk_at dksX1_isThere_0 1 rfl rfl)
theorem dX1_isThere_4 : decode cX1_isThere 4 = .ok (.aload_n 0, 1) := dk_42 (dk_at dksX1_isThere_0 4 rfl rfl)
theorem dX1_isThere_5 : decode cX1_isThere 5 = .ok (.iload_n 1, 1) := dk_27 (dk_at dksX1_isThere_0 5 rfl rfl)
theorem dX1_isThere_6 : decode cX1_isThere 6 = .ok (.iload_n 2, 1) := dk_28 (dk_at dksX1_isThere_0 6 rfl rfl)
theorem dX1_isThere_7 : decode cX1_isThere 7 = .ok (.invokevirtual 250, 3) := dk_182 0 250 (dk_at dksX1_isThere_0 7 rfl rfl)
theorem dX1_isThere_10 : decode cX1_isThere 10 = .ok (.iload_n 1, 1) := dk_27 (dk_at dksX1_isThere_0 10 rfl rfl)
theorem dX1_isThere_11 : decode cX1_isThere 11 = .ok (.invokevirtual 256, 3) := dk_182 1 0 (dk_at dksX1_isThere_0 11 rfl rfl)
theorem dX1_isThere_14 : decode cX1_isThere 14 = .ok (.ireturn, 1) := dk_172 (dk_at dksX1_isThere_0 14 rfl rfl)
abbrev cX1_changesSums : ByteArray := prog_1_method_45_code
def yX1_changesSums : MethodName := ⟨RX1, "changesSums", "(IZZ)V"⟩
def dkwX1_changesSums_4 : List UInt8 := [182, 1, 54, 177]
abbrev dktX1_changesSums_4 : List UInt8 := dkwX1_changesSums_4 ++ []
def dkwX1_changesSums_3 : List UInt8 := [182, 1, 12, 42, 180, 0, 164, 27, 42, 180, 0, 164, 42, 180, 0, 253, 182, 1, 6, 182, 1, 9, 130]
abbrev dktX1_changesSums_3 : List UInt8 := dkwX1_changesSums_3 ++ dktX1_changesSums_4
def dkwX1_changesSums_2 : List UInt8 := [180, 0, 197, 21, 4, 4, 96, 42, 180, 0, 200, 42, 42, 180, 0, 197, 21, 4, 4, 96, 42, 180, 0, 200]
abbrev dktX1_changesSums_2 : List UInt8 := dkwX1_changesSums_2 ++ dktX1_changesSums_3
def dkwX1_changesSums_1 : List UInt8 := [180, 0, 197, 21, 4, 42, 180, 0, 200, 182, 1, 12, 27, 130, 182, 1, 54, 29, 153, 0, 55, 42, 42]
abbrev dktX1_changesSums_1 : List UInt8 := dkwX1_changesSums_1 ++ dktX1_changesSums_2
def dkwX1_changesSums_0 : List UInt8 := [42, 182, 0, 234, 54, 4, 28, 153, 0, 33, 42, 42, 180, 0, 197, 21, 4, 42, 180, 0, 200, 42, 42]
abbrev dktX1_changesSums_0 : List UInt8 := dkwX1_changesSums_0 ++ dktX1_changesSums_1
theorem dksX1_changesSums_0 : cX1_changesSums.data.toList.drop 0 = dktX1_changesSums_0 := by decide +kernel
theorem dksX1_changesSums_1 : cX1_changesSums.data.toList.drop 23 = dktX1_changesSums_1 := dk_seg dksX1_changesSums_0 23 rfl rfl
theorem dksX1_changesSums_2 : cX1_changesSums.data.toList.drop 46 = dktX1_changesSums_2 := dk_seg dksX1_changesSums_1 23 rfl rfl
theorem dksX1_changesSums_3 : cX1_changesSums.data.toList.drop 70 = dktX1_changesSums_3 := dk_seg dksX1_changesSums_2 24 rfl rfl
theorem dksX1_changesSums_4 : cX1_changesSums.data.toList.drop 93 = dktX1_changesSums_4 := dk_seg dksX1_changesSums_3 23 rfl rfl
theorem dX1_changesSums_0 : decode cX1_changesSums 0 = .ok (.aload_n 0, 1) := dk_42 (dk_at dksX1_changesSums_0 0 rfl rfl)
theorem dX1_changesSums_1 : decode cX1_changesSums 1 = .ok (.invokevirtual 234, 3) := dk_182 0 234 (dk_at dksX1_changesSums_0 1 rfl rfl)
theorem dX1_changesSums_4 : decode cX1_changesSums 4 = .ok (.istore 4, 2) := dk_54 4 (dk_at dksX1_changesSums_0 4 rfl rfl)
theorem dX1_changesSums_6 : decode cX1_changesSums 6 = .ok (.iload_n 2, 1) := dk_28 (dk_at dksX1_changesSums_0 6 rfl rfl)
theorem dX1_changesSums_7 : decode cX1_changesSums 7 = .ok (.ifCond .eq 33, 3) := dk_153 0 33 (dk_at dksX1_changesSums_0 7 rfl rfl)
theorem dX1_changesSums_10 : decode cX1_changesSums 10 = .ok (.aload_n 0, 1) := dk_42 (dk_at dksX1_changesSums_0 10 rfl rfl)
theorem dX1_changesSums_11 : decode cX1_changesSums 11 = .ok (.aload_n 0, 1) := dk_42 (dk_at dksX1_changesSums_0 11 rfl rfl)
theorem dX1_changesSums_12 : decode cX1_changesSums 12 = .ok (.getfield 197, 3) := dk_180 0 197 (dk_at dksX1_changesSums_0 12 rfl rfl)
theorem dX1_changesSums_15 : decode cX1_changesSums 15 = .ok (.iload 4, 2) := dk_21 4 (dk_at dksX1_changesSums_0 15 rfl rfl)
theorem dX1_changesSums_17 : decode cX1_changesSums 17 = .ok (.aload_n 0, 1) := dk_42 (dk_at dksX1_changesSums_0 17 rfl rfl)
theorem dX1_changesSums_18 : decode cX1_changesSums 18 = .ok (.getfield 200, 3) := dk_180 0 200 (dk_at dksX1_changesSums_0 18 rfl rfl)
theorem dX1_changesSums_21 : decode cX1_changesSums 21 = .ok (.aload_n 0, 1) := dk_42 (dk_at dksX1_changesSums_0 21 rfl rfl)
theorem dX1_changesSums_22 : decode cX1_changesSums 22 = .ok (.aload_n 0, 1) := dk_42 (dk_at dksX1_changesSums_0 22 rfl rfl)
theorem dX1_changesSums_23 : decode cX1_changesSums 23 = .ok (.getfield 197, 3) := dk_180 0 197 (dk_at dksX1_changesSums_1 0 rfl rfl)
theorem dX1_changesSums_26 : decode cX1_changesSums 26 = .ok (.iload 4, 2) := dk_21 4 (dk_at dksX1_changesSums_1 3 rfl rfl)
theorem dX1_changesSums_28 : decode cX1_changesSums 28 = .ok (.aload_n 0, 1) := dk_42 (dk_at dksX1_changesSums_1 5 rfl rfl)
theorem dX1_changesSums_29 : decode cX1_changesSums 29 = .ok (.getfield 200, 3) := dk_180 0 200 (dk_at dksX1_changesSums_1 6 rfl rfl)
theorem dX1_changesSums_32 : decode cX1_changesSums 32 = .ok (.invokevirtual 268, 3) := dk_182 1 12 (dk_at dksX1_changesSums_1 9 rfl rfl)
theorem dX1_changesSums_35 : decode cX1_changesSums 35 = .ok (.iload_n 1, 1) := dk_27 (dk_at dksX1_changesSums_1 12 rfl rfl)
theorem dX1_changesSums_36 : decode cX1_changesSums 36 = .ok (.ixor, 1) := dk_130 (dk_at dksX1_changesSums_1 13 rfl rfl)
theorem dX1_changesSums_37 : decode cX1_changesSums 37 = .ok (.invokevirtual 310, 3) := dk_182 1 54 (dk_at dksX1_changesSums_1 14 rfl rfl)
theorem dX1_changesSums_40 : decode cX1_changesSums 40 = .ok (.iload_n 3, 1) := dk_29 (dk_at dksX1_changesSums_1 17 rfl rfl)
theorem dX1_changesSums_41 : decode cX1_changesSums 41 = .ok (.ifCond .eq 55, 3) := dk_153 0 55 (dk_at dksX1_changesSums_1 18 rfl rfl)
theorem dX1_changesSums_44 : decode cX1_changesSums 44 = .ok (.aload_n 0, 1) := dk_42 (dk_at dksX1_changesSums_1 21 rfl rfl)
theorem dX1_changesSums_45 : decode cX1_changesSums 45 = .ok (.aload_n 0, 1) := dk_42 (dk_at dksX1_changesSums_1 22 rfl rfl)
theorem dX1_changesSums_46 : decode cX1_changesSums 46 = .ok (.getfield 197, 3) := dk_180 0 197 (dk_at dksX1_changesSums_2 0 rfl rfl)
theorem dX1_changesSums_49 : decode cX1_changesSums 49 = .ok (.iload 4, 2) := dk_21 4 (dk_at dksX1_changesSums_2 3 rfl rfl)
theorem dX1_changesSums_51 : decode cX1_changesSums 51 = .ok (.iconst 1, 1) := dk_4 (dk_at dksX1_changesSums_2 5 rfl rfl)
theorem dX1_changesSums_52 : decode cX1_changesSums 52 = .ok (.iadd, 1) := dk_96 (dk_at dksX1_changesSums_2 6 rfl rfl)
theorem dX1_changesSums_53 : decode cX1_changesSums 53 = .ok (.aload_n 0, 1) := dk_42 (dk_at dksX1_changesSums_2 7 rfl rfl)
theorem dX1_changesSums_54 : decode cX1_changesSums 54 = .ok (.getfield 200, 3) := dk_180 0 200 (dk_at dksX1_changesSums_2 8 rfl rfl)
theorem dX1_changesSums_57 : decode cX1_changesSums 57 = .ok (.aload_n 0, 1) := dk_42 (dk_at dksX1_changesSums_2 11 rfl rfl)
theorem dX1_changesSums_58 : decode cX1_changesSums 58 = .ok (.aload_n 0, 1) := dk_42 (dk_at dksX1_changesSums_2 12 rfl rfl)
theorem dX1_changesSums_59 : decode cX1_changesSums 59 = .ok (.getfield 197, 3) := dk_180 0 197 (dk_at dksX1_changesSums_2 13 rfl rfl)
theorem dX1_changesSums_62 : decode cX1_changesSums 62 = .ok (.iload 4, 2) := dk_21 4 (dk_at dksX1_changesSums_2 16 rfl rfl)
theorem dX1_changesSums_64 : decode cX1_changesSums 64 = .ok (.iconst 1, 1) := dk_4 (dk_at dksX1_changesSums_2 18 rfl rfl)
theorem dX1_changesSums_65 : decode cX1_changesSums 65 = .ok (.iadd, 1) := dk_96 (dk_at dksX1_changesSums_2 19 rfl rfl)
theorem dX1_changesSums_66 : decode cX1_changesSums 66 = .ok (.aload_n 0, 1) := dk_42 (dk_at dksX1_changesSums_2 20 rfl rfl)
theorem dX1_changesSums_67 : decode cX1_changesSums 67 = .ok (.getfield 200, 3) := dk_180 0 200 (dk_at dksX1_changesSums_2 21 rfl rfl)
theorem dX1_changesSums_70 : decode cX1_changesSums 70 = .ok (.invokevirtual 268, 3) := dk_182 1 12 (dk_at dksX1_changesSums_3 0 rfl rfl)
theorem dX1_changesSums_73 : decode cX1_changesSums 73 = .ok (.aload_n 0, 1) := dk_42 (dk_at dksX1_changesSums_3 3 rfl rfl)
theorem dX1_changesSums_74 : decode cX1_changesSums 74 = .ok (.getfield 164, 3) := dk_180 0 164 (dk_at dksX1_changesSums_3 4 rfl rfl)
theorem dX1_changesSums_77 : decode cX1_changesSums 77 = .ok (.iload_n 1, 1) := dk_27 (dk_at dksX1_changesSums_3 7 rfl rfl)
theorem dX1_changesSums_78 : decode cX1_changesSums 78 = .ok (.aload_n 0, 1) := dk_42 (dk_at dksX1_changesSums_3 8 rfl rfl)
theorem dX1_changesSums_79 : decode cX1_changesSums 79 = .ok (.getfield 164, 3) := dk_180 0 164 (dk_at dksX1_changesSums_3 9 rfl rfl)
theorem dX1_changesSums_82 : decode cX1_changesSums 82 = .ok (.aload_n 0, 1) := dk_42 (dk_at dksX1_changesSums_3 12 rfl rfl)
theorem dX1_changesSums_83 : decode cX1_changesSums 83 = .ok (.getfield 253, 3) := dk_180 0 253 (dk_at dksX1_changesSums_3 13 rfl rfl)
theorem dX1_changesSums_86 : decode cX1_changesSums 86 = .ok (.invokevirtual 262, 3) := dk_182 1 6 (dk_at dksX1_changesSums_3 16 rfl rfl)
theorem dX1_changesSums_89 : decode cX1_changesSums 89 = .ok (.invokevirtual 265, 3) := dk_182 1 9 (dk_at dksX1_changesSums_3 19 rfl rfl)
theorem dX1_changesSums_92 : decode cX1_changesSums 92 = .ok (.ixor, 1) := dk_130 (dk_at dksX1_changesSums_3 22 rfl rfl)
theorem dX1_changesSums_93 : decode cX1_changesSums 93 = .ok (.invokevirtual 310, 3) := dk_182 1 54 (dk_at dksX1_changesSums_4 0 rfl rfl)
theorem dX1_changesSums_96 : decode cX1_changesSums 96 = .ok (.return_, 1) := dk_177 (dk_at dksX1_changesSums_4 3 rfl rfl)
abbrev cX1_takeScript : ByteArray := prog_1_method_19_code
def yX1_takeScript : MethodName := ⟨RX1, "takeScript", "()I"⟩
def dkwX1_takeScript_3 : List UInt8 := [180, 0, 152, 4, 100, 172]
abbrev dktX1_takeScript_3 : List UInt8 := dkwX1_takeScript_3 ++ []
def dkwX1_takeScript_2 : List UInt8 := [17, 1, 64, 27, 96, 46, 79, 132, 1, 1, 167, 255, 217, 42, 89, 180, 0, 152, 4, 96, 181, 0, 152, 42]
abbrev dktX1_takeScript_2 : List UInt8 := dkwX1_takeScript_2 ++ dktX1_takeScript_3
def dkwX1_takeScript_1 : List UInt8 := [46, 104, 162, 0, 33, 42, 180, 0, 128, 16, 80, 42, 180, 0, 152, 104, 27, 96, 42, 180, 0, 128]
abbrev dktX1_takeScript_1 : List UInt8 := dkwX1_takeScript_1 ++ dktX1_takeScript_2
def dkwX1_takeScript_0 : List UInt8 := [42, 180, 0, 138, 42, 180, 0, 152, 42, 180, 0, 138, 7, 46, 79, 3, 60, 27, 8, 42, 180, 0, 138, 7]
abbrev dktX1_takeScript_0 : List UInt8 := dkwX1_takeScript_0 ++ dktX1_takeScript_1
theorem dksX1_takeScript_0 : cX1_takeScript.data.toList.drop 0 = dktX1_takeScript_0 := by decide +kernel
theorem dksX1_takeScript_1 : cX1_takeScript.data.toList.drop 24 = dktX1_takeScript_1 := dk_seg dksX1_takeScript_0 24 rfl rfl
theorem dksX1_takeScript_2 : cX1_takeScript.data.toList.drop 46 = dktX1_takeScript_2 := dk_seg dksX1_takeScript_1 22 rfl rfl
theorem dksX1_takeScript_3 : cX1_takeScript.data.toList.drop 70 = dktX1_takeScript_3 := dk_seg dksX1_takeScript_2 24 rfl rfl
theorem dX1_takeScript_0 : decode cX1_takeScript 0 = .ok (.aload_n 0, 1) := dk_42 (dk_at dksX1_takeScript_0 0 rfl rfl)
theorem dX1_takeScript_1 : decode cX1_takeScript 1 = .ok (.getfield 138, 3) := dk_180 0 138 (dk_at dksX1_takeScript_0 1 rfl rfl)
theorem dX1_takeScript_4 : decode cX1_takeScript 4 = .ok (.aload_n 0, 1) := dk_42 (dk_at dksX1_takeScript_0 4 rfl rfl)
theorem dX1_takeScript_5 : decode cX1_takeScript 5 = .ok (.getfield 152, 3) := dk_180 0 152 (dk_at dksX1_takeScript_0 5 rfl rfl)
theorem dX1_takeScript_8 : decode cX1_takeScript 8 = .ok (.aload_n 0, 1) := dk_42 (dk_at dksX1_takeScript_0 8 rfl rfl)
theorem dX1_takeScript_9 : decode cX1_takeScript 9 = .ok (.getfield 138, 3) := dk_180 0 138 (dk_at dksX1_takeScript_0 9 rfl rfl)
theorem dX1_takeScript_12 : decode cX1_takeScript 12 = .ok (.iconst 4, 1) := dk_7 (dk_at dksX1_takeScript_0 12 rfl rfl)
theorem dX1_takeScript_13 : decode cX1_takeScript 13 = .ok (.iaload, 1) := dk_46 (dk_at dksX1_takeScript_0 13 rfl rfl)
theorem dX1_takeScript_14 : decode cX1_takeScript 14 = .ok (.iastore, 1) := dk_79 (dk_at dksX1_takeScript_0 14 rfl rfl)
theorem dX1_takeScript_15 : decode cX1_takeScript 15 = .ok (.iconst 0, 1) := dk_3 (dk_at dksX1_takeScript_0 15 rfl rfl)
theorem dX1_takeScript_16 : decode cX1_takeScript 16 = .ok (.istore_n 1, 1) := dk_60 (dk_at dksX1_takeScript_0 16 rfl rfl)
theorem dX1_takeScript_17 : decode cX1_takeScript 17 = .ok (.iload_n 1, 1) := dk_27 (dk_at dksX1_takeScript_0 17 rfl rfl)
theorem dX1_takeScript_18 : decode cX1_takeScript 18 = .ok (.iconst 5, 1) := dk_8 (dk_at dksX1_takeScript_0 18 rfl rfl)
theorem dX1_takeScript_19 : decode cX1_takeScript 19 = .ok (.aload_n 0, 1) := dk_42 (dk_at dksX1_takeScript_0 19 rfl rfl)
theorem dX1_takeScript_20 : decode cX1_takeScript 20 = .ok (.getfield 138, 3) := dk_180 0 138 (dk_at dksX1_takeScript_0 20 rfl rfl)
theorem dX1_takeScript_23 : decode cX1_takeScript 23 = .ok (.iconst 4, 1) := dk_7 (dk_at dksX1_takeScript_0 23 rfl rfl)
theorem dX1_takeScript_24 : decode cX1_takeScript 24 = .ok (.iaload, 1) := dk_46 (dk_at dksX1_takeScript_1 0 rfl rfl)
theorem dX1_takeScript_25 : decode cX1_takeScript 25 = .ok (.imul, 1) := dk_104 (dk_at dksX1_takeScript_1 1 rfl rfl)
theorem dX1_takeScript_26 : decode cX1_takeScript 26 = .ok (.if_icmp .ge 33, 3) := dk_162 0 33 (dk_at dksX1_takeScript_1 2 rfl rfl)
theorem dX1_takeScript_29 : decode cX1_takeScript 29 = .ok (.aload_n 0, 1) := dk_42 (dk_at dksX1_takeScript_1 5 rfl rfl)
theorem dX1_takeScript_30 : decode cX1_takeScript 30 = .ok (.getfield 128, 3) := dk_180 0 128 (dk_at dksX1_takeScript_1 6 rfl rfl)
theorem dX1_takeScript_33 : decode cX1_takeScript 33 = .ok (.bipush 80, 2) := dk_16 80 (dk_at dksX1_takeScript_1 9 rfl rfl)
theorem dX1_takeScript_35 : decode cX1_takeScript 35 = .ok (.aload_n 0, 1) := dk_42 (dk_at dksX1_takeScript_1 11 rfl rfl)
theorem dX1_takeScript_36 : decode cX1_takeScript 36 = .ok (.getfield 152, 3) := dk_180 0 152 (dk_at dksX1_takeScript_1 12 rfl rfl)
theorem dX1_takeScript_39 : decode cX1_takeScript 39 = .ok (.imul, 1) := dk_104 (dk_at dksX1_takeScript_1 15 rfl rfl)
theorem dX1_takeScript_40 : decode cX1_takeScript 40 = .ok (.iload_n 1, 1) := dk_27 (dk_at dksX1_takeScript_1 16 rfl rfl)
theorem dX1_takeScript_41 : decode cX1_takeScript 41 = .ok (.iadd, 1) := dk_96 (dk_at dksX1_takeScript_1 17 rfl rfl)
theorem dX1_takeScript_42 : decode cX1_takeScript 42 = .ok (.aload_n 0, 1) := dk_42 (dk_at dksX1_takeScript_1 18 rfl rfl)
theorem dX1_takeScript_43 : decode cX1_takeScript 43 = .ok (.getfield 128, 3) := dk_180 0 128 (dk_at dksX1_takeScript_1 19 rfl rfl)
theorem dX1_takeScript_46 : decode cX1_takeScript 46 = .ok (.sipush 320, 3) := dk_17 1 64 (dk_at dksX1_takeScript_2 0 rfl rfl)
theorem dX1_takeScript_49 : decode cX1_takeScript 49 = .ok (.iload_n 1, 1) := dk_27 (dk_at dksX1_takeScript_2 3 rfl rfl)
theorem dX1_takeScript_50 : decode cX1_takeScript 50 = .ok (.iadd, 1) := dk_96 (dk_at dksX1_takeScript_2 4 rfl rfl)
theorem dX1_takeScript_51 : decode cX1_takeScript 51 = .ok (.iaload, 1) := dk_46 (dk_at dksX1_takeScript_2 5 rfl rfl)
theorem dX1_takeScript_52 : decode cX1_takeScript 52 = .ok (.iastore, 1) := dk_79 (dk_at dksX1_takeScript_2 6 rfl rfl)
theorem dX1_takeScript_53 : decode cX1_takeScript 53 = .ok (.iinc 1 1, 3) := dk_132 1 1 (dk_at dksX1_takeScript_2 7 rfl rfl)
theorem dX1_takeScript_56 : decode cX1_takeScript 56 = .ok (.goto (-39), 3) := dk_167 255 217 (dk_at dksX1_takeScript_2 10 rfl rfl)
theorem dX1_takeScript_59 : decode cX1_takeScript 59 = .ok (.aload_n 0, 1) := dk_42 (dk_at dksX1_takeScript_2 13 rfl rfl)
theorem dX1_takeScript_60 : decode cX1_takeScript 60 = .ok (.dup, 1) := dk_89 (dk_at dksX1_takeScript_2 14 rfl rfl)
theorem dX1_takeScript_61 : decode cX1_takeScript 61 = .ok (.getfield 152, 3) := dk_180 0 152 (dk_at dksX1_takeScript_2 15 rfl rfl)
theorem dX1_takeScript_64 : decode cX1_takeScript 64 = .ok (.iconst 1, 1) := dk_4 (dk_at dksX1_takeScript_2 18 rfl rfl)
theorem dX1_takeScript_65 : decode cX1_takeScript 65 = .ok (.iadd, 1) := dk_96 (dk_at dksX1_takeScript_2 19 rfl rfl)
theorem dX1_takeScript_66 : decode cX1_takeScript 66 = .ok (.putfield 152, 3) := dk_181 0 152 (dk_at dksX1_takeScript_2 20 rfl rfl)
theorem dX1_takeScript_69 : decode cX1_takeScript 69 = .ok (.aload_n 0, 1) := dk_42 (dk_at dksX1_takeScript_2 23 rfl rfl)
theorem dX1_takeScript_70 : decode cX1_takeScript 70 = .ok (.getfield 152, 3) := dk_180 0 152 (dk_at dksX1_takeScript_3 0 rfl rfl)
theorem dX1_takeScript_73 : decode cX1_takeScript 73 = .ok (.iconst 1, 1) := dk_4 (dk_at dksX1_takeScript_3 3 rfl rfl)
theorem dX1_takeScript_74 : decode cX1_takeScript 74 = .ok (.isub, 1) := dk_100 (dk_at dksX1_takeScript_3 4 rfl rfl)
theorem dX1_takeScript_75 : decode cX1_takeScript 75 = .ok (.ireturn, 1) := dk_172 (dk_at dksX1_takeScript_3 5 rfl rfl)
abbrev cX1_write : ByteArray := prog_1_method_71_code
def yX1_write : MethodName := ⟨RX1, "write", "(II)I"⟩
def dkwX1_write_0 : List UInt8 := [42, 3, 27, 28, 3, 3, 182, 1, 216, 172]
abbrev dktX1_write_0 : List UInt8 := dkwX1_write_0 ++ []
theorem dksX1_write_0 : cX1_write.data.toList.drop 0 = dktX1_write_0 := by decide +kernel
theorem dX1_write_0 : decode cX1_write 0 = .ok (.aload_n 0, 1) := dk_42 (dk_at dksX1_write_0 0 rfl rfl)
theorem dX1_write_1 : decode cX1_write 1 = .ok (.iconst 0, 1) := dk_3 (dk_at dksX1_write_0 1 rfl rfl)
theorem dX1_write_2 : decode cX1_write 2 = .ok (.iload_n 1, 1) := dk_27 (dk_at dksX1_write_0 2 rfl rfl)
theorem dX1_write_3 : decode cX1_write 3 = .ok (.iload_n 2, 1) := dk_28 (dk_at dksX1_write_0 3 rfl rfl)
theorem dX1_write_4 : decode cX1_write 4 = .ok (.iconst 0, 1) := dk_3 (dk_at dksX1_write_0 4 rfl rfl)
theorem dX1_write_5 : decode cX1_write 5 = .ok (.iconst 0, 1) := dk_3 (dk_at dksX1_write_0 5 rfl rfl)
theorem dX1_write_6 : decode cX1_write 6 = .ok (.invokevirtual 472, 3) := dk_182 1 216 (dk_at dksX1_write_0 6 rfl rfl)
theorem dX1_write_9 : decode cX1_write 9 = .ok (.ireturn, 1) := dk_172 (dk_at dksX1_write_0 9 rfl rfl)
abbrev cX1_hand : ByteArray := prog_1_method_70_code
def yX1_hand : MethodName := ⟨RX1, "hand", "(IIIII)I"⟩
def dkwX1_hand_1 : List UInt8 := [21, 4, 21, 5, 182, 1, 210, 172, 42, 180, 1, 213, 21, 6, 92, 46, 4, 96, 79, 2, 172]
abbrev dktX1_hand_1 : List UInt8 := dkwX1_hand_1 ++ []
def dkwX1_hand_0 : List UInt8 := [42, 27, 28, 29, 21, 4, 21, 5, 182, 1, 207, 54, 6, 21, 6, 2, 160, 0, 15, 42, 27, 28, 29]
abbrev dktX1_hand_0 : List UInt8 := dkwX1_hand_0 ++ dktX1_hand_1
theorem dksX1_hand_0 : cX1_hand.data.toList.drop 0 = dktX1_hand_0 := by decide +kernel
theorem dksX1_hand_1 : cX1_hand.data.toList.drop 23 = dktX1_hand_1 := dk_seg dksX1_hand_0 23 rfl rfl
theorem dX1_hand_0 : decode cX1_hand 0 = .ok (.aload_n 0, 1) := dk_42 (dk_at dksX1_hand_0 0 rfl rfl)
theorem dX1_hand_1 : decode cX1_hand 1 = .ok (.iload_n 1, 1) := dk_27 (dk_at dksX1_hand_0 1 rfl rfl)
theorem dX1_hand_2 : decode cX1_hand 2 = .ok (.iload_n 2, 1) := dk_28 (dk_at dksX1_hand_0 2 rfl rfl)
theorem dX1_hand_3 : decode cX1_hand 3 = .ok (.iload_n 3, 1) := dk_29 (dk_at dksX1_hand_0 3 rfl rfl)
theorem dX1_hand_4 : decode cX1_hand 4 = .ok (.iload 4, 2) := dk_21 4 (dk_at dksX1_hand_0 4 rfl rfl)
theorem dX1_hand_6 : decode cX1_hand 6 = .ok (.iload 5, 2) := dk_21 5 (dk_at dksX1_hand_0 6 rfl rfl)
theorem dX1_hand_8 : decode cX1_hand 8 = .ok (.invokevirtual 463, 3) := dk_182 1 207 (dk_at dksX1_hand_0 8 rfl rfl)
theorem dX1_hand_11 : decode cX1_hand 11 = .ok (.istore 6, 2) := dk_54 6 (dk_at dksX1_hand_0 11 rfl rfl)
theorem dX1_hand_13 : decode cX1_hand 13 = .ok (.iload 6, 2) := dk_21 6 (dk_at dksX1_hand_0 13 rfl rfl)
theorem dX1_hand_15 : decode cX1_hand 15 = .ok (.iconst (-1), 1) := dk_2 (dk_at dksX1_hand_0 15 rfl rfl)
theorem dX1_hand_16 : decode cX1_hand 16 = .ok (.if_icmp .ne 15, 3) := dk_160 0 15 (dk_at dksX1_hand_0 16 rfl rfl)
theorem dX1_hand_19 : decode cX1_hand 19 = .ok (.aload_n 0, 1) := dk_42 (dk_at dksX1_hand_0 19 rfl rfl)
theorem dX1_hand_20 : decode cX1_hand 20 = .ok (.iload_n 1, 1) := dk_27 (dk_at dksX1_hand_0 20 rfl rfl)
theorem dX1_hand_21 : decode cX1_hand 21 = .ok (.iload_n 2, 1) := dk_28 (dk_at dksX1_hand_0 21 rfl rfl)
theorem dX1_hand_22 : decode cX1_hand 22 = .ok (.iload_n 3, 1) := dk_29 (dk_at dksX1_hand_0 22 rfl rfl)
theorem dX1_hand_23 : decode cX1_hand 23 = .ok (.iload 4, 2) := dk_21 4 (dk_at dksX1_hand_1 0 rfl rfl)
theorem dX1_hand_25 : decode cX1_hand 25 = .ok (.iload 5, 2) := dk_21 5 (dk_at dksX1_hand_1 2 rfl rfl)
theorem dX1_hand_27 : decode cX1_hand 27 = .ok (.invokevirtual 466, 3) := dk_182 1 210 (dk_at dksX1_hand_1 4 rfl rfl)
theorem dX1_hand_30 : decode cX1_hand 30 = .ok (.ireturn, 1) := dk_172 (dk_at dksX1_hand_1 7 rfl rfl)
theorem dX1_hand_31 : decode cX1_hand 31 = .ok (.aload_n 0, 1) := dk_42 (dk_at dksX1_hand_1 8 rfl rfl)
theorem dX1_hand_32 : decode cX1_hand 32 = .ok (.getfield 469, 3) := dk_180 1 213 (dk_at dksX1_hand_1 9 rfl rfl)
theorem dX1_hand_35 : decode cX1_hand 35 = .ok (.iload 6, 2) := dk_21 6 (dk_at dksX1_hand_1 12 rfl rfl)
theorem dX1_hand_37 : decode cX1_hand 37 = .ok (.dup2, 1) := dk_92 (dk_at dksX1_hand_1 14 rfl rfl)
theorem dX1_hand_38 : decode cX1_hand 38 = .ok (.iaload, 1) := dk_46 (dk_at dksX1_hand_1 15 rfl rfl)
theorem dX1_hand_39 : decode cX1_hand 39 = .ok (.iconst 1, 1) := dk_4 (dk_at dksX1_hand_1 16 rfl rfl)
theorem dX1_hand_40 : decode cX1_hand 40 = .ok (.iadd, 1) := dk_96 (dk_at dksX1_hand_1 17 rfl rfl)
theorem dX1_hand_41 : decode cX1_hand 41 = .ok (.iastore, 1) := dk_79 (dk_at dksX1_hand_1 18 rfl rfl)
theorem dX1_hand_42 : decode cX1_hand 42 = .ok (.iconst (-1), 1) := dk_2 (dk_at dksX1_hand_1 19 rfl rfl)
theorem dX1_hand_43 : decode cX1_hand 43 = .ok (.ireturn, 1) := dk_172 (dk_at dksX1_hand_1 20 rfl rfl)
abbrev cX1_whyNot : ByteArray := prog_1_method_67_code
def yX1_whyNot : MethodName := ⟨RX1, "whyNot", "(IIIII)I"⟩
def dkwX1_whyNot_16 : List UInt8 := [184, 0, 47, 153, 0, 7, 2, 167, 0, 4, 4, 172]
abbrev dktX1_whyNot_16 : List UInt8 := dkwX1_whyNot_16 ++ []
def dkwX1_whyNot_15 : List UInt8 := [3, 167, 0, 32, 21, 4, 3, 17, 0, 255, 184, 0, 47, 153, 0, 19, 21, 5, 3, 17, 0, 255]
abbrev dktX1_whyNot_15 : List UInt8 := dkwX1_whyNot_15 ++ dktX1_whyNot_16
def dkwX1_whyNot_14 : List UInt8 := [2, 172, 42, 28, 182, 1, 154, 153, 0, 17, 29, 3, 42, 182, 0, 240, 4, 100, 184, 0, 47, 154, 0, 7]
abbrev dktX1_whyNot_14 : List UInt8 := dkwX1_whyNot_14 ++ dktX1_whyNot_15
def dkwX1_whyNot_13 : List UInt8 := [5, 172, 42, 182, 0, 243, 154, 0, 7, 3, 167, 0, 15, 42, 182, 1, 148, 154, 0, 7, 5, 167, 0, 4]
abbrev dktX1_whyNot_13 : List UInt8 := dkwX1_whyNot_13 ++ dktX1_whyNot_14
def dkwX1_whyNot_12 : List UInt8 := [3, 5, 184, 0, 47, 154, 0, 7, 4, 167, 0, 16, 42, 28, 182, 1, 164, 153, 0, 7, 2, 167, 0, 4]
abbrev dktX1_whyNot_12 : List UInt8 := dkwX1_whyNot_12 ++ dktX1_whyNot_13
def dkwX1_whyNot_11 : List UInt8 := [28, 182, 1, 157, 154, 0, 7, 3, 167, 0, 41, 29, 3, 17, 0, 255, 184, 0, 47, 153, 0, 13, 21, 4]
abbrev dktX1_whyNot_11 : List UInt8 := dkwX1_whyNot_11 ++ dktX1_whyNot_12
def dkwX1_whyNot_10 : List UInt8 := [184, 0, 47, 153, 0, 7, 2, 167, 0, 4, 4, 172, 42, 28, 29, 21, 4, 21, 5, 182, 1, 160, 172, 42]
abbrev dktX1_whyNot_10 : List UInt8 := dkwX1_whyNot_10 ++ dktX1_whyNot_11
def dkwX1_whyNot_9 : List UInt8 := [160, 0, 7, 2, 167, 0, 4, 5, 172, 42, 182, 0, 243, 154, 0, 7, 3, 167, 0, 18, 28, 4, 16, 12]
abbrev dktX1_whyNot_9 : List UInt8 := dkwX1_whyNot_9 ++ dktX1_whyNot_10
def dkwX1_whyNot_8 : List UInt8 := [29, 4, 16, 12, 184, 0, 47, 154, 0, 7, 4, 167, 0, 21, 42, 180, 0, 178, 180, 1, 88, 28, 46, 5]
abbrev dktX1_whyNot_8 : List UInt8 := dkwX1_whyNot_8 ++ dktX1_whyNot_9
def dkwX1_whyNot_7 : List UInt8 := [180, 0, 182, 154, 0, 7, 6, 167, 0, 4, 2, 172, 42, 28, 182, 1, 151, 154, 0, 7, 3, 167, 0, 35]
abbrev dktX1_whyNot_7 : List UInt8 := dkwX1_whyNot_7 ++ dktX1_whyNot_8
def dkwX1_whyNot_6 : List UInt8 := [167, 0, 35, 42, 180, 0, 178, 180, 1, 88, 28, 46, 4, 159, 0, 7, 5, 167, 0, 18, 42, 180, 0, 178]
abbrev dktX1_whyNot_6 : List UInt8 := dkwX1_whyNot_6 ++ dktX1_whyNot_7
def dkwX1_whyNot_5 : List UInt8 := [182, 1, 94, 5, 160, 0, 7, 6, 167, 0, 4, 2, 172, 42, 28, 182, 1, 151, 154, 0, 7, 3]
abbrev dktX1_whyNot_5 : List UInt8 := dkwX1_whyNot_5 ++ dktX1_whyNot_6
def dkwX1_whyNot_4 : List UInt8 := [28, 46, 4, 160, 0, 7, 5, 167, 0, 28, 42, 180, 0, 178, 180, 1, 88, 28, 46, 154, 0, 15, 42]
abbrev dktX1_whyNot_4 : List UInt8 := dkwX1_whyNot_4 ++ dktX1_whyNot_5
def dkwX1_whyNot_3 : List UInt8 := [167, 0, 4, 4, 172, 42, 28, 182, 1, 151, 154, 0, 7, 3, 167, 0, 45, 42, 180, 0, 178, 180, 1, 88]
abbrev dktX1_whyNot_3 : List UInt8 := dkwX1_whyNot_3 ++ dktX1_whyNot_4
def dkwX1_whyNot_2 : List UInt8 := [42, 28, 182, 1, 157, 154, 0, 7, 3, 167, 0, 19, 29, 3, 17, 0, 255, 184, 0, 47, 153, 0, 7, 2]
abbrev dktX1_whyNot_2 : List UInt8 := dkwX1_whyNot_2 ++ dktX1_whyNot_3
def dkwX1_whyNot_1 : List UInt8 := [170, 0, 0, 0, 0, 1, 78, 0, 0, 0, 0, 0, 0, 0, 7, 0, 0, 0, 47, 0, 0, 0, 76, 0, 0, 0, 131, 0, 0, 0, 176, 0, 0, 0, 221, 0, 0, 0, 248, 0, 0, 1, 3, 0, 0, 1, 54]
abbrev dktX1_whyNot_1 : List UInt8 := dkwX1_whyNot_1 ++ dktX1_whyNot_2
def dkwX1_whyNot_0 : List UInt8 := [27]
abbrev dktX1_whyNot_0 : List UInt8 := dkwX1_whyNot_0 ++ dktX1_whyNot_1
theorem dksX1_whyNot_0 : cX1_whyNot.data.toList.drop 0 = dktX1_whyNot_0 := by decide +kernel
theorem dksX1_whyNot_1 : cX1_whyNot.data.toList.drop 1 = dktX1_whyNot_1 := dk_seg dksX1_whyNot_0 1 rfl rfl
theorem dksX1_whyNot_2 : cX1_whyNot.data.toList.drop 48 = dktX1_whyNot_2 := dk_seg dksX1_whyNot_1 47 rfl rfl
theorem dksX1_whyNot_3 : cX1_whyNot.data.toList.drop 72 = dktX1_whyNot_3 := dk_seg dksX1_whyNot_2 24 rfl rfl
theorem dksX1_whyNot_4 : cX1_whyNot.data.toList.drop 96 = dktX1_whyNot_4 := dk_seg dksX1_whyNot_3 24 rfl rfl
theorem dksX1_whyNot_5 : cX1_whyNot.data.toList.drop 119 = dktX1_whyNot_5 := dk_seg dksX1_whyNot_4 23 rfl rfl
theorem dksX1_whyNot_6 : cX1_whyNot.data.toList.drop 141 = dktX1_whyNot_6 := dk_seg dksX1_whyNot_5 22 rfl rfl
theorem dksX1_whyNot_7 : cX1_whyNot.data.toList.drop 165 = dktX1_whyNot_7 := dk_seg dksX1_whyNot_6 24 rfl rfl
theorem dksX1_whyNot_8 : cX1_whyNot.data.toList.drop 189 = dktX1_whyNot_8 := dk_seg dksX1_whyNot_7 24 rfl rfl
theorem dksX1_whyNot_9 : cX1_whyNot.data.toList.drop 213 = dktX1_whyNot_9 := dk_seg dksX1_whyNot_8 24 rfl rfl
theorem dksX1_whyNot_10 : cX1_whyNot.data.toList.drop 237 = dktX1_whyNot_10 := dk_seg dksX1_whyNot_9 24 rfl rfl
theorem dksX1_whyNot_11 : cX1_whyNot.data.toList.drop 261 = dktX1_whyNot_11 := dk_seg dksX1_whyNot_10 24 rfl rfl
theorem dksX1_whyNot_12 : cX1_whyNot.data.toList.drop 285 = dktX1_whyNot_12 := dk_seg dksX1_whyNot_11 24 rfl rfl
theorem dksX1_whyNot_13 : cX1_whyNot.data.toList.drop 309 = dktX1_whyNot_13 := dk_seg dksX1_whyNot_12 24 rfl rfl
theorem dksX1_whyNot_14 : cX1_whyNot.data.toList.drop 333 = dktX1_whyNot_14 := dk_seg dksX1_whyNot_13 24 rfl rfl
theorem dksX1_whyNot_15 : cX1_whyNot.data.toList.drop 357 = dktX1_whyNot_15 := dk_seg dksX1_whyNot_14 24 rfl rfl
theorem dksX1_whyNot_16 : cX1_whyNot.data.toList.drop 379 = dktX1_whyNot_16 := dk_seg dksX1_whyNot_15 22 rfl rfl
theorem dX1_whyNot_0 : decode cX1_whyNot 0 = .ok (.iload_n 1, 1) := dk_27 (dk_at dksX1_whyNot_0 0 rfl rfl)
theorem dX1_whyNot_1 : decode cX1_whyNot 1 = .ok (.tableswitch 334 0 7 #[47, 76, 131, 176, 221, 248, 259, 310], 47) := by decide +kernel
theorem dX1_whyNot_48 : decode cX1_whyNot 48 = .ok (.aload_n 0, 1) := dk_42 (dk_at dksX1_whyNot_2 0 rfl rfl)
theorem dX1_whyNot_49 : decode cX1_whyNot 49 = .ok (.iload_n 2, 1) := dk_28 (dk_at dksX1_whyNot_2 1 rfl rfl)
theorem dX1_whyNot_50 : decode cX1_whyNot 50 = .ok (.invokevirtual 413, 3) := dk_182 1 157 (dk_at dksX1_whyNot_2 2 rfl rfl)
theorem dX1_whyNot_53 : decode cX1_whyNot 53 = .ok (.ifCond .ne 7, 3) := dk_154 0 7 (dk_at dksX1_whyNot_2 5 rfl rfl)
theorem dX1_whyNot_56 : decode cX1_whyNot 56 = .ok (.iconst 0, 1) := dk_3 (dk_at dksX1_whyNot_2 8 rfl rfl)
theorem dX1_whyNot_57 : decode cX1_whyNot 57 = .ok (.goto 19, 3) := dk_167 0 19 (dk_at dksX1_whyNot_2 9 rfl rfl)
theorem dX1_whyNot_60 : decode cX1_whyNot 60 = .ok (.iload_n 3, 1) := dk_29 (dk_at dksX1_whyNot_2 12 rfl rfl)
theorem dX1_whyNot_61 : decode cX1_whyNot 61 = .ok (.iconst 0, 1) := dk_3 (dk_at dksX1_whyNot_2 13 rfl rfl)
theorem dX1_whyNot_62 : decode cX1_whyNot 62 = .ok (.sipush 255, 3) := dk_17 0 255 (dk_at dksX1_whyNot_2 14 rfl rfl)
theorem dX1_whyNot_65 : decode cX1_whyNot 65 = .ok (.invokestatic 47, 3) := dk_184 0 47 (dk_at dksX1_whyNot_2 17 rfl rfl)
theorem dX1_whyNot_68 : decode cX1_whyNot 68 = .ok (.ifCond .eq 7, 3) := dk_153 0 7 (dk_at dksX1_whyNot_2 20 rfl rfl)
theorem dX1_whyNot_71 : decode cX1_whyNot 71 = .ok (.iconst (-1), 1) := dk_2 (dk_at dksX1_whyNot_2 23 rfl rfl)
theorem dX1_whyNot_72 : decode cX1_whyNot 72 = .ok (.goto 4, 3) := dk_167 0 4 (dk_at dksX1_whyNot_3 0 rfl rfl)
theorem dX1_whyNot_75 : decode cX1_whyNot 75 = .ok (.iconst 1, 1) := dk_4 (dk_at dksX1_whyNot_3 3 rfl rfl)
theorem dX1_whyNot_76 : decode cX1_whyNot 76 = .ok (.ireturn, 1) := dk_172 (dk_at dksX1_whyNot_3 4 rfl rfl)
theorem dX1_whyNot_77 : decode cX1_whyNot 77 = .ok (.aload_n 0, 1) := dk_42 (dk_at dksX1_whyNot_3 5 rfl rfl)
theorem dX1_whyNot_78 : decode cX1_whyNot 78 = .ok (.iload_n 2, 1) := dk_28 (dk_at dksX1_whyNot_3 6 rfl rfl)
theorem dX1_whyNot_79 : decode cX1_whyNot 79 = .ok (.invokevirtual 407, 3) := dk_182 1 151 (dk_at dksX1_whyNot_3 7 rfl rfl)
theorem dX1_whyNot_82 : decode cX1_whyNot 82 = .ok (.ifCond .ne 7, 3) := dk_154 0 7 (dk_at dksX1_whyNot_3 10 rfl rfl)
theorem dX1_whyNot_85 : decode cX1_whyNot 85 = .ok (.iconst 0, 1) := dk_3 (dk_at dksX1_whyNot_3 13 rfl rfl)
theorem dX1_whyNot_86 : decode cX1_whyNot 86 = .ok (.goto 45, 3) := dk_167 0 45 (dk_at dksX1_whyNot_3 14 rfl rfl)
theorem dX1_whyNot_89 : decode cX1_whyNot 89 = .ok (.aload_n 0, 1) := dk_42 (dk_at dksX1_whyNot_3 17 rfl rfl)
theorem dX1_whyNot_90 : decode cX1_whyNot 90 = .ok (.getfield 178, 3) := dk_180 0 178 (dk_at dksX1_whyNot_3 18 rfl rfl)
theorem dX1_whyNot_93 : decode cX1_whyNot 93 = .ok (.getfield 344, 3) := dk_180 1 88 (dk_at dksX1_whyNot_3 21 rfl rfl)
theorem dX1_whyNot_96 : decode cX1_whyNot 96 = .ok (.iload_n 2, 1) := dk_28 (dk_at dksX1_whyNot_4 0 rfl rfl)
theorem dX1_whyNot_97 : decode cX1_whyNot 97 = .ok (.iaload, 1) := dk_46 (dk_at dksX1_whyNot_4 1 rfl rfl)
theorem dX1_whyNot_98 : decode cX1_whyNot 98 = .ok (.iconst 1, 1) := dk_4 (dk_at dksX1_whyNot_4 2 rfl rfl)
theorem dX1_whyNot_99 : decode cX1_whyNot 99 = .ok (.if_icmp .ne 7, 3) := dk_160 0 7 (dk_at dksX1_whyNot_4 3 rfl rfl)
theorem dX1_whyNot_102 : decode cX1_whyNot 102 = .ok (.iconst 2, 1) := dk_5 (dk_at dksX1_whyNot_4 6 rfl rfl)
theorem dX1_whyNot_103 : decode cX1_whyNot 103 = .ok (.goto 28, 3) := dk_167 0 28 (dk_at dksX1_whyNot_4 7 rfl rfl)
theorem dX1_whyNot_106 : decode cX1_whyNot 106 = .ok (.aload_n 0, 1) := dk_42 (dk_at dksX1_whyNot_4 10 rfl rfl)
theorem dX1_whyNot_107 : decode cX1_whyNot 107 = .ok (.getfield 178, 3) := dk_180 0 178 (dk_at dksX1_whyNot_4 11 rfl rfl)
theorem dX1_whyNot_110 : decode cX1_whyNot 110 = .ok (.getfield 344, 3) := dk_180 1 88 (dk_at dksX1_whyNot_4 14 rfl rfl)
theorem dX1_whyNot_113 : decode cX1_whyNot 113 = .ok (.iload_n 2, 1) := dk_28 (dk_at dksX1_whyNot_4 17 rfl rfl)
theorem dX1_whyNot_114 : decode cX1_whyNot 114 = .ok (.iaload, 1) := dk_46 (dk_at dksX1_whyNot_4 18 rfl rfl)
theorem dX1_whyNot_115 : decode cX1_whyNot 115 = .ok (.ifCond .ne 15, 3) := dk_154 0 15 (dk_at dksX1_whyNot_4 19 rfl rfl)
theorem dX1_whyNot_118 : decode cX1_whyNot 118 = .ok (.aload_n 0, 1) := dk_42 (dk_at dksX1_whyNot_4 22 rfl rfl)
theorem dX1_whyNot_119 : decode cX1_whyNot 119 = .ok (.invokevirtual 350, 3) := dk_182 1 94 (dk_at dksX1_whyNot_5 0 rfl rfl)
theorem dX1_whyNot_122 : decode cX1_whyNot 122 = .ok (.iconst 2, 1) := dk_5 (dk_at dksX1_whyNot_5 3 rfl rfl)
theorem dX1_whyNot_123 : decode cX1_whyNot 123 = .ok (.if_icmp .ne 7, 3) := dk_160 0 7 (dk_at dksX1_whyNot_5 4 rfl rfl)
theorem dX1_whyNot_126 : decode cX1_whyNot 126 = .ok (.iconst 3, 1) := dk_6 (dk_at dksX1_whyNot_5 7 rfl rfl)
theorem dX1_whyNot_127 : decode cX1_whyNot 127 = .ok (.goto 4, 3) := dk_167 0 4 (dk_at dksX1_whyNot_5 8 rfl rfl)
theorem dX1_whyNot_130 : decode cX1_whyNot 130 = .ok (.iconst (-1), 1) := dk_2 (dk_at dksX1_whyNot_5 11 rfl rfl)
theorem dX1_whyNot_131 : decode cX1_whyNot 131 = .ok (.ireturn, 1) := dk_172 (dk_at dksX1_whyNot_5 12 rfl rfl)
theorem dX1_whyNot_132 : decode cX1_whyNot 132 = .ok (.aload_n 0, 1) := dk_42 (dk_at dksX1_whyNot_5 13 rfl rfl)
theorem dX1_whyNot_133 : decode cX1_whyNot 133 = .ok (.iload_n 2, 1) := dk_28 (dk_at dksX1_whyNot_5 14 rfl rfl)
theorem dX1_whyNot_134 : decode cX1_whyNot 134 = .ok (.invokevirtual 407, 3) := dk_182 1 151 (dk_at dksX1_whyNot_5 15 rfl rfl)
theorem dX1_whyNot_137 : decode cX1_whyNot 137 = .ok (.ifCond .ne 7, 3) := dk_154 0 7 (dk_at dksX1_whyNot_5 18 rfl rfl)
theorem dX1_whyNot_140 : decode cX1_whyNot 140 = .ok (.iconst 0, 1) := dk_3 (dk_at dksX1_whyNot_5 21 rfl rfl)
theorem dX1_whyNot_141 : decode cX1_whyNot 141 = .ok (.goto 35, 3) := dk_167 0 35 (dk_at dksX1_whyNot_6 0 rfl rfl)
theorem dX1_whyNot_144 : decode cX1_whyNot 144 = .ok (.aload_n 0, 1) := dk_42 (dk_at dksX1_whyNot_6 3 rfl rfl)
theorem dX1_whyNot_145 : decode cX1_whyNot 145 = .ok (.getfield 178, 3) := dk_180 0 178 (dk_at dksX1_whyNot_6 4 rfl rfl)
theorem dX1_whyNot_148 : decode cX1_whyNot 148 = .ok (.getfield 344, 3) := dk_180 1 88 (dk_at dksX1_whyNot_6 7 rfl rfl)
theorem dX1_whyNot_151 : decode cX1_whyNot 151 = .ok (.iload_n 2, 1) := dk_28 (dk_at dksX1_whyNot_6 10 rfl rfl)
theorem dX1_whyNot_152 : decode cX1_whyNot 152 = .ok (.iaload, 1) := dk_46 (dk_at dksX1_whyNot_6 11 rfl rfl)
theorem dX1_whyNot_153 : decode cX1_whyNot 153 = .ok (.iconst 1, 1) := dk_4 (dk_at dksX1_whyNot_6 12 rfl rfl)
theorem dX1_whyNot_154 : decode cX1_whyNot 154 = .ok (.if_icmp .eq 7, 3) := dk_159 0 7 (dk_at dksX1_whyNot_6 13 rfl rfl)
theorem dX1_whyNot_157 : decode cX1_whyNot 157 = .ok (.iconst 2, 1) := dk_5 (dk_at dksX1_whyNot_6 16 rfl rfl)
theorem dX1_whyNot_158 : decode cX1_whyNot 158 = .ok (.goto 18, 3) := dk_167 0 18 (dk_at dksX1_whyNot_6 17 rfl rfl)
theorem dX1_whyNot_161 : decode cX1_whyNot 161 = .ok (.aload_n 0, 1) := dk_42 (dk_at dksX1_whyNot_6 20 rfl rfl)
theorem dX1_whyNot_162 : decode cX1_whyNot 162 = .ok (.getfield 178, 3) := dk_180 0 178 (dk_at dksX1_whyNot_6 21 rfl rfl)
theorem dX1_whyNot_165 : decode cX1_whyNot 165 = .ok (.getfield 182, 3) := dk_180 0 182 (dk_at dksX1_whyNot_7 0 rfl rfl)
theorem dX1_whyNot_168 : decode cX1_whyNot 168 = .ok (.ifCond .ne 7, 3) := dk_154 0 7 (dk_at dksX1_whyNot_7 3 rfl rfl)
theorem dX1_whyNot_171 : decode cX1_whyNot 171 = .ok (.iconst 3, 1) := dk_6 (dk_at dksX1_whyNot_7 6 rfl rfl)
theorem dX1_whyNot_172 : decode cX1_whyNot 172 = .ok (.goto 4, 3) := dk_167 0 4 (dk_at dksX1_whyNot_7 7 rfl rfl)
theorem dX1_whyNot_175 : decode cX1_whyNot 175 = .ok (.iconst (-1), 1) := dk_2 (dk_at dksX1_whyNot_7 10 rfl rfl)
theorem dX1_whyNot_176 : decode cX1_whyNot 176 = .ok (.ireturn, 1) := dk_172 (dk_at dksX1_whyNot_7 11 rfl rfl)
theorem dX1_whyNot_177 : decode cX1_whyNot 177 = .ok (.aload_n 0, 1) := dk_42 (dk_at dksX1_whyNot_7 12 rfl rfl)
theorem dX1_whyNot_178 : decode cX1_whyNot 178 = .ok (.iload_n 2, 1) := dk_28 (dk_at dksX1_whyNot_7 13 rfl rfl)
theorem dX1_whyNot_179 : decode cX1_whyNot 179 = .ok (.invokevirtual 407, 3) := dk_182 1 151 (dk_at dksX1_whyNot_7 14 rfl rfl)
theorem dX1_whyNot_182 : decode cX1_whyNot 182 = .ok (.ifCond .ne 7, 3) := dk_154 0 7 (dk_at dksX1_whyNot_7 17 rfl rfl)
theorem dX1_whyNot_185 : decode cX1_whyNot 185 = .ok (.iconst 0, 1) := dk_3 (dk_at dksX1_whyNot_7 20 rfl rfl)
theorem dX1_whyNot_186 : decode cX1_whyNot 186 = .ok (.goto 35, 3) := dk_167 0 35 (dk_at dksX1_whyNot_7 21 rfl rfl)
theorem dX1_whyNot_189 : decode cX1_whyNot 189 = .ok (.iload_n 3, 1) := dk_29 (dk_at dksX1_whyNot_8 0 rfl rfl)
theorem dX1_whyNot_190 : decode cX1_whyNot 190 = .ok (.iconst 1, 1) := dk_4 (dk_at dksX1_whyNot_8 1 rfl rfl)
theorem dX1_whyNot_191 : decode cX1_whyNot 191 = .ok (.bipush 12, 2) := dk_16 12 (dk_at dksX1_whyNot_8 2 rfl rfl)
theorem dX1_whyNot_193 : decode cX1_whyNot 193 = .ok (.invokestatic 47, 3) := dk_184 0 47 (dk_at dksX1_whyNot_8 4 rfl rfl)
theorem dX1_whyNot_196 : decode cX1_whyNot 196 = .ok (.ifCond .ne 7, 3) := dk_154 0 7 (dk_at dksX1_whyNot_8 7 rfl rfl)
theorem dX1_whyNot_199 : decode cX1_whyNot 199 = .ok (.iconst 1, 1) := dk_4 (dk_at dksX1_whyNot_8 10 rfl rfl)
theorem dX1_whyNot_200 : decode cX1_whyNot 200 = .ok (.goto 21, 3) := dk_167 0 21 (dk_at dksX1_whyNot_8 11 rfl rfl)
theorem dX1_whyNot_203 : decode cX1_whyNot 203 = .ok (.aload_n 0, 1) := dk_42 (dk_at dksX1_whyNot_8 14 rfl rfl)
theorem dX1_whyNot_204 : decode cX1_whyNot 204 = .ok (.getfield 178, 3) := dk_180 0 178 (dk_at dksX1_whyNot_8 15 rfl rfl)
theorem dX1_whyNot_207 : decode cX1_whyNot 207 = .ok (.getfield 344, 3) := dk_180 1 88 (dk_at dksX1_whyNot_8 18 rfl rfl)
theorem dX1_whyNot_210 : decode cX1_whyNot 210 = .ok (.iload_n 2, 1) := dk_28 (dk_at dksX1_whyNot_8 21 rfl rfl)
theorem dX1_whyNot_211 : decode cX1_whyNot 211 = .ok (.iaload, 1) := dk_46 (dk_at dksX1_whyNot_8 22 rfl rfl)
theorem dX1_whyNot_212 : decode cX1_whyNot 212 = .ok (.iconst 2, 1) := dk_5 (dk_at dksX1_whyNot_8 23 rfl rfl)
theorem dX1_whyNot_213 : decode cX1_whyNot 213 = .ok (.if_icmp .ne 7, 3) := dk_160 0 7 (dk_at dksX1_whyNot_9 0 rfl rfl)
theorem dX1_whyNot_216 : decode cX1_whyNot 216 = .ok (.iconst (-1), 1) := dk_2 (dk_at dksX1_whyNot_9 3 rfl rfl)
theorem dX1_whyNot_217 : decode cX1_whyNot 217 = .ok (.goto 4, 3) := dk_167 0 4 (dk_at dksX1_whyNot_9 4 rfl rfl)
theorem dX1_whyNot_220 : decode cX1_whyNot 220 = .ok (.iconst 2, 1) := dk_5 (dk_at dksX1_whyNot_9 7 rfl rfl)
theorem dX1_whyNot_221 : decode cX1_whyNot 221 = .ok (.ireturn, 1) := dk_172 (dk_at dksX1_whyNot_9 8 rfl rfl)
theorem dX1_whyNot_222 : decode cX1_whyNot 222 = .ok (.aload_n 0, 1) := dk_42 (dk_at dksX1_whyNot_9 9 rfl rfl)
theorem dX1_whyNot_223 : decode cX1_whyNot 223 = .ok (.invokevirtual 243, 3) := dk_182 0 243 (dk_at dksX1_whyNot_9 10 rfl rfl)
theorem dX1_whyNot_226 : decode cX1_whyNot 226 = .ok (.ifCond .ne 7, 3) := dk_154 0 7 (dk_at dksX1_whyNot_9 13 rfl rfl)
theorem dX1_whyNot_229 : decode cX1_whyNot 229 = .ok (.iconst 0, 1) := dk_3 (dk_at dksX1_whyNot_9 16 rfl rfl)
theorem dX1_whyNot_230 : decode cX1_whyNot 230 = .ok (.goto 18, 3) := dk_167 0 18 (dk_at dksX1_whyNot_9 17 rfl rfl)
theorem dX1_whyNot_233 : decode cX1_whyNot 233 = .ok (.iload_n 2, 1) := dk_28 (dk_at dksX1_whyNot_9 20 rfl rfl)
theorem dX1_whyNot_234 : decode cX1_whyNot 234 = .ok (.iconst 1, 1) := dk_4 (dk_at dksX1_whyNot_9 21 rfl rfl)
theorem dX1_whyNot_235 : decode cX1_whyNot 235 = .ok (.bipush 12, 2) := dk_16 12 (dk_at dksX1_whyNot_9 22 rfl rfl)
theorem dX1_whyNot_237 : decode cX1_whyNot 237 = .ok (.invokestatic 47, 3) := dk_184 0 47 (dk_at dksX1_whyNot_10 0 rfl rfl)
theorem dX1_whyNot_240 : decode cX1_whyNot 240 = .ok (.ifCond .eq 7, 3) := dk_153 0 7 (dk_at dksX1_whyNot_10 3 rfl rfl)
theorem dX1_whyNot_243 : decode cX1_whyNot 243 = .ok (.iconst (-1), 1) := dk_2 (dk_at dksX1_whyNot_10 6 rfl rfl)
theorem dX1_whyNot_244 : decode cX1_whyNot 244 = .ok (.goto 4, 3) := dk_167 0 4 (dk_at dksX1_whyNot_10 7 rfl rfl)
theorem dX1_whyNot_247 : decode cX1_whyNot 247 = .ok (.iconst 1, 1) := dk_4 (dk_at dksX1_whyNot_10 10 rfl rfl)
theorem dX1_whyNot_248 : decode cX1_whyNot 248 = .ok (.ireturn, 1) := dk_172 (dk_at dksX1_whyNot_10 11 rfl rfl)
theorem dX1_whyNot_249 : decode cX1_whyNot 249 = .ok (.aload_n 0, 1) := dk_42 (dk_at dksX1_whyNot_10 12 rfl rfl)
theorem dX1_whyNot_250 : decode cX1_whyNot 250 = .ok (.iload_n 2, 1) := dk_28 (dk_at dksX1_whyNot_10 13 rfl rfl)
theorem dX1_whyNot_251 : decode cX1_whyNot 251 = .ok (.iload_n 3, 1) := dk_29 (dk_at dksX1_whyNot_10 14 rfl rfl)
theorem dX1_whyNot_252 : decode cX1_whyNot 252 = .ok (.iload 4, 2) := dk_21 4 (dk_at dksX1_whyNot_10 15 rfl rfl)
theorem dX1_whyNot_254 : decode cX1_whyNot 254 = .ok (.iload 5, 2) := dk_21 5 (dk_at dksX1_whyNot_10 17 rfl rfl)
theorem dX1_whyNot_256 : decode cX1_whyNot 256 = .ok (.invokevirtual 416, 3) := dk_182 1 160 (dk_at dksX1_whyNot_10 19 rfl rfl)
theorem dX1_whyNot_259 : decode cX1_whyNot 259 = .ok (.ireturn, 1) := dk_172 (dk_at dksX1_whyNot_10 22 rfl rfl)
theorem dX1_whyNot_260 : decode cX1_whyNot 260 = .ok (.aload_n 0, 1) := dk_42 (dk_at dksX1_whyNot_10 23 rfl rfl)
theorem dX1_whyNot_261 : decode cX1_whyNot 261 = .ok (.iload_n 2, 1) := dk_28 (dk_at dksX1_whyNot_11 0 rfl rfl)
theorem dX1_whyNot_262 : decode cX1_whyNot 262 = .ok (.invokevirtual 413, 3) := dk_182 1 157 (dk_at dksX1_whyNot_11 1 rfl rfl)
theorem dX1_whyNot_265 : decode cX1_whyNot 265 = .ok (.ifCond .ne 7, 3) := dk_154 0 7 (dk_at dksX1_whyNot_11 4 rfl rfl)
theorem dX1_whyNot_268 : decode cX1_whyNot 268 = .ok (.iconst 0, 1) := dk_3 (dk_at dksX1_whyNot_11 7 rfl rfl)
theorem dX1_whyNot_269 : decode cX1_whyNot 269 = .ok (.goto 41, 3) := dk_167 0 41 (dk_at dksX1_whyNot_11 8 rfl rfl)
theorem dX1_whyNot_272 : decode cX1_whyNot 272 = .ok (.iload_n 3, 1) := dk_29 (dk_at dksX1_whyNot_11 11 rfl rfl)
theorem dX1_whyNot_273 : decode cX1_whyNot 273 = .ok (.iconst 0, 1) := dk_3 (dk_at dksX1_whyNot_11 12 rfl rfl)
theorem dX1_whyNot_274 : decode cX1_whyNot 274 = .ok (.sipush 255, 3) := dk_17 0 255 (dk_at dksX1_whyNot_11 13 rfl rfl)
theorem dX1_whyNot_277 : decode cX1_whyNot 277 = .ok (.invokestatic 47, 3) := dk_184 0 47 (dk_at dksX1_whyNot_11 16 rfl rfl)
theorem dX1_whyNot_280 : decode cX1_whyNot 280 = .ok (.ifCond .eq 13, 3) := dk_153 0 13 (dk_at dksX1_whyNot_11 19 rfl rfl)
theorem dX1_whyNot_283 : decode cX1_whyNot 283 = .ok (.iload 4, 2) := dk_21 4 (dk_at dksX1_whyNot_11 22 rfl rfl)
theorem dX1_whyNot_285 : decode cX1_whyNot 285 = .ok (.iconst 0, 1) := dk_3 (dk_at dksX1_whyNot_12 0 rfl rfl)
theorem dX1_whyNot_286 : decode cX1_whyNot 286 = .ok (.iconst 2, 1) := dk_5 (dk_at dksX1_whyNot_12 1 rfl rfl)
theorem dX1_whyNot_287 : decode cX1_whyNot 287 = .ok (.invokestatic 47, 3) := dk_184 0 47 (dk_at dksX1_whyNot_12 2 rfl rfl)
theorem dX1_whyNot_290 : decode cX1_whyNot 290 = .ok (.ifCond .ne 7, 3) := dk_154 0 7 (dk_at dksX1_whyNot_12 5 rfl rfl)
theorem dX1_whyNot_293 : decode cX1_whyNot 293 = .ok (.iconst 1, 1) := dk_4 (dk_at dksX1_whyNot_12 8 rfl rfl)
theorem dX1_whyNot_294 : decode cX1_whyNot 294 = .ok (.goto 16, 3) := dk_167 0 16 (dk_at dksX1_whyNot_12 9 rfl rfl)
theorem dX1_whyNot_297 : decode cX1_whyNot 297 = .ok (.aload_n 0, 1) := dk_42 (dk_at dksX1_whyNot_12 12 rfl rfl)
theorem dX1_whyNot_298 : decode cX1_whyNot 298 = .ok (.iload_n 2, 1) := dk_28 (dk_at dksX1_whyNot_12 13 rfl rfl)
theorem dX1_whyNot_299 : decode cX1_whyNot 299 = .ok (.invokevirtual 420, 3) := dk_182 1 164 (dk_at dksX1_whyNot_12 14 rfl rfl)
theorem dX1_whyNot_302 : decode cX1_whyNot 302 = .ok (.ifCond .eq 7, 3) := dk_153 0 7 (dk_at dksX1_whyNot_12 17 rfl rfl)
theorem dX1_whyNot_305 : decode cX1_whyNot 305 = .ok (.iconst (-1), 1) := dk_2 (dk_at dksX1_whyNot_12 20 rfl rfl)
theorem dX1_whyNot_306 : decode cX1_whyNot 306 = .ok (.goto 4, 3) := dk_167 0 4 (dk_at dksX1_whyNot_12 21 rfl rfl)
theorem dX1_whyNot_309 : decode cX1_whyNot 309 = .ok (.iconst 2, 1) := dk_5 (dk_at dksX1_whyNot_13 0 rfl rfl)
theorem dX1_whyNot_310 : decode cX1_whyNot 310 = .ok (.ireturn, 1) := dk_172 (dk_at dksX1_whyNot_13 1 rfl rfl)
theorem dX1_whyNot_311 : decode cX1_whyNot 311 = .ok (.aload_n 0, 1) := dk_42 (dk_at dksX1_whyNot_13 2 rfl rfl)
theorem dX1_whyNot_312 : decode cX1_whyNot 312 = .ok (.invokevirtual 243, 3) := dk_182 0 243 (dk_at dksX1_whyNot_13 3 rfl rfl)
theorem dX1_whyNot_315 : decode cX1_whyNot 315 = .ok (.ifCond .ne 7, 3) := dk_154 0 7 (dk_at dksX1_whyNot_13 6 rfl rfl)
theorem dX1_whyNot_318 : decode cX1_whyNot 318 = .ok (.iconst 0, 1) := dk_3 (dk_at dksX1_whyNot_13 9 rfl rfl)
theorem dX1_whyNot_319 : decode cX1_whyNot 319 = .ok (.goto 15, 3) := dk_167 0 15 (dk_at dksX1_whyNot_13 10 rfl rfl)
theorem dX1_whyNot_322 : decode cX1_whyNot 322 = .ok (.aload_n 0, 1) := dk_42 (dk_at dksX1_whyNot_13 13 rfl rfl)
theorem dX1_whyNot_323 : decode cX1_whyNot 323 = .ok (.invokevirtual 404, 3) := dk_182 1 148 (dk_at dksX1_whyNot_13 14 rfl rfl)
theorem dX1_whyNot_326 : decode cX1_whyNot 326 = .ok (.ifCond .ne 7, 3) := dk_154 0 7 (dk_at dksX1_whyNot_13 17 rfl rfl)
theorem dX1_whyNot_329 : decode cX1_whyNot 329 = .ok (.iconst 2, 1) := dk_5 (dk_at dksX1_whyNot_13 20 rfl rfl)
theorem dX1_whyNot_330 : decode cX1_whyNot 330 = .ok (.goto 4, 3) := dk_167 0 4 (dk_at dksX1_whyNot_13 21 rfl rfl)
theorem dX1_whyNot_333 : decode cX1_whyNot 333 = .ok (.iconst (-1), 1) := dk_2 (dk_at dksX1_whyNot_14 0 rfl rfl)
theorem dX1_whyNot_334 : decode cX1_whyNot 334 = .ok (.ireturn, 1) := dk_172 (dk_at dksX1_whyNot_14 1 rfl rfl)
theorem dX1_whyNot_335 : decode cX1_whyNot 335 = .ok (.aload_n 0, 1) := dk_42 (dk_at dksX1_whyNot_14 2 rfl rfl)
theorem dX1_whyNot_336 : decode cX1_whyNot 336 = .ok (.iload_n 2, 1) := dk_28 (dk_at dksX1_whyNot_14 3 rfl rfl)
theorem dX1_whyNot_337 : decode cX1_whyNot 337 = .ok (.invokevirtual 410, 3) := dk_182 1 154 (dk_at dksX1_whyNot_14 4 rfl rfl)
theorem dX1_whyNot_340 : decode cX1_whyNot 340 = .ok (.ifCond .eq 17, 3) := dk_153 0 17 (dk_at dksX1_whyNot_14 7 rfl rfl)
theorem dX1_whyNot_343 : decode cX1_whyNot 343 = .ok (.iload_n 3, 1) := dk_29 (dk_at dksX1_whyNot_14 10 rfl rfl)
theorem dX1_whyNot_344 : decode cX1_whyNot 344 = .ok (.iconst 0, 1) := dk_3 (dk_at dksX1_whyNot_14 11 rfl rfl)
theorem dX1_whyNot_345 : decode cX1_whyNot 345 = .ok (.aload_n 0, 1) := dk_42 (dk_at dksX1_whyNot_14 12 rfl rfl)
theorem dX1_whyNot_346 : decode cX1_whyNot 346 = .ok (.invokevirtual 240, 3) := dk_182 0 240 (dk_at dksX1_whyNot_14 13 rfl rfl)
theorem dX1_whyNot_349 : decode cX1_whyNot 349 = .ok (.iconst 1, 1) := dk_4 (dk_at dksX1_whyNot_14 16 rfl rfl)
theorem dX1_whyNot_350 : decode cX1_whyNot 350 = .ok (.isub, 1) := dk_100 (dk_at dksX1_whyNot_14 17 rfl rfl)
theorem dX1_whyNot_351 : decode cX1_whyNot 351 = .ok (.invokestatic 47, 3) := dk_184 0 47 (dk_at dksX1_whyNot_14 18 rfl rfl)
theorem dX1_whyNot_354 : decode cX1_whyNot 354 = .ok (.ifCond .ne 7, 3) := dk_154 0 7 (dk_at dksX1_whyNot_14 21 rfl rfl)
theorem dX1_whyNot_357 : decode cX1_whyNot 357 = .ok (.iconst 0, 1) := dk_3 (dk_at dksX1_whyNot_15 0 rfl rfl)
theorem dX1_whyNot_358 : decode cX1_whyNot 358 = .ok (.goto 32, 3) := dk_167 0 32 (dk_at dksX1_whyNot_15 1 rfl rfl)
theorem dX1_whyNot_361 : decode cX1_whyNot 361 = .ok (.iload 4, 2) := dk_21 4 (dk_at dksX1_whyNot_15 4 rfl rfl)
theorem dX1_whyNot_363 : decode cX1_whyNot 363 = .ok (.iconst 0, 1) := dk_3 (dk_at dksX1_whyNot_15 6 rfl rfl)
theorem dX1_whyNot_364 : decode cX1_whyNot 364 = .ok (.sipush 255, 3) := dk_17 0 255 (dk_at dksX1_whyNot_15 7 rfl rfl)
theorem dX1_whyNot_367 : decode cX1_whyNot 367 = .ok (.invokestatic 47, 3) := dk_184 0 47 (dk_at dksX1_whyNot_15 10 rfl rfl)
theorem dX1_whyNot_370 : decode cX1_whyNot 370 = .ok (.ifCond .eq 19, 3) := dk_153 0 19 (dk_at dksX1_whyNot_15 13 rfl rfl)
theorem dX1_whyNot_373 : decode cX1_whyNot 373 = .ok (.iload 5, 2) := dk_21 5 (dk_at dksX1_whyNot_15 16 rfl rfl)
theorem dX1_whyNot_375 : decode cX1_whyNot 375 = .ok (.iconst 0, 1) := dk_3 (dk_at dksX1_whyNot_15 18 rfl rfl)
theorem dX1_whyNot_376 : decode cX1_whyNot 376 = .ok (.sipush 255, 3) := dk_17 0 255 (dk_at dksX1_whyNot_15 19 rfl rfl)
theorem dX1_whyNot_379 : decode cX1_whyNot 379 = .ok (.invokestatic 47, 3) := dk_184 0 47 (dk_at dksX1_whyNot_16 0 rfl rfl)
theorem dX1_whyNot_382 : decode cX1_whyNot 382 = .ok (.ifCond .eq 7, 3) := dk_153 0 7 (dk_at dksX1_whyNot_16 3 rfl rfl)
theorem dX1_whyNot_385 : decode cX1_whyNot 385 = .ok (.iconst (-1), 1) := dk_2 (dk_at dksX1_whyNot_16 6 rfl rfl)
theorem dX1_whyNot_386 : decode cX1_whyNot 386 = .ok (.goto 4, 3) := dk_167 0 4 (dk_at dksX1_whyNot_16 7 rfl rfl)
theorem dX1_whyNot_389 : decode cX1_whyNot 389 = .ok (.iconst 1, 1) := dk_4 (dk_at dksX1_whyNot_16 10 rfl rfl)
theorem dX1_whyNot_390 : decode cX1_whyNot 390 = .ok (.ireturn, 1) := dk_172 (dk_at dksX1_whyNot_16 11 rfl rfl)
abbrev cX1_isAddress : ByteArray := prog_1_method_30_code
def yX1_isAddress : MethodName := ⟨RX1, "isAddress", "(I)Z"⟩
def dkwX1_isAddress_1 : List UInt8 := [167, 0, 4, 3, 172]
abbrev dktX1_isAddress_1 : List UInt8 := dkwX1_isAddress_1 ++ []
def dkwX1_isAddress_0 : List UInt8 := [42, 182, 0, 243, 153, 0, 21, 27, 3, 42, 182, 0, 185, 4, 100, 184, 0, 47, 153, 0, 7, 4]
abbrev dktX1_isAddress_0 : List UInt8 := dkwX1_isAddress_0 ++ dktX1_isAddress_1
theorem dksX1_isAddress_0 : cX1_isAddress.data.toList.drop 0 = dktX1_isAddress_0 := by decide +kernel
theorem dksX1_isAddress_1 : cX1_isAddress.data.toList.drop 22 = dktX1_isAddress_1 := dk_seg dksX1_isAddress_0 22 rfl rfl
theorem dX1_isAddress_0 : decode cX1_isAddress 0 = .ok (.aload_n 0, 1) := dk_42 (dk_at dksX1_isAddress_0 0 rfl rfl)
theorem dX1_isAddress_1 : decode cX1_isAddress 1 = .ok (.invokevirtual 243, 3) := dk_182 0 243 (dk_at dksX1_isAddress_0 1 rfl rfl)
theorem dX1_isAddress_4 : decode cX1_isAddress 4 = .ok (.ifCond .eq 21, 3) := dk_153 0 21 (dk_at dksX1_isAddress_0 4 rfl rfl)
theorem dX1_isAddress_7 : decode cX1_isAddress 7 = .ok (.iload_n 1, 1) := dk_27 (dk_at dksX1_isAddress_0 7 rfl rfl)
theorem dX1_isAddress_8 : decode cX1_isAddress 8 = .ok (.iconst 0, 1) := dk_3 (dk_at dksX1_isAddress_0 8 rfl rfl)
theorem dX1_isAddress_9 : decode cX1_isAddress 9 = .ok (.aload_n 0, 1) := dk_42 (dk_at dksX1_isAddress_0 9 rfl rfl)
theorem dX1_isAddress_10 : decode cX1_isAddress 10 = .ok (.invokevirtual 185, 3) := dk_182 0 185 (dk_at dksX1_isAddress_0 10 rfl rfl)
theorem dX1_isAddress_13 : decode cX1_isAddress 13 = .ok (.iconst 1, 1) := dk_4 (dk_at dksX1_isAddress_0 13 rfl rfl)
theorem dX1_isAddress_14 : decode cX1_isAddress 14 = .ok (.isub, 1) := dk_100 (dk_at dksX1_isAddress_0 14 rfl rfl)
theorem dX1_isAddress_15 : decode cX1_isAddress 15 = .ok (.invokestatic 47, 3) := dk_184 0 47 (dk_at dksX1_isAddress_0 15 rfl rfl)
theorem dX1_isAddress_18 : decode cX1_isAddress 18 = .ok (.ifCond .eq 7, 3) := dk_153 0 7 (dk_at dksX1_isAddress_0 18 rfl rfl)
theorem dX1_isAddress_21 : decode cX1_isAddress 21 = .ok (.iconst 1, 1) := dk_4 (dk_at dksX1_isAddress_0 21 rfl rfl)
theorem dX1_isAddress_22 : decode cX1_isAddress 22 = .ok (.goto 4, 3) := dk_167 0 4 (dk_at dksX1_isAddress_1 0 rfl rfl)
theorem dX1_isAddress_25 : decode cX1_isAddress 25 = .ok (.iconst 0, 1) := dk_3 (dk_at dksX1_isAddress_1 3 rfl rfl)
theorem dX1_isAddress_26 : decode cX1_isAddress 26 = .ok (.ireturn, 1) := dk_172 (dk_at dksX1_isAddress_1 4 rfl rfl)
abbrev cX1_isShelf : ByteArray := prog_1_method_22_code
def yX1_isShelf : MethodName := ⟨RX1, "isShelf", "()Z"⟩
def dkwX1_isShelf_0 : List UInt8 := [42, 180, 0, 178, 198, 0, 7, 4, 167, 0, 4, 3, 172]
abbrev dktX1_isShelf_0 : List UInt8 := dkwX1_isShelf_0 ++ []
theorem dksX1_isShelf_0 : cX1_isShelf.data.toList.drop 0 = dktX1_isShelf_0 := by decide +kernel
theorem dX1_isShelf_0 : decode cX1_isShelf 0 = .ok (.aload_n 0, 1) := dk_42 (dk_at dksX1_isShelf_0 0 rfl rfl)
theorem dX1_isShelf_1 : decode cX1_isShelf 1 = .ok (.getfield 178, 3) := dk_180 0 178 (dk_at dksX1_isShelf_0 1 rfl rfl)
theorem dX1_isShelf_4 : decode cX1_isShelf 4 = .ok (.ifnull 7, 3) := dk_198 0 7 (dk_at dksX1_isShelf_0 4 rfl rfl)
theorem dX1_isShelf_7 : decode cX1_isShelf 7 = .ok (.iconst 1, 1) := dk_4 (dk_at dksX1_isShelf_0 7 rfl rfl)
theorem dX1_isShelf_8 : decode cX1_isShelf 8 = .ok (.goto 4, 3) := dk_167 0 4 (dk_at dksX1_isShelf_0 8 rfl rfl)
theorem dX1_isShelf_11 : decode cX1_isShelf 11 = .ok (.iconst 0, 1) := dk_3 (dk_at dksX1_isShelf_0 11 rfl rfl)
theorem dX1_isShelf_12 : decode cX1_isShelf 12 = .ok (.ireturn, 1) := dk_172 (dk_at dksX1_isShelf_0 12 rfl rfl)
abbrev cX1_isDisk : ByteArray := prog_1_method_28_code
def yX1_isDisk : MethodName := ⟨RX1, "isDisk", "(I)Z"⟩
def dkwX1_isDisk_1 : List UInt8 := [167, 0, 4, 3, 172]
abbrev dktX1_isDisk_1 : List UInt8 := dkwX1_isDisk_1 ++ []
def dkwX1_isDisk_0 : List UInt8 := [42, 182, 0, 243, 153, 0, 21, 27, 3, 42, 182, 0, 247, 4, 100, 184, 0, 47, 153, 0, 7, 4]
abbrev dktX1_isDisk_0 : List UInt8 := dkwX1_isDisk_0 ++ dktX1_isDisk_1
theorem dksX1_isDisk_0 : cX1_isDisk.data.toList.drop 0 = dktX1_isDisk_0 := by decide +kernel
theorem dksX1_isDisk_1 : cX1_isDisk.data.toList.drop 22 = dktX1_isDisk_1 := dk_seg dksX1_isDisk_0 22 rfl rfl
theorem dX1_isDisk_0 : decode cX1_isDisk 0 = .ok (.aload_n 0, 1) := dk_42 (dk_at dksX1_isDisk_0 0 rfl rfl)
theorem dX1_isDisk_1 : decode cX1_isDisk 1 = .ok (.invokevirtual 243, 3) := dk_182 0 243 (dk_at dksX1_isDisk_0 1 rfl rfl)
theorem dX1_isDisk_4 : decode cX1_isDisk 4 = .ok (.ifCond .eq 21, 3) := dk_153 0 21 (dk_at dksX1_isDisk_0 4 rfl rfl)
theorem dX1_isDisk_7 : decode cX1_isDisk 7 = .ok (.iload_n 1, 1) := dk_27 (dk_at dksX1_isDisk_0 7 rfl rfl)
theorem dX1_isDisk_8 : decode cX1_isDisk 8 = .ok (.iconst 0, 1) := dk_3 (dk_at dksX1_isDisk_0 8 rfl rfl)
theorem dX1_isDisk_9 : decode cX1_isDisk 9 = .ok (.aload_n 0, 1) := dk_42 (dk_at dksX1_isDisk_0 9 rfl rfl)
theorem dX1_isDisk_10 : decode cX1_isDisk 10 = .ok (.invokevirtual 247, 3) := dk_182 0 247 (dk_at dksX1_isDisk_0 10 rfl rfl)
theorem dX1_isDisk_13 : decode cX1_isDisk 13 = .ok (.iconst 1, 1) := dk_4 (dk_at dksX1_isDisk_0 13 rfl rfl)
theorem dX1_isDisk_14 : decode cX1_isDisk 14 = .ok (.isub, 1) := dk_100 (dk_at dksX1_isDisk_0 14 rfl rfl)
theorem dX1_isDisk_15 : decode cX1_isDisk 15 = .ok (.invokestatic 47, 3) := dk_184 0 47 (dk_at dksX1_isDisk_0 15 rfl rfl)
theorem dX1_isDisk_18 : decode cX1_isDisk 18 = .ok (.ifCond .eq 7, 3) := dk_153 0 7 (dk_at dksX1_isDisk_0 18 rfl rfl)
theorem dX1_isDisk_21 : decode cX1_isDisk 21 = .ok (.iconst 1, 1) := dk_4 (dk_at dksX1_isDisk_0 21 rfl rfl)
theorem dX1_isDisk_22 : decode cX1_isDisk 22 = .ok (.goto 4, 3) := dk_167 0 4 (dk_at dksX1_isDisk_1 0 rfl rfl)
theorem dX1_isDisk_25 : decode cX1_isDisk 25 = .ok (.iconst 0, 1) := dk_3 (dk_at dksX1_isDisk_1 3 rfl rfl)
theorem dX1_isDisk_26 : decode cX1_isDisk 26 = .ok (.ireturn, 1) := dk_172 (dk_at dksX1_isDisk_1 4 rfl rfl)
abbrev cX1_lostMany : ByteArray := prog_1_method_51_code
def yX1_lostMany : MethodName := ⟨RX1, "lostMany", "()I"⟩
def dkwX1_lostMany_1 : List UInt8 := [132, 1, 1, 132, 2, 1, 167, 255, 230, 27, 172]
abbrev dktX1_lostMany_1 : List UInt8 := dkwX1_lostMany_1 ++ []
def dkwX1_lostMany_0 : List UInt8 := [3, 60, 3, 61, 28, 42, 182, 0, 247, 162, 0, 24, 42, 180, 0, 178, 180, 1, 88, 28, 46, 153, 0, 6]
abbrev dktX1_lostMany_0 : List UInt8 := dkwX1_lostMany_0 ++ dktX1_lostMany_1
theorem dksX1_lostMany_0 : cX1_lostMany.data.toList.drop 0 = dktX1_lostMany_0 := by decide +kernel
theorem dksX1_lostMany_1 : cX1_lostMany.data.toList.drop 24 = dktX1_lostMany_1 := dk_seg dksX1_lostMany_0 24 rfl rfl
theorem dX1_lostMany_0 : decode cX1_lostMany 0 = .ok (.iconst 0, 1) := dk_3 (dk_at dksX1_lostMany_0 0 rfl rfl)
theorem dX1_lostMany_1 : decode cX1_lostMany 1 = .ok (.istore_n 1, 1) := dk_60 (dk_at dksX1_lostMany_0 1 rfl rfl)
theorem dX1_lostMany_2 : decode cX1_lostMany 2 = .ok (.iconst 0, 1) := dk_3 (dk_at dksX1_lostMany_0 2 rfl rfl)
theorem dX1_lostMany_3 : decode cX1_lostMany 3 = .ok (.istore_n 2, 1) := dk_61 (dk_at dksX1_lostMany_0 3 rfl rfl)
theorem dX1_lostMany_4 : decode cX1_lostMany 4 = .ok (.iload_n 2, 1) := dk_28 (dk_at dksX1_lostMany_0 4 rfl rfl)
theorem dX1_lostMany_5 : decode cX1_lostMany 5 = .ok (.aload_n 0, 1) := dk_42 (dk_at dksX1_lostMany_0 5 rfl rfl)
theorem dX1_lostMany_6 : decode cX1_lostMany 6 = .ok (.invokevirtual 247, 3) := dk_182 0 247 (dk_at dksX1_lostMany_0 6 rfl rfl)
theorem dX1_lostMany_9 : decode cX1_lostMany 9 = .ok (.if_icmp .ge 24, 3) := dk_162 0 24 (dk_at dksX1_lostMany_0 9 rfl rfl)
theorem dX1_lostMany_12 : decode cX1_lostMany 12 = .ok (.aload_n 0, 1) := dk_42 (dk_at dksX1_lostMany_0 12 rfl rfl)
theorem dX1_lostMany_13 : decode cX1_lostMany 13 = .ok (.getfield 178, 3) := dk_180 0 178 (dk_at dksX1_lostMany_0 13 rfl rfl)
theorem dX1_lostMany_16 : decode cX1_lostMany 16 = .ok (.getfield 344, 3) := dk_180 1 88 (dk_at dksX1_lostMany_0 16 rfl rfl)
theorem dX1_lostMany_19 : decode cX1_lostMany 19 = .ok (.iload_n 2, 1) := dk_28 (dk_at dksX1_lostMany_0 19 rfl rfl)
theorem dX1_lostMany_20 : decode cX1_lostMany 20 = .ok (.iaload, 1) := dk_46 (dk_at dksX1_lostMany_0 20 rfl rfl)
theorem dX1_lostMany_21 : decode cX1_lostMany 21 = .ok (.ifCond .eq 6, 3) := dk_153 0 6 (dk_at dksX1_lostMany_0 21 rfl rfl)
theorem dX1_lostMany_24 : decode cX1_lostMany 24 = .ok (.iinc 1 1, 3) := dk_132 1 1 (dk_at dksX1_lostMany_1 0 rfl rfl)
theorem dX1_lostMany_27 : decode cX1_lostMany 27 = .ok (.iinc 2 1, 3) := dk_132 2 1 (dk_at dksX1_lostMany_1 3 rfl rfl)
theorem dX1_lostMany_30 : decode cX1_lostMany 30 = .ok (.goto (-26), 3) := dk_167 255 230 (dk_at dksX1_lostMany_1 6 rfl rfl)
theorem dX1_lostMany_33 : decode cX1_lostMany 33 = .ok (.iload_n 1, 1) := dk_27 (dk_at dksX1_lostMany_1 9 rfl rfl)
theorem dX1_lostMany_34 : decode cX1_lostMany 34 = .ok (.ireturn, 1) := dk_172 (dk_at dksX1_lostMany_1 10 rfl rfl)
abbrev cX1_whyNotSpoilt : ByteArray := prog_1_method_66_code
def yX1_whyNotSpoilt : MethodName := ⟨RX1, "whyNotSpoilt", "(IIII)I"⟩
def dkwX1_whyNotSpoilt_2 : List UInt8 := [42, 180, 0, 178, 27, 28, 182, 1, 0, 153, 0, 7, 2, 167, 0, 4, 5, 172]
abbrev dktX1_whyNotSpoilt_2 : List UInt8 := dkwX1_whyNotSpoilt_2 ++ []
def dkwX1_whyNotSpoilt_1 : List UInt8 := [184, 0, 47, 154, 0, 5, 3, 172, 21, 4, 4, 17, 0, 255, 184, 0, 47, 154, 0, 7, 4, 167, 0, 20]
abbrev dktX1_whyNotSpoilt_1 : List UInt8 := dkwX1_whyNotSpoilt_1 ++ dktX1_whyNotSpoilt_2
def dkwX1_whyNotSpoilt_0 : List UInt8 := [42, 27, 182, 1, 151, 153, 0, 25, 42, 28, 182, 1, 154, 153, 0, 17, 29, 3, 42, 182, 0, 240, 4, 100]
abbrev dktX1_whyNotSpoilt_0 : List UInt8 := dkwX1_whyNotSpoilt_0 ++ dktX1_whyNotSpoilt_1
theorem dksX1_whyNotSpoilt_0 : cX1_whyNotSpoilt.data.toList.drop 0 = dktX1_whyNotSpoilt_0 := by decide +kernel
theorem dksX1_whyNotSpoilt_1 : cX1_whyNotSpoilt.data.toList.drop 24 = dktX1_whyNotSpoilt_1 := dk_seg dksX1_whyNotSpoilt_0 24 rfl rfl
theorem dksX1_whyNotSpoilt_2 : cX1_whyNotSpoilt.data.toList.drop 48 = dktX1_whyNotSpoilt_2 := dk_seg dksX1_whyNotSpoilt_1 24 rfl rfl
theorem dX1_whyNotSpoilt_0 : decode cX1_whyNotSpoilt 0 = .ok (.aload_n 0, 1) := dk_42 (dk_at dksX1_whyNotSpoilt_0 0 rfl rfl)
theorem dX1_whyNotSpoilt_1 : decode cX1_whyNotSpoilt 1 = .ok (.iload_n 1, 1) := dk_27 (dk_at dksX1_whyNotSpoilt_0 1 rfl rfl)
theorem dX1_whyNotSpoilt_2 : decode cX1_whyNotSpoilt 2 = .ok (.invokevirtual 407, 3) := dk_182 1 151 (dk_at dksX1_whyNotSpoilt_0 2 rfl rfl)
theorem dX1_whyNotSpoilt_5 : decode cX1_whyNotSpoilt 5 = .ok (.ifCond .eq 25, 3) := dk_153 0 25 (dk_at dksX1_whyNotSpoilt_0 5 rfl rfl)
theorem dX1_whyNotSpoilt_8 : decode cX1_whyNotSpoilt 8 = .ok (.aload_n 0, 1) := dk_42 (dk_at dksX1_whyNotSpoilt_0 8 rfl rfl)
theorem dX1_whyNotSpoilt_9 : decode cX1_whyNotSpoilt 9 = .ok (.iload_n 2, 1) := dk_28 (dk_at dksX1_whyNotSpoilt_0 9 rfl rfl)
theorem dX1_whyNotSpoilt_10 : decode cX1_whyNotSpoilt 10 = .ok (.invokevirtual 410, 3) := dk_182 1 154 (dk_at dksX1_whyNotSpoilt_0 10 rfl rfl)
theorem dX1_whyNotSpoilt_13 : decode cX1_whyNotSpoilt 13 = .ok (.ifCond .eq 17, 3) := dk_153 0 17 (dk_at dksX1_whyNotSpoilt_0 13 rfl rfl)
theorem dX1_whyNotSpoilt_16 : decode cX1_whyNotSpoilt 16 = .ok (.iload_n 3, 1) := dk_29 (dk_at dksX1_whyNotSpoilt_0 16 rfl rfl)
theorem dX1_whyNotSpoilt_17 : decode cX1_whyNotSpoilt 17 = .ok (.iconst 0, 1) := dk_3 (dk_at dksX1_whyNotSpoilt_0 17 rfl rfl)
theorem dX1_whyNotSpoilt_18 : decode cX1_whyNotSpoilt 18 = .ok (.aload_n 0, 1) := dk_42 (dk_at dksX1_whyNotSpoilt_0 18 rfl rfl)
theorem dX1_whyNotSpoilt_19 : decode cX1_whyNotSpoilt 19 = .ok (.invokevirtual 240, 3) := dk_182 0 240 (dk_at dksX1_whyNotSpoilt_0 19 rfl rfl)
theorem dX1_whyNotSpoilt_22 : decode cX1_whyNotSpoilt 22 = .ok (.iconst 1, 1) := dk_4 (dk_at dksX1_whyNotSpoilt_0 22 rfl rfl)
theorem dX1_whyNotSpoilt_23 : decode cX1_whyNotSpoilt 23 = .ok (.isub, 1) := dk_100 (dk_at dksX1_whyNotSpoilt_0 23 rfl rfl)
theorem dX1_whyNotSpoilt_24 : decode cX1_whyNotSpoilt 24 = .ok (.invokestatic 47, 3) := dk_184 0 47 (dk_at dksX1_whyNotSpoilt_1 0 rfl rfl)
theorem dX1_whyNotSpoilt_27 : decode cX1_whyNotSpoilt 27 = .ok (.ifCond .ne 5, 3) := dk_154 0 5 (dk_at dksX1_whyNotSpoilt_1 3 rfl rfl)
theorem dX1_whyNotSpoilt_30 : decode cX1_whyNotSpoilt 30 = .ok (.iconst 0, 1) := dk_3 (dk_at dksX1_whyNotSpoilt_1 6 rfl rfl)
theorem dX1_whyNotSpoilt_31 : decode cX1_whyNotSpoilt 31 = .ok (.ireturn, 1) := dk_172 (dk_at dksX1_whyNotSpoilt_1 7 rfl rfl)
theorem dX1_whyNotSpoilt_32 : decode cX1_whyNotSpoilt 32 = .ok (.iload 4, 2) := dk_21 4 (dk_at dksX1_whyNotSpoilt_1 8 rfl rfl)
theorem dX1_whyNotSpoilt_34 : decode cX1_whyNotSpoilt 34 = .ok (.iconst 1, 1) := dk_4 (dk_at dksX1_whyNotSpoilt_1 10 rfl rfl)
theorem dX1_whyNotSpoilt_35 : decode cX1_whyNotSpoilt 35 = .ok (.sipush 255, 3) := dk_17 0 255 (dk_at dksX1_whyNotSpoilt_1 11 rfl rfl)
theorem dX1_whyNotSpoilt_38 : decode cX1_whyNotSpoilt 38 = .ok (.invokestatic 47, 3) := dk_184 0 47 (dk_at dksX1_whyNotSpoilt_1 14 rfl rfl)
theorem dX1_whyNotSpoilt_41 : decode cX1_whyNotSpoilt 41 = .ok (.ifCond .ne 7, 3) := dk_154 0 7 (dk_at dksX1_whyNotSpoilt_1 17 rfl rfl)
theorem dX1_whyNotSpoilt_44 : decode cX1_whyNotSpoilt 44 = .ok (.iconst 1, 1) := dk_4 (dk_at dksX1_whyNotSpoilt_1 20 rfl rfl)
theorem dX1_whyNotSpoilt_45 : decode cX1_whyNotSpoilt 45 = .ok (.goto 20, 3) := dk_167 0 20 (dk_at dksX1_whyNotSpoilt_1 21 rfl rfl)
theorem dX1_whyNotSpoilt_48 : decode cX1_whyNotSpoilt 48 = .ok (.aload_n 0, 1) := dk_42 (dk_at dksX1_whyNotSpoilt_2 0 rfl rfl)
theorem dX1_whyNotSpoilt_49 : decode cX1_whyNotSpoilt 49 = .ok (.getfield 178, 3) := dk_180 0 178 (dk_at dksX1_whyNotSpoilt_2 1 rfl rfl)
theorem dX1_whyNotSpoilt_52 : decode cX1_whyNotSpoilt 52 = .ok (.iload_n 1, 1) := dk_27 (dk_at dksX1_whyNotSpoilt_2 4 rfl rfl)
theorem dX1_whyNotSpoilt_53 : decode cX1_whyNotSpoilt 53 = .ok (.iload_n 2, 1) := dk_28 (dk_at dksX1_whyNotSpoilt_2 5 rfl rfl)
theorem dX1_whyNotSpoilt_54 : decode cX1_whyNotSpoilt 54 = .ok (.invokevirtual 256, 3) := dk_182 1 0 (dk_at dksX1_whyNotSpoilt_2 6 rfl rfl)
theorem dX1_whyNotSpoilt_57 : decode cX1_whyNotSpoilt 57 = .ok (.ifCond .eq 7, 3) := dk_153 0 7 (dk_at dksX1_whyNotSpoilt_2 9 rfl rfl)
theorem dX1_whyNotSpoilt_60 : decode cX1_whyNotSpoilt 60 = .ok (.iconst (-1), 1) := dk_2 (dk_at dksX1_whyNotSpoilt_2 12 rfl rfl)
theorem dX1_whyNotSpoilt_61 : decode cX1_whyNotSpoilt 61 = .ok (.goto 4, 3) := dk_167 0 4 (dk_at dksX1_whyNotSpoilt_2 13 rfl rfl)
theorem dX1_whyNotSpoilt_64 : decode cX1_whyNotSpoilt 64 = .ok (.iconst 2, 1) := dk_5 (dk_at dksX1_whyNotSpoilt_2 16 rfl rfl)
theorem dX1_whyNotSpoilt_65 : decode cX1_whyNotSpoilt 65 = .ok (.ireturn, 1) := dk_172 (dk_at dksX1_whyNotSpoilt_2 17 rfl rfl)
abbrev cX1_isStripe : ByteArray := prog_1_method_29_code
def yX1_isStripe : MethodName := ⟨RX1, "isStripe", "(I)Z"⟩
def dkwX1_isStripe_1 : List UInt8 := [167, 0, 4, 3, 172]
abbrev dktX1_isStripe_1 : List UInt8 := dkwX1_isStripe_1 ++ []
def dkwX1_isStripe_0 : List UInt8 := [42, 182, 0, 243, 153, 0, 21, 27, 3, 42, 182, 0, 237, 4, 100, 184, 0, 47, 153, 0, 7, 4]
abbrev dktX1_isStripe_0 : List UInt8 := dkwX1_isStripe_0 ++ dktX1_isStripe_1
theorem dksX1_isStripe_0 : cX1_isStripe.data.toList.drop 0 = dktX1_isStripe_0 := by decide +kernel
theorem dksX1_isStripe_1 : cX1_isStripe.data.toList.drop 22 = dktX1_isStripe_1 := dk_seg dksX1_isStripe_0 22 rfl rfl
theorem dX1_isStripe_0 : decode cX1_isStripe 0 = .ok (.aload_n 0, 1) := dk_42 (dk_at dksX1_isStripe_0 0 rfl rfl)
theorem dX1_isStripe_1 : decode cX1_isStripe 1 = .ok (.invokevirtual 243, 3) := dk_182 0 243 (dk_at dksX1_isStripe_0 1 rfl rfl)
theorem dX1_isStripe_4 : decode cX1_isStripe 4 = .ok (.ifCond .eq 21, 3) := dk_153 0 21 (dk_at dksX1_isStripe_0 4 rfl rfl)
theorem dX1_isStripe_7 : decode cX1_isStripe 7 = .ok (.iload_n 1, 1) := dk_27 (dk_at dksX1_isStripe_0 7 rfl rfl)
theorem dX1_isStripe_8 : decode cX1_isStripe 8 = .ok (.iconst 0, 1) := dk_3 (dk_at dksX1_isStripe_0 8 rfl rfl)
theorem dX1_isStripe_9 : decode cX1_isStripe 9 = .ok (.aload_n 0, 1) := dk_42 (dk_at dksX1_isStripe_0 9 rfl rfl)
theorem dX1_isStripe_10 : decode cX1_isStripe 10 = .ok (.invokevirtual 237, 3) := dk_182 0 237 (dk_at dksX1_isStripe_0 10 rfl rfl)
theorem dX1_isStripe_13 : decode cX1_isStripe 13 = .ok (.iconst 1, 1) := dk_4 (dk_at dksX1_isStripe_0 13 rfl rfl)
theorem dX1_isStripe_14 : decode cX1_isStripe 14 = .ok (.isub, 1) := dk_100 (dk_at dksX1_isStripe_0 14 rfl rfl)
theorem dX1_isStripe_15 : decode cX1_isStripe 15 = .ok (.invokestatic 47, 3) := dk_184 0 47 (dk_at dksX1_isStripe_0 15 rfl rfl)
theorem dX1_isStripe_18 : decode cX1_isStripe 18 = .ok (.ifCond .eq 7, 3) := dk_153 0 7 (dk_at dksX1_isStripe_0 18 rfl rfl)
theorem dX1_isStripe_21 : decode cX1_isStripe 21 = .ok (.iconst 1, 1) := dk_4 (dk_at dksX1_isStripe_0 21 rfl rfl)
theorem dX1_isStripe_22 : decode cX1_isStripe 22 = .ok (.goto 4, 3) := dk_167 0 4 (dk_at dksX1_isStripe_1 0 rfl rfl)
theorem dX1_isStripe_25 : decode cX1_isStripe 25 = .ok (.iconst 0, 1) := dk_3 (dk_at dksX1_isStripe_1 3 rfl rfl)
theorem dX1_isStripe_26 : decode cX1_isStripe 26 = .ok (.ireturn, 1) := dk_172 (dk_at dksX1_isStripe_1 4 rfl rfl)
abbrev cX1_isAllThere : ByteArray := prog_1_method_65_code
def yX1_isAllThere : MethodName := ⟨RX1, "isAllThere", "(I)Z"⟩
def dkwX1_isAllThere_2 : List UInt8 := [182, 1, 32, 153, 0, 7, 4, 167, 0, 4, 3, 172]
abbrev dktX1_isAllThere_2 : List UInt8 := dkwX1_isAllThere_2 ++ []
def dkwX1_isAllThere_1 : List UInt8 := [180, 0, 197, 42, 182, 0, 234, 182, 1, 32, 153, 0, 24, 42, 42, 180, 0, 197, 42, 182, 0, 234, 4, 96]
abbrev dktX1_isAllThere_1 : List UInt8 := dkwX1_isAllThere_1 ++ dktX1_isAllThere_2
def dkwX1_isAllThere_0 : List UInt8 := [42, 27, 182, 0, 188, 42, 42, 180, 0, 197, 42, 180, 0, 253, 182, 1, 32, 153, 0, 39, 42, 42]
abbrev dktX1_isAllThere_0 : List UInt8 := dkwX1_isAllThere_0 ++ dktX1_isAllThere_1
theorem dksX1_isAllThere_0 : cX1_isAllThere.data.toList.drop 0 = dktX1_isAllThere_0 := by decide +kernel
theorem dksX1_isAllThere_1 : cX1_isAllThere.data.toList.drop 22 = dktX1_isAllThere_1 := dk_seg dksX1_isAllThere_0 22 rfl rfl
theorem dksX1_isAllThere_2 : cX1_isAllThere.data.toList.drop 46 = dktX1_isAllThere_2 := dk_seg dksX1_isAllThere_1 24 rfl rfl
theorem dX1_isAllThere_0 : decode cX1_isAllThere 0 = .ok (.aload_n 0, 1) := dk_42 (dk_at dksX1_isAllThere_0 0 rfl rfl)
theorem dX1_isAllThere_1 : decode cX1_isAllThere 1 = .ok (.iload_n 1, 1) := dk_27 (dk_at dksX1_isAllThere_0 1 rfl rfl)
theorem dX1_isAllThere_2 : decode cX1_isAllThere 2 = .ok (.invokevirtual 188, 3) := dk_182 0 188 (dk_at dksX1_isAllThere_0 2 rfl rfl)
theorem dX1_isAllThere_5 : decode cX1_isAllThere 5 = .ok (.aload_n 0, 1) := dk_42 (dk_at dksX1_isAllThere_0 5 rfl rfl)
theorem dX1_isAllThere_6 : decode cX1_isAllThere 6 = .ok (.aload_n 0, 1) := dk_42 (dk_at dksX1_isAllThere_0 6 rfl rfl)
theorem dX1_isAllThere_7 : decode cX1_isAllThere 7 = .ok (.getfield 197, 3) := dk_180 0 197 (dk_at dksX1_isAllThere_0 7 rfl rfl)
theorem dX1_isAllThere_10 : decode cX1_isAllThere 10 = .ok (.aload_n 0, 1) := dk_42 (dk_at dksX1_isAllThere_0 10 rfl rfl)
theorem dX1_isAllThere_11 : decode cX1_isAllThere 11 = .ok (.getfield 253, 3) := dk_180 0 253 (dk_at dksX1_isAllThere_0 11 rfl rfl)
theorem dX1_isAllThere_14 : decode cX1_isAllThere 14 = .ok (.invokevirtual 288, 3) := dk_182 1 32 (dk_at dksX1_isAllThere_0 14 rfl rfl)
theorem dX1_isAllThere_17 : decode cX1_isAllThere 17 = .ok (.ifCond .eq 39, 3) := dk_153 0 39 (dk_at dksX1_isAllThere_0 17 rfl rfl)
theorem dX1_isAllThere_20 : decode cX1_isAllThere 20 = .ok (.aload_n 0, 1) := dk_42 (dk_at dksX1_isAllThere_0 20 rfl rfl)
theorem dX1_isAllThere_21 : decode cX1_isAllThere 21 = .ok (.aload_n 0, 1) := dk_42 (dk_at dksX1_isAllThere_0 21 rfl rfl)
theorem dX1_isAllThere_22 : decode cX1_isAllThere 22 = .ok (.getfield 197, 3) := dk_180 0 197 (dk_at dksX1_isAllThere_1 0 rfl rfl)
theorem dX1_isAllThere_25 : decode cX1_isAllThere 25 = .ok (.aload_n 0, 1) := dk_42 (dk_at dksX1_isAllThere_1 3 rfl rfl)
theorem dX1_isAllThere_26 : decode cX1_isAllThere 26 = .ok (.invokevirtual 234, 3) := dk_182 0 234 (dk_at dksX1_isAllThere_1 4 rfl rfl)
theorem dX1_isAllThere_29 : decode cX1_isAllThere 29 = .ok (.invokevirtual 288, 3) := dk_182 1 32 (dk_at dksX1_isAllThere_1 7 rfl rfl)
theorem dX1_isAllThere_32 : decode cX1_isAllThere 32 = .ok (.ifCond .eq 24, 3) := dk_153 0 24 (dk_at dksX1_isAllThere_1 10 rfl rfl)
theorem dX1_isAllThere_35 : decode cX1_isAllThere 35 = .ok (.aload_n 0, 1) := dk_42 (dk_at dksX1_isAllThere_1 13 rfl rfl)
theorem dX1_isAllThere_36 : decode cX1_isAllThere 36 = .ok (.aload_n 0, 1) := dk_42 (dk_at dksX1_isAllThere_1 14 rfl rfl)
theorem dX1_isAllThere_37 : decode cX1_isAllThere 37 = .ok (.getfield 197, 3) := dk_180 0 197 (dk_at dksX1_isAllThere_1 15 rfl rfl)
theorem dX1_isAllThere_40 : decode cX1_isAllThere 40 = .ok (.aload_n 0, 1) := dk_42 (dk_at dksX1_isAllThere_1 18 rfl rfl)
theorem dX1_isAllThere_41 : decode cX1_isAllThere 41 = .ok (.invokevirtual 234, 3) := dk_182 0 234 (dk_at dksX1_isAllThere_1 19 rfl rfl)
theorem dX1_isAllThere_44 : decode cX1_isAllThere 44 = .ok (.iconst 1, 1) := dk_4 (dk_at dksX1_isAllThere_1 22 rfl rfl)
theorem dX1_isAllThere_45 : decode cX1_isAllThere 45 = .ok (.iadd, 1) := dk_96 (dk_at dksX1_isAllThere_1 23 rfl rfl)
theorem dX1_isAllThere_46 : decode cX1_isAllThere 46 = .ok (.invokevirtual 288, 3) := dk_182 1 32 (dk_at dksX1_isAllThere_2 0 rfl rfl)
theorem dX1_isAllThere_49 : decode cX1_isAllThere 49 = .ok (.ifCond .eq 7, 3) := dk_153 0 7 (dk_at dksX1_isAllThere_2 3 rfl rfl)
theorem dX1_isAllThere_52 : decode cX1_isAllThere 52 = .ok (.iconst 1, 1) := dk_4 (dk_at dksX1_isAllThere_2 6 rfl rfl)
theorem dX1_isAllThere_53 : decode cX1_isAllThere 53 = .ok (.goto 4, 3) := dk_167 0 4 (dk_at dksX1_isAllThere_2 7 rfl rfl)
theorem dX1_isAllThere_56 : decode cX1_isAllThere 56 = .ok (.iconst 0, 1) := dk_3 (dk_at dksX1_isAllThere_2 10 rfl rfl)
theorem dX1_isAllThere_57 : decode cX1_isAllThere 57 = .ok (.ireturn, 1) := dk_172 (dk_at dksX1_isAllThere_2 11 rfl rfl)
abbrev cX1_cleanable : ByteArray := prog_1_method_62_code
def yX1_cleanable : MethodName := ⟨RX1, "cleanable", "()I"⟩
def dkwX1_cleanable_2 : List UInt8 := [172]
abbrev dktX1_cleanable_2 : List UInt8 := dkwX1_cleanable_2 ++ []
def dkwX1_cleanable_1 : List UInt8 := [153, 0, 17, 42, 28, 182, 1, 33, 154, 0, 9, 27, 4, 28, 120, 128, 60, 132, 2, 1, 167, 255, 217, 27]
abbrev dktX1_cleanable_1 : List UInt8 := dkwX1_cleanable_1 ++ dktX1_cleanable_2
def dkwX1_cleanable_0 : List UInt8 := [3, 60, 3, 61, 28, 42, 182, 0, 237, 162, 0, 37, 42, 180, 0, 178, 180, 1, 106, 28, 184, 0, 82]
abbrev dktX1_cleanable_0 : List UInt8 := dkwX1_cleanable_0 ++ dktX1_cleanable_1
theorem dksX1_cleanable_0 : cX1_cleanable.data.toList.drop 0 = dktX1_cleanable_0 := by decide +kernel
theorem dksX1_cleanable_1 : cX1_cleanable.data.toList.drop 23 = dktX1_cleanable_1 := dk_seg dksX1_cleanable_0 23 rfl rfl
theorem dksX1_cleanable_2 : cX1_cleanable.data.toList.drop 47 = dktX1_cleanable_2 := dk_seg dksX1_cleanable_1 24 rfl rfl
theorem dX1_cleanable_0 : decode cX1_cleanable 0 = .ok (.iconst 0, 1) := dk_3 (dk_at dksX1_cleanable_0 0 rfl rfl)
theorem dX1_cleanable_1 : decode cX1_cleanable 1 = .ok (.istore_n 1, 1) := dk_60 (dk_at dksX1_cleanable_0 1 rfl rfl)
theorem dX1_cleanable_2 : decode cX1_cleanable 2 = .ok (.iconst 0, 1) := dk_3 (dk_at dksX1_cleanable_0 2 rfl rfl)
theorem dX1_cleanable_3 : decode cX1_cleanable 3 = .ok (.istore_n 2, 1) := dk_61 (dk_at dksX1_cleanable_0 3 rfl rfl)
theorem dX1_cleanable_4 : decode cX1_cleanable 4 = .ok (.iload_n 2, 1) := dk_28 (dk_at dksX1_cleanable_0 4 rfl rfl)
theorem dX1_cleanable_5 : decode cX1_cleanable 5 = .ok (.aload_n 0, 1) := dk_42 (dk_at dksX1_cleanable_0 5 rfl rfl)
theorem dX1_cleanable_6 : decode cX1_cleanable 6 = .ok (.invokevirtual 237, 3) := dk_182 0 237 (dk_at dksX1_cleanable_0 6 rfl rfl)
theorem dX1_cleanable_9 : decode cX1_cleanable 9 = .ok (.if_icmp .ge 37, 3) := dk_162 0 37 (dk_at dksX1_cleanable_0 9 rfl rfl)
theorem dX1_cleanable_12 : decode cX1_cleanable 12 = .ok (.aload_n 0, 1) := dk_42 (dk_at dksX1_cleanable_0 12 rfl rfl)
theorem dX1_cleanable_13 : decode cX1_cleanable 13 = .ok (.getfield 178, 3) := dk_180 0 178 (dk_at dksX1_cleanable_0 13 rfl rfl)
theorem dX1_cleanable_16 : decode cX1_cleanable 16 = .ok (.getfield 362, 3) := dk_180 1 106 (dk_at dksX1_cleanable_0 16 rfl rfl)
theorem dX1_cleanable_19 : decode cX1_cleanable 19 = .ok (.iload_n 2, 1) := dk_28 (dk_at dksX1_cleanable_0 19 rfl rfl)
theorem dX1_cleanable_20 : decode cX1_cleanable 20 = .ok (.invokestatic 82, 3) := dk_184 0 82 (dk_at dksX1_cleanable_0 20 rfl rfl)
theorem dX1_cleanable_23 : decode cX1_cleanable 23 = .ok (.ifCond .eq 17, 3) := dk_153 0 17 (dk_at dksX1_cleanable_1 0 rfl rfl)
theorem dX1_cleanable_26 : decode cX1_cleanable 26 = .ok (.aload_n 0, 1) := dk_42 (dk_at dksX1_cleanable_1 3 rfl rfl)
theorem dX1_cleanable_27 : decode cX1_cleanable 27 = .ok (.iload_n 2, 1) := dk_28 (dk_at dksX1_cleanable_1 4 rfl rfl)
theorem dX1_cleanable_28 : decode cX1_cleanable 28 = .ok (.invokevirtual 289, 3) := dk_182 1 33 (dk_at dksX1_cleanable_1 5 rfl rfl)
theorem dX1_cleanable_31 : decode cX1_cleanable 31 = .ok (.ifCond .ne 9, 3) := dk_154 0 9 (dk_at dksX1_cleanable_1 8 rfl rfl)
theorem dX1_cleanable_34 : decode cX1_cleanable 34 = .ok (.iload_n 1, 1) := dk_27 (dk_at dksX1_cleanable_1 11 rfl rfl)
theorem dX1_cleanable_35 : decode cX1_cleanable 35 = .ok (.iconst 1, 1) := dk_4 (dk_at dksX1_cleanable_1 12 rfl rfl)
theorem dX1_cleanable_36 : decode cX1_cleanable 36 = .ok (.iload_n 2, 1) := dk_28 (dk_at dksX1_cleanable_1 13 rfl rfl)
theorem dX1_cleanable_37 : decode cX1_cleanable 37 = .ok (.ishl, 1) := dk_120 (dk_at dksX1_cleanable_1 14 rfl rfl)
theorem dX1_cleanable_38 : decode cX1_cleanable 38 = .ok (.ior, 1) := dk_128 (dk_at dksX1_cleanable_1 15 rfl rfl)
theorem dX1_cleanable_39 : decode cX1_cleanable 39 = .ok (.istore_n 1, 1) := dk_60 (dk_at dksX1_cleanable_1 16 rfl rfl)
theorem dX1_cleanable_40 : decode cX1_cleanable 40 = .ok (.iinc 2 1, 3) := dk_132 2 1 (dk_at dksX1_cleanable_1 17 rfl rfl)
theorem dX1_cleanable_43 : decode cX1_cleanable 43 = .ok (.goto (-39), 3) := dk_167 255 217 (dk_at dksX1_cleanable_1 20 rfl rfl)
theorem dX1_cleanable_46 : decode cX1_cleanable 46 = .ok (.iload_n 1, 1) := dk_27 (dk_at dksX1_cleanable_1 23 rfl rfl)
theorem dX1_cleanable_47 : decode cX1_cleanable 47 = .ok (.ireturn, 1) := dk_172 (dk_at dksX1_cleanable_2 0 rfl rfl)
abbrev cX1_absent : ByteArray := prog_1_method_41_code
def yX1_absent : MethodName := ⟨RX1, "absent", "(I)I"⟩
def dkwX1_absent_1 : List UInt8 := [120, 128, 61, 132, 3, 1, 167, 255, 230, 28, 172]
abbrev dktX1_absent_1 : List UInt8 := dkwX1_absent_1 ++ []
def dkwX1_absent_0 : List UInt8 := [3, 61, 3, 62, 29, 42, 182, 0, 247, 162, 0, 24, 42, 27, 29, 182, 1, 32, 154, 0, 9, 28, 4, 29]
abbrev dktX1_absent_0 : List UInt8 := dkwX1_absent_0 ++ dktX1_absent_1
theorem dksX1_absent_0 : cX1_absent.data.toList.drop 0 = dktX1_absent_0 := by decide +kernel
theorem dksX1_absent_1 : cX1_absent.data.toList.drop 24 = dktX1_absent_1 := dk_seg dksX1_absent_0 24 rfl rfl
theorem dX1_absent_0 : decode cX1_absent 0 = .ok (.iconst 0, 1) := dk_3 (dk_at dksX1_absent_0 0 rfl rfl)
theorem dX1_absent_1 : decode cX1_absent 1 = .ok (.istore_n 2, 1) := dk_61 (dk_at dksX1_absent_0 1 rfl rfl)
theorem dX1_absent_2 : decode cX1_absent 2 = .ok (.iconst 0, 1) := dk_3 (dk_at dksX1_absent_0 2 rfl rfl)
theorem dX1_absent_3 : decode cX1_absent 3 = .ok (.istore_n 3, 1) := dk_62 (dk_at dksX1_absent_0 3 rfl rfl)
theorem dX1_absent_4 : decode cX1_absent 4 = .ok (.iload_n 3, 1) := dk_29 (dk_at dksX1_absent_0 4 rfl rfl)
theorem dX1_absent_5 : decode cX1_absent 5 = .ok (.aload_n 0, 1) := dk_42 (dk_at dksX1_absent_0 5 rfl rfl)
theorem dX1_absent_6 : decode cX1_absent 6 = .ok (.invokevirtual 247, 3) := dk_182 0 247 (dk_at dksX1_absent_0 6 rfl rfl)
theorem dX1_absent_9 : decode cX1_absent 9 = .ok (.if_icmp .ge 24, 3) := dk_162 0 24 (dk_at dksX1_absent_0 9 rfl rfl)
theorem dX1_absent_12 : decode cX1_absent 12 = .ok (.aload_n 0, 1) := dk_42 (dk_at dksX1_absent_0 12 rfl rfl)
theorem dX1_absent_13 : decode cX1_absent 13 = .ok (.iload_n 1, 1) := dk_27 (dk_at dksX1_absent_0 13 rfl rfl)
theorem dX1_absent_14 : decode cX1_absent 14 = .ok (.iload_n 3, 1) := dk_29 (dk_at dksX1_absent_0 14 rfl rfl)
theorem dX1_absent_15 : decode cX1_absent 15 = .ok (.invokevirtual 288, 3) := dk_182 1 32 (dk_at dksX1_absent_0 15 rfl rfl)
theorem dX1_absent_18 : decode cX1_absent 18 = .ok (.ifCond .ne 9, 3) := dk_154 0 9 (dk_at dksX1_absent_0 18 rfl rfl)
theorem dX1_absent_21 : decode cX1_absent 21 = .ok (.iload_n 2, 1) := dk_28 (dk_at dksX1_absent_0 21 rfl rfl)
theorem dX1_absent_22 : decode cX1_absent 22 = .ok (.iconst 1, 1) := dk_4 (dk_at dksX1_absent_0 22 rfl rfl)
theorem dX1_absent_23 : decode cX1_absent 23 = .ok (.iload_n 3, 1) := dk_29 (dk_at dksX1_absent_0 23 rfl rfl)
theorem dX1_absent_24 : decode cX1_absent 24 = .ok (.ishl, 1) := dk_120 (dk_at dksX1_absent_1 0 rfl rfl)
theorem dX1_absent_25 : decode cX1_absent 25 = .ok (.ior, 1) := dk_128 (dk_at dksX1_absent_1 1 rfl rfl)
theorem dX1_absent_26 : decode cX1_absent 26 = .ok (.istore_n 2, 1) := dk_61 (dk_at dksX1_absent_1 2 rfl rfl)
theorem dX1_absent_27 : decode cX1_absent 27 = .ok (.iinc 3 1, 3) := dk_132 3 1 (dk_at dksX1_absent_1 3 rfl rfl)
theorem dX1_absent_30 : decode cX1_absent 30 = .ok (.goto (-26), 3) := dk_167 255 230 (dk_at dksX1_absent_1 6 rfl rfl)
theorem dX1_absent_33 : decode cX1_absent 33 = .ok (.iload_n 2, 1) := dk_28 (dk_at dksX1_absent_1 9 rfl rfl)
theorem dX1_absent_34 : decode cX1_absent 34 = .ok (.ireturn, 1) := dk_172 (dk_at dksX1_absent_1 10 rfl rfl)
abbrev cX1_act : ByteArray := prog_1_method_69_code
def yX1_act : MethodName := ⟨RX1, "act", "(IIIII)I"⟩
def dkwX1_act_4 : List UInt8 := [182, 0, 30, 21, 7, 172]
abbrev dktX1_act_4 : List UInt8 := dkwX1_act_4 ++ []
def dkwX1_act_3 : List UInt8 := [16, 7, 160, 0, 8, 21, 7, 167, 0, 4, 28, 42, 180, 0, 178, 182, 1, 195, 21, 6, 100, 183, 1, 206]
abbrev dktX1_act_3 : List UInt8 := dkwX1_act_3 ++ dktX1_act_4
def dkwX1_act_2 : List UInt8 := [42, 180, 0, 178, 180, 1, 202, 182, 0, 26, 42, 180, 0, 178, 180, 1, 202, 187, 1, 204, 89, 27, 27]
abbrev dktX1_act_2 : List UInt8 := dkwX1_act_2 ++ dktX1_act_3
def dkwX1_act_1 : List UInt8 := [21, 4, 21, 5, 182, 1, 198, 54, 7, 42, 180, 0, 178, 180, 1, 202, 180, 0, 22, 16, 60, 160, 0, 13]
abbrev dktX1_act_1 : List UInt8 := dkwX1_act_1 ++ dktX1_act_2
def dkwX1_act_0 : List UInt8 := [42, 180, 0, 210, 42, 180, 0, 178, 182, 1, 191, 42, 180, 0, 178, 182, 1, 195, 54, 6, 42, 27, 28, 29]
abbrev dktX1_act_0 : List UInt8 := dkwX1_act_0 ++ dktX1_act_1
theorem dksX1_act_0 : cX1_act.data.toList.drop 0 = dktX1_act_0 := by decide +kernel
theorem dksX1_act_1 : cX1_act.data.toList.drop 24 = dktX1_act_1 := dk_seg dksX1_act_0 24 rfl rfl
theorem dksX1_act_2 : cX1_act.data.toList.drop 48 = dktX1_act_2 := dk_seg dksX1_act_1 24 rfl rfl
theorem dksX1_act_3 : cX1_act.data.toList.drop 71 = dktX1_act_3 := dk_seg dksX1_act_2 23 rfl rfl
theorem dksX1_act_4 : cX1_act.data.toList.drop 95 = dktX1_act_4 := dk_seg dksX1_act_3 24 rfl rfl
theorem dX1_act_0 : decode cX1_act 0 = .ok (.aload_n 0, 1) := dk_42 (dk_at dksX1_act_0 0 rfl rfl)
theorem dX1_act_1 : decode cX1_act 1 = .ok (.getfield 210, 3) := dk_180 0 210 (dk_at dksX1_act_0 1 rfl rfl)
theorem dX1_act_4 : decode cX1_act 4 = .ok (.aload_n 0, 1) := dk_42 (dk_at dksX1_act_0 4 rfl rfl)
theorem dX1_act_5 : decode cX1_act 5 = .ok (.getfield 178, 3) := dk_180 0 178 (dk_at dksX1_act_0 5 rfl rfl)
theorem dX1_act_8 : decode cX1_act 8 = .ok (.invokevirtual 447, 3) := dk_182 1 191 (dk_at dksX1_act_0 8 rfl rfl)
theorem dX1_act_11 : decode cX1_act 11 = .ok (.aload_n 0, 1) := dk_42 (dk_at dksX1_act_0 11 rfl rfl)
theorem dX1_act_12 : decode cX1_act 12 = .ok (.getfield 178, 3) := dk_180 0 178 (dk_at dksX1_act_0 12 rfl rfl)
theorem dX1_act_15 : decode cX1_act 15 = .ok (.invokevirtual 451, 3) := dk_182 1 195 (dk_at dksX1_act_0 15 rfl rfl)
theorem dX1_act_18 : decode cX1_act 18 = .ok (.istore 6, 2) := dk_54 6 (dk_at dksX1_act_0 18 rfl rfl)
theorem dX1_act_20 : decode cX1_act 20 = .ok (.aload_n 0, 1) := dk_42 (dk_at dksX1_act_0 20 rfl rfl)
theorem dX1_act_21 : decode cX1_act 21 = .ok (.iload_n 1, 1) := dk_27 (dk_at dksX1_act_0 21 rfl rfl)
theorem dX1_act_22 : decode cX1_act 22 = .ok (.iload_n 2, 1) := dk_28 (dk_at dksX1_act_0 22 rfl rfl)
theorem dX1_act_23 : decode cX1_act 23 = .ok (.iload_n 3, 1) := dk_29 (dk_at dksX1_act_0 23 rfl rfl)
theorem dX1_act_24 : decode cX1_act 24 = .ok (.iload 4, 2) := dk_21 4 (dk_at dksX1_act_1 0 rfl rfl)
theorem dX1_act_26 : decode cX1_act 26 = .ok (.iload 5, 2) := dk_21 5 (dk_at dksX1_act_1 2 rfl rfl)
theorem dX1_act_28 : decode cX1_act 28 = .ok (.invokevirtual 454, 3) := dk_182 1 198 (dk_at dksX1_act_1 4 rfl rfl)
theorem dX1_act_31 : decode cX1_act 31 = .ok (.istore 7, 2) := dk_54 7 (dk_at dksX1_act_1 7 rfl rfl)
theorem dX1_act_33 : decode cX1_act 33 = .ok (.aload_n 0, 1) := dk_42 (dk_at dksX1_act_1 9 rfl rfl)
theorem dX1_act_34 : decode cX1_act 34 = .ok (.getfield 178, 3) := dk_180 0 178 (dk_at dksX1_act_1 10 rfl rfl)
theorem dX1_act_37 : decode cX1_act 37 = .ok (.getfield 458, 3) := dk_180 1 202 (dk_at dksX1_act_1 13 rfl rfl)
theorem dX1_act_40 : decode cX1_act 40 = .ok (.getfield 22, 3) := dk_180 0 22 (dk_at dksX1_act_1 16 rfl rfl)
theorem dX1_act_43 : decode cX1_act 43 = .ok (.bipush 60, 2) := dk_16 60 (dk_at dksX1_act_1 19 rfl rfl)
theorem dX1_act_45 : decode cX1_act 45 = .ok (.if_icmp .ne 13, 3) := dk_160 0 13 (dk_at dksX1_act_1 21 rfl rfl)
theorem dX1_act_48 : decode cX1_act 48 = .ok (.aload_n 0, 1) := dk_42 (dk_at dksX1_act_2 0 rfl rfl)
theorem dX1_act_49 : decode cX1_act 49 = .ok (.getfield 178, 3) := dk_180 0 178 (dk_at dksX1_act_2 1 rfl rfl)
theorem dX1_act_52 : decode cX1_act 52 = .ok (.getfield 458, 3) := dk_180 1 202 (dk_at dksX1_act_2 4 rfl rfl)
theorem dX1_act_55 : decode cX1_act 55 = .ok (.invokevirtual 26, 3) := dk_182 0 26 (dk_at dksX1_act_2 7 rfl rfl)
theorem dX1_act_58 : decode cX1_act 58 = .ok (.aload_n 0, 1) := dk_42 (dk_at dksX1_act_2 10 rfl rfl)
theorem dX1_act_59 : decode cX1_act 59 = .ok (.getfield 178, 3) := dk_180 0 178 (dk_at dksX1_act_2 11 rfl rfl)
theorem dX1_act_62 : decode cX1_act 62 = .ok (.getfield 458, 3) := dk_180 1 202 (dk_at dksX1_act_2 14 rfl rfl)
theorem dX1_act_65 : decode cX1_act 65 = .ok (.new 460, 3) := dk_187 1 204 (dk_at dksX1_act_2 17 rfl rfl)
theorem dX1_act_68 : decode cX1_act 68 = .ok (.dup, 1) := dk_89 (dk_at dksX1_act_2 20 rfl rfl)
theorem dX1_act_69 : decode cX1_act 69 = .ok (.iload_n 1, 1) := dk_27 (dk_at dksX1_act_2 21 rfl rfl)
theorem dX1_act_70 : decode cX1_act 70 = .ok (.iload_n 1, 1) := dk_27 (dk_at dksX1_act_2 22 rfl rfl)
theorem dX1_act_71 : decode cX1_act 71 = .ok (.bipush 7, 2) := dk_16 7 (dk_at dksX1_act_3 0 rfl rfl)
theorem dX1_act_73 : decode cX1_act 73 = .ok (.if_icmp .ne 8, 3) := dk_160 0 8 (dk_at dksX1_act_3 2 rfl rfl)
theorem dX1_act_76 : decode cX1_act 76 = .ok (.iload 7, 2) := dk_21 7 (dk_at dksX1_act_3 5 rfl rfl)
theorem dX1_act_78 : decode cX1_act 78 = .ok (.goto 4, 3) := dk_167 0 4 (dk_at dksX1_act_3 7 rfl rfl)
theorem dX1_act_81 : decode cX1_act 81 = .ok (.iload_n 2, 1) := dk_28 (dk_at dksX1_act_3 10 rfl rfl)
theorem dX1_act_82 : decode cX1_act 82 = .ok (.aload_n 0, 1) := dk_42 (dk_at dksX1_act_3 11 rfl rfl)
theorem dX1_act_83 : decode cX1_act 83 = .ok (.getfield 178, 3) := dk_180 0 178 (dk_at dksX1_act_3 12 rfl rfl)
theorem dX1_act_86 : decode cX1_act 86 = .ok (.invokevirtual 451, 3) := dk_182 1 195 (dk_at dksX1_act_3 15 rfl rfl)
theorem dX1_act_89 : decode cX1_act 89 = .ok (.iload 6, 2) := dk_21 6 (dk_at dksX1_act_3 18 rfl rfl)
theorem dX1_act_91 : decode cX1_act 91 = .ok (.isub, 1) := dk_100 (dk_at dksX1_act_3 20 rfl rfl)
theorem dX1_act_92 : decode cX1_act 92 = .ok (.invokespecial 462, 3) := dk_183 1 206 (dk_at dksX1_act_3 21 rfl rfl)
theorem dX1_act_95 : decode cX1_act 95 = .ok (.invokevirtual 30, 3) := dk_182 0 30 (dk_at dksX1_act_4 0 rfl rfl)
theorem dX1_act_98 : decode cX1_act 98 = .ok (.iload 7, 2) := dk_21 7 (dk_at dksX1_act_4 3 rfl rfl)
theorem dX1_act_100 : decode cX1_act 100 = .ok (.ireturn, 1) := dk_172 (dk_at dksX1_act_4 5 rfl rfl)
abbrev cX1_pours : ByteArray := prog_1_method_4_code
def yX1_pours : MethodName := ⟨RX1, "pours", "(LStripeShelf$Row;LStripeShelf$Row;I)V"⟩
def dkwX1_pours_1 : List UInt8 := [180, 0, 7, 182, 0, 30, 45, 180, 0, 19, 78, 167, 255, 227, 177]
abbrev dktX1_pours_1 : List UInt8 := dkwX1_pours_1 ++ []
def dkwX1_pours_0 : List UInt8 := [42, 180, 0, 1, 78, 45, 198, 0, 31, 43, 180, 0, 22, 28, 160, 0, 7, 43, 182, 0, 26, 43, 45]
abbrev dktX1_pours_0 : List UInt8 := dkwX1_pours_0 ++ dktX1_pours_1
theorem dksX1_pours_0 : cX1_pours.data.toList.drop 0 = dktX1_pours_0 := by decide +kernel
theorem dksX1_pours_1 : cX1_pours.data.toList.drop 23 = dktX1_pours_1 := dk_seg dksX1_pours_0 23 rfl rfl
theorem dX1_pours_0 : decode cX1_pours 0 = .ok (.aload_n 0, 1) := dk_42 (dk_at dksX1_pours_0 0 rfl rfl)
theorem dX1_pours_1 : decode cX1_pours 1 = .ok (.getfield 1, 3) := dk_180 0 1 (dk_at dksX1_pours_0 1 rfl rfl)
theorem dX1_pours_4 : decode cX1_pours 4 = .ok (.astore_n 3, 1) := dk_78 (dk_at dksX1_pours_0 4 rfl rfl)
theorem dX1_pours_5 : decode cX1_pours 5 = .ok (.aload_n 3, 1) := dk_45 (dk_at dksX1_pours_0 5 rfl rfl)
theorem dX1_pours_6 : decode cX1_pours 6 = .ok (.ifnull 31, 3) := dk_198 0 31 (dk_at dksX1_pours_0 6 rfl rfl)
theorem dX1_pours_9 : decode cX1_pours 9 = .ok (.aload_n 1, 1) := dk_43 (dk_at dksX1_pours_0 9 rfl rfl)
theorem dX1_pours_10 : decode cX1_pours 10 = .ok (.getfield 22, 3) := dk_180 0 22 (dk_at dksX1_pours_0 10 rfl rfl)
theorem dX1_pours_13 : decode cX1_pours 13 = .ok (.iload_n 2, 1) := dk_28 (dk_at dksX1_pours_0 13 rfl rfl)
theorem dX1_pours_14 : decode cX1_pours 14 = .ok (.if_icmp .ne 7, 3) := dk_160 0 7 (dk_at dksX1_pours_0 14 rfl rfl)
theorem dX1_pours_17 : decode cX1_pours 17 = .ok (.aload_n 1, 1) := dk_43 (dk_at dksX1_pours_0 17 rfl rfl)
theorem dX1_pours_18 : decode cX1_pours 18 = .ok (.invokevirtual 26, 3) := dk_182 0 26 (dk_at dksX1_pours_0 18 rfl rfl)
theorem dX1_pours_21 : decode cX1_pours 21 = .ok (.aload_n 1, 1) := dk_43 (dk_at dksX1_pours_0 21 rfl rfl)
theorem dX1_pours_22 : decode cX1_pours 22 = .ok (.aload_n 3, 1) := dk_45 (dk_at dksX1_pours_0 22 rfl rfl)
theorem dX1_pours_23 : decode cX1_pours 23 = .ok (.getfield 7, 3) := dk_180 0 7 (dk_at dksX1_pours_1 0 rfl rfl)
theorem dX1_pours_26 : decode cX1_pours 26 = .ok (.invokevirtual 30, 3) := dk_182 0 30 (dk_at dksX1_pours_1 3 rfl rfl)
theorem dX1_pours_29 : decode cX1_pours 29 = .ok (.aload_n 3, 1) := dk_45 (dk_at dksX1_pours_1 6 rfl rfl)
theorem dX1_pours_30 : decode cX1_pours 30 = .ok (.getfield 19, 3) := dk_180 0 19 (dk_at dksX1_pours_1 7 rfl rfl)
theorem dX1_pours_33 : decode cX1_pours 33 = .ok (.astore_n 3, 1) := dk_78 (dk_at dksX1_pours_1 10 rfl rfl)
theorem dX1_pours_34 : decode cX1_pours 34 = .ok (.goto (-29), 3) := dk_167 255 227 (dk_at dksX1_pours_1 11 rfl rfl)
theorem dX1_pours_37 : decode cX1_pours 37 = .ok (.return_, 1) := dk_177 (dk_at dksX1_pours_1 14 rfl rfl)
abbrev cX1_doNow : ByteArray := prog_1_method_68_code
def yX1_doNow : MethodName := ⟨RX1, "doNow", "(IIIII)I"⟩
def dkwX1_doNow_5 : List UInt8 := [29, 21, 4, 182, 1, 182, 172, 42, 182, 1, 185, 172, 42, 28, 29, 21, 4, 21, 5, 182, 1, 188, 172]
abbrev dktX1_doNow_5 : List UInt8 := dkwX1_doNow_5 ++ []
def dkwX1_doNow_4 : List UInt8 := [92, 46, 21, 5, 130, 79, 42, 180, 0, 178, 180, 0, 191, 28, 29, 21, 4, 184, 0, 203, 46, 172, 42, 28]
abbrev dktX1_doNow_4 : List UInt8 := dkwX1_doNow_4 ++ dktX1_doNow_5
def dkwX1_doNow_3 : List UInt8 := [182, 1, 176, 172, 42, 28, 182, 1, 179, 172, 42, 180, 0, 178, 180, 0, 191, 28, 29, 21, 4, 184, 0, 203]
abbrev dktX1_doNow_3 : List UInt8 := dkwX1_doNow_3 ++ dktX1_doNow_4
def dkwX1_doNow_2 : List UInt8 := [42, 28, 29, 182, 1, 167, 172, 42, 28, 182, 1, 170, 172, 42, 28, 182, 1, 173, 172, 42, 28, 29]
abbrev dktX1_doNow_2 : List UInt8 := dkwX1_doNow_2 ++ dktX1_doNow_3
def dkwX1_doNow_1 : List UInt8 := [170, 0, 0, 0, 0, 0, 129, 0, 0, 0, 0, 0, 0, 0, 7, 0, 0, 0, 47, 0, 0, 0, 54, 0, 0, 0, 60, 0, 0, 0, 66, 0, 0, 0, 73, 0, 0, 0, 79, 0, 0, 0, 115, 0, 0, 0, 124]
abbrev dktX1_doNow_1 : List UInt8 := dkwX1_doNow_1 ++ dktX1_doNow_2
def dkwX1_doNow_0 : List UInt8 := [27]
abbrev dktX1_doNow_0 : List UInt8 := dkwX1_doNow_0 ++ dktX1_doNow_1
theorem dksX1_doNow_0 : cX1_doNow.data.toList.drop 0 = dktX1_doNow_0 := by decide +kernel
theorem dksX1_doNow_1 : cX1_doNow.data.toList.drop 1 = dktX1_doNow_1 := dk_seg dksX1_doNow_0 1 rfl rfl
theorem dksX1_doNow_2 : cX1_doNow.data.toList.drop 48 = dktX1_doNow_2 := dk_seg dksX1_doNow_1 47 rfl rfl
theorem dksX1_doNow_3 : cX1_doNow.data.toList.drop 70 = dktX1_doNow_3 := dk_seg dksX1_doNow_2 22 rfl rfl
theorem dksX1_doNow_4 : cX1_doNow.data.toList.drop 94 = dktX1_doNow_4 := dk_seg dksX1_doNow_3 24 rfl rfl
theorem dksX1_doNow_5 : cX1_doNow.data.toList.drop 118 = dktX1_doNow_5 := dk_seg dksX1_doNow_4 24 rfl rfl
theorem dX1_doNow_0 : decode cX1_doNow 0 = .ok (.iload_n 1, 1) := dk_27 (dk_at dksX1_doNow_0 0 rfl rfl)
theorem dX1_doNow_1 : decode cX1_doNow 1 = .ok (.tableswitch 129 0 7 #[47, 54, 60, 66, 73, 79, 115, 124], 47) := by decide +kernel
theorem dX1_doNow_48 : decode cX1_doNow 48 = .ok (.aload_n 0, 1) := dk_42 (dk_at dksX1_doNow_2 0 rfl rfl)
theorem dX1_doNow_49 : decode cX1_doNow 49 = .ok (.iload_n 2, 1) := dk_28 (dk_at dksX1_doNow_2 1 rfl rfl)
theorem dX1_doNow_50 : decode cX1_doNow 50 = .ok (.iload_n 3, 1) := dk_29 (dk_at dksX1_doNow_2 2 rfl rfl)
theorem dX1_doNow_51 : decode cX1_doNow 51 = .ok (.invokevirtual 423, 3) := dk_182 1 167 (dk_at dksX1_doNow_2 3 rfl rfl)
theorem dX1_doNow_54 : decode cX1_doNow 54 = .ok (.ireturn, 1) := dk_172 (dk_at dksX1_doNow_2 6 rfl rfl)
theorem dX1_doNow_55 : decode cX1_doNow 55 = .ok (.aload_n 0, 1) := dk_42 (dk_at dksX1_doNow_2 7 rfl rfl)
theorem dX1_doNow_56 : decode cX1_doNow 56 = .ok (.iload_n 2, 1) := dk_28 (dk_at dksX1_doNow_2 8 rfl rfl)
theorem dX1_doNow_57 : decode cX1_doNow 57 = .ok (.invokevirtual 426, 3) := dk_182 1 170 (dk_at dksX1_doNow_2 9 rfl rfl)
theorem dX1_doNow_60 : decode cX1_doNow 60 = .ok (.ireturn, 1) := dk_172 (dk_at dksX1_doNow_2 12 rfl rfl)
theorem dX1_doNow_61 : decode cX1_doNow 61 = .ok (.aload_n 0, 1) := dk_42 (dk_at dksX1_doNow_2 13 rfl rfl)
theorem dX1_doNow_62 : decode cX1_doNow 62 = .ok (.iload_n 2, 1) := dk_28 (dk_at dksX1_doNow_2 14 rfl rfl)
theorem dX1_doNow_63 : decode cX1_doNow 63 = .ok (.invokevirtual 429, 3) := dk_182 1 173 (dk_at dksX1_doNow_2 15 rfl rfl)
theorem dX1_doNow_66 : decode cX1_doNow 66 = .ok (.ireturn, 1) := dk_172 (dk_at dksX1_doNow_2 18 rfl rfl)
theorem dX1_doNow_67 : decode cX1_doNow 67 = .ok (.aload_n 0, 1) := dk_42 (dk_at dksX1_doNow_2 19 rfl rfl)
theorem dX1_doNow_68 : decode cX1_doNow 68 = .ok (.iload_n 2, 1) := dk_28 (dk_at dksX1_doNow_2 20 rfl rfl)
theorem dX1_doNow_69 : decode cX1_doNow 69 = .ok (.iload_n 3, 1) := dk_29 (dk_at dksX1_doNow_2 21 rfl rfl)
theorem dX1_doNow_70 : decode cX1_doNow 70 = .ok (.invokevirtual 432, 3) := dk_182 1 176 (dk_at dksX1_doNow_3 0 rfl rfl)
theorem dX1_doNow_73 : decode cX1_doNow 73 = .ok (.ireturn, 1) := dk_172 (dk_at dksX1_doNow_3 3 rfl rfl)
theorem dX1_doNow_74 : decode cX1_doNow 74 = .ok (.aload_n 0, 1) := dk_42 (dk_at dksX1_doNow_3 4 rfl rfl)
theorem dX1_doNow_75 : decode cX1_doNow 75 = .ok (.iload_n 2, 1) := dk_28 (dk_at dksX1_doNow_3 5 rfl rfl)
theorem dX1_doNow_76 : decode cX1_doNow 76 = .ok (.invokevirtual 435, 3) := dk_182 1 179 (dk_at dksX1_doNow_3 6 rfl rfl)
theorem dX1_doNow_79 : decode cX1_doNow 79 = .ok (.ireturn, 1) := dk_172 (dk_at dksX1_doNow_3 9 rfl rfl)
theorem dX1_doNow_80 : decode cX1_doNow 80 = .ok (.aload_n 0, 1) := dk_42 (dk_at dksX1_doNow_3 10 rfl rfl)
theorem dX1_doNow_81 : decode cX1_doNow 81 = .ok (.getfield 178, 3) := dk_180 0 178 (dk_at dksX1_doNow_3 11 rfl rfl)
theorem dX1_doNow_84 : decode cX1_doNow 84 = .ok (.getfield 191, 3) := dk_180 0 191 (dk_at dksX1_doNow_3 14 rfl rfl)
theorem dX1_doNow_87 : decode cX1_doNow 87 = .ok (.iload_n 2, 1) := dk_28 (dk_at dksX1_doNow_3 17 rfl rfl)
theorem dX1_doNow_88 : decode cX1_doNow 88 = .ok (.iload_n 3, 1) := dk_29 (dk_at dksX1_doNow_3 18 rfl rfl)
theorem dX1_doNow_89 : decode cX1_doNow 89 = .ok (.iload 4, 2) := dk_21 4 (dk_at dksX1_doNow_3 19 rfl rfl)
theorem dX1_doNow_91 : decode cX1_doNow 91 = .ok (.invokestatic 203, 3) := dk_184 0 203 (dk_at dksX1_doNow_3 21 rfl rfl)
theorem dX1_doNow_94 : decode cX1_doNow 94 = .ok (.dup2, 1) := dk_92 (dk_at dksX1_doNow_4 0 rfl rfl)
theorem dX1_doNow_95 : decode cX1_doNow 95 = .ok (.iaload, 1) := dk_46 (dk_at dksX1_doNow_4 1 rfl rfl)
theorem dX1_doNow_96 : decode cX1_doNow 96 = .ok (.iload 5, 2) := dk_21 5 (dk_at dksX1_doNow_4 2 rfl rfl)
theorem dX1_doNow_98 : decode cX1_doNow 98 = .ok (.ixor, 1) := dk_130 (dk_at dksX1_doNow_4 4 rfl rfl)
theorem dX1_doNow_99 : decode cX1_doNow 99 = .ok (.iastore, 1) := dk_79 (dk_at dksX1_doNow_4 5 rfl rfl)
theorem dX1_doNow_100 : decode cX1_doNow 100 = .ok (.aload_n 0, 1) := dk_42 (dk_at dksX1_doNow_4 6 rfl rfl)
theorem dX1_doNow_101 : decode cX1_doNow 101 = .ok (.getfield 178, 3) := dk_180 0 178 (dk_at dksX1_doNow_4 7 rfl rfl)
theorem dX1_doNow_104 : decode cX1_doNow 104 = .ok (.getfield 191, 3) := dk_180 0 191 (dk_at dksX1_doNow_4 10 rfl rfl)
theorem dX1_doNow_107 : decode cX1_doNow 107 = .ok (.iload_n 2, 1) := dk_28 (dk_at dksX1_doNow_4 13 rfl rfl)
theorem dX1_doNow_108 : decode cX1_doNow 108 = .ok (.iload_n 3, 1) := dk_29 (dk_at dksX1_doNow_4 14 rfl rfl)
theorem dX1_doNow_109 : decode cX1_doNow 109 = .ok (.iload 4, 2) := dk_21 4 (dk_at dksX1_doNow_4 15 rfl rfl)
theorem dX1_doNow_111 : decode cX1_doNow 111 = .ok (.invokestatic 203, 3) := dk_184 0 203 (dk_at dksX1_doNow_4 17 rfl rfl)
theorem dX1_doNow_114 : decode cX1_doNow 114 = .ok (.iaload, 1) := dk_46 (dk_at dksX1_doNow_4 20 rfl rfl)
theorem dX1_doNow_115 : decode cX1_doNow 115 = .ok (.ireturn, 1) := dk_172 (dk_at dksX1_doNow_4 21 rfl rfl)
theorem dX1_doNow_116 : decode cX1_doNow 116 = .ok (.aload_n 0, 1) := dk_42 (dk_at dksX1_doNow_4 22 rfl rfl)
theorem dX1_doNow_117 : decode cX1_doNow 117 = .ok (.iload_n 2, 1) := dk_28 (dk_at dksX1_doNow_4 23 rfl rfl)
theorem dX1_doNow_118 : decode cX1_doNow 118 = .ok (.iload_n 3, 1) := dk_29 (dk_at dksX1_doNow_5 0 rfl rfl)
theorem dX1_doNow_119 : decode cX1_doNow 119 = .ok (.iload 4, 2) := dk_21 4 (dk_at dksX1_doNow_5 1 rfl rfl)
theorem dX1_doNow_121 : decode cX1_doNow 121 = .ok (.invokevirtual 438, 3) := dk_182 1 182 (dk_at dksX1_doNow_5 3 rfl rfl)
theorem dX1_doNow_124 : decode cX1_doNow 124 = .ok (.ireturn, 1) := dk_172 (dk_at dksX1_doNow_5 6 rfl rfl)
theorem dX1_doNow_125 : decode cX1_doNow 125 = .ok (.aload_n 0, 1) := dk_42 (dk_at dksX1_doNow_5 7 rfl rfl)
theorem dX1_doNow_126 : decode cX1_doNow 126 = .ok (.invokevirtual 441, 3) := dk_182 1 185 (dk_at dksX1_doNow_5 8 rfl rfl)
theorem dX1_doNow_129 : decode cX1_doNow 129 = .ok (.ireturn, 1) := dk_172 (dk_at dksX1_doNow_5 11 rfl rfl)
theorem dX1_doNow_130 : decode cX1_doNow 130 = .ok (.aload_n 0, 1) := dk_42 (dk_at dksX1_doNow_5 12 rfl rfl)
theorem dX1_doNow_131 : decode cX1_doNow 131 = .ok (.iload_n 2, 1) := dk_28 (dk_at dksX1_doNow_5 13 rfl rfl)
theorem dX1_doNow_132 : decode cX1_doNow 132 = .ok (.iload_n 3, 1) := dk_29 (dk_at dksX1_doNow_5 14 rfl rfl)
theorem dX1_doNow_133 : decode cX1_doNow 133 = .ok (.iload 4, 2) := dk_21 4 (dk_at dksX1_doNow_5 15 rfl rfl)
theorem dX1_doNow_135 : decode cX1_doNow 135 = .ok (.iload 5, 2) := dk_21 5 (dk_at dksX1_doNow_5 17 rfl rfl)
theorem dX1_doNow_137 : decode cX1_doNow 137 = .ok (.invokevirtual 444, 3) := dk_182 1 188 (dk_at dksX1_doNow_5 19 rfl rfl)
theorem dX1_doNow_140 : decode cX1_doNow 140 = .ok (.ireturn, 1) := dk_172 (dk_at dksX1_doNow_5 22 rfl rfl)
abbrev cX1_writesNow : ByteArray := prog_1_method_50_code
def yX1_writesNow : MethodName := ⟨RX1, "writesNow", "(II)I"⟩
def dkwX1_writesNow_10 : List UInt8 := [42, 180, 0, 197, 42, 180, 0, 200, 182, 1, 84, 29, 172]
abbrev dktX1_writesNow_10 : List UInt8 := dkwX1_writesNow_10 ++ []
def dkwX1_writesNow_9 : List UInt8 := [182, 1, 32, 153, 0, 20, 42, 42, 180, 0, 197, 42, 180, 0, 253, 42, 180, 0, 200, 28, 182, 1, 54, 42]
abbrev dktX1_writesNow_9 : List UInt8 := dkwX1_writesNow_9 ++ dktX1_writesNow_10
def dkwX1_writesNow_8 : List UInt8 := [182, 1, 36, 42, 180, 1, 3, 42, 180, 0, 253, 28, 79, 42, 42, 180, 0, 197, 42, 180, 0, 253]
abbrev dktX1_writesNow_8 : List UInt8 := dkwX1_writesNow_8 ++ dktX1_writesNow_9
def dkwX1_writesNow_7 : List UInt8 := [130, 182, 0, 207, 29, 172, 42, 42, 180, 0, 197, 42, 180, 0, 200, 42, 42, 180, 0, 197, 182, 1, 33]
abbrev dktX1_writesNow_7 : List UInt8 := dkwX1_writesNow_7 ++ dktX1_writesNow_8
def dkwX1_writesNow_6 : List UInt8 := [42, 180, 0, 197, 21, 7, 182, 1, 81, 87, 132, 7, 1, 167, 255, 217, 21, 6, 153, 0, 12, 42, 28, 29]
abbrev dktX1_writesNow_6 : List UInt8 := dkwX1_writesNow_6 ++ dktX1_writesNow_7
def dkwX1_writesNow_5 : List UInt8 := [21, 4, 5, 96, 162, 0, 36, 21, 7, 21, 4, 162, 0, 12, 21, 7, 42, 180, 0, 253, 160, 0, 14, 42]
abbrev dktX1_writesNow_5 : List UInt8 := dkwX1_writesNow_5 ++ dktX1_writesNow_6
def dkwX1_writesNow_4 : List UInt8 := [21, 4, 182, 1, 78, 87, 42, 42, 180, 0, 197, 21, 4, 4, 96, 182, 1, 78, 87, 3, 54, 7, 21, 7]
abbrev dktX1_writesNow_4 : List UInt8 := dkwX1_writesNow_4 ++ dktX1_writesNow_5
def dkwX1_writesNow_3 : List UInt8 := [182, 1, 78, 87, 132, 7, 1, 167, 255, 216, 25, 5, 180, 1, 75, 4, 159, 0, 27, 42, 42, 180, 0, 197]
abbrev dktX1_writesNow_3 : List UInt8 := dkwX1_writesNow_3 ++ dktX1_writesNow_4
def dkwX1_writesNow_2 : List UInt8 := [42, 180, 0, 253, 160, 0, 7, 4, 167, 0, 4, 3, 160, 0, 14, 42, 42, 180, 0, 197, 21, 7]
abbrev dktX1_writesNow_2 : List UInt8 := dkwX1_writesNow_2 ++ dktX1_writesNow_3
def dkwX1_writesNow_1 : List UInt8 := [154, 0, 7, 4, 167, 0, 4, 3, 54, 6, 3, 54, 7, 21, 7, 21, 4, 162, 0, 39, 21, 6, 21, 7]
abbrev dktX1_writesNow_1 : List UInt8 := dkwX1_writesNow_1 ++ dktX1_writesNow_2
def dkwX1_writesNow_0 : List UInt8 := [42, 27, 182, 1, 68, 62, 42, 182, 0, 234, 54, 4, 42, 182, 1, 71, 58, 5, 25, 5, 180, 1, 75]
abbrev dktX1_writesNow_0 : List UInt8 := dkwX1_writesNow_0 ++ dktX1_writesNow_1
theorem dksX1_writesNow_0 : cX1_writesNow.data.toList.drop 0 = dktX1_writesNow_0 := by decide +kernel
theorem dksX1_writesNow_1 : cX1_writesNow.data.toList.drop 23 = dktX1_writesNow_1 := dk_seg dksX1_writesNow_0 23 rfl rfl
theorem dksX1_writesNow_2 : cX1_writesNow.data.toList.drop 47 = dktX1_writesNow_2 := dk_seg dksX1_writesNow_1 24 rfl rfl
theorem dksX1_writesNow_3 : cX1_writesNow.data.toList.drop 69 = dktX1_writesNow_3 := dk_seg dksX1_writesNow_2 22 rfl rfl
theorem dksX1_writesNow_4 : cX1_writesNow.data.toList.drop 93 = dktX1_writesNow_4 := dk_seg dksX1_writesNow_3 24 rfl rfl
theorem dksX1_writesNow_5 : cX1_writesNow.data.toList.drop 117 = dktX1_writesNow_5 := dk_seg dksX1_writesNow_4 24 rfl rfl
theorem dksX1_writesNow_6 : cX1_writesNow.data.toList.drop 141 = dktX1_writesNow_6 := dk_seg dksX1_writesNow_5 24 rfl rfl
theorem dksX1_writesNow_7 : cX1_writesNow.data.toList.drop 165 = dktX1_writesNow_7 := dk_seg dksX1_writesNow_6 24 rfl rfl
theorem dksX1_writesNow_8 : cX1_writesNow.data.toList.drop 188 = dktX1_writesNow_8 := dk_seg dksX1_writesNow_7 23 rfl rfl
theorem dksX1_writesNow_9 : cX1_writesNow.data.toList.drop 210 = dktX1_writesNow_9 := dk_seg dksX1_writesNow_8 22 rfl rfl
theorem dksX1_writesNow_10 : cX1_writesNow.data.toList.drop 234 = dktX1_writesNow_10 := dk_seg dksX1_writesNow_9 24 rfl rfl
theorem dX1_writesNow_0 : decode cX1_writesNow 0 = .ok (.aload_n 0, 1) := dk_42 (dk_at dksX1_writesNow_0 0 rfl rfl)
theorem dX1_writesNow_1 : decode cX1_writesNow 1 = .ok (.iload_n 1, 1) := dk_27 (dk_at dksX1_writesNow_0 1 rfl rfl)
theorem dX1_writesNow_2 : decode cX1_writesNow 2 = .ok (.invokevirtual 324, 3) := dk_182 1 68 (dk_at dksX1_writesNow_0 2 rfl rfl)
theorem dX1_writesNow_5 : decode cX1_writesNow 5 = .ok (.istore_n 3, 1) := dk_62 (dk_at dksX1_writesNow_0 5 rfl rfl)
theorem dX1_writesNow_6 : decode cX1_writesNow 6 = .ok (.aload_n 0, 1) := dk_42 (dk_at dksX1_writesNow_0 6 rfl rfl)
theorem dX1_writesNow_7 : decode cX1_writesNow 7 = .ok (.invokevirtual 234, 3) := dk_182 0 234 (dk_at dksX1_writesNow_0 7 rfl rfl)
theorem dX1_writesNow_10 : decode cX1_writesNow 10 = .ok (.istore 4, 2) := dk_54 4 (dk_at dksX1_writesNow_0 10 rfl rfl)
theorem dX1_writesNow_12 : decode cX1_writesNow 12 = .ok (.aload_n 0, 1) := dk_42 (dk_at dksX1_writesNow_0 12 rfl rfl)
theorem dX1_writesNow_13 : decode cX1_writesNow 13 = .ok (.invokevirtual 327, 3) := dk_182 1 71 (dk_at dksX1_writesNow_0 13 rfl rfl)
theorem dX1_writesNow_16 : decode cX1_writesNow 16 = .ok (.astore 5, 2) := dk_58 5 (dk_at dksX1_writesNow_0 16 rfl rfl)
theorem dX1_writesNow_18 : decode cX1_writesNow 18 = .ok (.aload 5, 2) := dk_25 5 (dk_at dksX1_writesNow_0 18 rfl rfl)
theorem dX1_writesNow_20 : decode cX1_writesNow 20 = .ok (.getfield 331, 3) := dk_180 1 75 (dk_at dksX1_writesNow_0 20 rfl rfl)
theorem dX1_writesNow_23 : decode cX1_writesNow 23 = .ok (.ifCond .ne 7, 3) := dk_154 0 7 (dk_at dksX1_writesNow_1 0 rfl rfl)
theorem dX1_writesNow_26 : decode cX1_writesNow 26 = .ok (.iconst 1, 1) := dk_4 (dk_at dksX1_writesNow_1 3 rfl rfl)
theorem dX1_writesNow_27 : decode cX1_writesNow 27 = .ok (.goto 4, 3) := dk_167 0 4 (dk_at dksX1_writesNow_1 4 rfl rfl)
theorem dX1_writesNow_30 : decode cX1_writesNow 30 = .ok (.iconst 0, 1) := dk_3 (dk_at dksX1_writesNow_1 7 rfl rfl)
theorem dX1_writesNow_31 : decode cX1_writesNow 31 = .ok (.istore 6, 2) := dk_54 6 (dk_at dksX1_writesNow_1 8 rfl rfl)
theorem dX1_writesNow_33 : decode cX1_writesNow 33 = .ok (.iconst 0, 1) := dk_3 (dk_at dksX1_writesNow_1 10 rfl rfl)
theorem dX1_writesNow_34 : decode cX1_writesNow 34 = .ok (.istore 7, 2) := dk_54 7 (dk_at dksX1_writesNow_1 11 rfl rfl)
theorem dX1_writesNow_36 : decode cX1_writesNow 36 = .ok (.iload 7, 2) := dk_21 7 (dk_at dksX1_writesNow_1 13 rfl rfl)
theorem dX1_writesNow_38 : decode cX1_writesNow 38 = .ok (.iload 4, 2) := dk_21 4 (dk_at dksX1_writesNow_1 15 rfl rfl)
theorem dX1_writesNow_40 : decode cX1_writesNow 40 = .ok (.if_icmp .ge 39, 3) := dk_162 0 39 (dk_at dksX1_writesNow_1 17 rfl rfl)
theorem dX1_writesNow_43 : decode cX1_writesNow 43 = .ok (.iload 6, 2) := dk_21 6 (dk_at dksX1_writesNow_1 20 rfl rfl)
theorem dX1_writesNow_45 : decode cX1_writesNow 45 = .ok (.iload 7, 2) := dk_21 7 (dk_at dksX1_writesNow_1 22 rfl rfl)
theorem dX1_writesNow_47 : decode cX1_writesNow 47 = .ok (.aload_n 0, 1) := dk_42 (dk_at dksX1_writesNow_2 0 rfl rfl)
theorem dX1_writesNow_48 : decode cX1_writesNow 48 = .ok (.getfield 253, 3) := dk_180 0 253 (dk_at dksX1_writesNow_2 1 rfl rfl)
theorem dX1_writesNow_51 : decode cX1_writesNow 51 = .ok (.if_icmp .ne 7, 3) := dk_160 0 7 (dk_at dksX1_writesNow_2 4 rfl rfl)
theorem dX1_writesNow_54 : decode cX1_writesNow 54 = .ok (.iconst 1, 1) := dk_4 (dk_at dksX1_writesNow_2 7 rfl rfl)
theorem dX1_writesNow_55 : decode cX1_writesNow 55 = .ok (.goto 4, 3) := dk_167 0 4 (dk_at dksX1_writesNow_2 8 rfl rfl)
theorem dX1_writesNow_58 : decode cX1_writesNow 58 = .ok (.iconst 0, 1) := dk_3 (dk_at dksX1_writesNow_2 11 rfl rfl)
theorem dX1_writesNow_59 : decode cX1_writesNow 59 = .ok (.if_icmp .ne 14, 3) := dk_160 0 14 (dk_at dksX1_writesNow_2 12 rfl rfl)
theorem dX1_writesNow_62 : decode cX1_writesNow 62 = .ok (.aload_n 0, 1) := dk_42 (dk_at dksX1_writesNow_2 15 rfl rfl)
theorem dX1_writesNow_63 : decode cX1_writesNow 63 = .ok (.aload_n 0, 1) := dk_42 (dk_at dksX1_writesNow_2 16 rfl rfl)
theorem dX1_writesNow_64 : decode cX1_writesNow 64 = .ok (.getfield 197, 3) := dk_180 0 197 (dk_at dksX1_writesNow_2 17 rfl rfl)
theorem dX1_writesNow_67 : decode cX1_writesNow 67 = .ok (.iload 7, 2) := dk_21 7 (dk_at dksX1_writesNow_2 20 rfl rfl)
theorem dX1_writesNow_69 : decode cX1_writesNow 69 = .ok (.invokevirtual 334, 3) := dk_182 1 78 (dk_at dksX1_writesNow_3 0 rfl rfl)
theorem dX1_writesNow_72 : decode cX1_writesNow 72 = .ok (.pop, 1) := dk_87 (dk_at dksX1_writesNow_3 3 rfl rfl)
theorem dX1_writesNow_73 : decode cX1_writesNow 73 = .ok (.iinc 7 1, 3) := dk_132 7 1 (dk_at dksX1_writesNow_3 4 rfl rfl)
theorem dX1_writesNow_76 : decode cX1_writesNow 76 = .ok (.goto (-40), 3) := dk_167 255 216 (dk_at dksX1_writesNow_3 7 rfl rfl)
theorem dX1_writesNow_79 : decode cX1_writesNow 79 = .ok (.aload 5, 2) := dk_25 5 (dk_at dksX1_writesNow_3 10 rfl rfl)
theorem dX1_writesNow_81 : decode cX1_writesNow 81 = .ok (.getfield 331, 3) := dk_180 1 75 (dk_at dksX1_writesNow_3 12 rfl rfl)
theorem dX1_writesNow_84 : decode cX1_writesNow 84 = .ok (.iconst 1, 1) := dk_4 (dk_at dksX1_writesNow_3 15 rfl rfl)
theorem dX1_writesNow_85 : decode cX1_writesNow 85 = .ok (.if_icmp .eq 27, 3) := dk_159 0 27 (dk_at dksX1_writesNow_3 16 rfl rfl)
theorem dX1_writesNow_88 : decode cX1_writesNow 88 = .ok (.aload_n 0, 1) := dk_42 (dk_at dksX1_writesNow_3 19 rfl rfl)
theorem dX1_writesNow_89 : decode cX1_writesNow 89 = .ok (.aload_n 0, 1) := dk_42 (dk_at dksX1_writesNow_3 20 rfl rfl)
theorem dX1_writesNow_90 : decode cX1_writesNow 90 = .ok (.getfield 197, 3) := dk_180 0 197 (dk_at dksX1_writesNow_3 21 rfl rfl)
theorem dX1_writesNow_93 : decode cX1_writesNow 93 = .ok (.iload 4, 2) := dk_21 4 (dk_at dksX1_writesNow_4 0 rfl rfl)
theorem dX1_writesNow_95 : decode cX1_writesNow 95 = .ok (.invokevirtual 334, 3) := dk_182 1 78 (dk_at dksX1_writesNow_4 2 rfl rfl)
theorem dX1_writesNow_98 : decode cX1_writesNow 98 = .ok (.pop, 1) := dk_87 (dk_at dksX1_writesNow_4 5 rfl rfl)
theorem dX1_writesNow_99 : decode cX1_writesNow 99 = .ok (.aload_n 0, 1) := dk_42 (dk_at dksX1_writesNow_4 6 rfl rfl)
theorem dX1_writesNow_100 : decode cX1_writesNow 100 = .ok (.aload_n 0, 1) := dk_42 (dk_at dksX1_writesNow_4 7 rfl rfl)
theorem dX1_writesNow_101 : decode cX1_writesNow 101 = .ok (.getfield 197, 3) := dk_180 0 197 (dk_at dksX1_writesNow_4 8 rfl rfl)
theorem dX1_writesNow_104 : decode cX1_writesNow 104 = .ok (.iload 4, 2) := dk_21 4 (dk_at dksX1_writesNow_4 11 rfl rfl)
theorem dX1_writesNow_106 : decode cX1_writesNow 106 = .ok (.iconst 1, 1) := dk_4 (dk_at dksX1_writesNow_4 13 rfl rfl)
theorem dX1_writesNow_107 : decode cX1_writesNow 107 = .ok (.iadd, 1) := dk_96 (dk_at dksX1_writesNow_4 14 rfl rfl)
theorem dX1_writesNow_108 : decode cX1_writesNow 108 = .ok (.invokevirtual 334, 3) := dk_182 1 78 (dk_at dksX1_writesNow_4 15 rfl rfl)
theorem dX1_writesNow_111 : decode cX1_writesNow 111 = .ok (.pop, 1) := dk_87 (dk_at dksX1_writesNow_4 18 rfl rfl)
theorem dX1_writesNow_112 : decode cX1_writesNow 112 = .ok (.iconst 0, 1) := dk_3 (dk_at dksX1_writesNow_4 19 rfl rfl)
theorem dX1_writesNow_113 : decode cX1_writesNow 113 = .ok (.istore 7, 2) := dk_54 7 (dk_at dksX1_writesNow_4 20 rfl rfl)
theorem dX1_writesNow_115 : decode cX1_writesNow 115 = .ok (.iload 7, 2) := dk_21 7 (dk_at dksX1_writesNow_4 22 rfl rfl)
theorem dX1_writesNow_117 : decode cX1_writesNow 117 = .ok (.iload 4, 2) := dk_21 4 (dk_at dksX1_writesNow_5 0 rfl rfl)
theorem dX1_writesNow_119 : decode cX1_writesNow 119 = .ok (.iconst 2, 1) := dk_5 (dk_at dksX1_writesNow_5 2 rfl rfl)
theorem dX1_writesNow_120 : decode cX1_writesNow 120 = .ok (.iadd, 1) := dk_96 (dk_at dksX1_writesNow_5 3 rfl rfl)
theorem dX1_writesNow_121 : decode cX1_writesNow 121 = .ok (.if_icmp .ge 36, 3) := dk_162 0 36 (dk_at dksX1_writesNow_5 4 rfl rfl)
theorem dX1_writesNow_124 : decode cX1_writesNow 124 = .ok (.iload 7, 2) := dk_21 7 (dk_at dksX1_writesNow_5 7 rfl rfl)
theorem dX1_writesNow_126 : decode cX1_writesNow 126 = .ok (.iload 4, 2) := dk_21 4 (dk_at dksX1_writesNow_5 9 rfl rfl)
theorem dX1_writesNow_128 : decode cX1_writesNow 128 = .ok (.if_icmp .ge 12, 3) := dk_162 0 12 (dk_at dksX1_writesNow_5 11 rfl rfl)
theorem dX1_writesNow_131 : decode cX1_writesNow 131 = .ok (.iload 7, 2) := dk_21 7 (dk_at dksX1_writesNow_5 14 rfl rfl)
theorem dX1_writesNow_133 : decode cX1_writesNow 133 = .ok (.aload_n 0, 1) := dk_42 (dk_at dksX1_writesNow_5 16 rfl rfl)
theorem dX1_writesNow_134 : decode cX1_writesNow 134 = .ok (.getfield 253, 3) := dk_180 0 253 (dk_at dksX1_writesNow_5 17 rfl rfl)
theorem dX1_writesNow_137 : decode cX1_writesNow 137 = .ok (.if_icmp .ne 14, 3) := dk_160 0 14 (dk_at dksX1_writesNow_5 20 rfl rfl)
theorem dX1_writesNow_140 : decode cX1_writesNow 140 = .ok (.aload_n 0, 1) := dk_42 (dk_at dksX1_writesNow_5 23 rfl rfl)
theorem dX1_writesNow_141 : decode cX1_writesNow 141 = .ok (.aload_n 0, 1) := dk_42 (dk_at dksX1_writesNow_6 0 rfl rfl)
theorem dX1_writesNow_142 : decode cX1_writesNow 142 = .ok (.getfield 197, 3) := dk_180 0 197 (dk_at dksX1_writesNow_6 1 rfl rfl)
theorem dX1_writesNow_145 : decode cX1_writesNow 145 = .ok (.iload 7, 2) := dk_21 7 (dk_at dksX1_writesNow_6 4 rfl rfl)
theorem dX1_writesNow_147 : decode cX1_writesNow 147 = .ok (.invokevirtual 337, 3) := dk_182 1 81 (dk_at dksX1_writesNow_6 6 rfl rfl)
theorem dX1_writesNow_150 : decode cX1_writesNow 150 = .ok (.pop, 1) := dk_87 (dk_at dksX1_writesNow_6 9 rfl rfl)
theorem dX1_writesNow_151 : decode cX1_writesNow 151 = .ok (.iinc 7 1, 3) := dk_132 7 1 (dk_at dksX1_writesNow_6 10 rfl rfl)
theorem dX1_writesNow_154 : decode cX1_writesNow 154 = .ok (.goto (-39), 3) := dk_167 255 217 (dk_at dksX1_writesNow_6 13 rfl rfl)
theorem dX1_writesNow_157 : decode cX1_writesNow 157 = .ok (.iload 6, 2) := dk_21 6 (dk_at dksX1_writesNow_6 16 rfl rfl)
theorem dX1_writesNow_159 : decode cX1_writesNow 159 = .ok (.ifCond .eq 12, 3) := dk_153 0 12 (dk_at dksX1_writesNow_6 18 rfl rfl)
theorem dX1_writesNow_162 : decode cX1_writesNow 162 = .ok (.aload_n 0, 1) := dk_42 (dk_at dksX1_writesNow_6 21 rfl rfl)
theorem dX1_writesNow_163 : decode cX1_writesNow 163 = .ok (.iload_n 2, 1) := dk_28 (dk_at dksX1_writesNow_6 22 rfl rfl)
theorem dX1_writesNow_164 : decode cX1_writesNow 164 = .ok (.iload_n 3, 1) := dk_29 (dk_at dksX1_writesNow_6 23 rfl rfl)
theorem dX1_writesNow_165 : decode cX1_writesNow 165 = .ok (.ixor, 1) := dk_130 (dk_at dksX1_writesNow_7 0 rfl rfl)
theorem dX1_writesNow_166 : decode cX1_writesNow 166 = .ok (.invokevirtual 207, 3) := dk_182 0 207 (dk_at dksX1_writesNow_7 1 rfl rfl)
theorem dX1_writesNow_169 : decode cX1_writesNow 169 = .ok (.iload_n 3, 1) := dk_29 (dk_at dksX1_writesNow_7 4 rfl rfl)
theorem dX1_writesNow_170 : decode cX1_writesNow 170 = .ok (.ireturn, 1) := dk_172 (dk_at dksX1_writesNow_7 5 rfl rfl)
theorem dX1_writesNow_171 : decode cX1_writesNow 171 = .ok (.aload_n 0, 1) := dk_42 (dk_at dksX1_writesNow_7 6 rfl rfl)
theorem dX1_writesNow_172 : decode cX1_writesNow 172 = .ok (.aload_n 0, 1) := dk_42 (dk_at dksX1_writesNow_7 7 rfl rfl)
theorem dX1_writesNow_173 : decode cX1_writesNow 173 = .ok (.getfield 197, 3) := dk_180 0 197 (dk_at dksX1_writesNow_7 8 rfl rfl)
theorem dX1_writesNow_176 : decode cX1_writesNow 176 = .ok (.aload_n 0, 1) := dk_42 (dk_at dksX1_writesNow_7 11 rfl rfl)
theorem dX1_writesNow_177 : decode cX1_writesNow 177 = .ok (.getfield 200, 3) := dk_180 0 200 (dk_at dksX1_writesNow_7 12 rfl rfl)
theorem dX1_writesNow_180 : decode cX1_writesNow 180 = .ok (.aload_n 0, 1) := dk_42 (dk_at dksX1_writesNow_7 15 rfl rfl)
theorem dX1_writesNow_181 : decode cX1_writesNow 181 = .ok (.aload_n 0, 1) := dk_42 (dk_at dksX1_writesNow_7 16 rfl rfl)
theorem dX1_writesNow_182 : decode cX1_writesNow 182 = .ok (.getfield 197, 3) := dk_180 0 197 (dk_at dksX1_writesNow_7 17 rfl rfl)
theorem dX1_writesNow_185 : decode cX1_writesNow 185 = .ok (.invokevirtual 289, 3) := dk_182 1 33 (dk_at dksX1_writesNow_7 20 rfl rfl)
theorem dX1_writesNow_188 : decode cX1_writesNow 188 = .ok (.invokevirtual 292, 3) := dk_182 1 36 (dk_at dksX1_writesNow_8 0 rfl rfl)
theorem dX1_writesNow_191 : decode cX1_writesNow 191 = .ok (.aload_n 0, 1) := dk_42 (dk_at dksX1_writesNow_8 3 rfl rfl)
theorem dX1_writesNow_192 : decode cX1_writesNow 192 = .ok (.getfield 259, 3) := dk_180 1 3 (dk_at dksX1_writesNow_8 4 rfl rfl)
theorem dX1_writesNow_195 : decode cX1_writesNow 195 = .ok (.aload_n 0, 1) := dk_42 (dk_at dksX1_writesNow_8 7 rfl rfl)
theorem dX1_writesNow_196 : decode cX1_writesNow 196 = .ok (.getfield 253, 3) := dk_180 0 253 (dk_at dksX1_writesNow_8 8 rfl rfl)
theorem dX1_writesNow_199 : decode cX1_writesNow 199 = .ok (.iload_n 2, 1) := dk_28 (dk_at dksX1_writesNow_8 11 rfl rfl)
theorem dX1_writesNow_200 : decode cX1_writesNow 200 = .ok (.iastore, 1) := dk_79 (dk_at dksX1_writesNow_8 12 rfl rfl)
theorem dX1_writesNow_201 : decode cX1_writesNow 201 = .ok (.aload_n 0, 1) := dk_42 (dk_at dksX1_writesNow_8 13 rfl rfl)
theorem dX1_writesNow_202 : decode cX1_writesNow 202 = .ok (.aload_n 0, 1) := dk_42 (dk_at dksX1_writesNow_8 14 rfl rfl)
theorem dX1_writesNow_203 : decode cX1_writesNow 203 = .ok (.getfield 197, 3) := dk_180 0 197 (dk_at dksX1_writesNow_8 15 rfl rfl)
theorem dX1_writesNow_206 : decode cX1_writesNow 206 = .ok (.aload_n 0, 1) := dk_42 (dk_at dksX1_writesNow_8 18 rfl rfl)
theorem dX1_writesNow_207 : decode cX1_writesNow 207 = .ok (.getfield 253, 3) := dk_180 0 253 (dk_at dksX1_writesNow_8 19 rfl rfl)
theorem dX1_writesNow_210 : decode cX1_writesNow 210 = .ok (.invokevirtual 288, 3) := dk_182 1 32 (dk_at dksX1_writesNow_9 0 rfl rfl)
theorem dX1_writesNow_213 : decode cX1_writesNow 213 = .ok (.ifCond .eq 20, 3) := dk_153 0 20 (dk_at dksX1_writesNow_9 3 rfl rfl)
theorem dX1_writesNow_216 : decode cX1_writesNow 216 = .ok (.aload_n 0, 1) := dk_42 (dk_at dksX1_writesNow_9 6 rfl rfl)
theorem dX1_writesNow_217 : decode cX1_writesNow 217 = .ok (.aload_n 0, 1) := dk_42 (dk_at dksX1_writesNow_9 7 rfl rfl)
theorem dX1_writesNow_218 : decode cX1_writesNow 218 = .ok (.getfield 197, 3) := dk_180 0 197 (dk_at dksX1_writesNow_9 8 rfl rfl)
theorem dX1_writesNow_221 : decode cX1_writesNow 221 = .ok (.aload_n 0, 1) := dk_42 (dk_at dksX1_writesNow_9 11 rfl rfl)
theorem dX1_writesNow_222 : decode cX1_writesNow 222 = .ok (.getfield 253, 3) := dk_180 0 253 (dk_at dksX1_writesNow_9 12 rfl rfl)
theorem dX1_writesNow_225 : decode cX1_writesNow 225 = .ok (.aload_n 0, 1) := dk_42 (dk_at dksX1_writesNow_9 15 rfl rfl)
theorem dX1_writesNow_226 : decode cX1_writesNow 226 = .ok (.getfield 200, 3) := dk_180 0 200 (dk_at dksX1_writesNow_9 16 rfl rfl)
theorem dX1_writesNow_229 : decode cX1_writesNow 229 = .ok (.iload_n 2, 1) := dk_28 (dk_at dksX1_writesNow_9 19 rfl rfl)
theorem dX1_writesNow_230 : decode cX1_writesNow 230 = .ok (.invokevirtual 310, 3) := dk_182 1 54 (dk_at dksX1_writesNow_9 20 rfl rfl)
theorem dX1_writesNow_233 : decode cX1_writesNow 233 = .ok (.aload_n 0, 1) := dk_42 (dk_at dksX1_writesNow_9 23 rfl rfl)
theorem dX1_writesNow_234 : decode cX1_writesNow 234 = .ok (.aload_n 0, 1) := dk_42 (dk_at dksX1_writesNow_10 0 rfl rfl)
theorem dX1_writesNow_235 : decode cX1_writesNow 235 = .ok (.getfield 197, 3) := dk_180 0 197 (dk_at dksX1_writesNow_10 1 rfl rfl)
theorem dX1_writesNow_238 : decode cX1_writesNow 238 = .ok (.aload_n 0, 1) := dk_42 (dk_at dksX1_writesNow_10 4 rfl rfl)
theorem dX1_writesNow_239 : decode cX1_writesNow 239 = .ok (.getfield 200, 3) := dk_180 0 200 (dk_at dksX1_writesNow_10 5 rfl rfl)
theorem dX1_writesNow_242 : decode cX1_writesNow 242 = .ok (.invokevirtual 340, 3) := dk_182 1 84 (dk_at dksX1_writesNow_10 8 rfl rfl)
theorem dX1_writesNow_245 : decode cX1_writesNow 245 = .ok (.iload_n 3, 1) := dk_29 (dk_at dksX1_writesNow_10 11 rfl rfl)
theorem dX1_writesNow_246 : decode cX1_writesNow 246 = .ok (.ireturn, 1) := dk_172 (dk_at dksX1_writesNow_10 12 rfl rfl)
abbrev cX1_readAt : ByteArray := prog_1_method_42_code
def yX1_readAt : MethodName := ⟨RX1, "readAt", "(I)I"⟩
def dkwX1_readAt_3 : List UInt8 := [180, 0, 253, 46, 172]
abbrev dktX1_readAt_3 : List UInt8 := dkwX1_readAt_3 ++ []
def dkwX1_readAt_2 : List UInt8 := [42, 180, 0, 197, 42, 180, 0, 200, 42, 42, 180, 0, 197, 182, 1, 33, 182, 1, 36, 42, 180, 1, 3, 42]
abbrev dktX1_readAt_2 : List UInt8 := dkwX1_readAt_2 ++ dktX1_readAt_3
def dkwX1_readAt_1 : List UInt8 := [180, 0, 178, 180, 0, 191, 42, 180, 0, 194, 42, 180, 0, 197, 42, 180, 0, 200, 184, 0, 203, 46, 172, 42]
abbrev dktX1_readAt_1 : List UInt8 := dkwX1_readAt_1 ++ dktX1_readAt_2
def dkwX1_readAt_0 : List UInt8 := [42, 27, 182, 0, 188, 42, 180, 0, 178, 42, 180, 0, 194, 42, 180, 0, 197, 182, 1, 0, 153, 0, 27, 42]
abbrev dktX1_readAt_0 : List UInt8 := dkwX1_readAt_0 ++ dktX1_readAt_1
theorem dksX1_readAt_0 : cX1_readAt.data.toList.drop 0 = dktX1_readAt_0 := by decide +kernel
theorem dksX1_readAt_1 : cX1_readAt.data.toList.drop 24 = dktX1_readAt_1 := dk_seg dksX1_readAt_0 24 rfl rfl
theorem dksX1_readAt_2 : cX1_readAt.data.toList.drop 48 = dktX1_readAt_2 := dk_seg dksX1_readAt_1 24 rfl rfl
theorem dksX1_readAt_3 : cX1_readAt.data.toList.drop 72 = dktX1_readAt_3 := dk_seg dksX1_readAt_2 24 rfl rfl
theorem dX1_readAt_0 : decode cX1_readAt 0 = .ok (.aload_n 0, 1) := dk_42 (dk_at dksX1_readAt_0 0 rfl rfl)
theorem dX1_readAt_1 : decode cX1_readAt 1 = .ok (.iload_n 1, 1) := dk_27 (dk_at dksX1_readAt_0 1 rfl rfl)
theorem dX1_readAt_2 : decode cX1_readAt 2 = .ok (.invokevirtual 188, 3) := dk_182 0 188 (dk_at dksX1_readAt_0 2 rfl rfl)
theorem dX1_readAt_5 : decode cX1_readAt 5 = .ok (.aload_n 0, 1) := dk_42 (dk_at dksX1_readAt_0 5 rfl rfl)
theorem dX1_readAt_6 : decode cX1_readAt 6 = .ok (.getfield 178, 3) := dk_180 0 178 (dk_at dksX1_readAt_0 6 rfl rfl)
theorem dX1_readAt_9 : decode cX1_readAt 9 = .ok (.aload_n 0, 1) := dk_42 (dk_at dksX1_readAt_0 9 rfl rfl)
theorem dX1_readAt_10 : decode cX1_readAt 10 = .ok (.getfield 194, 3) := dk_180 0 194 (dk_at dksX1_readAt_0 10 rfl rfl)
theorem dX1_readAt_13 : decode cX1_readAt 13 = .ok (.aload_n 0, 1) := dk_42 (dk_at dksX1_readAt_0 13 rfl rfl)
theorem dX1_readAt_14 : decode cX1_readAt 14 = .ok (.getfield 197, 3) := dk_180 0 197 (dk_at dksX1_readAt_0 14 rfl rfl)
theorem dX1_readAt_17 : decode cX1_readAt 17 = .ok (.invokevirtual 256, 3) := dk_182 1 0 (dk_at dksX1_readAt_0 17 rfl rfl)
theorem dX1_readAt_20 : decode cX1_readAt 20 = .ok (.ifCond .eq 27, 3) := dk_153 0 27 (dk_at dksX1_readAt_0 20 rfl rfl)
theorem dX1_readAt_23 : decode cX1_readAt 23 = .ok (.aload_n 0, 1) := dk_42 (dk_at dksX1_readAt_0 23 rfl rfl)
theorem dX1_readAt_24 : decode cX1_readAt 24 = .ok (.getfield 178, 3) := dk_180 0 178 (dk_at dksX1_readAt_1 0 rfl rfl)
theorem dX1_readAt_27 : decode cX1_readAt 27 = .ok (.getfield 191, 3) := dk_180 0 191 (dk_at dksX1_readAt_1 3 rfl rfl)
theorem dX1_readAt_30 : decode cX1_readAt 30 = .ok (.aload_n 0, 1) := dk_42 (dk_at dksX1_readAt_1 6 rfl rfl)
theorem dX1_readAt_31 : decode cX1_readAt 31 = .ok (.getfield 194, 3) := dk_180 0 194 (dk_at dksX1_readAt_1 7 rfl rfl)
theorem dX1_readAt_34 : decode cX1_readAt 34 = .ok (.aload_n 0, 1) := dk_42 (dk_at dksX1_readAt_1 10 rfl rfl)
theorem dX1_readAt_35 : decode cX1_readAt 35 = .ok (.getfield 197, 3) := dk_180 0 197 (dk_at dksX1_readAt_1 11 rfl rfl)
theorem dX1_readAt_38 : decode cX1_readAt 38 = .ok (.aload_n 0, 1) := dk_42 (dk_at dksX1_readAt_1 14 rfl rfl)
theorem dX1_readAt_39 : decode cX1_readAt 39 = .ok (.getfield 200, 3) := dk_180 0 200 (dk_at dksX1_readAt_1 15 rfl rfl)
theorem dX1_readAt_42 : decode cX1_readAt 42 = .ok (.invokestatic 203, 3) := dk_184 0 203 (dk_at dksX1_readAt_1 18 rfl rfl)
theorem dX1_readAt_45 : decode cX1_readAt 45 = .ok (.iaload, 1) := dk_46 (dk_at dksX1_readAt_1 21 rfl rfl)
theorem dX1_readAt_46 : decode cX1_readAt 46 = .ok (.ireturn, 1) := dk_172 (dk_at dksX1_readAt_1 22 rfl rfl)
theorem dX1_readAt_47 : decode cX1_readAt 47 = .ok (.aload_n 0, 1) := dk_42 (dk_at dksX1_readAt_1 23 rfl rfl)
theorem dX1_readAt_48 : decode cX1_readAt 48 = .ok (.aload_n 0, 1) := dk_42 (dk_at dksX1_readAt_2 0 rfl rfl)
theorem dX1_readAt_49 : decode cX1_readAt 49 = .ok (.getfield 197, 3) := dk_180 0 197 (dk_at dksX1_readAt_2 1 rfl rfl)
theorem dX1_readAt_52 : decode cX1_readAt 52 = .ok (.aload_n 0, 1) := dk_42 (dk_at dksX1_readAt_2 4 rfl rfl)
theorem dX1_readAt_53 : decode cX1_readAt 53 = .ok (.getfield 200, 3) := dk_180 0 200 (dk_at dksX1_readAt_2 5 rfl rfl)
theorem dX1_readAt_56 : decode cX1_readAt 56 = .ok (.aload_n 0, 1) := dk_42 (dk_at dksX1_readAt_2 8 rfl rfl)
theorem dX1_readAt_57 : decode cX1_readAt 57 = .ok (.aload_n 0, 1) := dk_42 (dk_at dksX1_readAt_2 9 rfl rfl)
theorem dX1_readAt_58 : decode cX1_readAt 58 = .ok (.getfield 197, 3) := dk_180 0 197 (dk_at dksX1_readAt_2 10 rfl rfl)
theorem dX1_readAt_61 : decode cX1_readAt 61 = .ok (.invokevirtual 289, 3) := dk_182 1 33 (dk_at dksX1_readAt_2 13 rfl rfl)
theorem dX1_readAt_64 : decode cX1_readAt 64 = .ok (.invokevirtual 292, 3) := dk_182 1 36 (dk_at dksX1_readAt_2 16 rfl rfl)
theorem dX1_readAt_67 : decode cX1_readAt 67 = .ok (.aload_n 0, 1) := dk_42 (dk_at dksX1_readAt_2 19 rfl rfl)
theorem dX1_readAt_68 : decode cX1_readAt 68 = .ok (.getfield 259, 3) := dk_180 1 3 (dk_at dksX1_readAt_2 20 rfl rfl)
theorem dX1_readAt_71 : decode cX1_readAt 71 = .ok (.aload_n 0, 1) := dk_42 (dk_at dksX1_readAt_2 23 rfl rfl)
theorem dX1_readAt_72 : decode cX1_readAt 72 = .ok (.getfield 253, 3) := dk_180 0 253 (dk_at dksX1_readAt_3 0 rfl rfl)
theorem dX1_readAt_75 : decode cX1_readAt 75 = .ok (.iaload, 1) := dk_46 (dk_at dksX1_readAt_3 3 rfl rfl)
theorem dX1_readAt_76 : decode cX1_readAt 76 = .ok (.ireturn, 1) := dk_172 (dk_at dksX1_readAt_3 4 rfl rfl)
abbrev cX1_solves : ByteArray := prog_1_method_40_code
def yX1_solves : MethodName := ⟨RX1, "solves", "(III)V"⟩
def dkwX1_solves_13 : List UInt8 := [21, 4, 4, 96, 42, 3, 182, 1, 23, 79, 177]
abbrev dktX1_solves_13 : List UInt8 := dkwX1_solves_13 ++ []
def dkwX1_solves_12 : List UInt8 := [21, 4, 42, 3, 182, 1, 29, 79, 29, 21, 4, 4, 96, 184, 0, 82, 153, 0, 17, 42, 180, 1, 3]
abbrev dktX1_solves_12 : List UInt8 := dkwX1_solves_12 ++ dktX1_solves_13
def dkwX1_solves_11 : List UInt8 := [21, 8, 42, 180, 1, 3, 21, 6, 46, 130, 79, 29, 21, 4, 184, 0, 82, 153, 0, 15, 42, 180, 1, 3]
abbrev dktX1_solves_11 : List UInt8 := dkwX1_solves_11 ++ dktX1_solves_12
def dkwX1_solves_10 : List UInt8 := [182, 1, 6, 42, 180, 0, 164, 21, 7, 182, 1, 6, 130, 182, 1, 26, 79, 42, 180, 1, 3, 21, 7]
abbrev dktX1_solves_10 : List UInt8 := dkwX1_solves_10 ++ dktX1_solves_11
def dkwX1_solves_9 : List UInt8 := [180, 0, 164, 21, 8, 42, 180, 0, 164, 21, 7, 182, 1, 6, 182, 1, 9, 130, 42, 180, 0, 164, 21, 6]
abbrev dktX1_solves_9 : List UInt8 := dkwX1_solves_9 ++ dktX1_solves_10
def dkwX1_solves_8 : List UInt8 := [96, 46, 42, 29, 182, 1, 23, 130, 54, 9, 42, 180, 1, 3, 21, 6, 42, 180, 0, 164, 21, 9, 42]
abbrev dktX1_solves_8 : List UInt8 := dkwX1_solves_8 ++ dktX1_solves_9
def dkwX1_solves_7 : List UInt8 := [54, 7, 42, 180, 1, 3, 21, 4, 46, 42, 29, 182, 1, 29, 130, 54, 8, 42, 180, 1, 3, 21, 4, 4]
abbrev dktX1_solves_7 : List UInt8 := dkwX1_solves_7 ++ dktX1_solves_8
def dkwX1_solves_6 : List UInt8 := [79, 167, 0, 127, 21, 5, 184, 1, 20, 5, 160, 0, 118, 21, 5, 21, 5, 4, 100, 126, 184, 1, 15]
abbrev dktX1_solves_6 : List UInt8 := dkwX1_solves_6 ++ dktX1_solves_7
def dkwX1_solves_5 : List UInt8 := [21, 6, 182, 1, 6, 182, 1, 26, 167, 0, 16, 42, 180, 1, 3, 21, 4, 46, 42, 29, 182, 1, 29, 130]
abbrev dktX1_solves_5 : List UInt8 := dkwX1_solves_5 ++ dktX1_solves_6
def dkwX1_solves_4 : List UInt8 := [42, 180, 0, 164, 42, 180, 1, 3, 21, 4, 4, 96, 46, 42, 29, 182, 1, 23, 130, 42, 180, 0, 164]
abbrev dktX1_solves_4 : List UInt8 := dkwX1_solves_4 ++ dktX1_solves_5
def dkwX1_solves_3 : List UInt8 := [21, 5, 184, 1, 20, 4, 160, 0, 69, 42, 180, 1, 3, 21, 6, 29, 21, 4, 184, 0, 82, 153, 0, 37]
abbrev dktX1_solves_3 : List UInt8 := dkwX1_solves_3 ++ dktX1_solves_4
def dkwX1_solves_2 : List UInt8 := [132, 5, 1, 167, 255, 216, 29, 4, 21, 4, 120, 4, 100, 126, 54, 5, 21, 5, 184, 1, 15, 54, 6]
abbrev dktX1_solves_2 : List UInt8 := dkwX1_solves_2 ++ dktX1_solves_3
def dkwX1_solves_1 : List UInt8 := [29, 21, 5, 184, 0, 82, 153, 0, 7, 3, 167, 0, 11, 42, 27, 21, 5, 28, 182, 1, 12, 79]
abbrev dktX1_solves_1 : List UInt8 := dkwX1_solves_1 ++ dktX1_solves_2
def dkwX1_solves_0 : List UInt8 := [42, 182, 0, 234, 54, 4, 3, 54, 5, 21, 5, 21, 4, 5, 96, 162, 0, 37, 42, 180, 1, 3, 21, 5]
abbrev dktX1_solves_0 : List UInt8 := dkwX1_solves_0 ++ dktX1_solves_1
theorem dksX1_solves_0 : cX1_solves.data.toList.drop 0 = dktX1_solves_0 := by decide +kernel
theorem dksX1_solves_1 : cX1_solves.data.toList.drop 24 = dktX1_solves_1 := dk_seg dksX1_solves_0 24 rfl rfl
theorem dksX1_solves_2 : cX1_solves.data.toList.drop 46 = dktX1_solves_2 := dk_seg dksX1_solves_1 22 rfl rfl
theorem dksX1_solves_3 : cX1_solves.data.toList.drop 69 = dktX1_solves_3 := dk_seg dksX1_solves_2 23 rfl rfl
theorem dksX1_solves_4 : cX1_solves.data.toList.drop 93 = dktX1_solves_4 := dk_seg dksX1_solves_3 24 rfl rfl
theorem dksX1_solves_5 : cX1_solves.data.toList.drop 116 = dktX1_solves_5 := dk_seg dksX1_solves_4 23 rfl rfl
theorem dksX1_solves_6 : cX1_solves.data.toList.drop 140 = dktX1_solves_6 := dk_seg dksX1_solves_5 24 rfl rfl
theorem dksX1_solves_7 : cX1_solves.data.toList.drop 163 = dktX1_solves_7 := dk_seg dksX1_solves_6 23 rfl rfl
theorem dksX1_solves_8 : cX1_solves.data.toList.drop 187 = dktX1_solves_8 := dk_seg dksX1_solves_7 24 rfl rfl
theorem dksX1_solves_9 : cX1_solves.data.toList.drop 210 = dktX1_solves_9 := dk_seg dksX1_solves_8 23 rfl rfl
theorem dksX1_solves_10 : cX1_solves.data.toList.drop 234 = dktX1_solves_10 := dk_seg dksX1_solves_9 24 rfl rfl
theorem dksX1_solves_11 : cX1_solves.data.toList.drop 257 = dktX1_solves_11 := dk_seg dksX1_solves_10 23 rfl rfl
theorem dksX1_solves_12 : cX1_solves.data.toList.drop 281 = dktX1_solves_12 := dk_seg dksX1_solves_11 24 rfl rfl
theorem dksX1_solves_13 : cX1_solves.data.toList.drop 304 = dktX1_solves_13 := dk_seg dksX1_solves_12 23 rfl rfl
theorem dX1_solves_0 : decode cX1_solves 0 = .ok (.aload_n 0, 1) := dk_42 (dk_at dksX1_solves_0 0 rfl rfl)
theorem dX1_solves_1 : decode cX1_solves 1 = .ok (.invokevirtual 234, 3) := dk_182 0 234 (dk_at dksX1_solves_0 1 rfl rfl)
theorem dX1_solves_4 : decode cX1_solves 4 = .ok (.istore 4, 2) := dk_54 4 (dk_at dksX1_solves_0 4 rfl rfl)
theorem dX1_solves_6 : decode cX1_solves 6 = .ok (.iconst 0, 1) := dk_3 (dk_at dksX1_solves_0 6 rfl rfl)
theorem dX1_solves_7 : decode cX1_solves 7 = .ok (.istore 5, 2) := dk_54 5 (dk_at dksX1_solves_0 7 rfl rfl)
theorem dX1_solves_9 : decode cX1_solves 9 = .ok (.iload 5, 2) := dk_21 5 (dk_at dksX1_solves_0 9 rfl rfl)
theorem dX1_solves_11 : decode cX1_solves 11 = .ok (.iload 4, 2) := dk_21 4 (dk_at dksX1_solves_0 11 rfl rfl)
theorem dX1_solves_13 : decode cX1_solves 13 = .ok (.iconst 2, 1) := dk_5 (dk_at dksX1_solves_0 13 rfl rfl)
theorem dX1_solves_14 : decode cX1_solves 14 = .ok (.iadd, 1) := dk_96 (dk_at dksX1_solves_0 14 rfl rfl)
theorem dX1_solves_15 : decode cX1_solves 15 = .ok (.if_icmp .ge 37, 3) := dk_162 0 37 (dk_at dksX1_solves_0 15 rfl rfl)
theorem dX1_solves_18 : decode cX1_solves 18 = .ok (.aload_n 0, 1) := dk_42 (dk_at dksX1_solves_0 18 rfl rfl)
theorem dX1_solves_19 : decode cX1_solves 19 = .ok (.getfield 259, 3) := dk_180 1 3 (dk_at dksX1_solves_0 19 rfl rfl)
theorem dX1_solves_22 : decode cX1_solves 22 = .ok (.iload 5, 2) := dk_21 5 (dk_at dksX1_solves_0 22 rfl rfl)
theorem dX1_solves_24 : decode cX1_solves 24 = .ok (.iload_n 3, 1) := dk_29 (dk_at dksX1_solves_1 0 rfl rfl)
theorem dX1_solves_25 : decode cX1_solves 25 = .ok (.iload 5, 2) := dk_21 5 (dk_at dksX1_solves_1 1 rfl rfl)
theorem dX1_solves_27 : decode cX1_solves 27 = .ok (.invokestatic 82, 3) := dk_184 0 82 (dk_at dksX1_solves_1 3 rfl rfl)
theorem dX1_solves_30 : decode cX1_solves 30 = .ok (.ifCond .eq 7, 3) := dk_153 0 7 (dk_at dksX1_solves_1 6 rfl rfl)
theorem dX1_solves_33 : decode cX1_solves 33 = .ok (.iconst 0, 1) := dk_3 (dk_at dksX1_solves_1 9 rfl rfl)
theorem dX1_solves_34 : decode cX1_solves 34 = .ok (.goto 11, 3) := dk_167 0 11 (dk_at dksX1_solves_1 10 rfl rfl)
theorem dX1_solves_37 : decode cX1_solves 37 = .ok (.aload_n 0, 1) := dk_42 (dk_at dksX1_solves_1 13 rfl rfl)
theorem dX1_solves_38 : decode cX1_solves 38 = .ok (.iload_n 1, 1) := dk_27 (dk_at dksX1_solves_1 14 rfl rfl)
theorem dX1_solves_39 : decode cX1_solves 39 = .ok (.iload 5, 2) := dk_21 5 (dk_at dksX1_solves_1 15 rfl rfl)
theorem dX1_solves_41 : decode cX1_solves 41 = .ok (.iload_n 2, 1) := dk_28 (dk_at dksX1_solves_1 17 rfl rfl)
theorem dX1_solves_42 : decode cX1_solves 42 = .ok (.invokevirtual 268, 3) := dk_182 1 12 (dk_at dksX1_solves_1 18 rfl rfl)
theorem dX1_solves_45 : decode cX1_solves 45 = .ok (.iastore, 1) := dk_79 (dk_at dksX1_solves_1 21 rfl rfl)
theorem dX1_solves_46 : decode cX1_solves 46 = .ok (.iinc 5 1, 3) := dk_132 5 1 (dk_at dksX1_solves_2 0 rfl rfl)
theorem dX1_solves_49 : decode cX1_solves 49 = .ok (.goto (-40), 3) := dk_167 255 216 (dk_at dksX1_solves_2 3 rfl rfl)
theorem dX1_solves_52 : decode cX1_solves 52 = .ok (.iload_n 3, 1) := dk_29 (dk_at dksX1_solves_2 6 rfl rfl)
theorem dX1_solves_53 : decode cX1_solves 53 = .ok (.iconst 1, 1) := dk_4 (dk_at dksX1_solves_2 7 rfl rfl)
theorem dX1_solves_54 : decode cX1_solves 54 = .ok (.iload 4, 2) := dk_21 4 (dk_at dksX1_solves_2 8 rfl rfl)
theorem dX1_solves_56 : decode cX1_solves 56 = .ok (.ishl, 1) := dk_120 (dk_at dksX1_solves_2 10 rfl rfl)
theorem dX1_solves_57 : decode cX1_solves 57 = .ok (.iconst 1, 1) := dk_4 (dk_at dksX1_solves_2 11 rfl rfl)
theorem dX1_solves_58 : decode cX1_solves 58 = .ok (.isub, 1) := dk_100 (dk_at dksX1_solves_2 12 rfl rfl)
theorem dX1_solves_59 : decode cX1_solves 59 = .ok (.iand, 1) := dk_126 (dk_at dksX1_solves_2 13 rfl rfl)
theorem dX1_solves_60 : decode cX1_solves 60 = .ok (.istore 5, 2) := dk_54 5 (dk_at dksX1_solves_2 14 rfl rfl)
theorem dX1_solves_62 : decode cX1_solves 62 = .ok (.iload 5, 2) := dk_21 5 (dk_at dksX1_solves_2 16 rfl rfl)
theorem dX1_solves_64 : decode cX1_solves 64 = .ok (.invokestatic 271, 3) := dk_184 1 15 (dk_at dksX1_solves_2 18 rfl rfl)
theorem dX1_solves_67 : decode cX1_solves 67 = .ok (.istore 6, 2) := dk_54 6 (dk_at dksX1_solves_2 21 rfl rfl)
theorem dX1_solves_69 : decode cX1_solves 69 = .ok (.iload 5, 2) := dk_21 5 (dk_at dksX1_solves_3 0 rfl rfl)
theorem dX1_solves_71 : decode cX1_solves 71 = .ok (.invokestatic 276, 3) := dk_184 1 20 (dk_at dksX1_solves_3 2 rfl rfl)
theorem dX1_solves_74 : decode cX1_solves 74 = .ok (.iconst 1, 1) := dk_4 (dk_at dksX1_solves_3 5 rfl rfl)
theorem dX1_solves_75 : decode cX1_solves 75 = .ok (.if_icmp .ne 69, 3) := dk_160 0 69 (dk_at dksX1_solves_3 6 rfl rfl)
theorem dX1_solves_78 : decode cX1_solves 78 = .ok (.aload_n 0, 1) := dk_42 (dk_at dksX1_solves_3 9 rfl rfl)
theorem dX1_solves_79 : decode cX1_solves 79 = .ok (.getfield 259, 3) := dk_180 1 3 (dk_at dksX1_solves_3 10 rfl rfl)
theorem dX1_solves_82 : decode cX1_solves 82 = .ok (.iload 6, 2) := dk_21 6 (dk_at dksX1_solves_3 13 rfl rfl)
theorem dX1_solves_84 : decode cX1_solves 84 = .ok (.iload_n 3, 1) := dk_29 (dk_at dksX1_solves_3 15 rfl rfl)
theorem dX1_solves_85 : decode cX1_solves 85 = .ok (.iload 4, 2) := dk_21 4 (dk_at dksX1_solves_3 16 rfl rfl)
theorem dX1_solves_87 : decode cX1_solves 87 = .ok (.invokestatic 82, 3) := dk_184 0 82 (dk_at dksX1_solves_3 18 rfl rfl)
theorem dX1_solves_90 : decode cX1_solves 90 = .ok (.ifCond .eq 37, 3) := dk_153 0 37 (dk_at dksX1_solves_3 21 rfl rfl)
theorem dX1_solves_93 : decode cX1_solves 93 = .ok (.aload_n 0, 1) := dk_42 (dk_at dksX1_solves_4 0 rfl rfl)
theorem dX1_solves_94 : decode cX1_solves 94 = .ok (.getfield 164, 3) := dk_180 0 164 (dk_at dksX1_solves_4 1 rfl rfl)
theorem dX1_solves_97 : decode cX1_solves 97 = .ok (.aload_n 0, 1) := dk_42 (dk_at dksX1_solves_4 4 rfl rfl)
theorem dX1_solves_98 : decode cX1_solves 98 = .ok (.getfield 259, 3) := dk_180 1 3 (dk_at dksX1_solves_4 5 rfl rfl)
theorem dX1_solves_101 : decode cX1_solves 101 = .ok (.iload 4, 2) := dk_21 4 (dk_at dksX1_solves_4 8 rfl rfl)
theorem dX1_solves_103 : decode cX1_solves 103 = .ok (.iconst 1, 1) := dk_4 (dk_at dksX1_solves_4 10 rfl rfl)
theorem dX1_solves_104 : decode cX1_solves 104 = .ok (.iadd, 1) := dk_96 (dk_at dksX1_solves_4 11 rfl rfl)
theorem dX1_solves_105 : decode cX1_solves 105 = .ok (.iaload, 1) := dk_46 (dk_at dksX1_solves_4 12 rfl rfl)
theorem dX1_solves_106 : decode cX1_solves 106 = .ok (.aload_n 0, 1) := dk_42 (dk_at dksX1_solves_4 13 rfl rfl)
theorem dX1_solves_107 : decode cX1_solves 107 = .ok (.iload_n 3, 1) := dk_29 (dk_at dksX1_solves_4 14 rfl rfl)
theorem dX1_solves_108 : decode cX1_solves 108 = .ok (.invokevirtual 279, 3) := dk_182 1 23 (dk_at dksX1_solves_4 15 rfl rfl)
theorem dX1_solves_111 : decode cX1_solves 111 = .ok (.ixor, 1) := dk_130 (dk_at dksX1_solves_4 18 rfl rfl)
theorem dX1_solves_112 : decode cX1_solves 112 = .ok (.aload_n 0, 1) := dk_42 (dk_at dksX1_solves_4 19 rfl rfl)
theorem dX1_solves_113 : decode cX1_solves 113 = .ok (.getfield 164, 3) := dk_180 0 164 (dk_at dksX1_solves_4 20 rfl rfl)
theorem dX1_solves_116 : decode cX1_solves 116 = .ok (.iload 6, 2) := dk_21 6 (dk_at dksX1_solves_5 0 rfl rfl)
theorem dX1_solves_118 : decode cX1_solves 118 = .ok (.invokevirtual 262, 3) := dk_182 1 6 (dk_at dksX1_solves_5 2 rfl rfl)
theorem dX1_solves_121 : decode cX1_solves 121 = .ok (.invokevirtual 282, 3) := dk_182 1 26 (dk_at dksX1_solves_5 5 rfl rfl)
theorem dX1_solves_124 : decode cX1_solves 124 = .ok (.goto 16, 3) := dk_167 0 16 (dk_at dksX1_solves_5 8 rfl rfl)
theorem dX1_solves_127 : decode cX1_solves 127 = .ok (.aload_n 0, 1) := dk_42 (dk_at dksX1_solves_5 11 rfl rfl)
theorem dX1_solves_128 : decode cX1_solves 128 = .ok (.getfield 259, 3) := dk_180 1 3 (dk_at dksX1_solves_5 12 rfl rfl)
theorem dX1_solves_131 : decode cX1_solves 131 = .ok (.iload 4, 2) := dk_21 4 (dk_at dksX1_solves_5 15 rfl rfl)
theorem dX1_solves_133 : decode cX1_solves 133 = .ok (.iaload, 1) := dk_46 (dk_at dksX1_solves_5 17 rfl rfl)
theorem dX1_solves_134 : decode cX1_solves 134 = .ok (.aload_n 0, 1) := dk_42 (dk_at dksX1_solves_5 18 rfl rfl)
theorem dX1_solves_135 : decode cX1_solves 135 = .ok (.iload_n 3, 1) := dk_29 (dk_at dksX1_solves_5 19 rfl rfl)
theorem dX1_solves_136 : decode cX1_solves 136 = .ok (.invokevirtual 285, 3) := dk_182 1 29 (dk_at dksX1_solves_5 20 rfl rfl)
theorem dX1_solves_139 : decode cX1_solves 139 = .ok (.ixor, 1) := dk_130 (dk_at dksX1_solves_5 23 rfl rfl)
theorem dX1_solves_140 : decode cX1_solves 140 = .ok (.iastore, 1) := dk_79 (dk_at dksX1_solves_6 0 rfl rfl)
theorem dX1_solves_141 : decode cX1_solves 141 = .ok (.goto 127, 3) := dk_167 0 127 (dk_at dksX1_solves_6 1 rfl rfl)
theorem dX1_solves_144 : decode cX1_solves 144 = .ok (.iload 5, 2) := dk_21 5 (dk_at dksX1_solves_6 4 rfl rfl)
theorem dX1_solves_146 : decode cX1_solves 146 = .ok (.invokestatic 276, 3) := dk_184 1 20 (dk_at dksX1_solves_6 6 rfl rfl)
theorem dX1_solves_149 : decode cX1_solves 149 = .ok (.iconst 2, 1) := dk_5 (dk_at dksX1_solves_6 9 rfl rfl)
theorem dX1_solves_150 : decode cX1_solves 150 = .ok (.if_icmp .ne 118, 3) := dk_160 0 118 (dk_at dksX1_solves_6 10 rfl rfl)
theorem dX1_solves_153 : decode cX1_solves 153 = .ok (.iload 5, 2) := dk_21 5 (dk_at dksX1_solves_6 13 rfl rfl)
theorem dX1_solves_155 : decode cX1_solves 155 = .ok (.iload 5, 2) := dk_21 5 (dk_at dksX1_solves_6 15 rfl rfl)
theorem dX1_solves_157 : decode cX1_solves 157 = .ok (.iconst 1, 1) := dk_4 (dk_at dksX1_solves_6 17 rfl rfl)
theorem dX1_solves_158 : decode cX1_solves 158 = .ok (.isub, 1) := dk_100 (dk_at dksX1_solves_6 18 rfl rfl)
theorem dX1_solves_159 : decode cX1_solves 159 = .ok (.iand, 1) := dk_126 (dk_at dksX1_solves_6 19 rfl rfl)
theorem dX1_solves_160 : decode cX1_solves 160 = .ok (.invokestatic 271, 3) := dk_184 1 15 (dk_at dksX1_solves_6 20 rfl rfl)
theorem dX1_solves_163 : decode cX1_solves 163 = .ok (.istore 7, 2) := dk_54 7 (dk_at dksX1_solves_7 0 rfl rfl)
theorem dX1_solves_165 : decode cX1_solves 165 = .ok (.aload_n 0, 1) := dk_42 (dk_at dksX1_solves_7 2 rfl rfl)
theorem dX1_solves_166 : decode cX1_solves 166 = .ok (.getfield 259, 3) := dk_180 1 3 (dk_at dksX1_solves_7 3 rfl rfl)
theorem dX1_solves_169 : decode cX1_solves 169 = .ok (.iload 4, 2) := dk_21 4 (dk_at dksX1_solves_7 6 rfl rfl)
theorem dX1_solves_171 : decode cX1_solves 171 = .ok (.iaload, 1) := dk_46 (dk_at dksX1_solves_7 8 rfl rfl)
theorem dX1_solves_172 : decode cX1_solves 172 = .ok (.aload_n 0, 1) := dk_42 (dk_at dksX1_solves_7 9 rfl rfl)
theorem dX1_solves_173 : decode cX1_solves 173 = .ok (.iload_n 3, 1) := dk_29 (dk_at dksX1_solves_7 10 rfl rfl)
theorem dX1_solves_174 : decode cX1_solves 174 = .ok (.invokevirtual 285, 3) := dk_182 1 29 (dk_at dksX1_solves_7 11 rfl rfl)
theorem dX1_solves_177 : decode cX1_solves 177 = .ok (.ixor, 1) := dk_130 (dk_at dksX1_solves_7 14 rfl rfl)
theorem dX1_solves_178 : decode cX1_solves 178 = .ok (.istore 8, 2) := dk_54 8 (dk_at dksX1_solves_7 15 rfl rfl)
theorem dX1_solves_180 : decode cX1_solves 180 = .ok (.aload_n 0, 1) := dk_42 (dk_at dksX1_solves_7 17 rfl rfl)
theorem dX1_solves_181 : decode cX1_solves 181 = .ok (.getfield 259, 3) := dk_180 1 3 (dk_at dksX1_solves_7 18 rfl rfl)
theorem dX1_solves_184 : decode cX1_solves 184 = .ok (.iload 4, 2) := dk_21 4 (dk_at dksX1_solves_7 21 rfl rfl)
theorem dX1_solves_186 : decode cX1_solves 186 = .ok (.iconst 1, 1) := dk_4 (dk_at dksX1_solves_7 23 rfl rfl)
theorem dX1_solves_187 : decode cX1_solves 187 = .ok (.iadd, 1) := dk_96 (dk_at dksX1_solves_8 0 rfl rfl)
theorem dX1_solves_188 : decode cX1_solves 188 = .ok (.iaload, 1) := dk_46 (dk_at dksX1_solves_8 1 rfl rfl)
theorem dX1_solves_189 : decode cX1_solves 189 = .ok (.aload_n 0, 1) := dk_42 (dk_at dksX1_solves_8 2 rfl rfl)
theorem dX1_solves_190 : decode cX1_solves 190 = .ok (.iload_n 3, 1) := dk_29 (dk_at dksX1_solves_8 3 rfl rfl)
theorem dX1_solves_191 : decode cX1_solves 191 = .ok (.invokevirtual 279, 3) := dk_182 1 23 (dk_at dksX1_solves_8 4 rfl rfl)
theorem dX1_solves_194 : decode cX1_solves 194 = .ok (.ixor, 1) := dk_130 (dk_at dksX1_solves_8 7 rfl rfl)
theorem dX1_solves_195 : decode cX1_solves 195 = .ok (.istore 9, 2) := dk_54 9 (dk_at dksX1_solves_8 8 rfl rfl)
theorem dX1_solves_197 : decode cX1_solves 197 = .ok (.aload_n 0, 1) := dk_42 (dk_at dksX1_solves_8 10 rfl rfl)
theorem dX1_solves_198 : decode cX1_solves 198 = .ok (.getfield 259, 3) := dk_180 1 3 (dk_at dksX1_solves_8 11 rfl rfl)
theorem dX1_solves_201 : decode cX1_solves 201 = .ok (.iload 6, 2) := dk_21 6 (dk_at dksX1_solves_8 14 rfl rfl)
theorem dX1_solves_203 : decode cX1_solves 203 = .ok (.aload_n 0, 1) := dk_42 (dk_at dksX1_solves_8 16 rfl rfl)
theorem dX1_solves_204 : decode cX1_solves 204 = .ok (.getfield 164, 3) := dk_180 0 164 (dk_at dksX1_solves_8 17 rfl rfl)
theorem dX1_solves_207 : decode cX1_solves 207 = .ok (.iload 9, 2) := dk_21 9 (dk_at dksX1_solves_8 20 rfl rfl)
theorem dX1_solves_209 : decode cX1_solves 209 = .ok (.aload_n 0, 1) := dk_42 (dk_at dksX1_solves_8 22 rfl rfl)
theorem dX1_solves_210 : decode cX1_solves 210 = .ok (.getfield 164, 3) := dk_180 0 164 (dk_at dksX1_solves_9 0 rfl rfl)
theorem dX1_solves_213 : decode cX1_solves 213 = .ok (.iload 8, 2) := dk_21 8 (dk_at dksX1_solves_9 3 rfl rfl)
theorem dX1_solves_215 : decode cX1_solves 215 = .ok (.aload_n 0, 1) := dk_42 (dk_at dksX1_solves_9 5 rfl rfl)
theorem dX1_solves_216 : decode cX1_solves 216 = .ok (.getfield 164, 3) := dk_180 0 164 (dk_at dksX1_solves_9 6 rfl rfl)
theorem dX1_solves_219 : decode cX1_solves 219 = .ok (.iload 7, 2) := dk_21 7 (dk_at dksX1_solves_9 9 rfl rfl)
theorem dX1_solves_221 : decode cX1_solves 221 = .ok (.invokevirtual 262, 3) := dk_182 1 6 (dk_at dksX1_solves_9 11 rfl rfl)
theorem dX1_solves_224 : decode cX1_solves 224 = .ok (.invokevirtual 265, 3) := dk_182 1 9 (dk_at dksX1_solves_9 14 rfl rfl)
theorem dX1_solves_227 : decode cX1_solves 227 = .ok (.ixor, 1) := dk_130 (dk_at dksX1_solves_9 17 rfl rfl)
theorem dX1_solves_228 : decode cX1_solves 228 = .ok (.aload_n 0, 1) := dk_42 (dk_at dksX1_solves_9 18 rfl rfl)
theorem dX1_solves_229 : decode cX1_solves 229 = .ok (.getfield 164, 3) := dk_180 0 164 (dk_at dksX1_solves_9 19 rfl rfl)
theorem dX1_solves_232 : decode cX1_solves 232 = .ok (.iload 6, 2) := dk_21 6 (dk_at dksX1_solves_9 22 rfl rfl)
theorem dX1_solves_234 : decode cX1_solves 234 = .ok (.invokevirtual 262, 3) := dk_182 1 6 (dk_at dksX1_solves_10 0 rfl rfl)
theorem dX1_solves_237 : decode cX1_solves 237 = .ok (.aload_n 0, 1) := dk_42 (dk_at dksX1_solves_10 3 rfl rfl)
theorem dX1_solves_238 : decode cX1_solves 238 = .ok (.getfield 164, 3) := dk_180 0 164 (dk_at dksX1_solves_10 4 rfl rfl)
theorem dX1_solves_241 : decode cX1_solves 241 = .ok (.iload 7, 2) := dk_21 7 (dk_at dksX1_solves_10 7 rfl rfl)
theorem dX1_solves_243 : decode cX1_solves 243 = .ok (.invokevirtual 262, 3) := dk_182 1 6 (dk_at dksX1_solves_10 9 rfl rfl)
theorem dX1_solves_246 : decode cX1_solves 246 = .ok (.ixor, 1) := dk_130 (dk_at dksX1_solves_10 12 rfl rfl)
theorem dX1_solves_247 : decode cX1_solves 247 = .ok (.invokevirtual 282, 3) := dk_182 1 26 (dk_at dksX1_solves_10 13 rfl rfl)
theorem dX1_solves_250 : decode cX1_solves 250 = .ok (.iastore, 1) := dk_79 (dk_at dksX1_solves_10 16 rfl rfl)
theorem dX1_solves_251 : decode cX1_solves 251 = .ok (.aload_n 0, 1) := dk_42 (dk_at dksX1_solves_10 17 rfl rfl)
theorem dX1_solves_252 : decode cX1_solves 252 = .ok (.getfield 259, 3) := dk_180 1 3 (dk_at dksX1_solves_10 18 rfl rfl)
theorem dX1_solves_255 : decode cX1_solves 255 = .ok (.iload 7, 2) := dk_21 7 (dk_at dksX1_solves_10 21 rfl rfl)
theorem dX1_solves_257 : decode cX1_solves 257 = .ok (.iload 8, 2) := dk_21 8 (dk_at dksX1_solves_11 0 rfl rfl)
theorem dX1_solves_259 : decode cX1_solves 259 = .ok (.aload_n 0, 1) := dk_42 (dk_at dksX1_solves_11 2 rfl rfl)
theorem dX1_solves_260 : decode cX1_solves 260 = .ok (.getfield 259, 3) := dk_180 1 3 (dk_at dksX1_solves_11 3 rfl rfl)
theorem dX1_solves_263 : decode cX1_solves 263 = .ok (.iload 6, 2) := dk_21 6 (dk_at dksX1_solves_11 6 rfl rfl)
theorem dX1_solves_265 : decode cX1_solves 265 = .ok (.iaload, 1) := dk_46 (dk_at dksX1_solves_11 8 rfl rfl)
theorem dX1_solves_266 : decode cX1_solves 266 = .ok (.ixor, 1) := dk_130 (dk_at dksX1_solves_11 9 rfl rfl)
theorem dX1_solves_267 : decode cX1_solves 267 = .ok (.iastore, 1) := dk_79 (dk_at dksX1_solves_11 10 rfl rfl)
theorem dX1_solves_268 : decode cX1_solves 268 = .ok (.iload_n 3, 1) := dk_29 (dk_at dksX1_solves_11 11 rfl rfl)
theorem dX1_solves_269 : decode cX1_solves 269 = .ok (.iload 4, 2) := dk_21 4 (dk_at dksX1_solves_11 12 rfl rfl)
theorem dX1_solves_271 : decode cX1_solves 271 = .ok (.invokestatic 82, 3) := dk_184 0 82 (dk_at dksX1_solves_11 14 rfl rfl)
theorem dX1_solves_274 : decode cX1_solves 274 = .ok (.ifCond .eq 15, 3) := dk_153 0 15 (dk_at dksX1_solves_11 17 rfl rfl)
theorem dX1_solves_277 : decode cX1_solves 277 = .ok (.aload_n 0, 1) := dk_42 (dk_at dksX1_solves_11 20 rfl rfl)
theorem dX1_solves_278 : decode cX1_solves 278 = .ok (.getfield 259, 3) := dk_180 1 3 (dk_at dksX1_solves_11 21 rfl rfl)
theorem dX1_solves_281 : decode cX1_solves 281 = .ok (.iload 4, 2) := dk_21 4 (dk_at dksX1_solves_12 0 rfl rfl)
theorem dX1_solves_283 : decode cX1_solves 283 = .ok (.aload_n 0, 1) := dk_42 (dk_at dksX1_solves_12 2 rfl rfl)
theorem dX1_solves_284 : decode cX1_solves 284 = .ok (.iconst 0, 1) := dk_3 (dk_at dksX1_solves_12 3 rfl rfl)
theorem dX1_solves_285 : decode cX1_solves 285 = .ok (.invokevirtual 285, 3) := dk_182 1 29 (dk_at dksX1_solves_12 4 rfl rfl)
theorem dX1_solves_288 : decode cX1_solves 288 = .ok (.iastore, 1) := dk_79 (dk_at dksX1_solves_12 7 rfl rfl)
theorem dX1_solves_289 : decode cX1_solves 289 = .ok (.iload_n 3, 1) := dk_29 (dk_at dksX1_solves_12 8 rfl rfl)
theorem dX1_solves_290 : decode cX1_solves 290 = .ok (.iload 4, 2) := dk_21 4 (dk_at dksX1_solves_12 9 rfl rfl)
theorem dX1_solves_292 : decode cX1_solves 292 = .ok (.iconst 1, 1) := dk_4 (dk_at dksX1_solves_12 11 rfl rfl)
theorem dX1_solves_293 : decode cX1_solves 293 = .ok (.iadd, 1) := dk_96 (dk_at dksX1_solves_12 12 rfl rfl)
theorem dX1_solves_294 : decode cX1_solves 294 = .ok (.invokestatic 82, 3) := dk_184 0 82 (dk_at dksX1_solves_12 13 rfl rfl)
theorem dX1_solves_297 : decode cX1_solves 297 = .ok (.ifCond .eq 17, 3) := dk_153 0 17 (dk_at dksX1_solves_12 16 rfl rfl)
theorem dX1_solves_300 : decode cX1_solves 300 = .ok (.aload_n 0, 1) := dk_42 (dk_at dksX1_solves_12 19 rfl rfl)
theorem dX1_solves_301 : decode cX1_solves 301 = .ok (.getfield 259, 3) := dk_180 1 3 (dk_at dksX1_solves_12 20 rfl rfl)
theorem dX1_solves_304 : decode cX1_solves 304 = .ok (.iload 4, 2) := dk_21 4 (dk_at dksX1_solves_13 0 rfl rfl)
theorem dX1_solves_306 : decode cX1_solves 306 = .ok (.iconst 1, 1) := dk_4 (dk_at dksX1_solves_13 2 rfl rfl)
theorem dX1_solves_307 : decode cX1_solves 307 = .ok (.iadd, 1) := dk_96 (dk_at dksX1_solves_13 3 rfl rfl)
theorem dX1_solves_308 : decode cX1_solves 308 = .ok (.aload_n 0, 1) := dk_42 (dk_at dksX1_solves_13 4 rfl rfl)
theorem dX1_solves_309 : decode cX1_solves 309 = .ok (.iconst 0, 1) := dk_3 (dk_at dksX1_solves_13 5 rfl rfl)
theorem dX1_solves_310 : decode cX1_solves 310 = .ok (.invokevirtual 279, 3) := dk_182 1 23 (dk_at dksX1_solves_13 6 rfl rfl)
theorem dX1_solves_313 : decode cX1_solves 313 = .ok (.iastore, 1) := dk_79 (dk_at dksX1_solves_13 9 rfl rfl)
theorem dX1_solves_314 : decode cX1_solves 314 = .ok (.return_, 1) := dk_177 (dk_at dksX1_solves_13 10 rfl rfl)
abbrev cX1_weighedWithout : ByteArray := prog_1_method_39_code
def yX1_weighedWithout : MethodName := ⟨RX1, "weighedWithout", "(I)I"⟩
def dkwX1_weighedWithout_2 : List UInt8 := [132, 3, 1, 167, 255, 213, 28, 172]
abbrev dktX1_weighedWithout_2 : List UInt8 := dkwX1_weighedWithout_2 ++ []
def dkwX1_weighedWithout_1 : List UInt8 := [180, 0, 164, 42, 180, 1, 3, 29, 46, 42, 180, 0, 164, 29, 182, 1, 6, 182, 1, 9, 130, 61]
abbrev dktX1_weighedWithout_1 : List UInt8 := dkwX1_weighedWithout_1 ++ dktX1_weighedWithout_2
def dkwX1_weighedWithout_0 : List UInt8 := [3, 61, 3, 62, 29, 42, 182, 0, 234, 162, 0, 41, 27, 29, 184, 0, 82, 154, 0, 27, 28, 42]
abbrev dktX1_weighedWithout_0 : List UInt8 := dkwX1_weighedWithout_0 ++ dktX1_weighedWithout_1
theorem dksX1_weighedWithout_0 : cX1_weighedWithout.data.toList.drop 0 = dktX1_weighedWithout_0 := by decide +kernel
theorem dksX1_weighedWithout_1 : cX1_weighedWithout.data.toList.drop 22 = dktX1_weighedWithout_1 := dk_seg dksX1_weighedWithout_0 22 rfl rfl
theorem dksX1_weighedWithout_2 : cX1_weighedWithout.data.toList.drop 44 = dktX1_weighedWithout_2 := dk_seg dksX1_weighedWithout_1 22 rfl rfl
theorem dX1_weighedWithout_0 : decode cX1_weighedWithout 0 = .ok (.iconst 0, 1) := dk_3 (dk_at dksX1_weighedWithout_0 0 rfl rfl)
theorem dX1_weighedWithout_1 : decode cX1_weighedWithout 1 = .ok (.istore_n 2, 1) := dk_61 (dk_at dksX1_weighedWithout_0 1 rfl rfl)
theorem dX1_weighedWithout_2 : decode cX1_weighedWithout 2 = .ok (.iconst 0, 1) := dk_3 (dk_at dksX1_weighedWithout_0 2 rfl rfl)
theorem dX1_weighedWithout_3 : decode cX1_weighedWithout 3 = .ok (.istore_n 3, 1) := dk_62 (dk_at dksX1_weighedWithout_0 3 rfl rfl)
theorem dX1_weighedWithout_4 : decode cX1_weighedWithout 4 = .ok (.iload_n 3, 1) := dk_29 (dk_at dksX1_weighedWithout_0 4 rfl rfl)
theorem dX1_weighedWithout_5 : decode cX1_weighedWithout 5 = .ok (.aload_n 0, 1) := dk_42 (dk_at dksX1_weighedWithout_0 5 rfl rfl)
theorem dX1_weighedWithout_6 : decode cX1_weighedWithout 6 = .ok (.invokevirtual 234, 3) := dk_182 0 234 (dk_at dksX1_weighedWithout_0 6 rfl rfl)
theorem dX1_weighedWithout_9 : decode cX1_weighedWithout 9 = .ok (.if_icmp .ge 41, 3) := dk_162 0 41 (dk_at dksX1_weighedWithout_0 9 rfl rfl)
theorem dX1_weighedWithout_12 : decode cX1_weighedWithout 12 = .ok (.iload_n 1, 1) := dk_27 (dk_at dksX1_weighedWithout_0 12 rfl rfl)
theorem dX1_weighedWithout_13 : decode cX1_weighedWithout 13 = .ok (.iload_n 3, 1) := dk_29 (dk_at dksX1_weighedWithout_0 13 rfl rfl)
theorem dX1_weighedWithout_14 : decode cX1_weighedWithout 14 = .ok (.invokestatic 82, 3) := dk_184 0 82 (dk_at dksX1_weighedWithout_0 14 rfl rfl)
theorem dX1_weighedWithout_17 : decode cX1_weighedWithout 17 = .ok (.ifCond .ne 27, 3) := dk_154 0 27 (dk_at dksX1_weighedWithout_0 17 rfl rfl)
theorem dX1_weighedWithout_20 : decode cX1_weighedWithout 20 = .ok (.iload_n 2, 1) := dk_28 (dk_at dksX1_weighedWithout_0 20 rfl rfl)
theorem dX1_weighedWithout_21 : decode cX1_weighedWithout 21 = .ok (.aload_n 0, 1) := dk_42 (dk_at dksX1_weighedWithout_0 21 rfl rfl)
theorem dX1_weighedWithout_22 : decode cX1_weighedWithout 22 = .ok (.getfield 164, 3) := dk_180 0 164 (dk_at dksX1_weighedWithout_1 0 rfl rfl)
theorem dX1_weighedWithout_25 : decode cX1_weighedWithout 25 = .ok (.aload_n 0, 1) := dk_42 (dk_at dksX1_weighedWithout_1 3 rfl rfl)
theorem dX1_weighedWithout_26 : decode cX1_weighedWithout 26 = .ok (.getfield 259, 3) := dk_180 1 3 (dk_at dksX1_weighedWithout_1 4 rfl rfl)
theorem dX1_weighedWithout_29 : decode cX1_weighedWithout 29 = .ok (.iload_n 3, 1) := dk_29 (dk_at dksX1_weighedWithout_1 7 rfl rfl)
theorem dX1_weighedWithout_30 : decode cX1_weighedWithout 30 = .ok (.iaload, 1) := dk_46 (dk_at dksX1_weighedWithout_1 8 rfl rfl)
theorem dX1_weighedWithout_31 : decode cX1_weighedWithout 31 = .ok (.aload_n 0, 1) := dk_42 (dk_at dksX1_weighedWithout_1 9 rfl rfl)
theorem dX1_weighedWithout_32 : decode cX1_weighedWithout 32 = .ok (.getfield 164, 3) := dk_180 0 164 (dk_at dksX1_weighedWithout_1 10 rfl rfl)
theorem dX1_weighedWithout_35 : decode cX1_weighedWithout 35 = .ok (.iload_n 3, 1) := dk_29 (dk_at dksX1_weighedWithout_1 13 rfl rfl)
theorem dX1_weighedWithout_36 : decode cX1_weighedWithout 36 = .ok (.invokevirtual 262, 3) := dk_182 1 6 (dk_at dksX1_weighedWithout_1 14 rfl rfl)
theorem dX1_weighedWithout_39 : decode cX1_weighedWithout 39 = .ok (.invokevirtual 265, 3) := dk_182 1 9 (dk_at dksX1_weighedWithout_1 17 rfl rfl)
theorem dX1_weighedWithout_42 : decode cX1_weighedWithout 42 = .ok (.ixor, 1) := dk_130 (dk_at dksX1_weighedWithout_1 20 rfl rfl)
theorem dX1_weighedWithout_43 : decode cX1_weighedWithout 43 = .ok (.istore_n 2, 1) := dk_61 (dk_at dksX1_weighedWithout_1 21 rfl rfl)
theorem dX1_weighedWithout_44 : decode cX1_weighedWithout 44 = .ok (.iinc 3 1, 3) := dk_132 3 1 (dk_at dksX1_weighedWithout_2 0 rfl rfl)
theorem dX1_weighedWithout_47 : decode cX1_weighedWithout 47 = .ok (.goto (-43), 3) := dk_167 255 213 (dk_at dksX1_weighedWithout_2 3 rfl rfl)
theorem dX1_weighedWithout_50 : decode cX1_weighedWithout 50 = .ok (.iload_n 2, 1) := dk_28 (dk_at dksX1_weighedWithout_2 6 rfl rfl)
theorem dX1_weighedWithout_51 : decode cX1_weighedWithout 51 = .ok (.ireturn, 1) := dk_172 (dk_at dksX1_weighedWithout_2 7 rfl rfl)
abbrev cX1_sumWithout : ByteArray := prog_1_method_38_code
def yX1_sumWithout : MethodName := ⟨RX1, "sumWithout", "(I)I"⟩
def dkwX1_sumWithout_1 : List UInt8 := [180, 1, 3, 29, 46, 130, 61, 132, 3, 1, 167, 255, 228, 28, 172]
abbrev dktX1_sumWithout_1 : List UInt8 := dkwX1_sumWithout_1 ++ []
def dkwX1_sumWithout_0 : List UInt8 := [3, 61, 3, 62, 29, 42, 182, 0, 234, 162, 0, 26, 27, 29, 184, 0, 82, 154, 0, 12, 28, 42]
abbrev dktX1_sumWithout_0 : List UInt8 := dkwX1_sumWithout_0 ++ dktX1_sumWithout_1
theorem dksX1_sumWithout_0 : cX1_sumWithout.data.toList.drop 0 = dktX1_sumWithout_0 := by decide +kernel
theorem dksX1_sumWithout_1 : cX1_sumWithout.data.toList.drop 22 = dktX1_sumWithout_1 := dk_seg dksX1_sumWithout_0 22 rfl rfl
theorem dX1_sumWithout_0 : decode cX1_sumWithout 0 = .ok (.iconst 0, 1) := dk_3 (dk_at dksX1_sumWithout_0 0 rfl rfl)
theorem dX1_sumWithout_1 : decode cX1_sumWithout 1 = .ok (.istore_n 2, 1) := dk_61 (dk_at dksX1_sumWithout_0 1 rfl rfl)
theorem dX1_sumWithout_2 : decode cX1_sumWithout 2 = .ok (.iconst 0, 1) := dk_3 (dk_at dksX1_sumWithout_0 2 rfl rfl)
theorem dX1_sumWithout_3 : decode cX1_sumWithout 3 = .ok (.istore_n 3, 1) := dk_62 (dk_at dksX1_sumWithout_0 3 rfl rfl)
theorem dX1_sumWithout_4 : decode cX1_sumWithout 4 = .ok (.iload_n 3, 1) := dk_29 (dk_at dksX1_sumWithout_0 4 rfl rfl)
theorem dX1_sumWithout_5 : decode cX1_sumWithout 5 = .ok (.aload_n 0, 1) := dk_42 (dk_at dksX1_sumWithout_0 5 rfl rfl)
theorem dX1_sumWithout_6 : decode cX1_sumWithout 6 = .ok (.invokevirtual 234, 3) := dk_182 0 234 (dk_at dksX1_sumWithout_0 6 rfl rfl)
theorem dX1_sumWithout_9 : decode cX1_sumWithout 9 = .ok (.if_icmp .ge 26, 3) := dk_162 0 26 (dk_at dksX1_sumWithout_0 9 rfl rfl)
theorem dX1_sumWithout_12 : decode cX1_sumWithout 12 = .ok (.iload_n 1, 1) := dk_27 (dk_at dksX1_sumWithout_0 12 rfl rfl)
theorem dX1_sumWithout_13 : decode cX1_sumWithout 13 = .ok (.iload_n 3, 1) := dk_29 (dk_at dksX1_sumWithout_0 13 rfl rfl)
theorem dX1_sumWithout_14 : decode cX1_sumWithout 14 = .ok (.invokestatic 82, 3) := dk_184 0 82 (dk_at dksX1_sumWithout_0 14 rfl rfl)
theorem dX1_sumWithout_17 : decode cX1_sumWithout 17 = .ok (.ifCond .ne 12, 3) := dk_154 0 12 (dk_at dksX1_sumWithout_0 17 rfl rfl)
theorem dX1_sumWithout_20 : decode cX1_sumWithout 20 = .ok (.iload_n 2, 1) := dk_28 (dk_at dksX1_sumWithout_0 20 rfl rfl)
theorem dX1_sumWithout_21 : decode cX1_sumWithout 21 = .ok (.aload_n 0, 1) := dk_42 (dk_at dksX1_sumWithout_0 21 rfl rfl)
theorem dX1_sumWithout_22 : decode cX1_sumWithout 22 = .ok (.getfield 259, 3) := dk_180 1 3 (dk_at dksX1_sumWithout_1 0 rfl rfl)
theorem dX1_sumWithout_25 : decode cX1_sumWithout 25 = .ok (.iload_n 3, 1) := dk_29 (dk_at dksX1_sumWithout_1 3 rfl rfl)
theorem dX1_sumWithout_26 : decode cX1_sumWithout 26 = .ok (.iaload, 1) := dk_46 (dk_at dksX1_sumWithout_1 4 rfl rfl)
theorem dX1_sumWithout_27 : decode cX1_sumWithout 27 = .ok (.ixor, 1) := dk_130 (dk_at dksX1_sumWithout_1 5 rfl rfl)
theorem dX1_sumWithout_28 : decode cX1_sumWithout 28 = .ok (.istore_n 2, 1) := dk_61 (dk_at dksX1_sumWithout_1 6 rfl rfl)
theorem dX1_sumWithout_29 : decode cX1_sumWithout 29 = .ok (.iinc 3 1, 3) := dk_132 3 1 (dk_at dksX1_sumWithout_1 7 rfl rfl)
theorem dX1_sumWithout_32 : decode cX1_sumWithout 32 = .ok (.goto (-28), 3) := dk_167 255 228 (dk_at dksX1_sumWithout_1 10 rfl rfl)
theorem dX1_sumWithout_35 : decode cX1_sumWithout 35 = .ok (.iload_n 2, 1) := dk_28 (dk_at dksX1_sumWithout_1 13 rfl rfl)
theorem dX1_sumWithout_36 : decode cX1_sumWithout 36 = .ok (.ireturn, 1) := dk_172 (dk_at dksX1_sumWithout_1 14 rfl rfl)
abbrev cX1_way : ByteArray := prog_1_method_44_code
def yX1_way : MethodName := ⟨RX1, "way", "()LStripeShelf$Way;"⟩
def dkwX1_way_7 : List UInt8 := [183, 1, 48, 182, 0, 30, 42, 180, 1, 43, 184, 1, 50, 192, 1, 46, 176]
abbrev dktX1_way_7 : List UInt8 := dkwX1_way_7 ++ []
def dkwX1_way_6 : List UInt8 := [21, 5, 154, 0, 28, 29, 153, 0, 24, 42, 180, 1, 43, 187, 1, 46, 89, 5, 27, 5, 100, 5, 96, 5]
abbrev dktX1_way_6 : List UInt8 := dkwX1_way_6 ++ dktX1_way_7
def dkwX1_way_5 : List UInt8 := [89, 4, 27, 4, 100, 21, 5, 153, 0, 7, 4, 167, 0, 4, 3, 21, 4, 96, 183, 1, 48, 182, 0, 30]
abbrev dktX1_way_5 : List UInt8 := dkwX1_way_5 ++ dktX1_way_6
def dkwX1_way_4 : List UInt8 := [21, 4, 96, 4, 21, 4, 96, 183, 1, 48, 182, 0, 30, 29, 154, 0, 34, 42, 180, 1, 43, 187, 1, 46]
abbrev dktX1_way_4 : List UInt8 := dkwX1_way_4 ++ dktX1_way_5
def dkwX1_way_3 : List UInt8 := [54, 5, 42, 180, 1, 43, 182, 0, 220, 21, 5, 153, 0, 26, 42, 180, 1, 43, 187, 1, 46, 89, 3, 4]
abbrev dktX1_way_3 : List UInt8 := dkwX1_way_3 ++ dktX1_way_4
def dkwX1_way_2 : List UInt8 := [96, 182, 1, 40, 96, 54, 4, 28, 42, 180, 0, 253, 184, 0, 82, 154, 0, 7, 4, 167, 0, 4, 3]
abbrev dktX1_way_2 : List UInt8 := dkwX1_way_2 ++ dktX1_way_3
def dkwX1_way_1 : List UInt8 := [180, 0, 253, 120, 2, 130, 126, 62, 42, 42, 180, 0, 197, 27, 182, 1, 40, 42, 42, 180, 0, 197, 27, 4]
abbrev dktX1_way_1 : List UInt8 := dkwX1_way_1 ++ dktX1_way_2
def dkwX1_way_0 : List UInt8 := [42, 182, 0, 234, 60, 42, 42, 180, 0, 197, 182, 1, 33, 61, 28, 4, 27, 120, 4, 100, 126, 4, 42]
abbrev dktX1_way_0 : List UInt8 := dkwX1_way_0 ++ dktX1_way_1
theorem dksX1_way_0 : cX1_way.data.toList.drop 0 = dktX1_way_0 := by decide +kernel
theorem dksX1_way_1 : cX1_way.data.toList.drop 23 = dktX1_way_1 := dk_seg dksX1_way_0 23 rfl rfl
theorem dksX1_way_2 : cX1_way.data.toList.drop 47 = dktX1_way_2 := dk_seg dksX1_way_1 24 rfl rfl
theorem dksX1_way_3 : cX1_way.data.toList.drop 70 = dktX1_way_3 := dk_seg dksX1_way_2 23 rfl rfl
theorem dksX1_way_4 : cX1_way.data.toList.drop 94 = dktX1_way_4 := dk_seg dksX1_way_3 24 rfl rfl
theorem dksX1_way_5 : cX1_way.data.toList.drop 118 = dktX1_way_5 := dk_seg dksX1_way_4 24 rfl rfl
theorem dksX1_way_6 : cX1_way.data.toList.drop 142 = dktX1_way_6 := dk_seg dksX1_way_5 24 rfl rfl
theorem dksX1_way_7 : cX1_way.data.toList.drop 166 = dktX1_way_7 := dk_seg dksX1_way_6 24 rfl rfl
theorem dX1_way_0 : decode cX1_way 0 = .ok (.aload_n 0, 1) := dk_42 (dk_at dksX1_way_0 0 rfl rfl)
theorem dX1_way_1 : decode cX1_way 1 = .ok (.invokevirtual 234, 3) := dk_182 0 234 (dk_at dksX1_way_0 1 rfl rfl)
theorem dX1_way_4 : decode cX1_way 4 = .ok (.istore_n 1, 1) := dk_60 (dk_at dksX1_way_0 4 rfl rfl)
theorem dX1_way_5 : decode cX1_way 5 = .ok (.aload_n 0, 1) := dk_42 (dk_at dksX1_way_0 5 rfl rfl)
theorem dX1_way_6 : decode cX1_way 6 = .ok (.aload_n 0, 1) := dk_42 (dk_at dksX1_way_0 6 rfl rfl)
theorem dX1_way_7 : decode cX1_way 7 = .ok (.getfield 197, 3) := dk_180 0 197 (dk_at dksX1_way_0 7 rfl rfl)
theorem dX1_way_10 : decode cX1_way 10 = .ok (.invokevirtual 289, 3) := dk_182 1 33 (dk_at dksX1_way_0 10 rfl rfl)
theorem dX1_way_13 : decode cX1_way 13 = .ok (.istore_n 2, 1) := dk_61 (dk_at dksX1_way_0 13 rfl rfl)
theorem dX1_way_14 : decode cX1_way 14 = .ok (.iload_n 2, 1) := dk_28 (dk_at dksX1_way_0 14 rfl rfl)
theorem dX1_way_15 : decode cX1_way 15 = .ok (.iconst 1, 1) := dk_4 (dk_at dksX1_way_0 15 rfl rfl)
theorem dX1_way_16 : decode cX1_way 16 = .ok (.iload_n 1, 1) := dk_27 (dk_at dksX1_way_0 16 rfl rfl)
theorem dX1_way_17 : decode cX1_way 17 = .ok (.ishl, 1) := dk_120 (dk_at dksX1_way_0 17 rfl rfl)
theorem dX1_way_18 : decode cX1_way 18 = .ok (.iconst 1, 1) := dk_4 (dk_at dksX1_way_0 18 rfl rfl)
theorem dX1_way_19 : decode cX1_way 19 = .ok (.isub, 1) := dk_100 (dk_at dksX1_way_0 19 rfl rfl)
theorem dX1_way_20 : decode cX1_way 20 = .ok (.iand, 1) := dk_126 (dk_at dksX1_way_0 20 rfl rfl)
theorem dX1_way_21 : decode cX1_way 21 = .ok (.iconst 1, 1) := dk_4 (dk_at dksX1_way_0 21 rfl rfl)
theorem dX1_way_22 : decode cX1_way 22 = .ok (.aload_n 0, 1) := dk_42 (dk_at dksX1_way_0 22 rfl rfl)
theorem dX1_way_23 : decode cX1_way 23 = .ok (.getfield 253, 3) := dk_180 0 253 (dk_at dksX1_way_1 0 rfl rfl)
theorem dX1_way_26 : decode cX1_way 26 = .ok (.ishl, 1) := dk_120 (dk_at dksX1_way_1 3 rfl rfl)
theorem dX1_way_27 : decode cX1_way 27 = .ok (.iconst (-1), 1) := dk_2 (dk_at dksX1_way_1 4 rfl rfl)
theorem dX1_way_28 : decode cX1_way 28 = .ok (.ixor, 1) := dk_130 (dk_at dksX1_way_1 5 rfl rfl)
theorem dX1_way_29 : decode cX1_way 29 = .ok (.iand, 1) := dk_126 (dk_at dksX1_way_1 6 rfl rfl)
theorem dX1_way_30 : decode cX1_way 30 = .ok (.istore_n 3, 1) := dk_62 (dk_at dksX1_way_1 7 rfl rfl)
theorem dX1_way_31 : decode cX1_way 31 = .ok (.aload_n 0, 1) := dk_42 (dk_at dksX1_way_1 8 rfl rfl)
theorem dX1_way_32 : decode cX1_way 32 = .ok (.aload_n 0, 1) := dk_42 (dk_at dksX1_way_1 9 rfl rfl)
theorem dX1_way_33 : decode cX1_way 33 = .ok (.getfield 197, 3) := dk_180 0 197 (dk_at dksX1_way_1 10 rfl rfl)
theorem dX1_way_36 : decode cX1_way 36 = .ok (.iload_n 1, 1) := dk_27 (dk_at dksX1_way_1 13 rfl rfl)
theorem dX1_way_37 : decode cX1_way 37 = .ok (.invokevirtual 296, 3) := dk_182 1 40 (dk_at dksX1_way_1 14 rfl rfl)
theorem dX1_way_40 : decode cX1_way 40 = .ok (.aload_n 0, 1) := dk_42 (dk_at dksX1_way_1 17 rfl rfl)
theorem dX1_way_41 : decode cX1_way 41 = .ok (.aload_n 0, 1) := dk_42 (dk_at dksX1_way_1 18 rfl rfl)
theorem dX1_way_42 : decode cX1_way 42 = .ok (.getfield 197, 3) := dk_180 0 197 (dk_at dksX1_way_1 19 rfl rfl)
theorem dX1_way_45 : decode cX1_way 45 = .ok (.iload_n 1, 1) := dk_27 (dk_at dksX1_way_1 22 rfl rfl)
theorem dX1_way_46 : decode cX1_way 46 = .ok (.iconst 1, 1) := dk_4 (dk_at dksX1_way_1 23 rfl rfl)
theorem dX1_way_47 : decode cX1_way 47 = .ok (.iadd, 1) := dk_96 (dk_at dksX1_way_2 0 rfl rfl)
theorem dX1_way_48 : decode cX1_way 48 = .ok (.invokevirtual 296, 3) := dk_182 1 40 (dk_at dksX1_way_2 1 rfl rfl)
theorem dX1_way_51 : decode cX1_way 51 = .ok (.iadd, 1) := dk_96 (dk_at dksX1_way_2 4 rfl rfl)
theorem dX1_way_52 : decode cX1_way 52 = .ok (.istore 4, 2) := dk_54 4 (dk_at dksX1_way_2 5 rfl rfl)
theorem dX1_way_54 : decode cX1_way 54 = .ok (.iload_n 2, 1) := dk_28 (dk_at dksX1_way_2 7 rfl rfl)
theorem dX1_way_55 : decode cX1_way 55 = .ok (.aload_n 0, 1) := dk_42 (dk_at dksX1_way_2 8 rfl rfl)
theorem dX1_way_56 : decode cX1_way 56 = .ok (.getfield 253, 3) := dk_180 0 253 (dk_at dksX1_way_2 9 rfl rfl)
theorem dX1_way_59 : decode cX1_way 59 = .ok (.invokestatic 82, 3) := dk_184 0 82 (dk_at dksX1_way_2 12 rfl rfl)
theorem dX1_way_62 : decode cX1_way 62 = .ok (.ifCond .ne 7, 3) := dk_154 0 7 (dk_at dksX1_way_2 15 rfl rfl)
theorem dX1_way_65 : decode cX1_way 65 = .ok (.iconst 1, 1) := dk_4 (dk_at dksX1_way_2 18 rfl rfl)
theorem dX1_way_66 : decode cX1_way 66 = .ok (.goto 4, 3) := dk_167 0 4 (dk_at dksX1_way_2 19 rfl rfl)
theorem dX1_way_69 : decode cX1_way 69 = .ok (.iconst 0, 1) := dk_3 (dk_at dksX1_way_2 22 rfl rfl)
theorem dX1_way_70 : decode cX1_way 70 = .ok (.istore 5, 2) := dk_54 5 (dk_at dksX1_way_3 0 rfl rfl)
theorem dX1_way_72 : decode cX1_way 72 = .ok (.aload_n 0, 1) := dk_42 (dk_at dksX1_way_3 2 rfl rfl)
theorem dX1_way_73 : decode cX1_way 73 = .ok (.getfield 299, 3) := dk_180 1 43 (dk_at dksX1_way_3 3 rfl rfl)
theorem dX1_way_76 : decode cX1_way 76 = .ok (.invokevirtual 220, 3) := dk_182 0 220 (dk_at dksX1_way_3 6 rfl rfl)
theorem dX1_way_79 : decode cX1_way 79 = .ok (.iload 5, 2) := dk_21 5 (dk_at dksX1_way_3 9 rfl rfl)
theorem dX1_way_81 : decode cX1_way 81 = .ok (.ifCond .eq 26, 3) := dk_153 0 26 (dk_at dksX1_way_3 11 rfl rfl)
theorem dX1_way_84 : decode cX1_way 84 = .ok (.aload_n 0, 1) := dk_42 (dk_at dksX1_way_3 14 rfl rfl)
theorem dX1_way_85 : decode cX1_way 85 = .ok (.getfield 299, 3) := dk_180 1 43 (dk_at dksX1_way_3 15 rfl rfl)
theorem dX1_way_88 : decode cX1_way 88 = .ok (.new 302, 3) := dk_187 1 46 (dk_at dksX1_way_3 18 rfl rfl)
theorem dX1_way_91 : decode cX1_way 91 = .ok (.dup, 1) := dk_89 (dk_at dksX1_way_3 21 rfl rfl)
theorem dX1_way_92 : decode cX1_way 92 = .ok (.iconst 0, 1) := dk_3 (dk_at dksX1_way_3 22 rfl rfl)
theorem dX1_way_93 : decode cX1_way 93 = .ok (.iconst 1, 1) := dk_4 (dk_at dksX1_way_3 23 rfl rfl)
theorem dX1_way_94 : decode cX1_way 94 = .ok (.iload 4, 2) := dk_21 4 (dk_at dksX1_way_4 0 rfl rfl)
theorem dX1_way_96 : decode cX1_way 96 = .ok (.iadd, 1) := dk_96 (dk_at dksX1_way_4 2 rfl rfl)
theorem dX1_way_97 : decode cX1_way 97 = .ok (.iconst 1, 1) := dk_4 (dk_at dksX1_way_4 3 rfl rfl)
theorem dX1_way_98 : decode cX1_way 98 = .ok (.iload 4, 2) := dk_21 4 (dk_at dksX1_way_4 4 rfl rfl)
theorem dX1_way_100 : decode cX1_way 100 = .ok (.iadd, 1) := dk_96 (dk_at dksX1_way_4 6 rfl rfl)
theorem dX1_way_101 : decode cX1_way 101 = .ok (.invokespecial 304, 3) := dk_183 1 48 (dk_at dksX1_way_4 7 rfl rfl)
theorem dX1_way_104 : decode cX1_way 104 = .ok (.invokevirtual 30, 3) := dk_182 0 30 (dk_at dksX1_way_4 10 rfl rfl)
theorem dX1_way_107 : decode cX1_way 107 = .ok (.iload_n 3, 1) := dk_29 (dk_at dksX1_way_4 13 rfl rfl)
theorem dX1_way_108 : decode cX1_way 108 = .ok (.ifCond .ne 34, 3) := dk_154 0 34 (dk_at dksX1_way_4 14 rfl rfl)
theorem dX1_way_111 : decode cX1_way 111 = .ok (.aload_n 0, 1) := dk_42 (dk_at dksX1_way_4 17 rfl rfl)
theorem dX1_way_112 : decode cX1_way 112 = .ok (.getfield 299, 3) := dk_180 1 43 (dk_at dksX1_way_4 18 rfl rfl)
theorem dX1_way_115 : decode cX1_way 115 = .ok (.new 302, 3) := dk_187 1 46 (dk_at dksX1_way_4 21 rfl rfl)
theorem dX1_way_118 : decode cX1_way 118 = .ok (.dup, 1) := dk_89 (dk_at dksX1_way_5 0 rfl rfl)
theorem dX1_way_119 : decode cX1_way 119 = .ok (.iconst 1, 1) := dk_4 (dk_at dksX1_way_5 1 rfl rfl)
theorem dX1_way_120 : decode cX1_way 120 = .ok (.iload_n 1, 1) := dk_27 (dk_at dksX1_way_5 2 rfl rfl)
theorem dX1_way_121 : decode cX1_way 121 = .ok (.iconst 1, 1) := dk_4 (dk_at dksX1_way_5 3 rfl rfl)
theorem dX1_way_122 : decode cX1_way 122 = .ok (.isub, 1) := dk_100 (dk_at dksX1_way_5 4 rfl rfl)
theorem dX1_way_123 : decode cX1_way 123 = .ok (.iload 5, 2) := dk_21 5 (dk_at dksX1_way_5 5 rfl rfl)
theorem dX1_way_125 : decode cX1_way 125 = .ok (.ifCond .eq 7, 3) := dk_153 0 7 (dk_at dksX1_way_5 7 rfl rfl)
theorem dX1_way_128 : decode cX1_way 128 = .ok (.iconst 1, 1) := dk_4 (dk_at dksX1_way_5 10 rfl rfl)
theorem dX1_way_129 : decode cX1_way 129 = .ok (.goto 4, 3) := dk_167 0 4 (dk_at dksX1_way_5 11 rfl rfl)
theorem dX1_way_132 : decode cX1_way 132 = .ok (.iconst 0, 1) := dk_3 (dk_at dksX1_way_5 14 rfl rfl)
theorem dX1_way_133 : decode cX1_way 133 = .ok (.iload 4, 2) := dk_21 4 (dk_at dksX1_way_5 15 rfl rfl)
theorem dX1_way_135 : decode cX1_way 135 = .ok (.iadd, 1) := dk_96 (dk_at dksX1_way_5 17 rfl rfl)
theorem dX1_way_136 : decode cX1_way 136 = .ok (.invokespecial 304, 3) := dk_183 1 48 (dk_at dksX1_way_5 18 rfl rfl)
theorem dX1_way_139 : decode cX1_way 139 = .ok (.invokevirtual 30, 3) := dk_182 0 30 (dk_at dksX1_way_5 21 rfl rfl)
theorem dX1_way_142 : decode cX1_way 142 = .ok (.iload 5, 2) := dk_21 5 (dk_at dksX1_way_6 0 rfl rfl)
theorem dX1_way_144 : decode cX1_way 144 = .ok (.ifCond .ne 28, 3) := dk_154 0 28 (dk_at dksX1_way_6 2 rfl rfl)
theorem dX1_way_147 : decode cX1_way 147 = .ok (.iload_n 3, 1) := dk_29 (dk_at dksX1_way_6 5 rfl rfl)
theorem dX1_way_148 : decode cX1_way 148 = .ok (.ifCond .eq 24, 3) := dk_153 0 24 (dk_at dksX1_way_6 6 rfl rfl)
theorem dX1_way_151 : decode cX1_way 151 = .ok (.aload_n 0, 1) := dk_42 (dk_at dksX1_way_6 9 rfl rfl)
theorem dX1_way_152 : decode cX1_way 152 = .ok (.getfield 299, 3) := dk_180 1 43 (dk_at dksX1_way_6 10 rfl rfl)
theorem dX1_way_155 : decode cX1_way 155 = .ok (.new 302, 3) := dk_187 1 46 (dk_at dksX1_way_6 13 rfl rfl)
theorem dX1_way_158 : decode cX1_way 158 = .ok (.dup, 1) := dk_89 (dk_at dksX1_way_6 16 rfl rfl)
theorem dX1_way_159 : decode cX1_way 159 = .ok (.iconst 2, 1) := dk_5 (dk_at dksX1_way_6 17 rfl rfl)
theorem dX1_way_160 : decode cX1_way 160 = .ok (.iload_n 1, 1) := dk_27 (dk_at dksX1_way_6 18 rfl rfl)
theorem dX1_way_161 : decode cX1_way 161 = .ok (.iconst 2, 1) := dk_5 (dk_at dksX1_way_6 19 rfl rfl)
theorem dX1_way_162 : decode cX1_way 162 = .ok (.isub, 1) := dk_100 (dk_at dksX1_way_6 20 rfl rfl)
theorem dX1_way_163 : decode cX1_way 163 = .ok (.iconst 2, 1) := dk_5 (dk_at dksX1_way_6 21 rfl rfl)
theorem dX1_way_164 : decode cX1_way 164 = .ok (.iadd, 1) := dk_96 (dk_at dksX1_way_6 22 rfl rfl)
theorem dX1_way_165 : decode cX1_way 165 = .ok (.iconst 2, 1) := dk_5 (dk_at dksX1_way_6 23 rfl rfl)
theorem dX1_way_166 : decode cX1_way 166 = .ok (.invokespecial 304, 3) := dk_183 1 48 (dk_at dksX1_way_7 0 rfl rfl)
theorem dX1_way_169 : decode cX1_way 169 = .ok (.invokevirtual 30, 3) := dk_182 0 30 (dk_at dksX1_way_7 3 rfl rfl)
theorem dX1_way_172 : decode cX1_way 172 = .ok (.aload_n 0, 1) := dk_42 (dk_at dksX1_way_7 6 rfl rfl)
theorem dX1_way_173 : decode cX1_way 173 = .ok (.getfield 299, 3) := dk_180 1 43 (dk_at dksX1_way_7 7 rfl rfl)
theorem dX1_way_176 : decode cX1_way 176 = .ok (.invokestatic 306, 3) := dk_184 1 50 (dk_at dksX1_way_7 10 rfl rfl)
theorem dX1_way_179 : decode cX1_way 179 = .ok (.checkcast 302, 3) := dk_192 1 46 (dk_at dksX1_way_7 13 rfl rfl)
theorem dX1_way_182 : decode cX1_way 182 = .ok (.areturn, 1) := dk_176 (dk_at dksX1_way_7 16 rfl rfl)
abbrev cX1_thereOf : ByteArray := prog_1_method_43_code
def yX1_thereOf : MethodName := ⟨RX1, "thereOf", "(II)I"⟩
def dkwX1_thereOf_0 : List UInt8 := [42, 27, 28, 182, 1, 32, 153, 0, 7, 4, 167, 0, 4, 3, 172]
abbrev dktX1_thereOf_0 : List UInt8 := dkwX1_thereOf_0 ++ []
theorem dksX1_thereOf_0 : cX1_thereOf.data.toList.drop 0 = dktX1_thereOf_0 := by decide +kernel
theorem dX1_thereOf_0 : decode cX1_thereOf 0 = .ok (.aload_n 0, 1) := dk_42 (dk_at dksX1_thereOf_0 0 rfl rfl)
theorem dX1_thereOf_1 : decode cX1_thereOf 1 = .ok (.iload_n 1, 1) := dk_27 (dk_at dksX1_thereOf_0 1 rfl rfl)
theorem dX1_thereOf_2 : decode cX1_thereOf 2 = .ok (.iload_n 2, 1) := dk_28 (dk_at dksX1_thereOf_0 2 rfl rfl)
theorem dX1_thereOf_3 : decode cX1_thereOf 3 = .ok (.invokevirtual 288, 3) := dk_182 1 32 (dk_at dksX1_thereOf_0 3 rfl rfl)
theorem dX1_thereOf_6 : decode cX1_thereOf 6 = .ok (.ifCond .eq 7, 3) := dk_153 0 7 (dk_at dksX1_thereOf_0 6 rfl rfl)
theorem dX1_thereOf_9 : decode cX1_thereOf 9 = .ok (.iconst 1, 1) := dk_4 (dk_at dksX1_thereOf_0 9 rfl rfl)
theorem dX1_thereOf_10 : decode cX1_thereOf 10 = .ok (.goto 4, 3) := dk_167 0 4 (dk_at dksX1_thereOf_0 10 rfl rfl)
theorem dX1_thereOf_13 : decode cX1_thereOf 13 = .ok (.iconst 0, 1) := dk_3 (dk_at dksX1_thereOf_0 13 rfl rfl)
theorem dX1_thereOf_14 : decode cX1_thereOf 14 = .ok (.ireturn, 1) := dk_172 (dk_at dksX1_thereOf_0 14 rfl rfl)
abbrev cX1_least : ByteArray := prog_1_method_3_code
def yX1_least : MethodName := ⟨RX1, "least", "(LStripeShelf$Row;)Ljava/lang/Comparable;"⟩
def dkwX1_least_2 : List UInt8 := [43, 176]
abbrev dktX1_least_2 : List UInt8 := dkwX1_least_2 ++ []
def dkwX1_least_1 : List UInt8 := [185, 0, 15, 2, 0, 156, 0, 11, 44, 180, 0, 7, 192, 0, 13, 76, 44, 180, 0, 19, 77, 167, 255, 219]
abbrev dktX1_least_1 : List UInt8 := dkwX1_least_1 ++ dktX1_least_2
def dkwX1_least_0 : List UInt8 := [1, 76, 42, 180, 0, 1, 77, 44, 198, 0, 39, 43, 198, 0, 19, 44, 180, 0, 7, 192, 0, 13, 43]
abbrev dktX1_least_0 : List UInt8 := dkwX1_least_0 ++ dktX1_least_1
theorem dksX1_least_0 : cX1_least.data.toList.drop 0 = dktX1_least_0 := by decide +kernel
theorem dksX1_least_1 : cX1_least.data.toList.drop 23 = dktX1_least_1 := dk_seg dksX1_least_0 23 rfl rfl
theorem dksX1_least_2 : cX1_least.data.toList.drop 47 = dktX1_least_2 := dk_seg dksX1_least_1 24 rfl rfl
theorem dX1_least_0 : decode cX1_least 0 = .ok (.aconst_null, 1) := dk_1 (dk_at dksX1_least_0 0 rfl rfl)
theorem dX1_least_1 : decode cX1_least 1 = .ok (.astore_n 1, 1) := dk_76 (dk_at dksX1_least_0 1 rfl rfl)
theorem dX1_least_2 : decode cX1_least 2 = .ok (.aload_n 0, 1) := dk_42 (dk_at dksX1_least_0 2 rfl rfl)
theorem dX1_least_3 : decode cX1_least 3 = .ok (.getfield 1, 3) := dk_180 0 1 (dk_at dksX1_least_0 3 rfl rfl)
theorem dX1_least_6 : decode cX1_least 6 = .ok (.astore_n 2, 1) := dk_77 (dk_at dksX1_least_0 6 rfl rfl)
theorem dX1_least_7 : decode cX1_least 7 = .ok (.aload_n 2, 1) := dk_44 (dk_at dksX1_least_0 7 rfl rfl)
theorem dX1_least_8 : decode cX1_least 8 = .ok (.ifnull 39, 3) := dk_198 0 39 (dk_at dksX1_least_0 8 rfl rfl)
theorem dX1_least_11 : decode cX1_least 11 = .ok (.aload_n 1, 1) := dk_43 (dk_at dksX1_least_0 11 rfl rfl)
theorem dX1_least_12 : decode cX1_least 12 = .ok (.ifnull 19, 3) := dk_198 0 19 (dk_at dksX1_least_0 12 rfl rfl)
theorem dX1_least_15 : decode cX1_least 15 = .ok (.aload_n 2, 1) := dk_44 (dk_at dksX1_least_0 15 rfl rfl)
theorem dX1_least_16 : decode cX1_least 16 = .ok (.getfield 7, 3) := dk_180 0 7 (dk_at dksX1_least_0 16 rfl rfl)
theorem dX1_least_19 : decode cX1_least 19 = .ok (.checkcast 13, 3) := dk_192 0 13 (dk_at dksX1_least_0 19 rfl rfl)
theorem dX1_least_22 : decode cX1_least 22 = .ok (.aload_n 1, 1) := dk_43 (dk_at dksX1_least_0 22 rfl rfl)
theorem dX1_least_23 : decode cX1_least 23 = .ok (.invokeinterface 15 2, 5) := by decide +kernel
theorem dX1_least_28 : decode cX1_least 28 = .ok (.ifCond .ge 11, 3) := dk_156 0 11 (dk_at dksX1_least_1 5 rfl rfl)
theorem dX1_least_31 : decode cX1_least 31 = .ok (.aload_n 2, 1) := dk_44 (dk_at dksX1_least_1 8 rfl rfl)
theorem dX1_least_32 : decode cX1_least 32 = .ok (.getfield 7, 3) := dk_180 0 7 (dk_at dksX1_least_1 9 rfl rfl)
theorem dX1_least_35 : decode cX1_least 35 = .ok (.checkcast 13, 3) := dk_192 0 13 (dk_at dksX1_least_1 12 rfl rfl)
theorem dX1_least_38 : decode cX1_least 38 = .ok (.astore_n 1, 1) := dk_76 (dk_at dksX1_least_1 15 rfl rfl)
theorem dX1_least_39 : decode cX1_least 39 = .ok (.aload_n 2, 1) := dk_44 (dk_at dksX1_least_1 16 rfl rfl)
theorem dX1_least_40 : decode cX1_least 40 = .ok (.getfield 19, 3) := dk_180 0 19 (dk_at dksX1_least_1 17 rfl rfl)
theorem dX1_least_43 : decode cX1_least 43 = .ok (.astore_n 2, 1) := dk_77 (dk_at dksX1_least_1 20 rfl rfl)
theorem dX1_least_44 : decode cX1_least 44 = .ok (.goto (-37), 3) := dk_167 255 219 (dk_at dksX1_least_1 21 rfl rfl)
theorem dX1_least_47 : decode cX1_least 47 = .ok (.aload_n 1, 1) := dk_43 (dk_at dksX1_least_2 0 rfl rfl)
theorem dX1_least_48 : decode cX1_least 48 = .ok (.areturn, 1) := dk_176 (dk_at dksX1_least_2 1 rfl rfl)
abbrev cX1_readOf : ByteArray := prog_1_method_47_code
def yX1_readOf : MethodName := ⟨RX1, "readOf", "(II)I"⟩
def dkwX1_readOf_0 : List UInt8 := [42, 180, 0, 178, 42, 27, 28, 182, 0, 250, 42, 27, 28, 182, 1, 40, 182, 1, 62, 172]
abbrev dktX1_readOf_0 : List UInt8 := dkwX1_readOf_0 ++ []
theorem dksX1_readOf_0 : cX1_readOf.data.toList.drop 0 = dktX1_readOf_0 := by decide +kernel
theorem dX1_readOf_0 : decode cX1_readOf 0 = .ok (.aload_n 0, 1) := dk_42 (dk_at dksX1_readOf_0 0 rfl rfl)
theorem dX1_readOf_1 : decode cX1_readOf 1 = .ok (.getfield 178, 3) := dk_180 0 178 (dk_at dksX1_readOf_0 1 rfl rfl)
theorem dX1_readOf_4 : decode cX1_readOf 4 = .ok (.aload_n 0, 1) := dk_42 (dk_at dksX1_readOf_0 4 rfl rfl)
theorem dX1_readOf_5 : decode cX1_readOf 5 = .ok (.iload_n 1, 1) := dk_27 (dk_at dksX1_readOf_0 5 rfl rfl)
theorem dX1_readOf_6 : decode cX1_readOf 6 = .ok (.iload_n 2, 1) := dk_28 (dk_at dksX1_readOf_0 6 rfl rfl)
theorem dX1_readOf_7 : decode cX1_readOf 7 = .ok (.invokevirtual 250, 3) := dk_182 0 250 (dk_at dksX1_readOf_0 7 rfl rfl)
theorem dX1_readOf_10 : decode cX1_readOf 10 = .ok (.aload_n 0, 1) := dk_42 (dk_at dksX1_readOf_0 10 rfl rfl)
theorem dX1_readOf_11 : decode cX1_readOf 11 = .ok (.iload_n 1, 1) := dk_27 (dk_at dksX1_readOf_0 11 rfl rfl)
theorem dX1_readOf_12 : decode cX1_readOf 12 = .ok (.iload_n 2, 1) := dk_28 (dk_at dksX1_readOf_0 12 rfl rfl)
theorem dX1_readOf_13 : decode cX1_readOf 13 = .ok (.invokevirtual 296, 3) := dk_182 1 40 (dk_at dksX1_readOf_0 13 rfl rfl)
theorem dX1_readOf_16 : decode cX1_readOf 16 = .ok (.invokevirtual 318, 3) := dk_182 1 62 (dk_at dksX1_readOf_0 16 rfl rfl)
theorem dX1_readOf_19 : decode cX1_readOf 19 = .ok (.ireturn, 1) := dk_172 (dk_at dksX1_readOf_0 19 rfl rfl)
abbrev cX1_writeOf : ByteArray := prog_1_method_48_code
def yX1_writeOf : MethodName := ⟨RX1, "writeOf", "(II)I"⟩
def dkwX1_writeOf_0 : List UInt8 := [42, 180, 0, 178, 42, 27, 28, 182, 0, 250, 42, 27, 28, 182, 1, 40, 182, 1, 65, 172]
abbrev dktX1_writeOf_0 : List UInt8 := dkwX1_writeOf_0 ++ []
theorem dksX1_writeOf_0 : cX1_writeOf.data.toList.drop 0 = dktX1_writeOf_0 := by decide +kernel
theorem dX1_writeOf_0 : decode cX1_writeOf 0 = .ok (.aload_n 0, 1) := dk_42 (dk_at dksX1_writeOf_0 0 rfl rfl)
theorem dX1_writeOf_1 : decode cX1_writeOf 1 = .ok (.getfield 178, 3) := dk_180 0 178 (dk_at dksX1_writeOf_0 1 rfl rfl)
theorem dX1_writeOf_4 : decode cX1_writeOf 4 = .ok (.aload_n 0, 1) := dk_42 (dk_at dksX1_writeOf_0 4 rfl rfl)
theorem dX1_writeOf_5 : decode cX1_writeOf 5 = .ok (.iload_n 1, 1) := dk_27 (dk_at dksX1_writeOf_0 5 rfl rfl)
theorem dX1_writeOf_6 : decode cX1_writeOf 6 = .ok (.iload_n 2, 1) := dk_28 (dk_at dksX1_writeOf_0 6 rfl rfl)
theorem dX1_writeOf_7 : decode cX1_writeOf 7 = .ok (.invokevirtual 250, 3) := dk_182 0 250 (dk_at dksX1_writeOf_0 7 rfl rfl)
theorem dX1_writeOf_10 : decode cX1_writeOf 10 = .ok (.aload_n 0, 1) := dk_42 (dk_at dksX1_writeOf_0 10 rfl rfl)
theorem dX1_writeOf_11 : decode cX1_writeOf 11 = .ok (.iload_n 1, 1) := dk_27 (dk_at dksX1_writeOf_0 11 rfl rfl)
theorem dX1_writeOf_12 : decode cX1_writeOf 12 = .ok (.iload_n 2, 1) := dk_28 (dk_at dksX1_writeOf_0 12 rfl rfl)
theorem dX1_writeOf_13 : decode cX1_writeOf 13 = .ok (.invokevirtual 296, 3) := dk_182 1 40 (dk_at dksX1_writeOf_0 13 rfl rfl)
theorem dX1_writeOf_16 : decode cX1_writeOf 16 = .ok (.invokevirtual 321, 3) := dk_182 1 65 (dk_at dksX1_writeOf_0 16 rfl rfl)
theorem dX1_writeOf_19 : decode cX1_writeOf 19 = .ok (.ireturn, 1) := dk_172 (dk_at dksX1_writeOf_0 19 rfl rfl)
abbrev cX1_reckonsSums : ByteArray := prog_1_method_49_code
def yX1_reckonsSums : MethodName := ⟨RX1, "reckonsSums", "(II)V"⟩
def dkwX1_reckonsSums_2 : List UInt8 := [182, 1, 23, 182, 1, 54, 177]
abbrev dktX1_reckonsSums_2 : List UInt8 := dkwX1_reckonsSums_2 ++ []
def dkwX1_reckonsSums_1 : List UInt8 := [182, 1, 54, 42, 27, 29, 4, 96, 182, 1, 32, 153, 0, 17, 42, 27, 29, 4, 96, 28, 42, 3]
abbrev dktX1_reckonsSums_1 : List UInt8 := dkwX1_reckonsSums_1 ++ dktX1_reckonsSums_2
def dkwX1_reckonsSums_0 : List UInt8 := [42, 182, 0, 234, 62, 42, 27, 29, 182, 1, 32, 153, 0, 15, 42, 27, 29, 28, 42, 3, 182, 1, 29]
abbrev dktX1_reckonsSums_0 : List UInt8 := dkwX1_reckonsSums_0 ++ dktX1_reckonsSums_1
theorem dksX1_reckonsSums_0 : cX1_reckonsSums.data.toList.drop 0 = dktX1_reckonsSums_0 := by decide +kernel
theorem dksX1_reckonsSums_1 : cX1_reckonsSums.data.toList.drop 23 = dktX1_reckonsSums_1 := dk_seg dksX1_reckonsSums_0 23 rfl rfl
theorem dksX1_reckonsSums_2 : cX1_reckonsSums.data.toList.drop 45 = dktX1_reckonsSums_2 := dk_seg dksX1_reckonsSums_1 22 rfl rfl
theorem dX1_reckonsSums_0 : decode cX1_reckonsSums 0 = .ok (.aload_n 0, 1) := dk_42 (dk_at dksX1_reckonsSums_0 0 rfl rfl)
theorem dX1_reckonsSums_1 : decode cX1_reckonsSums 1 = .ok (.invokevirtual 234, 3) := dk_182 0 234 (dk_at dksX1_reckonsSums_0 1 rfl rfl)
theorem dX1_reckonsSums_4 : decode cX1_reckonsSums 4 = .ok (.istore_n 3, 1) := dk_62 (dk_at dksX1_reckonsSums_0 4 rfl rfl)
theorem dX1_reckonsSums_5 : decode cX1_reckonsSums 5 = .ok (.aload_n 0, 1) := dk_42 (dk_at dksX1_reckonsSums_0 5 rfl rfl)
theorem dX1_reckonsSums_6 : decode cX1_reckonsSums 6 = .ok (.iload_n 1, 1) := dk_27 (dk_at dksX1_reckonsSums_0 6 rfl rfl)
theorem dX1_reckonsSums_7 : decode cX1_reckonsSums 7 = .ok (.iload_n 3, 1) := dk_29 (dk_at dksX1_reckonsSums_0 7 rfl rfl)
theorem dX1_reckonsSums_8 : decode cX1_reckonsSums 8 = .ok (.invokevirtual 288, 3) := dk_182 1 32 (dk_at dksX1_reckonsSums_0 8 rfl rfl)
theorem dX1_reckonsSums_11 : decode cX1_reckonsSums 11 = .ok (.ifCond .eq 15, 3) := dk_153 0 15 (dk_at dksX1_reckonsSums_0 11 rfl rfl)
theorem dX1_reckonsSums_14 : decode cX1_reckonsSums 14 = .ok (.aload_n 0, 1) := dk_42 (dk_at dksX1_reckonsSums_0 14 rfl rfl)
theorem dX1_reckonsSums_15 : decode cX1_reckonsSums 15 = .ok (.iload_n 1, 1) := dk_27 (dk_at dksX1_reckonsSums_0 15 rfl rfl)
theorem dX1_reckonsSums_16 : decode cX1_reckonsSums 16 = .ok (.iload_n 3, 1) := dk_29 (dk_at dksX1_reckonsSums_0 16 rfl rfl)
theorem dX1_reckonsSums_17 : decode cX1_reckonsSums 17 = .ok (.iload_n 2, 1) := dk_28 (dk_at dksX1_reckonsSums_0 17 rfl rfl)
theorem dX1_reckonsSums_18 : decode cX1_reckonsSums 18 = .ok (.aload_n 0, 1) := dk_42 (dk_at dksX1_reckonsSums_0 18 rfl rfl)
theorem dX1_reckonsSums_19 : decode cX1_reckonsSums 19 = .ok (.iconst 0, 1) := dk_3 (dk_at dksX1_reckonsSums_0 19 rfl rfl)
theorem dX1_reckonsSums_20 : decode cX1_reckonsSums 20 = .ok (.invokevirtual 285, 3) := dk_182 1 29 (dk_at dksX1_reckonsSums_0 20 rfl rfl)
theorem dX1_reckonsSums_23 : decode cX1_reckonsSums 23 = .ok (.invokevirtual 310, 3) := dk_182 1 54 (dk_at dksX1_reckonsSums_1 0 rfl rfl)
theorem dX1_reckonsSums_26 : decode cX1_reckonsSums 26 = .ok (.aload_n 0, 1) := dk_42 (dk_at dksX1_reckonsSums_1 3 rfl rfl)
theorem dX1_reckonsSums_27 : decode cX1_reckonsSums 27 = .ok (.iload_n 1, 1) := dk_27 (dk_at dksX1_reckonsSums_1 4 rfl rfl)
theorem dX1_reckonsSums_28 : decode cX1_reckonsSums 28 = .ok (.iload_n 3, 1) := dk_29 (dk_at dksX1_reckonsSums_1 5 rfl rfl)
theorem dX1_reckonsSums_29 : decode cX1_reckonsSums 29 = .ok (.iconst 1, 1) := dk_4 (dk_at dksX1_reckonsSums_1 6 rfl rfl)
theorem dX1_reckonsSums_30 : decode cX1_reckonsSums 30 = .ok (.iadd, 1) := dk_96 (dk_at dksX1_reckonsSums_1 7 rfl rfl)
theorem dX1_reckonsSums_31 : decode cX1_reckonsSums 31 = .ok (.invokevirtual 288, 3) := dk_182 1 32 (dk_at dksX1_reckonsSums_1 8 rfl rfl)
theorem dX1_reckonsSums_34 : decode cX1_reckonsSums 34 = .ok (.ifCond .eq 17, 3) := dk_153 0 17 (dk_at dksX1_reckonsSums_1 11 rfl rfl)
theorem dX1_reckonsSums_37 : decode cX1_reckonsSums 37 = .ok (.aload_n 0, 1) := dk_42 (dk_at dksX1_reckonsSums_1 14 rfl rfl)
theorem dX1_reckonsSums_38 : decode cX1_reckonsSums 38 = .ok (.iload_n 1, 1) := dk_27 (dk_at dksX1_reckonsSums_1 15 rfl rfl)
theorem dX1_reckonsSums_39 : decode cX1_reckonsSums 39 = .ok (.iload_n 3, 1) := dk_29 (dk_at dksX1_reckonsSums_1 16 rfl rfl)
theorem dX1_reckonsSums_40 : decode cX1_reckonsSums 40 = .ok (.iconst 1, 1) := dk_4 (dk_at dksX1_reckonsSums_1 17 rfl rfl)
theorem dX1_reckonsSums_41 : decode cX1_reckonsSums 41 = .ok (.iadd, 1) := dk_96 (dk_at dksX1_reckonsSums_1 18 rfl rfl)
theorem dX1_reckonsSums_42 : decode cX1_reckonsSums 42 = .ok (.iload_n 2, 1) := dk_28 (dk_at dksX1_reckonsSums_1 19 rfl rfl)
theorem dX1_reckonsSums_43 : decode cX1_reckonsSums 43 = .ok (.aload_n 0, 1) := dk_42 (dk_at dksX1_reckonsSums_1 20 rfl rfl)
theorem dX1_reckonsSums_44 : decode cX1_reckonsSums 44 = .ok (.iconst 0, 1) := dk_3 (dk_at dksX1_reckonsSums_1 21 rfl rfl)
theorem dX1_reckonsSums_45 : decode cX1_reckonsSums 45 = .ok (.invokevirtual 279, 3) := dk_182 1 23 (dk_at dksX1_reckonsSums_2 0 rfl rfl)
theorem dX1_reckonsSums_48 : decode cX1_reckonsSums 48 = .ok (.invokevirtual 310, 3) := dk_182 1 54 (dk_at dksX1_reckonsSums_2 3 rfl rfl)
theorem dX1_reckonsSums_51 : decode cX1_reckonsSums 51 = .ok (.return_, 1) := dk_177 (dk_at dksX1_reckonsSums_2 6 rfl rfl)
abbrev cX1_losesNow : ByteArray := prog_1_method_52_code
def yX1_losesNow : MethodName := ⟨RX1, "losesNow", "(I)I"⟩
def dkwX1_losesNow_2 : List UInt8 := [3, 79, 132, 2, 1, 167, 255, 231, 42, 182, 1, 94, 172]
abbrev dktX1_losesNow_2 : List UInt8 := dkwX1_losesNow_2 ++ []
def dkwX1_losesNow_1 : List UInt8 := [184, 0, 203, 61, 28, 27, 4, 96, 3, 3, 184, 0, 203, 162, 0, 19, 42, 180, 0, 178, 180, 0, 191, 28]
abbrev dktX1_losesNow_1 : List UInt8 := dkwX1_losesNow_1 ++ dktX1_losesNow_2
def dkwX1_losesNow_0 : List UInt8 := [42, 180, 0, 178, 180, 1, 88, 27, 4, 79, 42, 180, 0, 178, 180, 1, 91, 27, 3, 79, 27, 3, 3]
abbrev dktX1_losesNow_0 : List UInt8 := dkwX1_losesNow_0 ++ dktX1_losesNow_1
theorem dksX1_losesNow_0 : cX1_losesNow.data.toList.drop 0 = dktX1_losesNow_0 := by decide +kernel
theorem dksX1_losesNow_1 : cX1_losesNow.data.toList.drop 23 = dktX1_losesNow_1 := dk_seg dksX1_losesNow_0 23 rfl rfl
theorem dksX1_losesNow_2 : cX1_losesNow.data.toList.drop 47 = dktX1_losesNow_2 := dk_seg dksX1_losesNow_1 24 rfl rfl
theorem dX1_losesNow_0 : decode cX1_losesNow 0 = .ok (.aload_n 0, 1) := dk_42 (dk_at dksX1_losesNow_0 0 rfl rfl)
theorem dX1_losesNow_1 : decode cX1_losesNow 1 = .ok (.getfield 178, 3) := dk_180 0 178 (dk_at dksX1_losesNow_0 1 rfl rfl)
theorem dX1_losesNow_4 : decode cX1_losesNow 4 = .ok (.getfield 344, 3) := dk_180 1 88 (dk_at dksX1_losesNow_0 4 rfl rfl)
theorem dX1_losesNow_7 : decode cX1_losesNow 7 = .ok (.iload_n 1, 1) := dk_27 (dk_at dksX1_losesNow_0 7 rfl rfl)
theorem dX1_losesNow_8 : decode cX1_losesNow 8 = .ok (.iconst 1, 1) := dk_4 (dk_at dksX1_losesNow_0 8 rfl rfl)
theorem dX1_losesNow_9 : decode cX1_losesNow 9 = .ok (.iastore, 1) := dk_79 (dk_at dksX1_losesNow_0 9 rfl rfl)
theorem dX1_losesNow_10 : decode cX1_losesNow 10 = .ok (.aload_n 0, 1) := dk_42 (dk_at dksX1_losesNow_0 10 rfl rfl)
theorem dX1_losesNow_11 : decode cX1_losesNow 11 = .ok (.getfield 178, 3) := dk_180 0 178 (dk_at dksX1_losesNow_0 11 rfl rfl)
theorem dX1_losesNow_14 : decode cX1_losesNow 14 = .ok (.getfield 347, 3) := dk_180 1 91 (dk_at dksX1_losesNow_0 14 rfl rfl)
theorem dX1_losesNow_17 : decode cX1_losesNow 17 = .ok (.iload_n 1, 1) := dk_27 (dk_at dksX1_losesNow_0 17 rfl rfl)
theorem dX1_losesNow_18 : decode cX1_losesNow 18 = .ok (.iconst 0, 1) := dk_3 (dk_at dksX1_losesNow_0 18 rfl rfl)
theorem dX1_losesNow_19 : decode cX1_losesNow 19 = .ok (.iastore, 1) := dk_79 (dk_at dksX1_losesNow_0 19 rfl rfl)
theorem dX1_losesNow_20 : decode cX1_losesNow 20 = .ok (.iload_n 1, 1) := dk_27 (dk_at dksX1_losesNow_0 20 rfl rfl)
theorem dX1_losesNow_21 : decode cX1_losesNow 21 = .ok (.iconst 0, 1) := dk_3 (dk_at dksX1_losesNow_0 21 rfl rfl)
theorem dX1_losesNow_22 : decode cX1_losesNow 22 = .ok (.iconst 0, 1) := dk_3 (dk_at dksX1_losesNow_0 22 rfl rfl)
theorem dX1_losesNow_23 : decode cX1_losesNow 23 = .ok (.invokestatic 203, 3) := dk_184 0 203 (dk_at dksX1_losesNow_1 0 rfl rfl)
theorem dX1_losesNow_26 : decode cX1_losesNow 26 = .ok (.istore_n 2, 1) := dk_61 (dk_at dksX1_losesNow_1 3 rfl rfl)
theorem dX1_losesNow_27 : decode cX1_losesNow 27 = .ok (.iload_n 2, 1) := dk_28 (dk_at dksX1_losesNow_1 4 rfl rfl)
theorem dX1_losesNow_28 : decode cX1_losesNow 28 = .ok (.iload_n 1, 1) := dk_27 (dk_at dksX1_losesNow_1 5 rfl rfl)
theorem dX1_losesNow_29 : decode cX1_losesNow 29 = .ok (.iconst 1, 1) := dk_4 (dk_at dksX1_losesNow_1 6 rfl rfl)
theorem dX1_losesNow_30 : decode cX1_losesNow 30 = .ok (.iadd, 1) := dk_96 (dk_at dksX1_losesNow_1 7 rfl rfl)
theorem dX1_losesNow_31 : decode cX1_losesNow 31 = .ok (.iconst 0, 1) := dk_3 (dk_at dksX1_losesNow_1 8 rfl rfl)
theorem dX1_losesNow_32 : decode cX1_losesNow 32 = .ok (.iconst 0, 1) := dk_3 (dk_at dksX1_losesNow_1 9 rfl rfl)
theorem dX1_losesNow_33 : decode cX1_losesNow 33 = .ok (.invokestatic 203, 3) := dk_184 0 203 (dk_at dksX1_losesNow_1 10 rfl rfl)
theorem dX1_losesNow_36 : decode cX1_losesNow 36 = .ok (.if_icmp .ge 19, 3) := dk_162 0 19 (dk_at dksX1_losesNow_1 13 rfl rfl)
theorem dX1_losesNow_39 : decode cX1_losesNow 39 = .ok (.aload_n 0, 1) := dk_42 (dk_at dksX1_losesNow_1 16 rfl rfl)
theorem dX1_losesNow_40 : decode cX1_losesNow 40 = .ok (.getfield 178, 3) := dk_180 0 178 (dk_at dksX1_losesNow_1 17 rfl rfl)
theorem dX1_losesNow_43 : decode cX1_losesNow 43 = .ok (.getfield 191, 3) := dk_180 0 191 (dk_at dksX1_losesNow_1 20 rfl rfl)
theorem dX1_losesNow_46 : decode cX1_losesNow 46 = .ok (.iload_n 2, 1) := dk_28 (dk_at dksX1_losesNow_1 23 rfl rfl)
theorem dX1_losesNow_47 : decode cX1_losesNow 47 = .ok (.iconst 0, 1) := dk_3 (dk_at dksX1_losesNow_2 0 rfl rfl)
theorem dX1_losesNow_48 : decode cX1_losesNow 48 = .ok (.iastore, 1) := dk_79 (dk_at dksX1_losesNow_2 1 rfl rfl)
theorem dX1_losesNow_49 : decode cX1_losesNow 49 = .ok (.iinc 2 1, 3) := dk_132 2 1 (dk_at dksX1_losesNow_2 2 rfl rfl)
theorem dX1_losesNow_52 : decode cX1_losesNow 52 = .ok (.goto (-25), 3) := dk_167 255 231 (dk_at dksX1_losesNow_2 5 rfl rfl)
theorem dX1_losesNow_55 : decode cX1_losesNow 55 = .ok (.aload_n 0, 1) := dk_42 (dk_at dksX1_losesNow_2 8 rfl rfl)
theorem dX1_losesNow_56 : decode cX1_losesNow 56 = .ok (.invokevirtual 350, 3) := dk_182 1 94 (dk_at dksX1_losesNow_2 9 rfl rfl)
theorem dX1_losesNow_59 : decode cX1_losesNow 59 = .ok (.ireturn, 1) := dk_172 (dk_at dksX1_losesNow_2 12 rfl rfl)
abbrev cX1_replacesNow : ByteArray := prog_1_method_53_code
def yX1_replacesNow : MethodName := ⟨RX1, "replacesNow", "(I)I"⟩
def dkwX1_replacesNow_1 : List UInt8 := [89, 180, 0, 182, 4, 100, 181, 0, 182, 42, 180, 0, 178, 180, 0, 182, 172]
abbrev dktX1_replacesNow_1 : List UInt8 := dkwX1_replacesNow_1 ++ []
def dkwX1_replacesNow_0 : List UInt8 := [42, 180, 0, 178, 180, 1, 88, 27, 5, 79, 42, 180, 0, 178, 180, 1, 91, 27, 3, 79, 42, 180, 0, 178]
abbrev dktX1_replacesNow_0 : List UInt8 := dkwX1_replacesNow_0 ++ dktX1_replacesNow_1
theorem dksX1_replacesNow_0 : cX1_replacesNow.data.toList.drop 0 = dktX1_replacesNow_0 := by decide +kernel
theorem dksX1_replacesNow_1 : cX1_replacesNow.data.toList.drop 24 = dktX1_replacesNow_1 := dk_seg dksX1_replacesNow_0 24 rfl rfl
theorem dX1_replacesNow_0 : decode cX1_replacesNow 0 = .ok (.aload_n 0, 1) := dk_42 (dk_at dksX1_replacesNow_0 0 rfl rfl)
theorem dX1_replacesNow_1 : decode cX1_replacesNow 1 = .ok (.getfield 178, 3) := dk_180 0 178 (dk_at dksX1_replacesNow_0 1 rfl rfl)
theorem dX1_replacesNow_4 : decode cX1_replacesNow 4 = .ok (.getfield 344, 3) := dk_180 1 88 (dk_at dksX1_replacesNow_0 4 rfl rfl)
theorem dX1_replacesNow_7 : decode cX1_replacesNow 7 = .ok (.iload_n 1, 1) := dk_27 (dk_at dksX1_replacesNow_0 7 rfl rfl)
theorem dX1_replacesNow_8 : decode cX1_replacesNow 8 = .ok (.iconst 2, 1) := dk_5 (dk_at dksX1_replacesNow_0 8 rfl rfl)
theorem dX1_replacesNow_9 : decode cX1_replacesNow 9 = .ok (.iastore, 1) := dk_79 (dk_at dksX1_replacesNow_0 9 rfl rfl)
theorem dX1_replacesNow_10 : decode cX1_replacesNow 10 = .ok (.aload_n 0, 1) := dk_42 (dk_at dksX1_replacesNow_0 10 rfl rfl)
theorem dX1_replacesNow_11 : decode cX1_replacesNow 11 = .ok (.getfield 178, 3) := dk_180 0 178 (dk_at dksX1_replacesNow_0 11 rfl rfl)
theorem dX1_replacesNow_14 : decode cX1_replacesNow 14 = .ok (.getfield 347, 3) := dk_180 1 91 (dk_at dksX1_replacesNow_0 14 rfl rfl)
theorem dX1_replacesNow_17 : decode cX1_replacesNow 17 = .ok (.iload_n 1, 1) := dk_27 (dk_at dksX1_replacesNow_0 17 rfl rfl)
theorem dX1_replacesNow_18 : decode cX1_replacesNow 18 = .ok (.iconst 0, 1) := dk_3 (dk_at dksX1_replacesNow_0 18 rfl rfl)
theorem dX1_replacesNow_19 : decode cX1_replacesNow 19 = .ok (.iastore, 1) := dk_79 (dk_at dksX1_replacesNow_0 19 rfl rfl)
theorem dX1_replacesNow_20 : decode cX1_replacesNow 20 = .ok (.aload_n 0, 1) := dk_42 (dk_at dksX1_replacesNow_0 20 rfl rfl)
theorem dX1_replacesNow_21 : decode cX1_replacesNow 21 = .ok (.getfield 178, 3) := dk_180 0 178 (dk_at dksX1_replacesNow_0 21 rfl rfl)
theorem dX1_replacesNow_24 : decode cX1_replacesNow 24 = .ok (.dup, 1) := dk_89 (dk_at dksX1_replacesNow_1 0 rfl rfl)
theorem dX1_replacesNow_25 : decode cX1_replacesNow 25 = .ok (.getfield 182, 3) := dk_180 0 182 (dk_at dksX1_replacesNow_1 1 rfl rfl)
theorem dX1_replacesNow_28 : decode cX1_replacesNow 28 = .ok (.iconst 1, 1) := dk_4 (dk_at dksX1_replacesNow_1 4 rfl rfl)
theorem dX1_replacesNow_29 : decode cX1_replacesNow 29 = .ok (.isub, 1) := dk_100 (dk_at dksX1_replacesNow_1 5 rfl rfl)
theorem dX1_replacesNow_30 : decode cX1_replacesNow 30 = .ok (.putfield 182, 3) := dk_181 0 182 (dk_at dksX1_replacesNow_1 6 rfl rfl)
theorem dX1_replacesNow_33 : decode cX1_replacesNow 33 = .ok (.aload_n 0, 1) := dk_42 (dk_at dksX1_replacesNow_1 9 rfl rfl)
theorem dX1_replacesNow_34 : decode cX1_replacesNow 34 = .ok (.getfield 178, 3) := dk_180 0 178 (dk_at dksX1_replacesNow_1 10 rfl rfl)
theorem dX1_replacesNow_37 : decode cX1_replacesNow 37 = .ok (.getfield 182, 3) := dk_180 0 182 (dk_at dksX1_replacesNow_1 13 rfl rfl)
theorem dX1_replacesNow_40 : decode cX1_replacesNow 40 = .ok (.ireturn, 1) := dk_172 (dk_at dksX1_replacesNow_1 16 rfl rfl)
abbrev cX1_rebuildsNow : ByteArray := prog_1_method_56_code
def yX1_rebuildsNow : MethodName := ⟨RX1, "rebuildsNow", "(II)I"⟩
def dkwX1_rebuildsNow_1 : List UInt8 := [182, 1, 100, 132, 3, 1, 167, 255, 230, 42, 27, 182, 1, 103, 172]
abbrev dktX1_rebuildsNow_1 : List UInt8 := dkwX1_rebuildsNow_1 ++ []
def dkwX1_rebuildsNow_0 : List UInt8 := [3, 62, 29, 28, 162, 0, 27, 42, 180, 0, 178, 180, 1, 88, 27, 46, 5, 160, 0, 14, 42, 27]
abbrev dktX1_rebuildsNow_0 : List UInt8 := dkwX1_rebuildsNow_0 ++ dktX1_rebuildsNow_1
theorem dksX1_rebuildsNow_0 : cX1_rebuildsNow.data.toList.drop 0 = dktX1_rebuildsNow_0 := by decide +kernel
theorem dksX1_rebuildsNow_1 : cX1_rebuildsNow.data.toList.drop 22 = dktX1_rebuildsNow_1 := dk_seg dksX1_rebuildsNow_0 22 rfl rfl
theorem dX1_rebuildsNow_0 : decode cX1_rebuildsNow 0 = .ok (.iconst 0, 1) := dk_3 (dk_at dksX1_rebuildsNow_0 0 rfl rfl)
theorem dX1_rebuildsNow_1 : decode cX1_rebuildsNow 1 = .ok (.istore_n 3, 1) := dk_62 (dk_at dksX1_rebuildsNow_0 1 rfl rfl)
theorem dX1_rebuildsNow_2 : decode cX1_rebuildsNow 2 = .ok (.iload_n 3, 1) := dk_29 (dk_at dksX1_rebuildsNow_0 2 rfl rfl)
theorem dX1_rebuildsNow_3 : decode cX1_rebuildsNow 3 = .ok (.iload_n 2, 1) := dk_28 (dk_at dksX1_rebuildsNow_0 3 rfl rfl)
theorem dX1_rebuildsNow_4 : decode cX1_rebuildsNow 4 = .ok (.if_icmp .ge 27, 3) := dk_162 0 27 (dk_at dksX1_rebuildsNow_0 4 rfl rfl)
theorem dX1_rebuildsNow_7 : decode cX1_rebuildsNow 7 = .ok (.aload_n 0, 1) := dk_42 (dk_at dksX1_rebuildsNow_0 7 rfl rfl)
theorem dX1_rebuildsNow_8 : decode cX1_rebuildsNow 8 = .ok (.getfield 178, 3) := dk_180 0 178 (dk_at dksX1_rebuildsNow_0 8 rfl rfl)
theorem dX1_rebuildsNow_11 : decode cX1_rebuildsNow 11 = .ok (.getfield 344, 3) := dk_180 1 88 (dk_at dksX1_rebuildsNow_0 11 rfl rfl)
theorem dX1_rebuildsNow_14 : decode cX1_rebuildsNow 14 = .ok (.iload_n 1, 1) := dk_27 (dk_at dksX1_rebuildsNow_0 14 rfl rfl)
theorem dX1_rebuildsNow_15 : decode cX1_rebuildsNow 15 = .ok (.iaload, 1) := dk_46 (dk_at dksX1_rebuildsNow_0 15 rfl rfl)
theorem dX1_rebuildsNow_16 : decode cX1_rebuildsNow 16 = .ok (.iconst 2, 1) := dk_5 (dk_at dksX1_rebuildsNow_0 16 rfl rfl)
theorem dX1_rebuildsNow_17 : decode cX1_rebuildsNow 17 = .ok (.if_icmp .ne 14, 3) := dk_160 0 14 (dk_at dksX1_rebuildsNow_0 17 rfl rfl)
theorem dX1_rebuildsNow_20 : decode cX1_rebuildsNow 20 = .ok (.aload_n 0, 1) := dk_42 (dk_at dksX1_rebuildsNow_0 20 rfl rfl)
theorem dX1_rebuildsNow_21 : decode cX1_rebuildsNow 21 = .ok (.iload_n 1, 1) := dk_27 (dk_at dksX1_rebuildsNow_0 21 rfl rfl)
theorem dX1_rebuildsNow_22 : decode cX1_rebuildsNow 22 = .ok (.invokevirtual 356, 3) := dk_182 1 100 (dk_at dksX1_rebuildsNow_1 0 rfl rfl)
theorem dX1_rebuildsNow_25 : decode cX1_rebuildsNow 25 = .ok (.iinc 3 1, 3) := dk_132 3 1 (dk_at dksX1_rebuildsNow_1 3 rfl rfl)
theorem dX1_rebuildsNow_28 : decode cX1_rebuildsNow 28 = .ok (.goto (-26), 3) := dk_167 255 230 (dk_at dksX1_rebuildsNow_1 6 rfl rfl)
theorem dX1_rebuildsNow_31 : decode cX1_rebuildsNow 31 = .ok (.aload_n 0, 1) := dk_42 (dk_at dksX1_rebuildsNow_1 9 rfl rfl)
theorem dX1_rebuildsNow_32 : decode cX1_rebuildsNow 32 = .ok (.iload_n 1, 1) := dk_27 (dk_at dksX1_rebuildsNow_1 10 rfl rfl)
theorem dX1_rebuildsNow_33 : decode cX1_rebuildsNow 33 = .ok (.invokevirtual 359, 3) := dk_182 1 103 (dk_at dksX1_rebuildsNow_1 11 rfl rfl)
theorem dX1_rebuildsNow_36 : decode cX1_rebuildsNow 36 = .ok (.ireturn, 1) := dk_172 (dk_at dksX1_rebuildsNow_1 14 rfl rfl)
abbrev cX1_solvesStripe : ByteArray := prog_1_method_54_code
def yX1_solvesStripe : MethodName := ⟨RX1, "solvesStripe", "(I)V"⟩
def dkwX1_solvesStripe_7 : List UInt8 := [180, 0, 178, 180, 1, 91, 27, 3, 79, 177]
abbrev dktX1_solvesStripe_7 : List UInt8 := dkwX1_solvesStripe_7 ++ []
def dkwX1_solvesStripe_6 : List UInt8 := [180, 1, 91, 27, 46, 42, 182, 0, 237, 162, 0, 4, 177, 42, 180, 0, 178, 180, 1, 88, 27, 3, 79, 42]
abbrev dktX1_solvesStripe_6 : List UInt8 := dkwX1_solvesStripe_6 ++ dktX1_solvesStripe_7
def dkwX1_solvesStripe_5 : List UInt8 := [182, 0, 240, 182, 1, 65, 87, 42, 180, 0, 178, 180, 1, 91, 27, 92, 46, 4, 96, 79, 42, 180, 0, 178]
abbrev dktX1_solvesStripe_5 : List UInt8 := dkwX1_solvesStripe_5 ++ dktX1_solvesStripe_6
def dkwX1_solvesStripe_4 : List UInt8 := [21, 5, 42, 180, 1, 3, 21, 4, 46, 182, 1, 54, 132, 5, 1, 167, 255, 220, 42, 180, 0, 178, 27, 42]
abbrev dktX1_solvesStripe_4 : List UInt8 := dkwX1_solvesStripe_4 ++ dktX1_solvesStripe_5
def dkwX1_solvesStripe_3 : List UInt8 := [3, 54, 5, 21, 5, 42, 182, 0, 240, 162, 0, 33, 42, 28, 21, 5, 29, 182, 1, 36, 42, 28, 21, 4]
abbrev dktX1_solvesStripe_3 : List UInt8 := dkwX1_solvesStripe_3 ++ dktX1_solvesStripe_4
def dkwX1_solvesStripe_2 : List UInt8 := [180, 0, 178, 42, 28, 21, 5, 182, 0, 250, 42, 182, 0, 240, 182, 1, 62, 87, 132, 5, 1, 167, 255, 216]
abbrev dktX1_solvesStripe_2 : List UInt8 := dkwX1_solvesStripe_2 ++ dktX1_solvesStripe_3
def dkwX1_solvesStripe_1 : List UInt8 := [3, 54, 5, 21, 5, 42, 182, 0, 247, 162, 0, 37, 29, 21, 5, 184, 0, 82, 154, 0, 22, 42]
abbrev dktX1_solvesStripe_1 : List UInt8 := dkwX1_solvesStripe_1 ++ dktX1_solvesStripe_2
def dkwX1_solvesStripe_0 : List UInt8 := [42, 180, 0, 178, 180, 1, 91, 27, 46, 61, 42, 28, 182, 1, 33, 62, 42, 27, 28, 182, 1, 97, 54, 4]
abbrev dktX1_solvesStripe_0 : List UInt8 := dkwX1_solvesStripe_0 ++ dktX1_solvesStripe_1
theorem dksX1_solvesStripe_0 : cX1_solvesStripe.data.toList.drop 0 = dktX1_solvesStripe_0 := by decide +kernel
theorem dksX1_solvesStripe_1 : cX1_solvesStripe.data.toList.drop 24 = dktX1_solvesStripe_1 := dk_seg dksX1_solvesStripe_0 24 rfl rfl
theorem dksX1_solvesStripe_2 : cX1_solvesStripe.data.toList.drop 46 = dktX1_solvesStripe_2 := dk_seg dksX1_solvesStripe_1 22 rfl rfl
theorem dksX1_solvesStripe_3 : cX1_solvesStripe.data.toList.drop 70 = dktX1_solvesStripe_3 := dk_seg dksX1_solvesStripe_2 24 rfl rfl
theorem dksX1_solvesStripe_4 : cX1_solvesStripe.data.toList.drop 94 = dktX1_solvesStripe_4 := dk_seg dksX1_solvesStripe_3 24 rfl rfl
theorem dksX1_solvesStripe_5 : cX1_solvesStripe.data.toList.drop 118 = dktX1_solvesStripe_5 := dk_seg dksX1_solvesStripe_4 24 rfl rfl
theorem dksX1_solvesStripe_6 : cX1_solvesStripe.data.toList.drop 142 = dktX1_solvesStripe_6 := dk_seg dksX1_solvesStripe_5 24 rfl rfl
theorem dksX1_solvesStripe_7 : cX1_solvesStripe.data.toList.drop 166 = dktX1_solvesStripe_7 := dk_seg dksX1_solvesStripe_6 24 rfl rfl
theorem dX1_solvesStripe_0 : decode cX1_solvesStripe 0 = .ok (.aload_n 0, 1) := dk_42 (dk_at dksX1_solvesStripe_0 0 rfl rfl)
theorem dX1_solvesStripe_1 : decode cX1_solvesStripe 1 = .ok (.getfield 178, 3) := dk_180 0 178 (dk_at dksX1_solvesStripe_0 1 rfl rfl)
theorem dX1_solvesStripe_4 : decode cX1_solvesStripe 4 = .ok (.getfield 347, 3) := dk_180 1 91 (dk_at dksX1_solvesStripe_0 4 rfl rfl)
theorem dX1_solvesStripe_7 : decode cX1_solvesStripe 7 = .ok (.iload_n 1, 1) := dk_27 (dk_at dksX1_solvesStripe_0 7 rfl rfl)
theorem dX1_solvesStripe_8 : decode cX1_solvesStripe 8 = .ok (.iaload, 1) := dk_46 (dk_at dksX1_solvesStripe_0 8 rfl rfl)
theorem dX1_solvesStripe_9 : decode cX1_solvesStripe 9 = .ok (.istore_n 2, 1) := dk_61 (dk_at dksX1_solvesStripe_0 9 rfl rfl)
theorem dX1_solvesStripe_10 : decode cX1_solvesStripe 10 = .ok (.aload_n 0, 1) := dk_42 (dk_at dksX1_solvesStripe_0 10 rfl rfl)
theorem dX1_solvesStripe_11 : decode cX1_solvesStripe 11 = .ok (.iload_n 2, 1) := dk_28 (dk_at dksX1_solvesStripe_0 11 rfl rfl)
theorem dX1_solvesStripe_12 : decode cX1_solvesStripe 12 = .ok (.invokevirtual 289, 3) := dk_182 1 33 (dk_at dksX1_solvesStripe_0 12 rfl rfl)
theorem dX1_solvesStripe_15 : decode cX1_solvesStripe 15 = .ok (.istore_n 3, 1) := dk_62 (dk_at dksX1_solvesStripe_0 15 rfl rfl)
theorem dX1_solvesStripe_16 : decode cX1_solvesStripe 16 = .ok (.aload_n 0, 1) := dk_42 (dk_at dksX1_solvesStripe_0 16 rfl rfl)
theorem dX1_solvesStripe_17 : decode cX1_solvesStripe 17 = .ok (.iload_n 1, 1) := dk_27 (dk_at dksX1_solvesStripe_0 17 rfl rfl)
theorem dX1_solvesStripe_18 : decode cX1_solvesStripe 18 = .ok (.iload_n 2, 1) := dk_28 (dk_at dksX1_solvesStripe_0 18 rfl rfl)
theorem dX1_solvesStripe_19 : decode cX1_solvesStripe 19 = .ok (.invokevirtual 353, 3) := dk_182 1 97 (dk_at dksX1_solvesStripe_0 19 rfl rfl)
theorem dX1_solvesStripe_22 : decode cX1_solvesStripe 22 = .ok (.istore 4, 2) := dk_54 4 (dk_at dksX1_solvesStripe_0 22 rfl rfl)
theorem dX1_solvesStripe_24 : decode cX1_solvesStripe 24 = .ok (.iconst 0, 1) := dk_3 (dk_at dksX1_solvesStripe_1 0 rfl rfl)
theorem dX1_solvesStripe_25 : decode cX1_solvesStripe 25 = .ok (.istore 5, 2) := dk_54 5 (dk_at dksX1_solvesStripe_1 1 rfl rfl)
theorem dX1_solvesStripe_27 : decode cX1_solvesStripe 27 = .ok (.iload 5, 2) := dk_21 5 (dk_at dksX1_solvesStripe_1 3 rfl rfl)
theorem dX1_solvesStripe_29 : decode cX1_solvesStripe 29 = .ok (.aload_n 0, 1) := dk_42 (dk_at dksX1_solvesStripe_1 5 rfl rfl)
theorem dX1_solvesStripe_30 : decode cX1_solvesStripe 30 = .ok (.invokevirtual 247, 3) := dk_182 0 247 (dk_at dksX1_solvesStripe_1 6 rfl rfl)
theorem dX1_solvesStripe_33 : decode cX1_solvesStripe 33 = .ok (.if_icmp .ge 37, 3) := dk_162 0 37 (dk_at dksX1_solvesStripe_1 9 rfl rfl)
theorem dX1_solvesStripe_36 : decode cX1_solvesStripe 36 = .ok (.iload_n 3, 1) := dk_29 (dk_at dksX1_solvesStripe_1 12 rfl rfl)
theorem dX1_solvesStripe_37 : decode cX1_solvesStripe 37 = .ok (.iload 5, 2) := dk_21 5 (dk_at dksX1_solvesStripe_1 13 rfl rfl)
theorem dX1_solvesStripe_39 : decode cX1_solvesStripe 39 = .ok (.invokestatic 82, 3) := dk_184 0 82 (dk_at dksX1_solvesStripe_1 15 rfl rfl)
theorem dX1_solvesStripe_42 : decode cX1_solvesStripe 42 = .ok (.ifCond .ne 22, 3) := dk_154 0 22 (dk_at dksX1_solvesStripe_1 18 rfl rfl)
theorem dX1_solvesStripe_45 : decode cX1_solvesStripe 45 = .ok (.aload_n 0, 1) := dk_42 (dk_at dksX1_solvesStripe_1 21 rfl rfl)
theorem dX1_solvesStripe_46 : decode cX1_solvesStripe 46 = .ok (.getfield 178, 3) := dk_180 0 178 (dk_at dksX1_solvesStripe_2 0 rfl rfl)
theorem dX1_solvesStripe_49 : decode cX1_solvesStripe 49 = .ok (.aload_n 0, 1) := dk_42 (dk_at dksX1_solvesStripe_2 3 rfl rfl)
theorem dX1_solvesStripe_50 : decode cX1_solvesStripe 50 = .ok (.iload_n 2, 1) := dk_28 (dk_at dksX1_solvesStripe_2 4 rfl rfl)
theorem dX1_solvesStripe_51 : decode cX1_solvesStripe 51 = .ok (.iload 5, 2) := dk_21 5 (dk_at dksX1_solvesStripe_2 5 rfl rfl)
theorem dX1_solvesStripe_53 : decode cX1_solvesStripe 53 = .ok (.invokevirtual 250, 3) := dk_182 0 250 (dk_at dksX1_solvesStripe_2 7 rfl rfl)
theorem dX1_solvesStripe_56 : decode cX1_solvesStripe 56 = .ok (.aload_n 0, 1) := dk_42 (dk_at dksX1_solvesStripe_2 10 rfl rfl)
theorem dX1_solvesStripe_57 : decode cX1_solvesStripe 57 = .ok (.invokevirtual 240, 3) := dk_182 0 240 (dk_at dksX1_solvesStripe_2 11 rfl rfl)
theorem dX1_solvesStripe_60 : decode cX1_solvesStripe 60 = .ok (.invokevirtual 318, 3) := dk_182 1 62 (dk_at dksX1_solvesStripe_2 14 rfl rfl)
theorem dX1_solvesStripe_63 : decode cX1_solvesStripe 63 = .ok (.pop, 1) := dk_87 (dk_at dksX1_solvesStripe_2 17 rfl rfl)
theorem dX1_solvesStripe_64 : decode cX1_solvesStripe 64 = .ok (.iinc 5 1, 3) := dk_132 5 1 (dk_at dksX1_solvesStripe_2 18 rfl rfl)
theorem dX1_solvesStripe_67 : decode cX1_solvesStripe 67 = .ok (.goto (-40), 3) := dk_167 255 216 (dk_at dksX1_solvesStripe_2 21 rfl rfl)
theorem dX1_solvesStripe_70 : decode cX1_solvesStripe 70 = .ok (.iconst 0, 1) := dk_3 (dk_at dksX1_solvesStripe_3 0 rfl rfl)
theorem dX1_solvesStripe_71 : decode cX1_solvesStripe 71 = .ok (.istore 5, 2) := dk_54 5 (dk_at dksX1_solvesStripe_3 1 rfl rfl)
theorem dX1_solvesStripe_73 : decode cX1_solvesStripe 73 = .ok (.iload 5, 2) := dk_21 5 (dk_at dksX1_solvesStripe_3 3 rfl rfl)
theorem dX1_solvesStripe_75 : decode cX1_solvesStripe 75 = .ok (.aload_n 0, 1) := dk_42 (dk_at dksX1_solvesStripe_3 5 rfl rfl)
theorem dX1_solvesStripe_76 : decode cX1_solvesStripe 76 = .ok (.invokevirtual 240, 3) := dk_182 0 240 (dk_at dksX1_solvesStripe_3 6 rfl rfl)
theorem dX1_solvesStripe_79 : decode cX1_solvesStripe 79 = .ok (.if_icmp .ge 33, 3) := dk_162 0 33 (dk_at dksX1_solvesStripe_3 9 rfl rfl)
theorem dX1_solvesStripe_82 : decode cX1_solvesStripe 82 = .ok (.aload_n 0, 1) := dk_42 (dk_at dksX1_solvesStripe_3 12 rfl rfl)
theorem dX1_solvesStripe_83 : decode cX1_solvesStripe 83 = .ok (.iload_n 2, 1) := dk_28 (dk_at dksX1_solvesStripe_3 13 rfl rfl)
theorem dX1_solvesStripe_84 : decode cX1_solvesStripe 84 = .ok (.iload 5, 2) := dk_21 5 (dk_at dksX1_solvesStripe_3 14 rfl rfl)
theorem dX1_solvesStripe_86 : decode cX1_solvesStripe 86 = .ok (.iload_n 3, 1) := dk_29 (dk_at dksX1_solvesStripe_3 16 rfl rfl)
theorem dX1_solvesStripe_87 : decode cX1_solvesStripe 87 = .ok (.invokevirtual 292, 3) := dk_182 1 36 (dk_at dksX1_solvesStripe_3 17 rfl rfl)
theorem dX1_solvesStripe_90 : decode cX1_solvesStripe 90 = .ok (.aload_n 0, 1) := dk_42 (dk_at dksX1_solvesStripe_3 20 rfl rfl)
theorem dX1_solvesStripe_91 : decode cX1_solvesStripe 91 = .ok (.iload_n 2, 1) := dk_28 (dk_at dksX1_solvesStripe_3 21 rfl rfl)
theorem dX1_solvesStripe_92 : decode cX1_solvesStripe 92 = .ok (.iload 4, 2) := dk_21 4 (dk_at dksX1_solvesStripe_3 22 rfl rfl)
theorem dX1_solvesStripe_94 : decode cX1_solvesStripe 94 = .ok (.iload 5, 2) := dk_21 5 (dk_at dksX1_solvesStripe_4 0 rfl rfl)
theorem dX1_solvesStripe_96 : decode cX1_solvesStripe 96 = .ok (.aload_n 0, 1) := dk_42 (dk_at dksX1_solvesStripe_4 2 rfl rfl)
theorem dX1_solvesStripe_97 : decode cX1_solvesStripe 97 = .ok (.getfield 259, 3) := dk_180 1 3 (dk_at dksX1_solvesStripe_4 3 rfl rfl)
theorem dX1_solvesStripe_100 : decode cX1_solvesStripe 100 = .ok (.iload 4, 2) := dk_21 4 (dk_at dksX1_solvesStripe_4 6 rfl rfl)
theorem dX1_solvesStripe_102 : decode cX1_solvesStripe 102 = .ok (.iaload, 1) := dk_46 (dk_at dksX1_solvesStripe_4 8 rfl rfl)
theorem dX1_solvesStripe_103 : decode cX1_solvesStripe 103 = .ok (.invokevirtual 310, 3) := dk_182 1 54 (dk_at dksX1_solvesStripe_4 9 rfl rfl)
theorem dX1_solvesStripe_106 : decode cX1_solvesStripe 106 = .ok (.iinc 5 1, 3) := dk_132 5 1 (dk_at dksX1_solvesStripe_4 12 rfl rfl)
theorem dX1_solvesStripe_109 : decode cX1_solvesStripe 109 = .ok (.goto (-36), 3) := dk_167 255 220 (dk_at dksX1_solvesStripe_4 15 rfl rfl)
theorem dX1_solvesStripe_112 : decode cX1_solvesStripe 112 = .ok (.aload_n 0, 1) := dk_42 (dk_at dksX1_solvesStripe_4 18 rfl rfl)
theorem dX1_solvesStripe_113 : decode cX1_solvesStripe 113 = .ok (.getfield 178, 3) := dk_180 0 178 (dk_at dksX1_solvesStripe_4 19 rfl rfl)
theorem dX1_solvesStripe_116 : decode cX1_solvesStripe 116 = .ok (.iload_n 1, 1) := dk_27 (dk_at dksX1_solvesStripe_4 22 rfl rfl)
theorem dX1_solvesStripe_117 : decode cX1_solvesStripe 117 = .ok (.aload_n 0, 1) := dk_42 (dk_at dksX1_solvesStripe_4 23 rfl rfl)
theorem dX1_solvesStripe_118 : decode cX1_solvesStripe 118 = .ok (.invokevirtual 240, 3) := dk_182 0 240 (dk_at dksX1_solvesStripe_5 0 rfl rfl)
theorem dX1_solvesStripe_121 : decode cX1_solvesStripe 121 = .ok (.invokevirtual 321, 3) := dk_182 1 65 (dk_at dksX1_solvesStripe_5 3 rfl rfl)
theorem dX1_solvesStripe_124 : decode cX1_solvesStripe 124 = .ok (.pop, 1) := dk_87 (dk_at dksX1_solvesStripe_5 6 rfl rfl)
theorem dX1_solvesStripe_125 : decode cX1_solvesStripe 125 = .ok (.aload_n 0, 1) := dk_42 (dk_at dksX1_solvesStripe_5 7 rfl rfl)
theorem dX1_solvesStripe_126 : decode cX1_solvesStripe 126 = .ok (.getfield 178, 3) := dk_180 0 178 (dk_at dksX1_solvesStripe_5 8 rfl rfl)
theorem dX1_solvesStripe_129 : decode cX1_solvesStripe 129 = .ok (.getfield 347, 3) := dk_180 1 91 (dk_at dksX1_solvesStripe_5 11 rfl rfl)
theorem dX1_solvesStripe_132 : decode cX1_solvesStripe 132 = .ok (.iload_n 1, 1) := dk_27 (dk_at dksX1_solvesStripe_5 14 rfl rfl)
theorem dX1_solvesStripe_133 : decode cX1_solvesStripe 133 = .ok (.dup2, 1) := dk_92 (dk_at dksX1_solvesStripe_5 15 rfl rfl)
theorem dX1_solvesStripe_134 : decode cX1_solvesStripe 134 = .ok (.iaload, 1) := dk_46 (dk_at dksX1_solvesStripe_5 16 rfl rfl)
theorem dX1_solvesStripe_135 : decode cX1_solvesStripe 135 = .ok (.iconst 1, 1) := dk_4 (dk_at dksX1_solvesStripe_5 17 rfl rfl)
theorem dX1_solvesStripe_136 : decode cX1_solvesStripe 136 = .ok (.iadd, 1) := dk_96 (dk_at dksX1_solvesStripe_5 18 rfl rfl)
theorem dX1_solvesStripe_137 : decode cX1_solvesStripe 137 = .ok (.iastore, 1) := dk_79 (dk_at dksX1_solvesStripe_5 19 rfl rfl)
theorem dX1_solvesStripe_138 : decode cX1_solvesStripe 138 = .ok (.aload_n 0, 1) := dk_42 (dk_at dksX1_solvesStripe_5 20 rfl rfl)
theorem dX1_solvesStripe_139 : decode cX1_solvesStripe 139 = .ok (.getfield 178, 3) := dk_180 0 178 (dk_at dksX1_solvesStripe_5 21 rfl rfl)
theorem dX1_solvesStripe_142 : decode cX1_solvesStripe 142 = .ok (.getfield 347, 3) := dk_180 1 91 (dk_at dksX1_solvesStripe_6 0 rfl rfl)
theorem dX1_solvesStripe_145 : decode cX1_solvesStripe 145 = .ok (.iload_n 1, 1) := dk_27 (dk_at dksX1_solvesStripe_6 3 rfl rfl)
theorem dX1_solvesStripe_146 : decode cX1_solvesStripe 146 = .ok (.iaload, 1) := dk_46 (dk_at dksX1_solvesStripe_6 4 rfl rfl)
theorem dX1_solvesStripe_147 : decode cX1_solvesStripe 147 = .ok (.aload_n 0, 1) := dk_42 (dk_at dksX1_solvesStripe_6 5 rfl rfl)
theorem dX1_solvesStripe_148 : decode cX1_solvesStripe 148 = .ok (.invokevirtual 237, 3) := dk_182 0 237 (dk_at dksX1_solvesStripe_6 6 rfl rfl)
theorem dX1_solvesStripe_151 : decode cX1_solvesStripe 151 = .ok (.if_icmp .ge 4, 3) := dk_162 0 4 (dk_at dksX1_solvesStripe_6 9 rfl rfl)
theorem dX1_solvesStripe_154 : decode cX1_solvesStripe 154 = .ok (.return_, 1) := dk_177 (dk_at dksX1_solvesStripe_6 12 rfl rfl)
theorem dX1_solvesStripe_155 : decode cX1_solvesStripe 155 = .ok (.aload_n 0, 1) := dk_42 (dk_at dksX1_solvesStripe_6 13 rfl rfl)
theorem dX1_solvesStripe_156 : decode cX1_solvesStripe 156 = .ok (.getfield 178, 3) := dk_180 0 178 (dk_at dksX1_solvesStripe_6 14 rfl rfl)
theorem dX1_solvesStripe_159 : decode cX1_solvesStripe 159 = .ok (.getfield 344, 3) := dk_180 1 88 (dk_at dksX1_solvesStripe_6 17 rfl rfl)
theorem dX1_solvesStripe_162 : decode cX1_solvesStripe 162 = .ok (.iload_n 1, 1) := dk_27 (dk_at dksX1_solvesStripe_6 20 rfl rfl)
theorem dX1_solvesStripe_163 : decode cX1_solvesStripe 163 = .ok (.iconst 0, 1) := dk_3 (dk_at dksX1_solvesStripe_6 21 rfl rfl)
theorem dX1_solvesStripe_164 : decode cX1_solvesStripe 164 = .ok (.iastore, 1) := dk_79 (dk_at dksX1_solvesStripe_6 22 rfl rfl)
theorem dX1_solvesStripe_165 : decode cX1_solvesStripe 165 = .ok (.aload_n 0, 1) := dk_42 (dk_at dksX1_solvesStripe_6 23 rfl rfl)
theorem dX1_solvesStripe_166 : decode cX1_solvesStripe 166 = .ok (.getfield 178, 3) := dk_180 0 178 (dk_at dksX1_solvesStripe_7 0 rfl rfl)
theorem dX1_solvesStripe_169 : decode cX1_solvesStripe 169 = .ok (.getfield 347, 3) := dk_180 1 91 (dk_at dksX1_solvesStripe_7 3 rfl rfl)
theorem dX1_solvesStripe_172 : decode cX1_solvesStripe 172 = .ok (.iload_n 1, 1) := dk_27 (dk_at dksX1_solvesStripe_7 6 rfl rfl)
theorem dX1_solvesStripe_173 : decode cX1_solvesStripe 173 = .ok (.iconst 0, 1) := dk_3 (dk_at dksX1_solvesStripe_7 7 rfl rfl)
theorem dX1_solvesStripe_174 : decode cX1_solvesStripe 174 = .ok (.iastore, 1) := dk_79 (dk_at dksX1_solvesStripe_7 8 rfl rfl)
theorem dX1_solvesStripe_175 : decode cX1_solvesStripe 175 = .ok (.return_, 1) := dk_177 (dk_at dksX1_solvesStripe_7 9 rfl rfl)
abbrev cX1_partOf : ByteArray := prog_1_method_33_code
def yX1_partOf : MethodName := ⟨RX1, "partOf", "(II)I"⟩
def dkwX1_partOf_1 : List UInt8 := [132, 3, 1, 167, 255, 233, 2, 172]
abbrev dktX1_partOf_1 : List UInt8 := dkwX1_partOf_1 ++ []
def dkwX1_partOf_0 : List UInt8 := [3, 62, 29, 42, 182, 0, 247, 162, 0, 21, 42, 28, 29, 182, 0, 250, 27, 160, 0, 5, 29, 172]
abbrev dktX1_partOf_0 : List UInt8 := dkwX1_partOf_0 ++ dktX1_partOf_1
theorem dksX1_partOf_0 : cX1_partOf.data.toList.drop 0 = dktX1_partOf_0 := by decide +kernel
theorem dksX1_partOf_1 : cX1_partOf.data.toList.drop 22 = dktX1_partOf_1 := dk_seg dksX1_partOf_0 22 rfl rfl
theorem dX1_partOf_0 : decode cX1_partOf 0 = .ok (.iconst 0, 1) := dk_3 (dk_at dksX1_partOf_0 0 rfl rfl)
theorem dX1_partOf_1 : decode cX1_partOf 1 = .ok (.istore_n 3, 1) := dk_62 (dk_at dksX1_partOf_0 1 rfl rfl)
theorem dX1_partOf_2 : decode cX1_partOf 2 = .ok (.iload_n 3, 1) := dk_29 (dk_at dksX1_partOf_0 2 rfl rfl)
theorem dX1_partOf_3 : decode cX1_partOf 3 = .ok (.aload_n 0, 1) := dk_42 (dk_at dksX1_partOf_0 3 rfl rfl)
theorem dX1_partOf_4 : decode cX1_partOf 4 = .ok (.invokevirtual 247, 3) := dk_182 0 247 (dk_at dksX1_partOf_0 4 rfl rfl)
theorem dX1_partOf_7 : decode cX1_partOf 7 = .ok (.if_icmp .ge 21, 3) := dk_162 0 21 (dk_at dksX1_partOf_0 7 rfl rfl)
theorem dX1_partOf_10 : decode cX1_partOf 10 = .ok (.aload_n 0, 1) := dk_42 (dk_at dksX1_partOf_0 10 rfl rfl)
theorem dX1_partOf_11 : decode cX1_partOf 11 = .ok (.iload_n 2, 1) := dk_28 (dk_at dksX1_partOf_0 11 rfl rfl)
theorem dX1_partOf_12 : decode cX1_partOf 12 = .ok (.iload_n 3, 1) := dk_29 (dk_at dksX1_partOf_0 12 rfl rfl)
theorem dX1_partOf_13 : decode cX1_partOf 13 = .ok (.invokevirtual 250, 3) := dk_182 0 250 (dk_at dksX1_partOf_0 13 rfl rfl)
theorem dX1_partOf_16 : decode cX1_partOf 16 = .ok (.iload_n 1, 1) := dk_27 (dk_at dksX1_partOf_0 16 rfl rfl)
theorem dX1_partOf_17 : decode cX1_partOf 17 = .ok (.if_icmp .ne 5, 3) := dk_160 0 5 (dk_at dksX1_partOf_0 17 rfl rfl)
theorem dX1_partOf_20 : decode cX1_partOf 20 = .ok (.iload_n 3, 1) := dk_29 (dk_at dksX1_partOf_0 20 rfl rfl)
theorem dX1_partOf_21 : decode cX1_partOf 21 = .ok (.ireturn, 1) := dk_172 (dk_at dksX1_partOf_0 21 rfl rfl)
theorem dX1_partOf_22 : decode cX1_partOf 22 = .ok (.iinc 3 1, 3) := dk_132 3 1 (dk_at dksX1_partOf_1 0 rfl rfl)
theorem dX1_partOf_25 : decode cX1_partOf 25 = .ok (.goto (-23), 3) := dk_167 255 233 (dk_at dksX1_partOf_1 3 rfl rfl)
theorem dX1_partOf_28 : decode cX1_partOf 28 = .ok (.iconst (-1), 1) := dk_2 (dk_at dksX1_partOf_1 6 rfl rfl)
theorem dX1_partOf_29 : decode cX1_partOf 29 = .ok (.ireturn, 1) := dk_172 (dk_at dksX1_partOf_1 7 rfl rfl)
abbrev cX1_doneOf : ByteArray := prog_1_method_55_code
def yX1_doneOf : MethodName := ⟨RX1, "doneOf", "(I)I"⟩
def dkwX1_doneOf_1 : List UInt8 := [180, 1, 91, 27, 46, 172]
abbrev dktX1_doneOf_1 : List UInt8 := dkwX1_doneOf_1 ++ []
def dkwX1_doneOf_0 : List UInt8 := [42, 180, 0, 178, 180, 1, 88, 27, 46, 154, 0, 10, 42, 182, 0, 237, 167, 0, 12, 42, 180, 0, 178]
abbrev dktX1_doneOf_0 : List UInt8 := dkwX1_doneOf_0 ++ dktX1_doneOf_1
theorem dksX1_doneOf_0 : cX1_doneOf.data.toList.drop 0 = dktX1_doneOf_0 := by decide +kernel
theorem dksX1_doneOf_1 : cX1_doneOf.data.toList.drop 23 = dktX1_doneOf_1 := dk_seg dksX1_doneOf_0 23 rfl rfl
theorem dX1_doneOf_0 : decode cX1_doneOf 0 = .ok (.aload_n 0, 1) := dk_42 (dk_at dksX1_doneOf_0 0 rfl rfl)
theorem dX1_doneOf_1 : decode cX1_doneOf 1 = .ok (.getfield 178, 3) := dk_180 0 178 (dk_at dksX1_doneOf_0 1 rfl rfl)
theorem dX1_doneOf_4 : decode cX1_doneOf 4 = .ok (.getfield 344, 3) := dk_180 1 88 (dk_at dksX1_doneOf_0 4 rfl rfl)
theorem dX1_doneOf_7 : decode cX1_doneOf 7 = .ok (.iload_n 1, 1) := dk_27 (dk_at dksX1_doneOf_0 7 rfl rfl)
theorem dX1_doneOf_8 : decode cX1_doneOf 8 = .ok (.iaload, 1) := dk_46 (dk_at dksX1_doneOf_0 8 rfl rfl)
theorem dX1_doneOf_9 : decode cX1_doneOf 9 = .ok (.ifCond .ne 10, 3) := dk_154 0 10 (dk_at dksX1_doneOf_0 9 rfl rfl)
theorem dX1_doneOf_12 : decode cX1_doneOf 12 = .ok (.aload_n 0, 1) := dk_42 (dk_at dksX1_doneOf_0 12 rfl rfl)
theorem dX1_doneOf_13 : decode cX1_doneOf 13 = .ok (.invokevirtual 237, 3) := dk_182 0 237 (dk_at dksX1_doneOf_0 13 rfl rfl)
theorem dX1_doneOf_16 : decode cX1_doneOf 16 = .ok (.goto 12, 3) := dk_167 0 12 (dk_at dksX1_doneOf_0 16 rfl rfl)
theorem dX1_doneOf_19 : decode cX1_doneOf 19 = .ok (.aload_n 0, 1) := dk_42 (dk_at dksX1_doneOf_0 19 rfl rfl)
theorem dX1_doneOf_20 : decode cX1_doneOf 20 = .ok (.getfield 178, 3) := dk_180 0 178 (dk_at dksX1_doneOf_0 20 rfl rfl)
theorem dX1_doneOf_23 : decode cX1_doneOf 23 = .ok (.getfield 347, 3) := dk_180 1 91 (dk_at dksX1_doneOf_1 0 rfl rfl)
theorem dX1_doneOf_26 : decode cX1_doneOf 26 = .ok (.iload_n 1, 1) := dk_27 (dk_at dksX1_doneOf_1 3 rfl rfl)
theorem dX1_doneOf_27 : decode cX1_doneOf 27 = .ok (.iaload, 1) := dk_46 (dk_at dksX1_doneOf_1 4 rfl rfl)
theorem dX1_doneOf_28 : decode cX1_doneOf 28 = .ok (.ireturn, 1) := dk_172 (dk_at dksX1_doneOf_1 5 rfl rfl)
abbrev cX1_scrubsNow : ByteArray := prog_1_method_60_code
def yX1_scrubsNow : MethodName := ⟨RX1, "scrubsNow", "(I)I"⟩
def dkwX1_scrubsNow_5 : List UInt8 := [132, 3, 1, 167, 255, 137, 28, 172]
abbrev dktX1_scrubsNow_5 : List UInt8 := dkwX1_scrubsNow_5 ++ []
def dkwX1_scrubsNow_4 : List UInt8 := [42, 182, 0, 240, 162, 0, 20, 28, 42, 21, 4, 21, 5, 182, 1, 145, 96, 61, 132, 5, 1, 167, 255, 233]
abbrev dktX1_scrubsNow_4 : List UInt8 := dkwX1_scrubsNow_4 ++ dktX1_scrubsNow_5
def dkwX1_scrubsNow_3 : List UInt8 := [180, 0, 178, 21, 5, 42, 182, 0, 240, 182, 1, 62, 87, 132, 5, 1, 167, 255, 230, 3, 54, 5, 21, 5]
abbrev dktX1_scrubsNow_3 : List UInt8 := dkwX1_scrubsNow_3 ++ dktX1_scrubsNow_4
def dkwX1_scrubsNow_2 : List UInt8 := [180, 1, 142, 4, 96, 181, 1, 142, 167, 0, 64, 3, 54, 5, 21, 5, 42, 182, 0, 247, 162, 0, 23, 42]
abbrev dktX1_scrubsNow_2 : List UInt8 := dkwX1_scrubsNow_2 ++ dktX1_scrubsNow_3
def dkwX1_scrubsNow_1 : List UInt8 := [4, 96, 42, 182, 0, 237, 112, 181, 1, 136, 42, 21, 4, 182, 1, 139, 154, 0, 19, 42, 180, 0, 178, 89]
abbrev dktX1_scrubsNow_1 : List UInt8 := dkwX1_scrubsNow_1 ++ dktX1_scrubsNow_2
def dkwX1_scrubsNow_0 : List UInt8 := [3, 61, 3, 62, 29, 27, 162, 0, 120, 42, 180, 0, 178, 180, 1, 136, 54, 4, 42, 180, 0, 178, 21, 4]
abbrev dktX1_scrubsNow_0 : List UInt8 := dkwX1_scrubsNow_0 ++ dktX1_scrubsNow_1
theorem dksX1_scrubsNow_0 : cX1_scrubsNow.data.toList.drop 0 = dktX1_scrubsNow_0 := by decide +kernel
theorem dksX1_scrubsNow_1 : cX1_scrubsNow.data.toList.drop 24 = dktX1_scrubsNow_1 := dk_seg dksX1_scrubsNow_0 24 rfl rfl
theorem dksX1_scrubsNow_2 : cX1_scrubsNow.data.toList.drop 48 = dktX1_scrubsNow_2 := dk_seg dksX1_scrubsNow_1 24 rfl rfl
theorem dksX1_scrubsNow_3 : cX1_scrubsNow.data.toList.drop 72 = dktX1_scrubsNow_3 := dk_seg dksX1_scrubsNow_2 24 rfl rfl
theorem dksX1_scrubsNow_4 : cX1_scrubsNow.data.toList.drop 96 = dktX1_scrubsNow_4 := dk_seg dksX1_scrubsNow_3 24 rfl rfl
theorem dksX1_scrubsNow_5 : cX1_scrubsNow.data.toList.drop 120 = dktX1_scrubsNow_5 := dk_seg dksX1_scrubsNow_4 24 rfl rfl
theorem dX1_scrubsNow_0 : decode cX1_scrubsNow 0 = .ok (.iconst 0, 1) := dk_3 (dk_at dksX1_scrubsNow_0 0 rfl rfl)
theorem dX1_scrubsNow_1 : decode cX1_scrubsNow 1 = .ok (.istore_n 2, 1) := dk_61 (dk_at dksX1_scrubsNow_0 1 rfl rfl)
theorem dX1_scrubsNow_2 : decode cX1_scrubsNow 2 = .ok (.iconst 0, 1) := dk_3 (dk_at dksX1_scrubsNow_0 2 rfl rfl)
theorem dX1_scrubsNow_3 : decode cX1_scrubsNow 3 = .ok (.istore_n 3, 1) := dk_62 (dk_at dksX1_scrubsNow_0 3 rfl rfl)
theorem dX1_scrubsNow_4 : decode cX1_scrubsNow 4 = .ok (.iload_n 3, 1) := dk_29 (dk_at dksX1_scrubsNow_0 4 rfl rfl)
theorem dX1_scrubsNow_5 : decode cX1_scrubsNow 5 = .ok (.iload_n 1, 1) := dk_27 (dk_at dksX1_scrubsNow_0 5 rfl rfl)
theorem dX1_scrubsNow_6 : decode cX1_scrubsNow 6 = .ok (.if_icmp .ge 120, 3) := dk_162 0 120 (dk_at dksX1_scrubsNow_0 6 rfl rfl)
theorem dX1_scrubsNow_9 : decode cX1_scrubsNow 9 = .ok (.aload_n 0, 1) := dk_42 (dk_at dksX1_scrubsNow_0 9 rfl rfl)
theorem dX1_scrubsNow_10 : decode cX1_scrubsNow 10 = .ok (.getfield 178, 3) := dk_180 0 178 (dk_at dksX1_scrubsNow_0 10 rfl rfl)
theorem dX1_scrubsNow_13 : decode cX1_scrubsNow 13 = .ok (.getfield 392, 3) := dk_180 1 136 (dk_at dksX1_scrubsNow_0 13 rfl rfl)
theorem dX1_scrubsNow_16 : decode cX1_scrubsNow 16 = .ok (.istore 4, 2) := dk_54 4 (dk_at dksX1_scrubsNow_0 16 rfl rfl)
theorem dX1_scrubsNow_18 : decode cX1_scrubsNow 18 = .ok (.aload_n 0, 1) := dk_42 (dk_at dksX1_scrubsNow_0 18 rfl rfl)
theorem dX1_scrubsNow_19 : decode cX1_scrubsNow 19 = .ok (.getfield 178, 3) := dk_180 0 178 (dk_at dksX1_scrubsNow_0 19 rfl rfl)
theorem dX1_scrubsNow_22 : decode cX1_scrubsNow 22 = .ok (.iload 4, 2) := dk_21 4 (dk_at dksX1_scrubsNow_0 22 rfl rfl)
theorem dX1_scrubsNow_24 : decode cX1_scrubsNow 24 = .ok (.iconst 1, 1) := dk_4 (dk_at dksX1_scrubsNow_1 0 rfl rfl)
theorem dX1_scrubsNow_25 : decode cX1_scrubsNow 25 = .ok (.iadd, 1) := dk_96 (dk_at dksX1_scrubsNow_1 1 rfl rfl)
theorem dX1_scrubsNow_26 : decode cX1_scrubsNow 26 = .ok (.aload_n 0, 1) := dk_42 (dk_at dksX1_scrubsNow_1 2 rfl rfl)
theorem dX1_scrubsNow_27 : decode cX1_scrubsNow 27 = .ok (.invokevirtual 237, 3) := dk_182 0 237 (dk_at dksX1_scrubsNow_1 3 rfl rfl)
theorem dX1_scrubsNow_30 : decode cX1_scrubsNow 30 = .ok (.irem, 1) := dk_112 (dk_at dksX1_scrubsNow_1 6 rfl rfl)
theorem dX1_scrubsNow_31 : decode cX1_scrubsNow 31 = .ok (.putfield 392, 3) := dk_181 1 136 (dk_at dksX1_scrubsNow_1 7 rfl rfl)
theorem dX1_scrubsNow_34 : decode cX1_scrubsNow 34 = .ok (.aload_n 0, 1) := dk_42 (dk_at dksX1_scrubsNow_1 10 rfl rfl)
theorem dX1_scrubsNow_35 : decode cX1_scrubsNow 35 = .ok (.iload 4, 2) := dk_21 4 (dk_at dksX1_scrubsNow_1 11 rfl rfl)
theorem dX1_scrubsNow_37 : decode cX1_scrubsNow 37 = .ok (.invokevirtual 395, 3) := dk_182 1 139 (dk_at dksX1_scrubsNow_1 13 rfl rfl)
theorem dX1_scrubsNow_40 : decode cX1_scrubsNow 40 = .ok (.ifCond .ne 19, 3) := dk_154 0 19 (dk_at dksX1_scrubsNow_1 16 rfl rfl)
theorem dX1_scrubsNow_43 : decode cX1_scrubsNow 43 = .ok (.aload_n 0, 1) := dk_42 (dk_at dksX1_scrubsNow_1 19 rfl rfl)
theorem dX1_scrubsNow_44 : decode cX1_scrubsNow 44 = .ok (.getfield 178, 3) := dk_180 0 178 (dk_at dksX1_scrubsNow_1 20 rfl rfl)
theorem dX1_scrubsNow_47 : decode cX1_scrubsNow 47 = .ok (.dup, 1) := dk_89 (dk_at dksX1_scrubsNow_1 23 rfl rfl)
theorem dX1_scrubsNow_48 : decode cX1_scrubsNow 48 = .ok (.getfield 398, 3) := dk_180 1 142 (dk_at dksX1_scrubsNow_2 0 rfl rfl)
theorem dX1_scrubsNow_51 : decode cX1_scrubsNow 51 = .ok (.iconst 1, 1) := dk_4 (dk_at dksX1_scrubsNow_2 3 rfl rfl)
theorem dX1_scrubsNow_52 : decode cX1_scrubsNow 52 = .ok (.iadd, 1) := dk_96 (dk_at dksX1_scrubsNow_2 4 rfl rfl)
theorem dX1_scrubsNow_53 : decode cX1_scrubsNow 53 = .ok (.putfield 398, 3) := dk_181 1 142 (dk_at dksX1_scrubsNow_2 5 rfl rfl)
theorem dX1_scrubsNow_56 : decode cX1_scrubsNow 56 = .ok (.goto 64, 3) := dk_167 0 64 (dk_at dksX1_scrubsNow_2 8 rfl rfl)
theorem dX1_scrubsNow_59 : decode cX1_scrubsNow 59 = .ok (.iconst 0, 1) := dk_3 (dk_at dksX1_scrubsNow_2 11 rfl rfl)
theorem dX1_scrubsNow_60 : decode cX1_scrubsNow 60 = .ok (.istore 5, 2) := dk_54 5 (dk_at dksX1_scrubsNow_2 12 rfl rfl)
theorem dX1_scrubsNow_62 : decode cX1_scrubsNow 62 = .ok (.iload 5, 2) := dk_21 5 (dk_at dksX1_scrubsNow_2 14 rfl rfl)
theorem dX1_scrubsNow_64 : decode cX1_scrubsNow 64 = .ok (.aload_n 0, 1) := dk_42 (dk_at dksX1_scrubsNow_2 16 rfl rfl)
theorem dX1_scrubsNow_65 : decode cX1_scrubsNow 65 = .ok (.invokevirtual 247, 3) := dk_182 0 247 (dk_at dksX1_scrubsNow_2 17 rfl rfl)
theorem dX1_scrubsNow_68 : decode cX1_scrubsNow 68 = .ok (.if_icmp .ge 23, 3) := dk_162 0 23 (dk_at dksX1_scrubsNow_2 20 rfl rfl)
theorem dX1_scrubsNow_71 : decode cX1_scrubsNow 71 = .ok (.aload_n 0, 1) := dk_42 (dk_at dksX1_scrubsNow_2 23 rfl rfl)
theorem dX1_scrubsNow_72 : decode cX1_scrubsNow 72 = .ok (.getfield 178, 3) := dk_180 0 178 (dk_at dksX1_scrubsNow_3 0 rfl rfl)
theorem dX1_scrubsNow_75 : decode cX1_scrubsNow 75 = .ok (.iload 5, 2) := dk_21 5 (dk_at dksX1_scrubsNow_3 3 rfl rfl)
theorem dX1_scrubsNow_77 : decode cX1_scrubsNow 77 = .ok (.aload_n 0, 1) := dk_42 (dk_at dksX1_scrubsNow_3 5 rfl rfl)
theorem dX1_scrubsNow_78 : decode cX1_scrubsNow 78 = .ok (.invokevirtual 240, 3) := dk_182 0 240 (dk_at dksX1_scrubsNow_3 6 rfl rfl)
theorem dX1_scrubsNow_81 : decode cX1_scrubsNow 81 = .ok (.invokevirtual 318, 3) := dk_182 1 62 (dk_at dksX1_scrubsNow_3 9 rfl rfl)
theorem dX1_scrubsNow_84 : decode cX1_scrubsNow 84 = .ok (.pop, 1) := dk_87 (dk_at dksX1_scrubsNow_3 12 rfl rfl)
theorem dX1_scrubsNow_85 : decode cX1_scrubsNow 85 = .ok (.iinc 5 1, 3) := dk_132 5 1 (dk_at dksX1_scrubsNow_3 13 rfl rfl)
theorem dX1_scrubsNow_88 : decode cX1_scrubsNow 88 = .ok (.goto (-26), 3) := dk_167 255 230 (dk_at dksX1_scrubsNow_3 16 rfl rfl)
theorem dX1_scrubsNow_91 : decode cX1_scrubsNow 91 = .ok (.iconst 0, 1) := dk_3 (dk_at dksX1_scrubsNow_3 19 rfl rfl)
theorem dX1_scrubsNow_92 : decode cX1_scrubsNow 92 = .ok (.istore 5, 2) := dk_54 5 (dk_at dksX1_scrubsNow_3 20 rfl rfl)
theorem dX1_scrubsNow_94 : decode cX1_scrubsNow 94 = .ok (.iload 5, 2) := dk_21 5 (dk_at dksX1_scrubsNow_3 22 rfl rfl)
theorem dX1_scrubsNow_96 : decode cX1_scrubsNow 96 = .ok (.aload_n 0, 1) := dk_42 (dk_at dksX1_scrubsNow_4 0 rfl rfl)
theorem dX1_scrubsNow_97 : decode cX1_scrubsNow 97 = .ok (.invokevirtual 240, 3) := dk_182 0 240 (dk_at dksX1_scrubsNow_4 1 rfl rfl)
theorem dX1_scrubsNow_100 : decode cX1_scrubsNow 100 = .ok (.if_icmp .ge 20, 3) := dk_162 0 20 (dk_at dksX1_scrubsNow_4 4 rfl rfl)
theorem dX1_scrubsNow_103 : decode cX1_scrubsNow 103 = .ok (.iload_n 2, 1) := dk_28 (dk_at dksX1_scrubsNow_4 7 rfl rfl)
theorem dX1_scrubsNow_104 : decode cX1_scrubsNow 104 = .ok (.aload_n 0, 1) := dk_42 (dk_at dksX1_scrubsNow_4 8 rfl rfl)
theorem dX1_scrubsNow_105 : decode cX1_scrubsNow 105 = .ok (.iload 4, 2) := dk_21 4 (dk_at dksX1_scrubsNow_4 9 rfl rfl)
theorem dX1_scrubsNow_107 : decode cX1_scrubsNow 107 = .ok (.iload 5, 2) := dk_21 5 (dk_at dksX1_scrubsNow_4 11 rfl rfl)
theorem dX1_scrubsNow_109 : decode cX1_scrubsNow 109 = .ok (.invokevirtual 401, 3) := dk_182 1 145 (dk_at dksX1_scrubsNow_4 13 rfl rfl)
theorem dX1_scrubsNow_112 : decode cX1_scrubsNow 112 = .ok (.iadd, 1) := dk_96 (dk_at dksX1_scrubsNow_4 16 rfl rfl)
theorem dX1_scrubsNow_113 : decode cX1_scrubsNow 113 = .ok (.istore_n 2, 1) := dk_61 (dk_at dksX1_scrubsNow_4 17 rfl rfl)
theorem dX1_scrubsNow_114 : decode cX1_scrubsNow 114 = .ok (.iinc 5 1, 3) := dk_132 5 1 (dk_at dksX1_scrubsNow_4 18 rfl rfl)
theorem dX1_scrubsNow_117 : decode cX1_scrubsNow 117 = .ok (.goto (-23), 3) := dk_167 255 233 (dk_at dksX1_scrubsNow_4 21 rfl rfl)
theorem dX1_scrubsNow_120 : decode cX1_scrubsNow 120 = .ok (.iinc 3 1, 3) := dk_132 3 1 (dk_at dksX1_scrubsNow_5 0 rfl rfl)
theorem dX1_scrubsNow_123 : decode cX1_scrubsNow 123 = .ok (.goto (-119), 3) := dk_167 255 137 (dk_at dksX1_scrubsNow_5 3 rfl rfl)
theorem dX1_scrubsNow_126 : decode cX1_scrubsNow 126 = .ok (.iload_n 2, 1) := dk_28 (dk_at dksX1_scrubsNow_5 6 rfl rfl)
theorem dX1_scrubsNow_127 : decode cX1_scrubsNow 127 = .ok (.ireturn, 1) := dk_172 (dk_at dksX1_scrubsNow_5 7 rfl rfl)
abbrev cX1_isClear : ByteArray := prog_1_method_57_code
def yX1_isClear : MethodName := ⟨RX1, "isClear", "(I)Z"⟩
def dkwX1_isClear_1 : List UInt8 := [167, 0, 4, 3, 172]
abbrev dktX1_isClear_1 : List UInt8 := dkwX1_isClear_1 ++ []
def dkwX1_isClear_0 : List UInt8 := [42, 27, 182, 1, 33, 154, 0, 21, 42, 180, 0, 178, 180, 1, 106, 27, 184, 0, 82, 154, 0, 7, 4]
abbrev dktX1_isClear_0 : List UInt8 := dkwX1_isClear_0 ++ dktX1_isClear_1
theorem dksX1_isClear_0 : cX1_isClear.data.toList.drop 0 = dktX1_isClear_0 := by decide +kernel
theorem dksX1_isClear_1 : cX1_isClear.data.toList.drop 23 = dktX1_isClear_1 := dk_seg dksX1_isClear_0 23 rfl rfl
theorem dX1_isClear_0 : decode cX1_isClear 0 = .ok (.aload_n 0, 1) := dk_42 (dk_at dksX1_isClear_0 0 rfl rfl)
theorem dX1_isClear_1 : decode cX1_isClear 1 = .ok (.iload_n 1, 1) := dk_27 (dk_at dksX1_isClear_0 1 rfl rfl)
theorem dX1_isClear_2 : decode cX1_isClear 2 = .ok (.invokevirtual 289, 3) := dk_182 1 33 (dk_at dksX1_isClear_0 2 rfl rfl)
theorem dX1_isClear_5 : decode cX1_isClear 5 = .ok (.ifCond .ne 21, 3) := dk_154 0 21 (dk_at dksX1_isClear_0 5 rfl rfl)
theorem dX1_isClear_8 : decode cX1_isClear 8 = .ok (.aload_n 0, 1) := dk_42 (dk_at dksX1_isClear_0 8 rfl rfl)
theorem dX1_isClear_9 : decode cX1_isClear 9 = .ok (.getfield 178, 3) := dk_180 0 178 (dk_at dksX1_isClear_0 9 rfl rfl)
theorem dX1_isClear_12 : decode cX1_isClear 12 = .ok (.getfield 362, 3) := dk_180 1 106 (dk_at dksX1_isClear_0 12 rfl rfl)
theorem dX1_isClear_15 : decode cX1_isClear 15 = .ok (.iload_n 1, 1) := dk_27 (dk_at dksX1_isClear_0 15 rfl rfl)
theorem dX1_isClear_16 : decode cX1_isClear 16 = .ok (.invokestatic 82, 3) := dk_184 0 82 (dk_at dksX1_isClear_0 16 rfl rfl)
theorem dX1_isClear_19 : decode cX1_isClear 19 = .ok (.ifCond .ne 7, 3) := dk_154 0 7 (dk_at dksX1_isClear_0 19 rfl rfl)
theorem dX1_isClear_22 : decode cX1_isClear 22 = .ok (.iconst 1, 1) := dk_4 (dk_at dksX1_isClear_0 22 rfl rfl)
theorem dX1_isClear_23 : decode cX1_isClear 23 = .ok (.goto 4, 3) := dk_167 0 4 (dk_at dksX1_isClear_1 0 rfl rfl)
theorem dX1_isClear_26 : decode cX1_isClear 26 = .ok (.iconst 0, 1) := dk_3 (dk_at dksX1_isClear_1 3 rfl rfl)
theorem dX1_isClear_27 : decode cX1_isClear 27 = .ok (.ireturn, 1) := dk_172 (dk_at dksX1_isClear_1 4 rfl rfl)
abbrev cX1_mends : ByteArray := prog_1_method_59_code
def yX1_mends : MethodName := ⟨RX1, "mends", "(II)I"⟩
def dkwX1_mends_5 : List UInt8 := [181, 1, 130, 42, 180, 0, 178, 28, 181, 1, 133, 4, 172]
abbrev dktX1_mends_5 : List UInt8 := dkwX1_mends_5 ++ []
def dkwX1_mends_4 : List UInt8 := [180, 1, 124, 21, 4, 92, 46, 4, 96, 79, 42, 180, 0, 178, 21, 4, 181, 1, 127, 42, 180, 0, 178, 27]
abbrev dktX1_mends_4 : List UInt8 := dkwX1_mends_4 ++ dktX1_mends_5
def dkwX1_mends_3 : List UInt8 := [180, 1, 109, 130, 182, 1, 54, 42, 180, 0, 178, 21, 4, 4, 182, 1, 65, 87, 42, 180, 0, 178]
abbrev dktX1_mends_3 : List UInt8 := dkwX1_mends_3 ++ dktX1_mends_4
def dkwX1_mends_2 : List UInt8 := [180, 1, 3, 29, 46, 29, 42, 182, 0, 234, 4, 96, 160, 0, 10, 42, 180, 1, 112, 167, 0, 7, 42]
abbrev dktX1_mends_2 : List UInt8 := dkwX1_mends_2 ++ dktX1_mends_3
def dkwX1_mends_1 : List UInt8 := [181, 1, 121, 29, 156, 0, 5, 3, 172, 42, 27, 29, 182, 0, 250, 54, 4, 42, 27, 29, 28, 42]
abbrev dktX1_mends_1 : List UInt8 := dkwX1_mends_1 ++ dktX1_mends_2
def dkwX1_mends_0 : List UInt8 := [42, 27, 28, 182, 1, 118, 62, 29, 16, 254, 160, 0, 16, 42, 180, 0, 178, 89, 180, 1, 121, 4, 96]
abbrev dktX1_mends_0 : List UInt8 := dkwX1_mends_0 ++ dktX1_mends_1
theorem dksX1_mends_0 : cX1_mends.data.toList.drop 0 = dktX1_mends_0 := by decide +kernel
theorem dksX1_mends_1 : cX1_mends.data.toList.drop 23 = dktX1_mends_1 := dk_seg dksX1_mends_0 23 rfl rfl
theorem dksX1_mends_2 : cX1_mends.data.toList.drop 45 = dktX1_mends_2 := dk_seg dksX1_mends_1 22 rfl rfl
theorem dksX1_mends_3 : cX1_mends.data.toList.drop 68 = dktX1_mends_3 := dk_seg dksX1_mends_2 23 rfl rfl
theorem dksX1_mends_4 : cX1_mends.data.toList.drop 90 = dktX1_mends_4 := dk_seg dksX1_mends_3 22 rfl rfl
theorem dksX1_mends_5 : cX1_mends.data.toList.drop 114 = dktX1_mends_5 := dk_seg dksX1_mends_4 24 rfl rfl
theorem dX1_mends_0 : decode cX1_mends 0 = .ok (.aload_n 0, 1) := dk_42 (dk_at dksX1_mends_0 0 rfl rfl)
theorem dX1_mends_1 : decode cX1_mends 1 = .ok (.iload_n 1, 1) := dk_27 (dk_at dksX1_mends_0 1 rfl rfl)
theorem dX1_mends_2 : decode cX1_mends 2 = .ok (.iload_n 2, 1) := dk_28 (dk_at dksX1_mends_0 2 rfl rfl)
theorem dX1_mends_3 : decode cX1_mends 3 = .ok (.invokevirtual 374, 3) := dk_182 1 118 (dk_at dksX1_mends_0 3 rfl rfl)
theorem dX1_mends_6 : decode cX1_mends 6 = .ok (.istore_n 3, 1) := dk_62 (dk_at dksX1_mends_0 6 rfl rfl)
theorem dX1_mends_7 : decode cX1_mends 7 = .ok (.iload_n 3, 1) := dk_29 (dk_at dksX1_mends_0 7 rfl rfl)
theorem dX1_mends_8 : decode cX1_mends 8 = .ok (.bipush (-2), 2) := dk_16 254 (dk_at dksX1_mends_0 8 rfl rfl)
theorem dX1_mends_10 : decode cX1_mends 10 = .ok (.if_icmp .ne 16, 3) := dk_160 0 16 (dk_at dksX1_mends_0 10 rfl rfl)
theorem dX1_mends_13 : decode cX1_mends 13 = .ok (.aload_n 0, 1) := dk_42 (dk_at dksX1_mends_0 13 rfl rfl)
theorem dX1_mends_14 : decode cX1_mends 14 = .ok (.getfield 178, 3) := dk_180 0 178 (dk_at dksX1_mends_0 14 rfl rfl)
theorem dX1_mends_17 : decode cX1_mends 17 = .ok (.dup, 1) := dk_89 (dk_at dksX1_mends_0 17 rfl rfl)
theorem dX1_mends_18 : decode cX1_mends 18 = .ok (.getfield 377, 3) := dk_180 1 121 (dk_at dksX1_mends_0 18 rfl rfl)
theorem dX1_mends_21 : decode cX1_mends 21 = .ok (.iconst 1, 1) := dk_4 (dk_at dksX1_mends_0 21 rfl rfl)
theorem dX1_mends_22 : decode cX1_mends 22 = .ok (.iadd, 1) := dk_96 (dk_at dksX1_mends_0 22 rfl rfl)
theorem dX1_mends_23 : decode cX1_mends 23 = .ok (.putfield 377, 3) := dk_181 1 121 (dk_at dksX1_mends_1 0 rfl rfl)
theorem dX1_mends_26 : decode cX1_mends 26 = .ok (.iload_n 3, 1) := dk_29 (dk_at dksX1_mends_1 3 rfl rfl)
theorem dX1_mends_27 : decode cX1_mends 27 = .ok (.ifCond .ge 5, 3) := dk_156 0 5 (dk_at dksX1_mends_1 4 rfl rfl)
theorem dX1_mends_30 : decode cX1_mends 30 = .ok (.iconst 0, 1) := dk_3 (dk_at dksX1_mends_1 7 rfl rfl)
theorem dX1_mends_31 : decode cX1_mends 31 = .ok (.ireturn, 1) := dk_172 (dk_at dksX1_mends_1 8 rfl rfl)
theorem dX1_mends_32 : decode cX1_mends 32 = .ok (.aload_n 0, 1) := dk_42 (dk_at dksX1_mends_1 9 rfl rfl)
theorem dX1_mends_33 : decode cX1_mends 33 = .ok (.iload_n 1, 1) := dk_27 (dk_at dksX1_mends_1 10 rfl rfl)
theorem dX1_mends_34 : decode cX1_mends 34 = .ok (.iload_n 3, 1) := dk_29 (dk_at dksX1_mends_1 11 rfl rfl)
theorem dX1_mends_35 : decode cX1_mends 35 = .ok (.invokevirtual 250, 3) := dk_182 0 250 (dk_at dksX1_mends_1 12 rfl rfl)
theorem dX1_mends_38 : decode cX1_mends 38 = .ok (.istore 4, 2) := dk_54 4 (dk_at dksX1_mends_1 15 rfl rfl)
theorem dX1_mends_40 : decode cX1_mends 40 = .ok (.aload_n 0, 1) := dk_42 (dk_at dksX1_mends_1 17 rfl rfl)
theorem dX1_mends_41 : decode cX1_mends 41 = .ok (.iload_n 1, 1) := dk_27 (dk_at dksX1_mends_1 18 rfl rfl)
theorem dX1_mends_42 : decode cX1_mends 42 = .ok (.iload_n 3, 1) := dk_29 (dk_at dksX1_mends_1 19 rfl rfl)
theorem dX1_mends_43 : decode cX1_mends 43 = .ok (.iload_n 2, 1) := dk_28 (dk_at dksX1_mends_1 20 rfl rfl)
theorem dX1_mends_44 : decode cX1_mends 44 = .ok (.aload_n 0, 1) := dk_42 (dk_at dksX1_mends_1 21 rfl rfl)
theorem dX1_mends_45 : decode cX1_mends 45 = .ok (.getfield 259, 3) := dk_180 1 3 (dk_at dksX1_mends_2 0 rfl rfl)
theorem dX1_mends_48 : decode cX1_mends 48 = .ok (.iload_n 3, 1) := dk_29 (dk_at dksX1_mends_2 3 rfl rfl)
theorem dX1_mends_49 : decode cX1_mends 49 = .ok (.iaload, 1) := dk_46 (dk_at dksX1_mends_2 4 rfl rfl)
theorem dX1_mends_50 : decode cX1_mends 50 = .ok (.iload_n 3, 1) := dk_29 (dk_at dksX1_mends_2 5 rfl rfl)
theorem dX1_mends_51 : decode cX1_mends 51 = .ok (.aload_n 0, 1) := dk_42 (dk_at dksX1_mends_2 6 rfl rfl)
theorem dX1_mends_52 : decode cX1_mends 52 = .ok (.invokevirtual 234, 3) := dk_182 0 234 (dk_at dksX1_mends_2 7 rfl rfl)
theorem dX1_mends_55 : decode cX1_mends 55 = .ok (.iconst 1, 1) := dk_4 (dk_at dksX1_mends_2 10 rfl rfl)
theorem dX1_mends_56 : decode cX1_mends 56 = .ok (.iadd, 1) := dk_96 (dk_at dksX1_mends_2 11 rfl rfl)
theorem dX1_mends_57 : decode cX1_mends 57 = .ok (.if_icmp .ne 10, 3) := dk_160 0 10 (dk_at dksX1_mends_2 12 rfl rfl)
theorem dX1_mends_60 : decode cX1_mends 60 = .ok (.aload_n 0, 1) := dk_42 (dk_at dksX1_mends_2 15 rfl rfl)
theorem dX1_mends_61 : decode cX1_mends 61 = .ok (.getfield 368, 3) := dk_180 1 112 (dk_at dksX1_mends_2 16 rfl rfl)
theorem dX1_mends_64 : decode cX1_mends 64 = .ok (.goto 7, 3) := dk_167 0 7 (dk_at dksX1_mends_2 19 rfl rfl)
theorem dX1_mends_67 : decode cX1_mends 67 = .ok (.aload_n 0, 1) := dk_42 (dk_at dksX1_mends_2 22 rfl rfl)
theorem dX1_mends_68 : decode cX1_mends 68 = .ok (.getfield 365, 3) := dk_180 1 109 (dk_at dksX1_mends_3 0 rfl rfl)
theorem dX1_mends_71 : decode cX1_mends 71 = .ok (.ixor, 1) := dk_130 (dk_at dksX1_mends_3 3 rfl rfl)
theorem dX1_mends_72 : decode cX1_mends 72 = .ok (.invokevirtual 310, 3) := dk_182 1 54 (dk_at dksX1_mends_3 4 rfl rfl)
theorem dX1_mends_75 : decode cX1_mends 75 = .ok (.aload_n 0, 1) := dk_42 (dk_at dksX1_mends_3 7 rfl rfl)
theorem dX1_mends_76 : decode cX1_mends 76 = .ok (.getfield 178, 3) := dk_180 0 178 (dk_at dksX1_mends_3 8 rfl rfl)
theorem dX1_mends_79 : decode cX1_mends 79 = .ok (.iload 4, 2) := dk_21 4 (dk_at dksX1_mends_3 11 rfl rfl)
theorem dX1_mends_81 : decode cX1_mends 81 = .ok (.iconst 1, 1) := dk_4 (dk_at dksX1_mends_3 13 rfl rfl)
theorem dX1_mends_82 : decode cX1_mends 82 = .ok (.invokevirtual 321, 3) := dk_182 1 65 (dk_at dksX1_mends_3 14 rfl rfl)
theorem dX1_mends_85 : decode cX1_mends 85 = .ok (.pop, 1) := dk_87 (dk_at dksX1_mends_3 17 rfl rfl)
theorem dX1_mends_86 : decode cX1_mends 86 = .ok (.aload_n 0, 1) := dk_42 (dk_at dksX1_mends_3 18 rfl rfl)
theorem dX1_mends_87 : decode cX1_mends 87 = .ok (.getfield 178, 3) := dk_180 0 178 (dk_at dksX1_mends_3 19 rfl rfl)
theorem dX1_mends_90 : decode cX1_mends 90 = .ok (.getfield 380, 3) := dk_180 1 124 (dk_at dksX1_mends_4 0 rfl rfl)
theorem dX1_mends_93 : decode cX1_mends 93 = .ok (.iload 4, 2) := dk_21 4 (dk_at dksX1_mends_4 3 rfl rfl)
theorem dX1_mends_95 : decode cX1_mends 95 = .ok (.dup2, 1) := dk_92 (dk_at dksX1_mends_4 5 rfl rfl)
theorem dX1_mends_96 : decode cX1_mends 96 = .ok (.iaload, 1) := dk_46 (dk_at dksX1_mends_4 6 rfl rfl)
theorem dX1_mends_97 : decode cX1_mends 97 = .ok (.iconst 1, 1) := dk_4 (dk_at dksX1_mends_4 7 rfl rfl)
theorem dX1_mends_98 : decode cX1_mends 98 = .ok (.iadd, 1) := dk_96 (dk_at dksX1_mends_4 8 rfl rfl)
theorem dX1_mends_99 : decode cX1_mends 99 = .ok (.iastore, 1) := dk_79 (dk_at dksX1_mends_4 9 rfl rfl)
theorem dX1_mends_100 : decode cX1_mends 100 = .ok (.aload_n 0, 1) := dk_42 (dk_at dksX1_mends_4 10 rfl rfl)
theorem dX1_mends_101 : decode cX1_mends 101 = .ok (.getfield 178, 3) := dk_180 0 178 (dk_at dksX1_mends_4 11 rfl rfl)
theorem dX1_mends_104 : decode cX1_mends 104 = .ok (.iload 4, 2) := dk_21 4 (dk_at dksX1_mends_4 14 rfl rfl)
theorem dX1_mends_106 : decode cX1_mends 106 = .ok (.putfield 383, 3) := dk_181 1 127 (dk_at dksX1_mends_4 16 rfl rfl)
theorem dX1_mends_109 : decode cX1_mends 109 = .ok (.aload_n 0, 1) := dk_42 (dk_at dksX1_mends_4 19 rfl rfl)
theorem dX1_mends_110 : decode cX1_mends 110 = .ok (.getfield 178, 3) := dk_180 0 178 (dk_at dksX1_mends_4 20 rfl rfl)
theorem dX1_mends_113 : decode cX1_mends 113 = .ok (.iload_n 1, 1) := dk_27 (dk_at dksX1_mends_4 23 rfl rfl)
theorem dX1_mends_114 : decode cX1_mends 114 = .ok (.putfield 386, 3) := dk_181 1 130 (dk_at dksX1_mends_5 0 rfl rfl)
theorem dX1_mends_117 : decode cX1_mends 117 = .ok (.aload_n 0, 1) := dk_42 (dk_at dksX1_mends_5 3 rfl rfl)
theorem dX1_mends_118 : decode cX1_mends 118 = .ok (.getfield 178, 3) := dk_180 0 178 (dk_at dksX1_mends_5 4 rfl rfl)
theorem dX1_mends_121 : decode cX1_mends 121 = .ok (.iload_n 2, 1) := dk_28 (dk_at dksX1_mends_5 7 rfl rfl)
theorem dX1_mends_122 : decode cX1_mends 122 = .ok (.putfield 389, 3) := dk_181 1 133 (dk_at dksX1_mends_5 8 rfl rfl)
theorem dX1_mends_125 : decode cX1_mends 125 = .ok (.iconst 1, 1) := dk_4 (dk_at dksX1_mends_5 11 rfl rfl)
theorem dX1_mends_126 : decode cX1_mends 126 = .ok (.ireturn, 1) := dk_172 (dk_at dksX1_mends_5 12 rfl rfl)
abbrev cX1_wrongPart : ByteArray := prog_1_method_58_code
def yX1_wrongPart : MethodName := ⟨RX1, "wrongPart", "(II)I"⟩
def dkwX1_wrongPart_4 : List UInt8 := [180, 1, 109, 182, 1, 26, 46, 54, 4, 21, 4, 29, 162, 0, 8, 21, 4, 167, 0, 5, 16, 254, 172]
abbrev dktX1_wrongPart_4 : List UInt8 := dkwX1_wrongPart_4 ++ []
def dkwX1_wrongPart_3 : List UInt8 := [180, 1, 112, 154, 0, 5, 29, 172, 42, 180, 0, 164, 180, 1, 115, 42, 180, 0, 164, 42, 180, 1, 112, 42]
abbrev dktX1_wrongPart_3 : List UInt8 := dkwX1_wrongPart_3 ++ dktX1_wrongPart_4
def dkwX1_wrongPart_2 : List UInt8 := [180, 1, 109, 154, 0, 18, 42, 180, 1, 112, 154, 0, 7, 2, 167, 0, 6, 29, 4, 96, 172, 42]
abbrev dktX1_wrongPart_2 : List UInt8 := dkwX1_wrongPart_2 ++ dktX1_wrongPart_3
def dkwX1_wrongPart_1 : List UInt8 := [130, 181, 1, 109, 42, 42, 180, 1, 3, 29, 4, 96, 46, 42, 3, 182, 1, 23, 130, 181, 1, 112, 42]
abbrev dktX1_wrongPart_1 : List UInt8 := dkwX1_wrongPart_1 ++ dktX1_wrongPart_2
def dkwX1_wrongPart_0 : List UInt8 := [42, 182, 0, 234, 62, 42, 27, 28, 3, 182, 1, 36, 42, 42, 180, 1, 3, 29, 46, 42, 3, 182, 1, 29]
abbrev dktX1_wrongPart_0 : List UInt8 := dkwX1_wrongPart_0 ++ dktX1_wrongPart_1
theorem dksX1_wrongPart_0 : cX1_wrongPart.data.toList.drop 0 = dktX1_wrongPart_0 := by decide +kernel
theorem dksX1_wrongPart_1 : cX1_wrongPart.data.toList.drop 24 = dktX1_wrongPart_1 := dk_seg dksX1_wrongPart_0 24 rfl rfl
theorem dksX1_wrongPart_2 : cX1_wrongPart.data.toList.drop 47 = dktX1_wrongPart_2 := dk_seg dksX1_wrongPart_1 23 rfl rfl
theorem dksX1_wrongPart_3 : cX1_wrongPart.data.toList.drop 69 = dktX1_wrongPart_3 := dk_seg dksX1_wrongPart_2 22 rfl rfl
theorem dksX1_wrongPart_4 : cX1_wrongPart.data.toList.drop 93 = dktX1_wrongPart_4 := dk_seg dksX1_wrongPart_3 24 rfl rfl
theorem dX1_wrongPart_0 : decode cX1_wrongPart 0 = .ok (.aload_n 0, 1) := dk_42 (dk_at dksX1_wrongPart_0 0 rfl rfl)
theorem dX1_wrongPart_1 : decode cX1_wrongPart 1 = .ok (.invokevirtual 234, 3) := dk_182 0 234 (dk_at dksX1_wrongPart_0 1 rfl rfl)
theorem dX1_wrongPart_4 : decode cX1_wrongPart 4 = .ok (.istore_n 3, 1) := dk_62 (dk_at dksX1_wrongPart_0 4 rfl rfl)
theorem dX1_wrongPart_5 : decode cX1_wrongPart 5 = .ok (.aload_n 0, 1) := dk_42 (dk_at dksX1_wrongPart_0 5 rfl rfl)
theorem dX1_wrongPart_6 : decode cX1_wrongPart 6 = .ok (.iload_n 1, 1) := dk_27 (dk_at dksX1_wrongPart_0 6 rfl rfl)
theorem dX1_wrongPart_7 : decode cX1_wrongPart 7 = .ok (.iload_n 2, 1) := dk_28 (dk_at dksX1_wrongPart_0 7 rfl rfl)
theorem dX1_wrongPart_8 : decode cX1_wrongPart 8 = .ok (.iconst 0, 1) := dk_3 (dk_at dksX1_wrongPart_0 8 rfl rfl)
theorem dX1_wrongPart_9 : decode cX1_wrongPart 9 = .ok (.invokevirtual 292, 3) := dk_182 1 36 (dk_at dksX1_wrongPart_0 9 rfl rfl)
theorem dX1_wrongPart_12 : decode cX1_wrongPart 12 = .ok (.aload_n 0, 1) := dk_42 (dk_at dksX1_wrongPart_0 12 rfl rfl)
theorem dX1_wrongPart_13 : decode cX1_wrongPart 13 = .ok (.aload_n 0, 1) := dk_42 (dk_at dksX1_wrongPart_0 13 rfl rfl)
theorem dX1_wrongPart_14 : decode cX1_wrongPart 14 = .ok (.getfield 259, 3) := dk_180 1 3 (dk_at dksX1_wrongPart_0 14 rfl rfl)
theorem dX1_wrongPart_17 : decode cX1_wrongPart 17 = .ok (.iload_n 3, 1) := dk_29 (dk_at dksX1_wrongPart_0 17 rfl rfl)
theorem dX1_wrongPart_18 : decode cX1_wrongPart 18 = .ok (.iaload, 1) := dk_46 (dk_at dksX1_wrongPart_0 18 rfl rfl)
theorem dX1_wrongPart_19 : decode cX1_wrongPart 19 = .ok (.aload_n 0, 1) := dk_42 (dk_at dksX1_wrongPart_0 19 rfl rfl)
theorem dX1_wrongPart_20 : decode cX1_wrongPart 20 = .ok (.iconst 0, 1) := dk_3 (dk_at dksX1_wrongPart_0 20 rfl rfl)
theorem dX1_wrongPart_21 : decode cX1_wrongPart 21 = .ok (.invokevirtual 285, 3) := dk_182 1 29 (dk_at dksX1_wrongPart_0 21 rfl rfl)
theorem dX1_wrongPart_24 : decode cX1_wrongPart 24 = .ok (.ixor, 1) := dk_130 (dk_at dksX1_wrongPart_1 0 rfl rfl)
theorem dX1_wrongPart_25 : decode cX1_wrongPart 25 = .ok (.putfield 365, 3) := dk_181 1 109 (dk_at dksX1_wrongPart_1 1 rfl rfl)
theorem dX1_wrongPart_28 : decode cX1_wrongPart 28 = .ok (.aload_n 0, 1) := dk_42 (dk_at dksX1_wrongPart_1 4 rfl rfl)
theorem dX1_wrongPart_29 : decode cX1_wrongPart 29 = .ok (.aload_n 0, 1) := dk_42 (dk_at dksX1_wrongPart_1 5 rfl rfl)
theorem dX1_wrongPart_30 : decode cX1_wrongPart 30 = .ok (.getfield 259, 3) := dk_180 1 3 (dk_at dksX1_wrongPart_1 6 rfl rfl)
theorem dX1_wrongPart_33 : decode cX1_wrongPart 33 = .ok (.iload_n 3, 1) := dk_29 (dk_at dksX1_wrongPart_1 9 rfl rfl)
theorem dX1_wrongPart_34 : decode cX1_wrongPart 34 = .ok (.iconst 1, 1) := dk_4 (dk_at dksX1_wrongPart_1 10 rfl rfl)
theorem dX1_wrongPart_35 : decode cX1_wrongPart 35 = .ok (.iadd, 1) := dk_96 (dk_at dksX1_wrongPart_1 11 rfl rfl)
theorem dX1_wrongPart_36 : decode cX1_wrongPart 36 = .ok (.iaload, 1) := dk_46 (dk_at dksX1_wrongPart_1 12 rfl rfl)
theorem dX1_wrongPart_37 : decode cX1_wrongPart 37 = .ok (.aload_n 0, 1) := dk_42 (dk_at dksX1_wrongPart_1 13 rfl rfl)
theorem dX1_wrongPart_38 : decode cX1_wrongPart 38 = .ok (.iconst 0, 1) := dk_3 (dk_at dksX1_wrongPart_1 14 rfl rfl)
theorem dX1_wrongPart_39 : decode cX1_wrongPart 39 = .ok (.invokevirtual 279, 3) := dk_182 1 23 (dk_at dksX1_wrongPart_1 15 rfl rfl)
theorem dX1_wrongPart_42 : decode cX1_wrongPart 42 = .ok (.ixor, 1) := dk_130 (dk_at dksX1_wrongPart_1 18 rfl rfl)
theorem dX1_wrongPart_43 : decode cX1_wrongPart 43 = .ok (.putfield 368, 3) := dk_181 1 112 (dk_at dksX1_wrongPart_1 19 rfl rfl)
theorem dX1_wrongPart_46 : decode cX1_wrongPart 46 = .ok (.aload_n 0, 1) := dk_42 (dk_at dksX1_wrongPart_1 22 rfl rfl)
theorem dX1_wrongPart_47 : decode cX1_wrongPart 47 = .ok (.getfield 365, 3) := dk_180 1 109 (dk_at dksX1_wrongPart_2 0 rfl rfl)
theorem dX1_wrongPart_50 : decode cX1_wrongPart 50 = .ok (.ifCond .ne 18, 3) := dk_154 0 18 (dk_at dksX1_wrongPart_2 3 rfl rfl)
theorem dX1_wrongPart_53 : decode cX1_wrongPart 53 = .ok (.aload_n 0, 1) := dk_42 (dk_at dksX1_wrongPart_2 6 rfl rfl)
theorem dX1_wrongPart_54 : decode cX1_wrongPart 54 = .ok (.getfield 368, 3) := dk_180 1 112 (dk_at dksX1_wrongPart_2 7 rfl rfl)
theorem dX1_wrongPart_57 : decode cX1_wrongPart 57 = .ok (.ifCond .ne 7, 3) := dk_154 0 7 (dk_at dksX1_wrongPart_2 10 rfl rfl)
theorem dX1_wrongPart_60 : decode cX1_wrongPart 60 = .ok (.iconst (-1), 1) := dk_2 (dk_at dksX1_wrongPart_2 13 rfl rfl)
theorem dX1_wrongPart_61 : decode cX1_wrongPart 61 = .ok (.goto 6, 3) := dk_167 0 6 (dk_at dksX1_wrongPart_2 14 rfl rfl)
theorem dX1_wrongPart_64 : decode cX1_wrongPart 64 = .ok (.iload_n 3, 1) := dk_29 (dk_at dksX1_wrongPart_2 17 rfl rfl)
theorem dX1_wrongPart_65 : decode cX1_wrongPart 65 = .ok (.iconst 1, 1) := dk_4 (dk_at dksX1_wrongPart_2 18 rfl rfl)
theorem dX1_wrongPart_66 : decode cX1_wrongPart 66 = .ok (.iadd, 1) := dk_96 (dk_at dksX1_wrongPart_2 19 rfl rfl)
theorem dX1_wrongPart_67 : decode cX1_wrongPart 67 = .ok (.ireturn, 1) := dk_172 (dk_at dksX1_wrongPart_2 20 rfl rfl)
theorem dX1_wrongPart_68 : decode cX1_wrongPart 68 = .ok (.aload_n 0, 1) := dk_42 (dk_at dksX1_wrongPart_2 21 rfl rfl)
theorem dX1_wrongPart_69 : decode cX1_wrongPart 69 = .ok (.getfield 368, 3) := dk_180 1 112 (dk_at dksX1_wrongPart_3 0 rfl rfl)
theorem dX1_wrongPart_72 : decode cX1_wrongPart 72 = .ok (.ifCond .ne 5, 3) := dk_154 0 5 (dk_at dksX1_wrongPart_3 3 rfl rfl)
theorem dX1_wrongPart_75 : decode cX1_wrongPart 75 = .ok (.iload_n 3, 1) := dk_29 (dk_at dksX1_wrongPart_3 6 rfl rfl)
theorem dX1_wrongPart_76 : decode cX1_wrongPart 76 = .ok (.ireturn, 1) := dk_172 (dk_at dksX1_wrongPart_3 7 rfl rfl)
theorem dX1_wrongPart_77 : decode cX1_wrongPart 77 = .ok (.aload_n 0, 1) := dk_42 (dk_at dksX1_wrongPart_3 8 rfl rfl)
theorem dX1_wrongPart_78 : decode cX1_wrongPart 78 = .ok (.getfield 164, 3) := dk_180 0 164 (dk_at dksX1_wrongPart_3 9 rfl rfl)
theorem dX1_wrongPart_81 : decode cX1_wrongPart 81 = .ok (.getfield 371, 3) := dk_180 1 115 (dk_at dksX1_wrongPart_3 12 rfl rfl)
theorem dX1_wrongPart_84 : decode cX1_wrongPart 84 = .ok (.aload_n 0, 1) := dk_42 (dk_at dksX1_wrongPart_3 15 rfl rfl)
theorem dX1_wrongPart_85 : decode cX1_wrongPart 85 = .ok (.getfield 164, 3) := dk_180 0 164 (dk_at dksX1_wrongPart_3 16 rfl rfl)
theorem dX1_wrongPart_88 : decode cX1_wrongPart 88 = .ok (.aload_n 0, 1) := dk_42 (dk_at dksX1_wrongPart_3 19 rfl rfl)
theorem dX1_wrongPart_89 : decode cX1_wrongPart 89 = .ok (.getfield 368, 3) := dk_180 1 112 (dk_at dksX1_wrongPart_3 20 rfl rfl)
theorem dX1_wrongPart_92 : decode cX1_wrongPart 92 = .ok (.aload_n 0, 1) := dk_42 (dk_at dksX1_wrongPart_3 23 rfl rfl)
theorem dX1_wrongPart_93 : decode cX1_wrongPart 93 = .ok (.getfield 365, 3) := dk_180 1 109 (dk_at dksX1_wrongPart_4 0 rfl rfl)
theorem dX1_wrongPart_96 : decode cX1_wrongPart 96 = .ok (.invokevirtual 282, 3) := dk_182 1 26 (dk_at dksX1_wrongPart_4 3 rfl rfl)
theorem dX1_wrongPart_99 : decode cX1_wrongPart 99 = .ok (.iaload, 1) := dk_46 (dk_at dksX1_wrongPart_4 6 rfl rfl)
theorem dX1_wrongPart_100 : decode cX1_wrongPart 100 = .ok (.istore 4, 2) := dk_54 4 (dk_at dksX1_wrongPart_4 7 rfl rfl)
theorem dX1_wrongPart_102 : decode cX1_wrongPart 102 = .ok (.iload 4, 2) := dk_21 4 (dk_at dksX1_wrongPart_4 9 rfl rfl)
theorem dX1_wrongPart_104 : decode cX1_wrongPart 104 = .ok (.iload_n 3, 1) := dk_29 (dk_at dksX1_wrongPart_4 11 rfl rfl)
theorem dX1_wrongPart_105 : decode cX1_wrongPart 105 = .ok (.if_icmp .ge 8, 3) := dk_162 0 8 (dk_at dksX1_wrongPart_4 12 rfl rfl)
theorem dX1_wrongPart_108 : decode cX1_wrongPart 108 = .ok (.iload 4, 2) := dk_21 4 (dk_at dksX1_wrongPart_4 15 rfl rfl)
theorem dX1_wrongPart_110 : decode cX1_wrongPart 110 = .ok (.goto 5, 3) := dk_167 0 5 (dk_at dksX1_wrongPart_4 17 rfl rfl)
theorem dX1_wrongPart_113 : decode cX1_wrongPart 113 = .ok (.bipush (-2), 2) := dk_16 254 (dk_at dksX1_wrongPart_4 20 rfl rfl)
theorem dX1_wrongPart_115 : decode cX1_wrongPart 115 = .ok (.ireturn, 1) := dk_172 (dk_at dksX1_wrongPart_4 22 rfl rfl)
abbrev cX1_tearsNow : ByteArray := prog_1_method_61_code
def yX1_tearsNow : MethodName := ⟨RX1, "tearsNow", "(III)I"⟩
def dkwX1_tearsNow_7 : List UInt8 := [180, 0, 178, 180, 1, 106, 184, 1, 20, 172]
abbrev dktX1_tearsNow_7 : List UInt8 := dkwX1_tearsNow_7 ++ []
def dkwX1_tearsNow_6 : List UInt8 := [164, 0, 22, 42, 42, 180, 0, 197, 21, 5, 182, 1, 81, 87, 42, 21, 4, 4, 3, 182, 1, 58, 42]
abbrev dktX1_tearsNow_6 : List UInt8 := dkwX1_tearsNow_6 ++ dktX1_tearsNow_7
def dkwX1_tearsNow_5 : List UInt8 := [182, 1, 81, 87, 42, 42, 180, 0, 197, 42, 180, 0, 253, 42, 180, 0, 200, 28, 182, 1, 54, 29, 4]
abbrev dktX1_tearsNow_5 : List UInt8 := dkwX1_tearsNow_5 ++ dktX1_tearsNow_6
def dkwX1_tearsNow_4 : List UInt8 := [42, 180, 0, 197, 120, 128, 181, 1, 106, 29, 158, 0, 33, 42, 42, 180, 0, 197, 42, 180, 0, 253]
abbrev dktX1_tearsNow_4 : List UInt8 := dkwX1_tearsNow_4 ++ dktX1_tearsNow_5
def dkwX1_tearsNow_3 : List UInt8 := [180, 0, 197, 21, 6, 182, 1, 78, 87, 132, 6, 1, 167, 255, 217, 42, 180, 0, 178, 89, 180, 1, 106, 4]
abbrev dktX1_tearsNow_3 : List UInt8 := dkwX1_tearsNow_3 ++ dktX1_tearsNow_4
def dkwX1_tearsNow_2 : List UInt8 := [96, 162, 0, 36, 21, 6, 21, 5, 162, 0, 12, 21, 6, 42, 180, 0, 253, 160, 0, 14, 42, 42]
abbrev dktX1_tearsNow_2 : List UInt8 := dkwX1_tearsNow_2 ++ dktX1_tearsNow_3
def dkwX1_tearsNow_1 : List UInt8 := [180, 0, 200, 184, 0, 203, 46, 130, 54, 4, 42, 182, 0, 234, 54, 5, 3, 54, 6, 21, 6, 21, 5, 5]
abbrev dktX1_tearsNow_1 : List UInt8 := dkwX1_tearsNow_1 ++ dktX1_tearsNow_2
def dkwX1_tearsNow_0 : List UInt8 := [42, 27, 182, 0, 188, 28, 42, 180, 0, 178, 180, 0, 191, 42, 180, 0, 194, 42, 180, 0, 197, 42]
abbrev dktX1_tearsNow_0 : List UInt8 := dkwX1_tearsNow_0 ++ dktX1_tearsNow_1
theorem dksX1_tearsNow_0 : cX1_tearsNow.data.toList.drop 0 = dktX1_tearsNow_0 := by decide +kernel
theorem dksX1_tearsNow_1 : cX1_tearsNow.data.toList.drop 22 = dktX1_tearsNow_1 := dk_seg dksX1_tearsNow_0 22 rfl rfl
theorem dksX1_tearsNow_2 : cX1_tearsNow.data.toList.drop 46 = dktX1_tearsNow_2 := dk_seg dksX1_tearsNow_1 24 rfl rfl
theorem dksX1_tearsNow_3 : cX1_tearsNow.data.toList.drop 68 = dktX1_tearsNow_3 := dk_seg dksX1_tearsNow_2 22 rfl rfl
theorem dksX1_tearsNow_4 : cX1_tearsNow.data.toList.drop 92 = dktX1_tearsNow_4 := dk_seg dksX1_tearsNow_3 24 rfl rfl
theorem dksX1_tearsNow_5 : cX1_tearsNow.data.toList.drop 114 = dktX1_tearsNow_5 := dk_seg dksX1_tearsNow_4 22 rfl rfl
theorem dksX1_tearsNow_6 : cX1_tearsNow.data.toList.drop 137 = dktX1_tearsNow_6 := dk_seg dksX1_tearsNow_5 23 rfl rfl
theorem dksX1_tearsNow_7 : cX1_tearsNow.data.toList.drop 160 = dktX1_tearsNow_7 := dk_seg dksX1_tearsNow_6 23 rfl rfl
theorem dX1_tearsNow_0 : decode cX1_tearsNow 0 = .ok (.aload_n 0, 1) := dk_42 (dk_at dksX1_tearsNow_0 0 rfl rfl)
theorem dX1_tearsNow_1 : decode cX1_tearsNow 1 = .ok (.iload_n 1, 1) := dk_27 (dk_at dksX1_tearsNow_0 1 rfl rfl)
theorem dX1_tearsNow_2 : decode cX1_tearsNow 2 = .ok (.invokevirtual 188, 3) := dk_182 0 188 (dk_at dksX1_tearsNow_0 2 rfl rfl)
theorem dX1_tearsNow_5 : decode cX1_tearsNow 5 = .ok (.iload_n 2, 1) := dk_28 (dk_at dksX1_tearsNow_0 5 rfl rfl)
theorem dX1_tearsNow_6 : decode cX1_tearsNow 6 = .ok (.aload_n 0, 1) := dk_42 (dk_at dksX1_tearsNow_0 6 rfl rfl)
theorem dX1_tearsNow_7 : decode cX1_tearsNow 7 = .ok (.getfield 178, 3) := dk_180 0 178 (dk_at dksX1_tearsNow_0 7 rfl rfl)
theorem dX1_tearsNow_10 : decode cX1_tearsNow 10 = .ok (.getfield 191, 3) := dk_180 0 191 (dk_at dksX1_tearsNow_0 10 rfl rfl)
theorem dX1_tearsNow_13 : decode cX1_tearsNow 13 = .ok (.aload_n 0, 1) := dk_42 (dk_at dksX1_tearsNow_0 13 rfl rfl)
theorem dX1_tearsNow_14 : decode cX1_tearsNow 14 = .ok (.getfield 194, 3) := dk_180 0 194 (dk_at dksX1_tearsNow_0 14 rfl rfl)
theorem dX1_tearsNow_17 : decode cX1_tearsNow 17 = .ok (.aload_n 0, 1) := dk_42 (dk_at dksX1_tearsNow_0 17 rfl rfl)
theorem dX1_tearsNow_18 : decode cX1_tearsNow 18 = .ok (.getfield 197, 3) := dk_180 0 197 (dk_at dksX1_tearsNow_0 18 rfl rfl)
theorem dX1_tearsNow_21 : decode cX1_tearsNow 21 = .ok (.aload_n 0, 1) := dk_42 (dk_at dksX1_tearsNow_0 21 rfl rfl)
theorem dX1_tearsNow_22 : decode cX1_tearsNow 22 = .ok (.getfield 200, 3) := dk_180 0 200 (dk_at dksX1_tearsNow_1 0 rfl rfl)
theorem dX1_tearsNow_25 : decode cX1_tearsNow 25 = .ok (.invokestatic 203, 3) := dk_184 0 203 (dk_at dksX1_tearsNow_1 3 rfl rfl)
theorem dX1_tearsNow_28 : decode cX1_tearsNow 28 = .ok (.iaload, 1) := dk_46 (dk_at dksX1_tearsNow_1 6 rfl rfl)
theorem dX1_tearsNow_29 : decode cX1_tearsNow 29 = .ok (.ixor, 1) := dk_130 (dk_at dksX1_tearsNow_1 7 rfl rfl)
theorem dX1_tearsNow_30 : decode cX1_tearsNow 30 = .ok (.istore 4, 2) := dk_54 4 (dk_at dksX1_tearsNow_1 8 rfl rfl)
theorem dX1_tearsNow_32 : decode cX1_tearsNow 32 = .ok (.aload_n 0, 1) := dk_42 (dk_at dksX1_tearsNow_1 10 rfl rfl)
theorem dX1_tearsNow_33 : decode cX1_tearsNow 33 = .ok (.invokevirtual 234, 3) := dk_182 0 234 (dk_at dksX1_tearsNow_1 11 rfl rfl)
theorem dX1_tearsNow_36 : decode cX1_tearsNow 36 = .ok (.istore 5, 2) := dk_54 5 (dk_at dksX1_tearsNow_1 14 rfl rfl)
theorem dX1_tearsNow_38 : decode cX1_tearsNow 38 = .ok (.iconst 0, 1) := dk_3 (dk_at dksX1_tearsNow_1 16 rfl rfl)
theorem dX1_tearsNow_39 : decode cX1_tearsNow 39 = .ok (.istore 6, 2) := dk_54 6 (dk_at dksX1_tearsNow_1 17 rfl rfl)
theorem dX1_tearsNow_41 : decode cX1_tearsNow 41 = .ok (.iload 6, 2) := dk_21 6 (dk_at dksX1_tearsNow_1 19 rfl rfl)
theorem dX1_tearsNow_43 : decode cX1_tearsNow 43 = .ok (.iload 5, 2) := dk_21 5 (dk_at dksX1_tearsNow_1 21 rfl rfl)
theorem dX1_tearsNow_45 : decode cX1_tearsNow 45 = .ok (.iconst 2, 1) := dk_5 (dk_at dksX1_tearsNow_1 23 rfl rfl)
theorem dX1_tearsNow_46 : decode cX1_tearsNow 46 = .ok (.iadd, 1) := dk_96 (dk_at dksX1_tearsNow_2 0 rfl rfl)
theorem dX1_tearsNow_47 : decode cX1_tearsNow 47 = .ok (.if_icmp .ge 36, 3) := dk_162 0 36 (dk_at dksX1_tearsNow_2 1 rfl rfl)
theorem dX1_tearsNow_50 : decode cX1_tearsNow 50 = .ok (.iload 6, 2) := dk_21 6 (dk_at dksX1_tearsNow_2 4 rfl rfl)
theorem dX1_tearsNow_52 : decode cX1_tearsNow 52 = .ok (.iload 5, 2) := dk_21 5 (dk_at dksX1_tearsNow_2 6 rfl rfl)
theorem dX1_tearsNow_54 : decode cX1_tearsNow 54 = .ok (.if_icmp .ge 12, 3) := dk_162 0 12 (dk_at dksX1_tearsNow_2 8 rfl rfl)
theorem dX1_tearsNow_57 : decode cX1_tearsNow 57 = .ok (.iload 6, 2) := dk_21 6 (dk_at dksX1_tearsNow_2 11 rfl rfl)
theorem dX1_tearsNow_59 : decode cX1_tearsNow 59 = .ok (.aload_n 0, 1) := dk_42 (dk_at dksX1_tearsNow_2 13 rfl rfl)
theorem dX1_tearsNow_60 : decode cX1_tearsNow 60 = .ok (.getfield 253, 3) := dk_180 0 253 (dk_at dksX1_tearsNow_2 14 rfl rfl)
theorem dX1_tearsNow_63 : decode cX1_tearsNow 63 = .ok (.if_icmp .ne 14, 3) := dk_160 0 14 (dk_at dksX1_tearsNow_2 17 rfl rfl)
theorem dX1_tearsNow_66 : decode cX1_tearsNow 66 = .ok (.aload_n 0, 1) := dk_42 (dk_at dksX1_tearsNow_2 20 rfl rfl)
theorem dX1_tearsNow_67 : decode cX1_tearsNow 67 = .ok (.aload_n 0, 1) := dk_42 (dk_at dksX1_tearsNow_2 21 rfl rfl)
theorem dX1_tearsNow_68 : decode cX1_tearsNow 68 = .ok (.getfield 197, 3) := dk_180 0 197 (dk_at dksX1_tearsNow_3 0 rfl rfl)
theorem dX1_tearsNow_71 : decode cX1_tearsNow 71 = .ok (.iload 6, 2) := dk_21 6 (dk_at dksX1_tearsNow_3 3 rfl rfl)
theorem dX1_tearsNow_73 : decode cX1_tearsNow 73 = .ok (.invokevirtual 334, 3) := dk_182 1 78 (dk_at dksX1_tearsNow_3 5 rfl rfl)
theorem dX1_tearsNow_76 : decode cX1_tearsNow 76 = .ok (.pop, 1) := dk_87 (dk_at dksX1_tearsNow_3 8 rfl rfl)
theorem dX1_tearsNow_77 : decode cX1_tearsNow 77 = .ok (.iinc 6 1, 3) := dk_132 6 1 (dk_at dksX1_tearsNow_3 9 rfl rfl)
theorem dX1_tearsNow_80 : decode cX1_tearsNow 80 = .ok (.goto (-39), 3) := dk_167 255 217 (dk_at dksX1_tearsNow_3 12 rfl rfl)
theorem dX1_tearsNow_83 : decode cX1_tearsNow 83 = .ok (.aload_n 0, 1) := dk_42 (dk_at dksX1_tearsNow_3 15 rfl rfl)
theorem dX1_tearsNow_84 : decode cX1_tearsNow 84 = .ok (.getfield 178, 3) := dk_180 0 178 (dk_at dksX1_tearsNow_3 16 rfl rfl)
theorem dX1_tearsNow_87 : decode cX1_tearsNow 87 = .ok (.dup, 1) := dk_89 (dk_at dksX1_tearsNow_3 19 rfl rfl)
theorem dX1_tearsNow_88 : decode cX1_tearsNow 88 = .ok (.getfield 362, 3) := dk_180 1 106 (dk_at dksX1_tearsNow_3 20 rfl rfl)
theorem dX1_tearsNow_91 : decode cX1_tearsNow 91 = .ok (.iconst 1, 1) := dk_4 (dk_at dksX1_tearsNow_3 23 rfl rfl)
theorem dX1_tearsNow_92 : decode cX1_tearsNow 92 = .ok (.aload_n 0, 1) := dk_42 (dk_at dksX1_tearsNow_4 0 rfl rfl)
theorem dX1_tearsNow_93 : decode cX1_tearsNow 93 = .ok (.getfield 197, 3) := dk_180 0 197 (dk_at dksX1_tearsNow_4 1 rfl rfl)
theorem dX1_tearsNow_96 : decode cX1_tearsNow 96 = .ok (.ishl, 1) := dk_120 (dk_at dksX1_tearsNow_4 4 rfl rfl)
theorem dX1_tearsNow_97 : decode cX1_tearsNow 97 = .ok (.ior, 1) := dk_128 (dk_at dksX1_tearsNow_4 5 rfl rfl)
theorem dX1_tearsNow_98 : decode cX1_tearsNow 98 = .ok (.putfield 362, 3) := dk_181 1 106 (dk_at dksX1_tearsNow_4 6 rfl rfl)
theorem dX1_tearsNow_101 : decode cX1_tearsNow 101 = .ok (.iload_n 3, 1) := dk_29 (dk_at dksX1_tearsNow_4 9 rfl rfl)
theorem dX1_tearsNow_102 : decode cX1_tearsNow 102 = .ok (.ifCond .le 33, 3) := dk_158 0 33 (dk_at dksX1_tearsNow_4 10 rfl rfl)
theorem dX1_tearsNow_105 : decode cX1_tearsNow 105 = .ok (.aload_n 0, 1) := dk_42 (dk_at dksX1_tearsNow_4 13 rfl rfl)
theorem dX1_tearsNow_106 : decode cX1_tearsNow 106 = .ok (.aload_n 0, 1) := dk_42 (dk_at dksX1_tearsNow_4 14 rfl rfl)
theorem dX1_tearsNow_107 : decode cX1_tearsNow 107 = .ok (.getfield 197, 3) := dk_180 0 197 (dk_at dksX1_tearsNow_4 15 rfl rfl)
theorem dX1_tearsNow_110 : decode cX1_tearsNow 110 = .ok (.aload_n 0, 1) := dk_42 (dk_at dksX1_tearsNow_4 18 rfl rfl)
theorem dX1_tearsNow_111 : decode cX1_tearsNow 111 = .ok (.getfield 253, 3) := dk_180 0 253 (dk_at dksX1_tearsNow_4 19 rfl rfl)
theorem dX1_tearsNow_114 : decode cX1_tearsNow 114 = .ok (.invokevirtual 337, 3) := dk_182 1 81 (dk_at dksX1_tearsNow_5 0 rfl rfl)
theorem dX1_tearsNow_117 : decode cX1_tearsNow 117 = .ok (.pop, 1) := dk_87 (dk_at dksX1_tearsNow_5 3 rfl rfl)
theorem dX1_tearsNow_118 : decode cX1_tearsNow 118 = .ok (.aload_n 0, 1) := dk_42 (dk_at dksX1_tearsNow_5 4 rfl rfl)
theorem dX1_tearsNow_119 : decode cX1_tearsNow 119 = .ok (.aload_n 0, 1) := dk_42 (dk_at dksX1_tearsNow_5 5 rfl rfl)
theorem dX1_tearsNow_120 : decode cX1_tearsNow 120 = .ok (.getfield 197, 3) := dk_180 0 197 (dk_at dksX1_tearsNow_5 6 rfl rfl)
theorem dX1_tearsNow_123 : decode cX1_tearsNow 123 = .ok (.aload_n 0, 1) := dk_42 (dk_at dksX1_tearsNow_5 9 rfl rfl)
theorem dX1_tearsNow_124 : decode cX1_tearsNow 124 = .ok (.getfield 253, 3) := dk_180 0 253 (dk_at dksX1_tearsNow_5 10 rfl rfl)
theorem dX1_tearsNow_127 : decode cX1_tearsNow 127 = .ok (.aload_n 0, 1) := dk_42 (dk_at dksX1_tearsNow_5 13 rfl rfl)
theorem dX1_tearsNow_128 : decode cX1_tearsNow 128 = .ok (.getfield 200, 3) := dk_180 0 200 (dk_at dksX1_tearsNow_5 14 rfl rfl)
theorem dX1_tearsNow_131 : decode cX1_tearsNow 131 = .ok (.iload_n 2, 1) := dk_28 (dk_at dksX1_tearsNow_5 17 rfl rfl)
theorem dX1_tearsNow_132 : decode cX1_tearsNow 132 = .ok (.invokevirtual 310, 3) := dk_182 1 54 (dk_at dksX1_tearsNow_5 18 rfl rfl)
theorem dX1_tearsNow_135 : decode cX1_tearsNow 135 = .ok (.iload_n 3, 1) := dk_29 (dk_at dksX1_tearsNow_5 21 rfl rfl)
theorem dX1_tearsNow_136 : decode cX1_tearsNow 136 = .ok (.iconst 1, 1) := dk_4 (dk_at dksX1_tearsNow_5 22 rfl rfl)
theorem dX1_tearsNow_137 : decode cX1_tearsNow 137 = .ok (.if_icmp .le 22, 3) := dk_164 0 22 (dk_at dksX1_tearsNow_6 0 rfl rfl)
theorem dX1_tearsNow_140 : decode cX1_tearsNow 140 = .ok (.aload_n 0, 1) := dk_42 (dk_at dksX1_tearsNow_6 3 rfl rfl)
theorem dX1_tearsNow_141 : decode cX1_tearsNow 141 = .ok (.aload_n 0, 1) := dk_42 (dk_at dksX1_tearsNow_6 4 rfl rfl)
theorem dX1_tearsNow_142 : decode cX1_tearsNow 142 = .ok (.getfield 197, 3) := dk_180 0 197 (dk_at dksX1_tearsNow_6 5 rfl rfl)
theorem dX1_tearsNow_145 : decode cX1_tearsNow 145 = .ok (.iload 5, 2) := dk_21 5 (dk_at dksX1_tearsNow_6 8 rfl rfl)
theorem dX1_tearsNow_147 : decode cX1_tearsNow 147 = .ok (.invokevirtual 337, 3) := dk_182 1 81 (dk_at dksX1_tearsNow_6 10 rfl rfl)
theorem dX1_tearsNow_150 : decode cX1_tearsNow 150 = .ok (.pop, 1) := dk_87 (dk_at dksX1_tearsNow_6 13 rfl rfl)
theorem dX1_tearsNow_151 : decode cX1_tearsNow 151 = .ok (.aload_n 0, 1) := dk_42 (dk_at dksX1_tearsNow_6 14 rfl rfl)
theorem dX1_tearsNow_152 : decode cX1_tearsNow 152 = .ok (.iload 4, 2) := dk_21 4 (dk_at dksX1_tearsNow_6 15 rfl rfl)
theorem dX1_tearsNow_154 : decode cX1_tearsNow 154 = .ok (.iconst 1, 1) := dk_4 (dk_at dksX1_tearsNow_6 17 rfl rfl)
theorem dX1_tearsNow_155 : decode cX1_tearsNow 155 = .ok (.iconst 0, 1) := dk_3 (dk_at dksX1_tearsNow_6 18 rfl rfl)
theorem dX1_tearsNow_156 : decode cX1_tearsNow 156 = .ok (.invokevirtual 314, 3) := dk_182 1 58 (dk_at dksX1_tearsNow_6 19 rfl rfl)
theorem dX1_tearsNow_159 : decode cX1_tearsNow 159 = .ok (.aload_n 0, 1) := dk_42 (dk_at dksX1_tearsNow_6 22 rfl rfl)
theorem dX1_tearsNow_160 : decode cX1_tearsNow 160 = .ok (.getfield 178, 3) := dk_180 0 178 (dk_at dksX1_tearsNow_7 0 rfl rfl)
theorem dX1_tearsNow_163 : decode cX1_tearsNow 163 = .ok (.getfield 362, 3) := dk_180 1 106 (dk_at dksX1_tearsNow_7 3 rfl rfl)
theorem dX1_tearsNow_166 : decode cX1_tearsNow 166 = .ok (.invokestatic 276, 3) := dk_184 1 20 (dk_at dksX1_tearsNow_7 6 rfl rfl)
theorem dX1_tearsNow_169 : decode cX1_tearsNow 169 = .ok (.ireturn, 1) := dk_172 (dk_at dksX1_tearsNow_7 9 rfl rfl)
abbrev cX1_cleansNow : ByteArray := prog_1_method_63_code
def yX1_cleansNow : MethodName := ⟨RX1, "cleansNow", "()I"⟩
def dkwX1_cleansNow_6 : List UInt8 := [27, 184, 1, 20, 172]
abbrev dktX1_cleansNow_6 : List UInt8 := dkwX1_cleansNow_6 ++ []
def dkwX1_cleansNow_5 : List UInt8 := [167, 255, 232, 132, 2, 1, 167, 255, 140, 42, 180, 0, 178, 89, 180, 1, 106, 27, 2, 130, 126, 181, 1, 106]
abbrev dktX1_cleansNow_5 : List UInt8 := dkwX1_cleansNow_5 ++ dktX1_cleansNow_6
def dkwX1_cleansNow_4 : List UInt8 := [182, 0, 240, 162, 0, 22, 42, 28, 29, 3, 182, 1, 36, 42, 28, 29, 182, 1, 84, 132, 3, 1]
abbrev dktX1_cleansNow_4 : List UInt8 := dkwX1_cleansNow_4 ++ dktX1_cleansNow_5
def dkwX1_cleansNow_3 : List UInt8 := [42, 28, 29, 182, 0, 250, 42, 182, 0, 240, 182, 1, 65, 87, 132, 3, 1, 167, 255, 196, 3, 62, 29, 42]
abbrev dktX1_cleansNow_3 : List UInt8 := dkwX1_cleansNow_3 ++ dktX1_cleansNow_4
def dkwX1_cleansNow_2 : List UInt8 := [180, 0, 178, 42, 28, 29, 182, 0, 250, 42, 182, 0, 240, 182, 1, 62, 87, 167, 0, 21, 42, 180, 0, 178]
abbrev dktX1_cleansNow_2 : List UInt8 := dkwX1_cleansNow_2 ++ dktX1_cleansNow_3
def dkwX1_cleansNow_1 : List UInt8 := [167, 0, 97, 3, 62, 29, 42, 182, 0, 234, 5, 96, 162, 0, 56, 29, 42, 182, 0, 234, 162, 0, 24, 42]
abbrev dktX1_cleansNow_1 : List UInt8 := dkwX1_cleansNow_1 ++ dktX1_cleansNow_2
def dkwX1_cleansNow_0 : List UInt8 := [42, 182, 1, 148, 60, 3, 61, 28, 42, 182, 0, 237, 162, 0, 114, 27, 28, 184, 0, 82, 154, 0, 6]
abbrev dktX1_cleansNow_0 : List UInt8 := dkwX1_cleansNow_0 ++ dktX1_cleansNow_1
theorem dksX1_cleansNow_0 : cX1_cleansNow.data.toList.drop 0 = dktX1_cleansNow_0 := by decide +kernel
theorem dksX1_cleansNow_1 : cX1_cleansNow.data.toList.drop 23 = dktX1_cleansNow_1 := dk_seg dksX1_cleansNow_0 23 rfl rfl
theorem dksX1_cleansNow_2 : cX1_cleansNow.data.toList.drop 47 = dktX1_cleansNow_2 := dk_seg dksX1_cleansNow_1 24 rfl rfl
theorem dksX1_cleansNow_3 : cX1_cleansNow.data.toList.drop 71 = dktX1_cleansNow_3 := dk_seg dksX1_cleansNow_2 24 rfl rfl
theorem dksX1_cleansNow_4 : cX1_cleansNow.data.toList.drop 95 = dktX1_cleansNow_4 := dk_seg dksX1_cleansNow_3 24 rfl rfl
theorem dksX1_cleansNow_5 : cX1_cleansNow.data.toList.drop 117 = dktX1_cleansNow_5 := dk_seg dksX1_cleansNow_4 22 rfl rfl
theorem dksX1_cleansNow_6 : cX1_cleansNow.data.toList.drop 141 = dktX1_cleansNow_6 := dk_seg dksX1_cleansNow_5 24 rfl rfl
theorem dX1_cleansNow_0 : decode cX1_cleansNow 0 = .ok (.aload_n 0, 1) := dk_42 (dk_at dksX1_cleansNow_0 0 rfl rfl)
theorem dX1_cleansNow_1 : decode cX1_cleansNow 1 = .ok (.invokevirtual 404, 3) := dk_182 1 148 (dk_at dksX1_cleansNow_0 1 rfl rfl)
theorem dX1_cleansNow_4 : decode cX1_cleansNow 4 = .ok (.istore_n 1, 1) := dk_60 (dk_at dksX1_cleansNow_0 4 rfl rfl)
theorem dX1_cleansNow_5 : decode cX1_cleansNow 5 = .ok (.iconst 0, 1) := dk_3 (dk_at dksX1_cleansNow_0 5 rfl rfl)
theorem dX1_cleansNow_6 : decode cX1_cleansNow 6 = .ok (.istore_n 2, 1) := dk_61 (dk_at dksX1_cleansNow_0 6 rfl rfl)
theorem dX1_cleansNow_7 : decode cX1_cleansNow 7 = .ok (.iload_n 2, 1) := dk_28 (dk_at dksX1_cleansNow_0 7 rfl rfl)
theorem dX1_cleansNow_8 : decode cX1_cleansNow 8 = .ok (.aload_n 0, 1) := dk_42 (dk_at dksX1_cleansNow_0 8 rfl rfl)
theorem dX1_cleansNow_9 : decode cX1_cleansNow 9 = .ok (.invokevirtual 237, 3) := dk_182 0 237 (dk_at dksX1_cleansNow_0 9 rfl rfl)
theorem dX1_cleansNow_12 : decode cX1_cleansNow 12 = .ok (.if_icmp .ge 114, 3) := dk_162 0 114 (dk_at dksX1_cleansNow_0 12 rfl rfl)
theorem dX1_cleansNow_15 : decode cX1_cleansNow 15 = .ok (.iload_n 1, 1) := dk_27 (dk_at dksX1_cleansNow_0 15 rfl rfl)
theorem dX1_cleansNow_16 : decode cX1_cleansNow 16 = .ok (.iload_n 2, 1) := dk_28 (dk_at dksX1_cleansNow_0 16 rfl rfl)
theorem dX1_cleansNow_17 : decode cX1_cleansNow 17 = .ok (.invokestatic 82, 3) := dk_184 0 82 (dk_at dksX1_cleansNow_0 17 rfl rfl)
theorem dX1_cleansNow_20 : decode cX1_cleansNow 20 = .ok (.ifCond .ne 6, 3) := dk_154 0 6 (dk_at dksX1_cleansNow_0 20 rfl rfl)
theorem dX1_cleansNow_23 : decode cX1_cleansNow 23 = .ok (.goto 97, 3) := dk_167 0 97 (dk_at dksX1_cleansNow_1 0 rfl rfl)
theorem dX1_cleansNow_26 : decode cX1_cleansNow 26 = .ok (.iconst 0, 1) := dk_3 (dk_at dksX1_cleansNow_1 3 rfl rfl)
theorem dX1_cleansNow_27 : decode cX1_cleansNow 27 = .ok (.istore_n 3, 1) := dk_62 (dk_at dksX1_cleansNow_1 4 rfl rfl)
theorem dX1_cleansNow_28 : decode cX1_cleansNow 28 = .ok (.iload_n 3, 1) := dk_29 (dk_at dksX1_cleansNow_1 5 rfl rfl)
theorem dX1_cleansNow_29 : decode cX1_cleansNow 29 = .ok (.aload_n 0, 1) := dk_42 (dk_at dksX1_cleansNow_1 6 rfl rfl)
theorem dX1_cleansNow_30 : decode cX1_cleansNow 30 = .ok (.invokevirtual 234, 3) := dk_182 0 234 (dk_at dksX1_cleansNow_1 7 rfl rfl)
theorem dX1_cleansNow_33 : decode cX1_cleansNow 33 = .ok (.iconst 2, 1) := dk_5 (dk_at dksX1_cleansNow_1 10 rfl rfl)
theorem dX1_cleansNow_34 : decode cX1_cleansNow 34 = .ok (.iadd, 1) := dk_96 (dk_at dksX1_cleansNow_1 11 rfl rfl)
theorem dX1_cleansNow_35 : decode cX1_cleansNow 35 = .ok (.if_icmp .ge 56, 3) := dk_162 0 56 (dk_at dksX1_cleansNow_1 12 rfl rfl)
theorem dX1_cleansNow_38 : decode cX1_cleansNow 38 = .ok (.iload_n 3, 1) := dk_29 (dk_at dksX1_cleansNow_1 15 rfl rfl)
theorem dX1_cleansNow_39 : decode cX1_cleansNow 39 = .ok (.aload_n 0, 1) := dk_42 (dk_at dksX1_cleansNow_1 16 rfl rfl)
theorem dX1_cleansNow_40 : decode cX1_cleansNow 40 = .ok (.invokevirtual 234, 3) := dk_182 0 234 (dk_at dksX1_cleansNow_1 17 rfl rfl)
theorem dX1_cleansNow_43 : decode cX1_cleansNow 43 = .ok (.if_icmp .ge 24, 3) := dk_162 0 24 (dk_at dksX1_cleansNow_1 20 rfl rfl)
theorem dX1_cleansNow_46 : decode cX1_cleansNow 46 = .ok (.aload_n 0, 1) := dk_42 (dk_at dksX1_cleansNow_1 23 rfl rfl)
theorem dX1_cleansNow_47 : decode cX1_cleansNow 47 = .ok (.getfield 178, 3) := dk_180 0 178 (dk_at dksX1_cleansNow_2 0 rfl rfl)
theorem dX1_cleansNow_50 : decode cX1_cleansNow 50 = .ok (.aload_n 0, 1) := dk_42 (dk_at dksX1_cleansNow_2 3 rfl rfl)
theorem dX1_cleansNow_51 : decode cX1_cleansNow 51 = .ok (.iload_n 2, 1) := dk_28 (dk_at dksX1_cleansNow_2 4 rfl rfl)
theorem dX1_cleansNow_52 : decode cX1_cleansNow 52 = .ok (.iload_n 3, 1) := dk_29 (dk_at dksX1_cleansNow_2 5 rfl rfl)
theorem dX1_cleansNow_53 : decode cX1_cleansNow 53 = .ok (.invokevirtual 250, 3) := dk_182 0 250 (dk_at dksX1_cleansNow_2 6 rfl rfl)
theorem dX1_cleansNow_56 : decode cX1_cleansNow 56 = .ok (.aload_n 0, 1) := dk_42 (dk_at dksX1_cleansNow_2 9 rfl rfl)
theorem dX1_cleansNow_57 : decode cX1_cleansNow 57 = .ok (.invokevirtual 240, 3) := dk_182 0 240 (dk_at dksX1_cleansNow_2 10 rfl rfl)
theorem dX1_cleansNow_60 : decode cX1_cleansNow 60 = .ok (.invokevirtual 318, 3) := dk_182 1 62 (dk_at dksX1_cleansNow_2 13 rfl rfl)
theorem dX1_cleansNow_63 : decode cX1_cleansNow 63 = .ok (.pop, 1) := dk_87 (dk_at dksX1_cleansNow_2 16 rfl rfl)
theorem dX1_cleansNow_64 : decode cX1_cleansNow 64 = .ok (.goto 21, 3) := dk_167 0 21 (dk_at dksX1_cleansNow_2 17 rfl rfl)
theorem dX1_cleansNow_67 : decode cX1_cleansNow 67 = .ok (.aload_n 0, 1) := dk_42 (dk_at dksX1_cleansNow_2 20 rfl rfl)
theorem dX1_cleansNow_68 : decode cX1_cleansNow 68 = .ok (.getfield 178, 3) := dk_180 0 178 (dk_at dksX1_cleansNow_2 21 rfl rfl)
theorem dX1_cleansNow_71 : decode cX1_cleansNow 71 = .ok (.aload_n 0, 1) := dk_42 (dk_at dksX1_cleansNow_3 0 rfl rfl)
theorem dX1_cleansNow_72 : decode cX1_cleansNow 72 = .ok (.iload_n 2, 1) := dk_28 (dk_at dksX1_cleansNow_3 1 rfl rfl)
theorem dX1_cleansNow_73 : decode cX1_cleansNow 73 = .ok (.iload_n 3, 1) := dk_29 (dk_at dksX1_cleansNow_3 2 rfl rfl)
theorem dX1_cleansNow_74 : decode cX1_cleansNow 74 = .ok (.invokevirtual 250, 3) := dk_182 0 250 (dk_at dksX1_cleansNow_3 3 rfl rfl)
theorem dX1_cleansNow_77 : decode cX1_cleansNow 77 = .ok (.aload_n 0, 1) := dk_42 (dk_at dksX1_cleansNow_3 6 rfl rfl)
theorem dX1_cleansNow_78 : decode cX1_cleansNow 78 = .ok (.invokevirtual 240, 3) := dk_182 0 240 (dk_at dksX1_cleansNow_3 7 rfl rfl)
theorem dX1_cleansNow_81 : decode cX1_cleansNow 81 = .ok (.invokevirtual 321, 3) := dk_182 1 65 (dk_at dksX1_cleansNow_3 10 rfl rfl)
theorem dX1_cleansNow_84 : decode cX1_cleansNow 84 = .ok (.pop, 1) := dk_87 (dk_at dksX1_cleansNow_3 13 rfl rfl)
theorem dX1_cleansNow_85 : decode cX1_cleansNow 85 = .ok (.iinc 3 1, 3) := dk_132 3 1 (dk_at dksX1_cleansNow_3 14 rfl rfl)
theorem dX1_cleansNow_88 : decode cX1_cleansNow 88 = .ok (.goto (-60), 3) := dk_167 255 196 (dk_at dksX1_cleansNow_3 17 rfl rfl)
theorem dX1_cleansNow_91 : decode cX1_cleansNow 91 = .ok (.iconst 0, 1) := dk_3 (dk_at dksX1_cleansNow_3 20 rfl rfl)
theorem dX1_cleansNow_92 : decode cX1_cleansNow 92 = .ok (.istore_n 3, 1) := dk_62 (dk_at dksX1_cleansNow_3 21 rfl rfl)
theorem dX1_cleansNow_93 : decode cX1_cleansNow 93 = .ok (.iload_n 3, 1) := dk_29 (dk_at dksX1_cleansNow_3 22 rfl rfl)
theorem dX1_cleansNow_94 : decode cX1_cleansNow 94 = .ok (.aload_n 0, 1) := dk_42 (dk_at dksX1_cleansNow_3 23 rfl rfl)
theorem dX1_cleansNow_95 : decode cX1_cleansNow 95 = .ok (.invokevirtual 240, 3) := dk_182 0 240 (dk_at dksX1_cleansNow_4 0 rfl rfl)
theorem dX1_cleansNow_98 : decode cX1_cleansNow 98 = .ok (.if_icmp .ge 22, 3) := dk_162 0 22 (dk_at dksX1_cleansNow_4 3 rfl rfl)
theorem dX1_cleansNow_101 : decode cX1_cleansNow 101 = .ok (.aload_n 0, 1) := dk_42 (dk_at dksX1_cleansNow_4 6 rfl rfl)
theorem dX1_cleansNow_102 : decode cX1_cleansNow 102 = .ok (.iload_n 2, 1) := dk_28 (dk_at dksX1_cleansNow_4 7 rfl rfl)
theorem dX1_cleansNow_103 : decode cX1_cleansNow 103 = .ok (.iload_n 3, 1) := dk_29 (dk_at dksX1_cleansNow_4 8 rfl rfl)
theorem dX1_cleansNow_104 : decode cX1_cleansNow 104 = .ok (.iconst 0, 1) := dk_3 (dk_at dksX1_cleansNow_4 9 rfl rfl)
theorem dX1_cleansNow_105 : decode cX1_cleansNow 105 = .ok (.invokevirtual 292, 3) := dk_182 1 36 (dk_at dksX1_cleansNow_4 10 rfl rfl)
theorem dX1_cleansNow_108 : decode cX1_cleansNow 108 = .ok (.aload_n 0, 1) := dk_42 (dk_at dksX1_cleansNow_4 13 rfl rfl)
theorem dX1_cleansNow_109 : decode cX1_cleansNow 109 = .ok (.iload_n 2, 1) := dk_28 (dk_at dksX1_cleansNow_4 14 rfl rfl)
theorem dX1_cleansNow_110 : decode cX1_cleansNow 110 = .ok (.iload_n 3, 1) := dk_29 (dk_at dksX1_cleansNow_4 15 rfl rfl)
theorem dX1_cleansNow_111 : decode cX1_cleansNow 111 = .ok (.invokevirtual 340, 3) := dk_182 1 84 (dk_at dksX1_cleansNow_4 16 rfl rfl)
theorem dX1_cleansNow_114 : decode cX1_cleansNow 114 = .ok (.iinc 3 1, 3) := dk_132 3 1 (dk_at dksX1_cleansNow_4 19 rfl rfl)
theorem dX1_cleansNow_117 : decode cX1_cleansNow 117 = .ok (.goto (-24), 3) := dk_167 255 232 (dk_at dksX1_cleansNow_5 0 rfl rfl)
theorem dX1_cleansNow_120 : decode cX1_cleansNow 120 = .ok (.iinc 2 1, 3) := dk_132 2 1 (dk_at dksX1_cleansNow_5 3 rfl rfl)
theorem dX1_cleansNow_123 : decode cX1_cleansNow 123 = .ok (.goto (-116), 3) := dk_167 255 140 (dk_at dksX1_cleansNow_5 6 rfl rfl)
theorem dX1_cleansNow_126 : decode cX1_cleansNow 126 = .ok (.aload_n 0, 1) := dk_42 (dk_at dksX1_cleansNow_5 9 rfl rfl)
theorem dX1_cleansNow_127 : decode cX1_cleansNow 127 = .ok (.getfield 178, 3) := dk_180 0 178 (dk_at dksX1_cleansNow_5 10 rfl rfl)
theorem dX1_cleansNow_130 : decode cX1_cleansNow 130 = .ok (.dup, 1) := dk_89 (dk_at dksX1_cleansNow_5 13 rfl rfl)
theorem dX1_cleansNow_131 : decode cX1_cleansNow 131 = .ok (.getfield 362, 3) := dk_180 1 106 (dk_at dksX1_cleansNow_5 14 rfl rfl)
theorem dX1_cleansNow_134 : decode cX1_cleansNow 134 = .ok (.iload_n 1, 1) := dk_27 (dk_at dksX1_cleansNow_5 17 rfl rfl)
theorem dX1_cleansNow_135 : decode cX1_cleansNow 135 = .ok (.iconst (-1), 1) := dk_2 (dk_at dksX1_cleansNow_5 18 rfl rfl)
theorem dX1_cleansNow_136 : decode cX1_cleansNow 136 = .ok (.ixor, 1) := dk_130 (dk_at dksX1_cleansNow_5 19 rfl rfl)
theorem dX1_cleansNow_137 : decode cX1_cleansNow 137 = .ok (.iand, 1) := dk_126 (dk_at dksX1_cleansNow_5 20 rfl rfl)
theorem dX1_cleansNow_138 : decode cX1_cleansNow 138 = .ok (.putfield 362, 3) := dk_181 1 106 (dk_at dksX1_cleansNow_5 21 rfl rfl)
theorem dX1_cleansNow_141 : decode cX1_cleansNow 141 = .ok (.iload_n 1, 1) := dk_27 (dk_at dksX1_cleansNow_6 0 rfl rfl)
theorem dX1_cleansNow_142 : decode cX1_cleansNow 142 = .ok (.invokestatic 276, 3) := dk_184 1 20 (dk_at dksX1_cleansNow_6 1 rfl rfl)
theorem dX1_cleansNow_145 : decode cX1_cleansNow 145 = .ok (.ireturn, 1) := dk_172 (dk_at dksX1_cleansNow_6 4 rfl rfl)
abbrev cX1_fullNow : ByteArray := prog_1_method_64_code
def yX1_fullNow : MethodName := ⟨RX1, "fullNow", "(IIII)I"⟩
def dkwX1_fullNow_4 : List UInt8 := [167, 255, 230, 42, 27, 28, 182, 1, 84, 21, 5, 172]
abbrev dktX1_fullNow_4 : List UInt8 := dkwX1_fullNow_4 ++ []
def dkwX1_fullNow_3 : List UInt8 := [182, 0, 234, 5, 96, 162, 0, 21, 21, 5, 42, 27, 21, 6, 182, 1, 81, 96, 54, 5, 132, 6, 1]
abbrev dktX1_fullNow_3 : List UInt8 := dkwX1_fullNow_3 ++ dktX1_fullNow_4
def dkwX1_fullNow_2 : List UInt8 := [42, 180, 1, 3, 21, 6, 46, 182, 1, 54, 132, 6, 1, 167, 255, 201, 3, 54, 6, 21, 6, 42]
abbrev dktX1_fullNow_2 : List UInt8 := dkwX1_fullNow_2 ++ dktX1_fullNow_3
def dkwX1_fullNow_1 : List UInt8 := [21, 4, 104, 96, 17, 1, 0, 112, 79, 42, 27, 21, 6, 182, 1, 32, 153, 0, 18, 42, 27, 21, 6, 28]
abbrev dktX1_fullNow_1 : List UInt8 := dkwX1_fullNow_1 ++ dktX1_fullNow_2
def dkwX1_fullNow_0 : List UInt8 := [3, 54, 5, 3, 54, 6, 21, 6, 42, 182, 0, 234, 162, 0, 52, 42, 180, 1, 3, 21, 6, 29, 21, 6]
abbrev dktX1_fullNow_0 : List UInt8 := dkwX1_fullNow_0 ++ dktX1_fullNow_1
theorem dksX1_fullNow_0 : cX1_fullNow.data.toList.drop 0 = dktX1_fullNow_0 := by decide +kernel
theorem dksX1_fullNow_1 : cX1_fullNow.data.toList.drop 24 = dktX1_fullNow_1 := dk_seg dksX1_fullNow_0 24 rfl rfl
theorem dksX1_fullNow_2 : cX1_fullNow.data.toList.drop 48 = dktX1_fullNow_2 := dk_seg dksX1_fullNow_1 24 rfl rfl
theorem dksX1_fullNow_3 : cX1_fullNow.data.toList.drop 70 = dktX1_fullNow_3 := dk_seg dksX1_fullNow_2 22 rfl rfl
theorem dksX1_fullNow_4 : cX1_fullNow.data.toList.drop 93 = dktX1_fullNow_4 := dk_seg dksX1_fullNow_3 23 rfl rfl
theorem dX1_fullNow_0 : decode cX1_fullNow 0 = .ok (.iconst 0, 1) := dk_3 (dk_at dksX1_fullNow_0 0 rfl rfl)
theorem dX1_fullNow_1 : decode cX1_fullNow 1 = .ok (.istore 5, 2) := dk_54 5 (dk_at dksX1_fullNow_0 1 rfl rfl)
theorem dX1_fullNow_3 : decode cX1_fullNow 3 = .ok (.iconst 0, 1) := dk_3 (dk_at dksX1_fullNow_0 3 rfl rfl)
theorem dX1_fullNow_4 : decode cX1_fullNow 4 = .ok (.istore 6, 2) := dk_54 6 (dk_at dksX1_fullNow_0 4 rfl rfl)
theorem dX1_fullNow_6 : decode cX1_fullNow 6 = .ok (.iload 6, 2) := dk_21 6 (dk_at dksX1_fullNow_0 6 rfl rfl)
theorem dX1_fullNow_8 : decode cX1_fullNow 8 = .ok (.aload_n 0, 1) := dk_42 (dk_at dksX1_fullNow_0 8 rfl rfl)
theorem dX1_fullNow_9 : decode cX1_fullNow 9 = .ok (.invokevirtual 234, 3) := dk_182 0 234 (dk_at dksX1_fullNow_0 9 rfl rfl)
theorem dX1_fullNow_12 : decode cX1_fullNow 12 = .ok (.if_icmp .ge 52, 3) := dk_162 0 52 (dk_at dksX1_fullNow_0 12 rfl rfl)
theorem dX1_fullNow_15 : decode cX1_fullNow 15 = .ok (.aload_n 0, 1) := dk_42 (dk_at dksX1_fullNow_0 15 rfl rfl)
theorem dX1_fullNow_16 : decode cX1_fullNow 16 = .ok (.getfield 259, 3) := dk_180 1 3 (dk_at dksX1_fullNow_0 16 rfl rfl)
theorem dX1_fullNow_19 : decode cX1_fullNow 19 = .ok (.iload 6, 2) := dk_21 6 (dk_at dksX1_fullNow_0 19 rfl rfl)
theorem dX1_fullNow_21 : decode cX1_fullNow 21 = .ok (.iload_n 3, 1) := dk_29 (dk_at dksX1_fullNow_0 21 rfl rfl)
theorem dX1_fullNow_22 : decode cX1_fullNow 22 = .ok (.iload 6, 2) := dk_21 6 (dk_at dksX1_fullNow_0 22 rfl rfl)
theorem dX1_fullNow_24 : decode cX1_fullNow 24 = .ok (.iload 4, 2) := dk_21 4 (dk_at dksX1_fullNow_1 0 rfl rfl)
theorem dX1_fullNow_26 : decode cX1_fullNow 26 = .ok (.imul, 1) := dk_104 (dk_at dksX1_fullNow_1 2 rfl rfl)
theorem dX1_fullNow_27 : decode cX1_fullNow 27 = .ok (.iadd, 1) := dk_96 (dk_at dksX1_fullNow_1 3 rfl rfl)
theorem dX1_fullNow_28 : decode cX1_fullNow 28 = .ok (.sipush 256, 3) := dk_17 1 0 (dk_at dksX1_fullNow_1 4 rfl rfl)
theorem dX1_fullNow_31 : decode cX1_fullNow 31 = .ok (.irem, 1) := dk_112 (dk_at dksX1_fullNow_1 7 rfl rfl)
theorem dX1_fullNow_32 : decode cX1_fullNow 32 = .ok (.iastore, 1) := dk_79 (dk_at dksX1_fullNow_1 8 rfl rfl)
theorem dX1_fullNow_33 : decode cX1_fullNow 33 = .ok (.aload_n 0, 1) := dk_42 (dk_at dksX1_fullNow_1 9 rfl rfl)
theorem dX1_fullNow_34 : decode cX1_fullNow 34 = .ok (.iload_n 1, 1) := dk_27 (dk_at dksX1_fullNow_1 10 rfl rfl)
theorem dX1_fullNow_35 : decode cX1_fullNow 35 = .ok (.iload 6, 2) := dk_21 6 (dk_at dksX1_fullNow_1 11 rfl rfl)
theorem dX1_fullNow_37 : decode cX1_fullNow 37 = .ok (.invokevirtual 288, 3) := dk_182 1 32 (dk_at dksX1_fullNow_1 13 rfl rfl)
theorem dX1_fullNow_40 : decode cX1_fullNow 40 = .ok (.ifCond .eq 18, 3) := dk_153 0 18 (dk_at dksX1_fullNow_1 16 rfl rfl)
theorem dX1_fullNow_43 : decode cX1_fullNow 43 = .ok (.aload_n 0, 1) := dk_42 (dk_at dksX1_fullNow_1 19 rfl rfl)
theorem dX1_fullNow_44 : decode cX1_fullNow 44 = .ok (.iload_n 1, 1) := dk_27 (dk_at dksX1_fullNow_1 20 rfl rfl)
theorem dX1_fullNow_45 : decode cX1_fullNow 45 = .ok (.iload 6, 2) := dk_21 6 (dk_at dksX1_fullNow_1 21 rfl rfl)
theorem dX1_fullNow_47 : decode cX1_fullNow 47 = .ok (.iload_n 2, 1) := dk_28 (dk_at dksX1_fullNow_1 23 rfl rfl)
theorem dX1_fullNow_48 : decode cX1_fullNow 48 = .ok (.aload_n 0, 1) := dk_42 (dk_at dksX1_fullNow_2 0 rfl rfl)
theorem dX1_fullNow_49 : decode cX1_fullNow 49 = .ok (.getfield 259, 3) := dk_180 1 3 (dk_at dksX1_fullNow_2 1 rfl rfl)
theorem dX1_fullNow_52 : decode cX1_fullNow 52 = .ok (.iload 6, 2) := dk_21 6 (dk_at dksX1_fullNow_2 4 rfl rfl)
theorem dX1_fullNow_54 : decode cX1_fullNow 54 = .ok (.iaload, 1) := dk_46 (dk_at dksX1_fullNow_2 6 rfl rfl)
theorem dX1_fullNow_55 : decode cX1_fullNow 55 = .ok (.invokevirtual 310, 3) := dk_182 1 54 (dk_at dksX1_fullNow_2 7 rfl rfl)
theorem dX1_fullNow_58 : decode cX1_fullNow 58 = .ok (.iinc 6 1, 3) := dk_132 6 1 (dk_at dksX1_fullNow_2 10 rfl rfl)
theorem dX1_fullNow_61 : decode cX1_fullNow 61 = .ok (.goto (-55), 3) := dk_167 255 201 (dk_at dksX1_fullNow_2 13 rfl rfl)
theorem dX1_fullNow_64 : decode cX1_fullNow 64 = .ok (.iconst 0, 1) := dk_3 (dk_at dksX1_fullNow_2 16 rfl rfl)
theorem dX1_fullNow_65 : decode cX1_fullNow 65 = .ok (.istore 6, 2) := dk_54 6 (dk_at dksX1_fullNow_2 17 rfl rfl)
theorem dX1_fullNow_67 : decode cX1_fullNow 67 = .ok (.iload 6, 2) := dk_21 6 (dk_at dksX1_fullNow_2 19 rfl rfl)
theorem dX1_fullNow_69 : decode cX1_fullNow 69 = .ok (.aload_n 0, 1) := dk_42 (dk_at dksX1_fullNow_2 21 rfl rfl)
theorem dX1_fullNow_70 : decode cX1_fullNow 70 = .ok (.invokevirtual 234, 3) := dk_182 0 234 (dk_at dksX1_fullNow_3 0 rfl rfl)
theorem dX1_fullNow_73 : decode cX1_fullNow 73 = .ok (.iconst 2, 1) := dk_5 (dk_at dksX1_fullNow_3 3 rfl rfl)
theorem dX1_fullNow_74 : decode cX1_fullNow 74 = .ok (.iadd, 1) := dk_96 (dk_at dksX1_fullNow_3 4 rfl rfl)
theorem dX1_fullNow_75 : decode cX1_fullNow 75 = .ok (.if_icmp .ge 21, 3) := dk_162 0 21 (dk_at dksX1_fullNow_3 5 rfl rfl)
theorem dX1_fullNow_78 : decode cX1_fullNow 78 = .ok (.iload 5, 2) := dk_21 5 (dk_at dksX1_fullNow_3 8 rfl rfl)
theorem dX1_fullNow_80 : decode cX1_fullNow 80 = .ok (.aload_n 0, 1) := dk_42 (dk_at dksX1_fullNow_3 10 rfl rfl)
theorem dX1_fullNow_81 : decode cX1_fullNow 81 = .ok (.iload_n 1, 1) := dk_27 (dk_at dksX1_fullNow_3 11 rfl rfl)
theorem dX1_fullNow_82 : decode cX1_fullNow 82 = .ok (.iload 6, 2) := dk_21 6 (dk_at dksX1_fullNow_3 12 rfl rfl)
theorem dX1_fullNow_84 : decode cX1_fullNow 84 = .ok (.invokevirtual 337, 3) := dk_182 1 81 (dk_at dksX1_fullNow_3 14 rfl rfl)
theorem dX1_fullNow_87 : decode cX1_fullNow 87 = .ok (.iadd, 1) := dk_96 (dk_at dksX1_fullNow_3 17 rfl rfl)
theorem dX1_fullNow_88 : decode cX1_fullNow 88 = .ok (.istore 5, 2) := dk_54 5 (dk_at dksX1_fullNow_3 18 rfl rfl)
theorem dX1_fullNow_90 : decode cX1_fullNow 90 = .ok (.iinc 6 1, 3) := dk_132 6 1 (dk_at dksX1_fullNow_3 20 rfl rfl)
theorem dX1_fullNow_93 : decode cX1_fullNow 93 = .ok (.goto (-26), 3) := dk_167 255 230 (dk_at dksX1_fullNow_4 0 rfl rfl)
theorem dX1_fullNow_96 : decode cX1_fullNow 96 = .ok (.aload_n 0, 1) := dk_42 (dk_at dksX1_fullNow_4 3 rfl rfl)
theorem dX1_fullNow_97 : decode cX1_fullNow 97 = .ok (.iload_n 1, 1) := dk_27 (dk_at dksX1_fullNow_4 4 rfl rfl)
theorem dX1_fullNow_98 : decode cX1_fullNow 98 = .ok (.iload_n 2, 1) := dk_28 (dk_at dksX1_fullNow_4 5 rfl rfl)
theorem dX1_fullNow_99 : decode cX1_fullNow 99 = .ok (.invokevirtual 340, 3) := dk_182 1 84 (dk_at dksX1_fullNow_4 6 rfl rfl)
theorem dX1_fullNow_102 : decode cX1_fullNow 102 = .ok (.iload 5, 2) := dk_21 5 (dk_at dksX1_fullNow_4 9 rfl rfl)
theorem dX1_fullNow_104 : decode cX1_fullNow 104 = .ok (.ireturn, 1) := dk_172 (dk_at dksX1_fullNow_4 11 rfl rfl)
abbrev cX1_lose : ByteArray := prog_1_method_72_code
def yX1_lose : MethodName := ⟨RX1, "lose", "(I)I"⟩
def dkwX1_lose_0 : List UInt8 := [42, 4, 27, 3, 3, 3, 182, 1, 216, 172]
abbrev dktX1_lose_0 : List UInt8 := dkwX1_lose_0 ++ []
theorem dksX1_lose_0 : cX1_lose.data.toList.drop 0 = dktX1_lose_0 := by decide +kernel
theorem dX1_lose_0 : decode cX1_lose 0 = .ok (.aload_n 0, 1) := dk_42 (dk_at dksX1_lose_0 0 rfl rfl)
theorem dX1_lose_1 : decode cX1_lose 1 = .ok (.iconst 1, 1) := dk_4 (dk_at dksX1_lose_0 1 rfl rfl)
theorem dX1_lose_2 : decode cX1_lose 2 = .ok (.iload_n 1, 1) := dk_27 (dk_at dksX1_lose_0 2 rfl rfl)
theorem dX1_lose_3 : decode cX1_lose 3 = .ok (.iconst 0, 1) := dk_3 (dk_at dksX1_lose_0 3 rfl rfl)
theorem dX1_lose_4 : decode cX1_lose 4 = .ok (.iconst 0, 1) := dk_3 (dk_at dksX1_lose_0 4 rfl rfl)
theorem dX1_lose_5 : decode cX1_lose 5 = .ok (.iconst 0, 1) := dk_3 (dk_at dksX1_lose_0 5 rfl rfl)
theorem dX1_lose_6 : decode cX1_lose 6 = .ok (.invokevirtual 472, 3) := dk_182 1 216 (dk_at dksX1_lose_0 6 rfl rfl)
theorem dX1_lose_9 : decode cX1_lose 9 = .ok (.ireturn, 1) := dk_172 (dk_at dksX1_lose_0 9 rfl rfl)
abbrev cX1_replace : ByteArray := prog_1_method_73_code
def yX1_replace : MethodName := ⟨RX1, "replace", "(I)I"⟩
def dkwX1_replace_0 : List UInt8 := [42, 5, 27, 3, 3, 3, 182, 1, 216, 172]
abbrev dktX1_replace_0 : List UInt8 := dkwX1_replace_0 ++ []
theorem dksX1_replace_0 : cX1_replace.data.toList.drop 0 = dktX1_replace_0 := by decide +kernel
theorem dX1_replace_0 : decode cX1_replace 0 = .ok (.aload_n 0, 1) := dk_42 (dk_at dksX1_replace_0 0 rfl rfl)
theorem dX1_replace_1 : decode cX1_replace 1 = .ok (.iconst 2, 1) := dk_5 (dk_at dksX1_replace_0 1 rfl rfl)
theorem dX1_replace_2 : decode cX1_replace 2 = .ok (.iload_n 1, 1) := dk_27 (dk_at dksX1_replace_0 2 rfl rfl)
theorem dX1_replace_3 : decode cX1_replace 3 = .ok (.iconst 0, 1) := dk_3 (dk_at dksX1_replace_0 3 rfl rfl)
theorem dX1_replace_4 : decode cX1_replace 4 = .ok (.iconst 0, 1) := dk_3 (dk_at dksX1_replace_0 4 rfl rfl)
theorem dX1_replace_5 : decode cX1_replace 5 = .ok (.iconst 0, 1) := dk_3 (dk_at dksX1_replace_0 5 rfl rfl)
theorem dX1_replace_6 : decode cX1_replace 6 = .ok (.invokevirtual 472, 3) := dk_182 1 216 (dk_at dksX1_replace_0 6 rfl rfl)
theorem dX1_replace_9 : decode cX1_replace 9 = .ok (.ireturn, 1) := dk_172 (dk_at dksX1_replace_0 9 rfl rfl)
abbrev cX1_rebuild : ByteArray := prog_1_method_74_code
def yX1_rebuild : MethodName := ⟨RX1, "rebuild", "(II)I"⟩
def dkwX1_rebuild_0 : List UInt8 := [42, 6, 27, 28, 3, 3, 182, 1, 216, 172]
abbrev dktX1_rebuild_0 : List UInt8 := dkwX1_rebuild_0 ++ []
theorem dksX1_rebuild_0 : cX1_rebuild.data.toList.drop 0 = dktX1_rebuild_0 := by decide +kernel
theorem dX1_rebuild_0 : decode cX1_rebuild 0 = .ok (.aload_n 0, 1) := dk_42 (dk_at dksX1_rebuild_0 0 rfl rfl)
theorem dX1_rebuild_1 : decode cX1_rebuild 1 = .ok (.iconst 3, 1) := dk_6 (dk_at dksX1_rebuild_0 1 rfl rfl)
theorem dX1_rebuild_2 : decode cX1_rebuild 2 = .ok (.iload_n 1, 1) := dk_27 (dk_at dksX1_rebuild_0 2 rfl rfl)
theorem dX1_rebuild_3 : decode cX1_rebuild 3 = .ok (.iload_n 2, 1) := dk_28 (dk_at dksX1_rebuild_0 3 rfl rfl)
theorem dX1_rebuild_4 : decode cX1_rebuild 4 = .ok (.iconst 0, 1) := dk_3 (dk_at dksX1_rebuild_0 4 rfl rfl)
theorem dX1_rebuild_5 : decode cX1_rebuild 5 = .ok (.iconst 0, 1) := dk_3 (dk_at dksX1_rebuild_0 5 rfl rfl)
theorem dX1_rebuild_6 : decode cX1_rebuild 6 = .ok (.invokevirtual 472, 3) := dk_182 1 216 (dk_at dksX1_rebuild_0 6 rfl rfl)
theorem dX1_rebuild_9 : decode cX1_rebuild 9 = .ok (.ireturn, 1) := dk_172 (dk_at dksX1_rebuild_0 9 rfl rfl)
abbrev cX1_scrub : ByteArray := prog_1_method_75_code
def yX1_scrub : MethodName := ⟨RX1, "scrub", "(I)I"⟩
def dkwX1_scrub_0 : List UInt8 := [42, 7, 27, 3, 3, 3, 182, 1, 216, 172]
abbrev dktX1_scrub_0 : List UInt8 := dkwX1_scrub_0 ++ []
theorem dksX1_scrub_0 : cX1_scrub.data.toList.drop 0 = dktX1_scrub_0 := by decide +kernel
theorem dX1_scrub_0 : decode cX1_scrub 0 = .ok (.aload_n 0, 1) := dk_42 (dk_at dksX1_scrub_0 0 rfl rfl)
theorem dX1_scrub_1 : decode cX1_scrub 1 = .ok (.iconst 4, 1) := dk_7 (dk_at dksX1_scrub_0 1 rfl rfl)
theorem dX1_scrub_2 : decode cX1_scrub 2 = .ok (.iload_n 1, 1) := dk_27 (dk_at dksX1_scrub_0 2 rfl rfl)
theorem dX1_scrub_3 : decode cX1_scrub 3 = .ok (.iconst 0, 1) := dk_3 (dk_at dksX1_scrub_0 3 rfl rfl)
theorem dX1_scrub_4 : decode cX1_scrub 4 = .ok (.iconst 0, 1) := dk_3 (dk_at dksX1_scrub_0 4 rfl rfl)
theorem dX1_scrub_5 : decode cX1_scrub 5 = .ok (.iconst 0, 1) := dk_3 (dk_at dksX1_scrub_0 5 rfl rfl)
theorem dX1_scrub_6 : decode cX1_scrub 6 = .ok (.invokevirtual 472, 3) := dk_182 1 216 (dk_at dksX1_scrub_0 6 rfl rfl)
theorem dX1_scrub_9 : decode cX1_scrub 9 = .ok (.ireturn, 1) := dk_172 (dk_at dksX1_scrub_0 9 rfl rfl)
abbrev cX1_spoil : ByteArray := prog_1_method_76_code
def yX1_spoil : MethodName := ⟨RX1, "spoil", "(IIII)I"⟩
def dkwX1_spoil_0 : List UInt8 := [42, 8, 27, 28, 29, 21, 4, 182, 1, 216, 172]
abbrev dktX1_spoil_0 : List UInt8 := dkwX1_spoil_0 ++ []
theorem dksX1_spoil_0 : cX1_spoil.data.toList.drop 0 = dktX1_spoil_0 := by decide +kernel
theorem dX1_spoil_0 : decode cX1_spoil 0 = .ok (.aload_n 0, 1) := dk_42 (dk_at dksX1_spoil_0 0 rfl rfl)
theorem dX1_spoil_1 : decode cX1_spoil 1 = .ok (.iconst 5, 1) := dk_8 (dk_at dksX1_spoil_0 1 rfl rfl)
theorem dX1_spoil_2 : decode cX1_spoil 2 = .ok (.iload_n 1, 1) := dk_27 (dk_at dksX1_spoil_0 2 rfl rfl)
theorem dX1_spoil_3 : decode cX1_spoil 3 = .ok (.iload_n 2, 1) := dk_28 (dk_at dksX1_spoil_0 3 rfl rfl)
theorem dX1_spoil_4 : decode cX1_spoil 4 = .ok (.iload_n 3, 1) := dk_29 (dk_at dksX1_spoil_0 4 rfl rfl)
theorem dX1_spoil_5 : decode cX1_spoil 5 = .ok (.iload 4, 2) := dk_21 4 (dk_at dksX1_spoil_0 5 rfl rfl)
theorem dX1_spoil_7 : decode cX1_spoil 7 = .ok (.invokevirtual 472, 3) := dk_182 1 216 (dk_at dksX1_spoil_0 7 rfl rfl)
theorem dX1_spoil_10 : decode cX1_spoil 10 = .ok (.ireturn, 1) := dk_172 (dk_at dksX1_spoil_0 10 rfl rfl)
abbrev cX1_tear : ByteArray := prog_1_method_77_code
def yX1_tear : MethodName := ⟨RX1, "tear", "(III)I"⟩
def dkwX1_tear_0 : List UInt8 := [42, 16, 6, 27, 28, 29, 3, 182, 1, 216, 172]
abbrev dktX1_tear_0 : List UInt8 := dkwX1_tear_0 ++ []
theorem dksX1_tear_0 : cX1_tear.data.toList.drop 0 = dktX1_tear_0 := by decide +kernel
theorem dX1_tear_0 : decode cX1_tear 0 = .ok (.aload_n 0, 1) := dk_42 (dk_at dksX1_tear_0 0 rfl rfl)
theorem dX1_tear_1 : decode cX1_tear 1 = .ok (.bipush 6, 2) := dk_16 6 (dk_at dksX1_tear_0 1 rfl rfl)
theorem dX1_tear_3 : decode cX1_tear 3 = .ok (.iload_n 1, 1) := dk_27 (dk_at dksX1_tear_0 3 rfl rfl)
theorem dX1_tear_4 : decode cX1_tear 4 = .ok (.iload_n 2, 1) := dk_28 (dk_at dksX1_tear_0 4 rfl rfl)
theorem dX1_tear_5 : decode cX1_tear 5 = .ok (.iload_n 3, 1) := dk_29 (dk_at dksX1_tear_0 5 rfl rfl)
theorem dX1_tear_6 : decode cX1_tear 6 = .ok (.iconst 0, 1) := dk_3 (dk_at dksX1_tear_0 6 rfl rfl)
theorem dX1_tear_7 : decode cX1_tear 7 = .ok (.invokevirtual 472, 3) := dk_182 1 216 (dk_at dksX1_tear_0 7 rfl rfl)
theorem dX1_tear_10 : decode cX1_tear 10 = .ok (.ireturn, 1) := dk_172 (dk_at dksX1_tear_0 10 rfl rfl)
abbrev cX1_clean : ByteArray := prog_1_method_78_code
def yX1_clean : MethodName := ⟨RX1, "clean", "()I"⟩
def dkwX1_clean_0 : List UInt8 := [42, 16, 7, 3, 3, 3, 3, 182, 1, 216, 172]
abbrev dktX1_clean_0 : List UInt8 := dkwX1_clean_0 ++ []
theorem dksX1_clean_0 : cX1_clean.data.toList.drop 0 = dktX1_clean_0 := by decide +kernel
theorem dX1_clean_0 : decode cX1_clean 0 = .ok (.aload_n 0, 1) := dk_42 (dk_at dksX1_clean_0 0 rfl rfl)
theorem dX1_clean_1 : decode cX1_clean 1 = .ok (.bipush 7, 2) := dk_16 7 (dk_at dksX1_clean_0 1 rfl rfl)
theorem dX1_clean_3 : decode cX1_clean 3 = .ok (.iconst 0, 1) := dk_3 (dk_at dksX1_clean_0 3 rfl rfl)
theorem dX1_clean_4 : decode cX1_clean 4 = .ok (.iconst 0, 1) := dk_3 (dk_at dksX1_clean_0 4 rfl rfl)
theorem dX1_clean_5 : decode cX1_clean 5 = .ok (.iconst 0, 1) := dk_3 (dk_at dksX1_clean_0 5 rfl rfl)
theorem dX1_clean_6 : decode cX1_clean 6 = .ok (.iconst 0, 1) := dk_3 (dk_at dksX1_clean_0 6 rfl rfl)
theorem dX1_clean_7 : decode cX1_clean 7 = .ok (.invokevirtual 472, 3) := dk_182 1 216 (dk_at dksX1_clean_0 7 rfl rfl)
theorem dX1_clean_10 : decode cX1_clean 10 = .ok (.ireturn, 1) := dk_172 (dk_at dksX1_clean_0 10 rfl rfl)
abbrev cX1_full : ByteArray := prog_1_method_79_code
def yX1_full : MethodName := ⟨RX1, "full", "(IIII)I"⟩
def dkwX1_full_0 : List UInt8 := [42, 16, 8, 27, 28, 29, 21, 4, 182, 1, 216, 172]
abbrev dktX1_full_0 : List UInt8 := dkwX1_full_0 ++ []
theorem dksX1_full_0 : cX1_full.data.toList.drop 0 = dktX1_full_0 := by decide +kernel
theorem dX1_full_0 : decode cX1_full 0 = .ok (.aload_n 0, 1) := dk_42 (dk_at dksX1_full_0 0 rfl rfl)
theorem dX1_full_1 : decode cX1_full 1 = .ok (.bipush 8, 2) := dk_16 8 (dk_at dksX1_full_0 1 rfl rfl)
theorem dX1_full_3 : decode cX1_full 3 = .ok (.iload_n 1, 1) := dk_27 (dk_at dksX1_full_0 3 rfl rfl)
theorem dX1_full_4 : decode cX1_full 4 = .ok (.iload_n 2, 1) := dk_28 (dk_at dksX1_full_0 4 rfl rfl)
theorem dX1_full_5 : decode cX1_full 5 = .ok (.iload_n 3, 1) := dk_29 (dk_at dksX1_full_0 5 rfl rfl)
theorem dX1_full_6 : decode cX1_full 6 = .ok (.iload 4, 2) := dk_21 4 (dk_at dksX1_full_0 6 rfl rfl)
theorem dX1_full_8 : decode cX1_full 8 = .ok (.invokevirtual 472, 3) := dk_182 1 216 (dk_at dksX1_full_0 8 rfl rfl)
theorem dX1_full_11 : decode cX1_full 11 = .ok (.ireturn, 1) := dk_172 (dk_at dksX1_full_0 11 rfl rfl)
abbrev cX1_years : ByteArray := prog_1_method_83_code
def yX1_years : MethodName := ⟨RX1, "years", "(IJ)I"⟩
def dkwX1_years_2 : List UInt8 := [182, 1, 195, 172]
abbrev dktX1_years_2 : List UInt8 := dkwX1_years_2 ++ []
def dkwX1_years_1 : List UInt8 := [3, 54, 4, 21, 4, 27, 162, 0, 13, 42, 182, 1, 234, 132, 4, 1, 167, 255, 243, 42, 180, 0, 178]
abbrev dktX1_years_1 : List UInt8 := dkwX1_years_1 ++ dktX1_years_2
def dkwX1_years_0 : List UInt8 := [42, 182, 0, 243, 153, 0, 13, 27, 4, 16, 40, 184, 0, 47, 154, 0, 5, 2, 172, 42, 32, 181, 1, 219]
abbrev dktX1_years_0 : List UInt8 := dkwX1_years_0 ++ dktX1_years_1
theorem dksX1_years_0 : cX1_years.data.toList.drop 0 = dktX1_years_0 := by decide +kernel
theorem dksX1_years_1 : cX1_years.data.toList.drop 24 = dktX1_years_1 := dk_seg dksX1_years_0 24 rfl rfl
theorem dksX1_years_2 : cX1_years.data.toList.drop 47 = dktX1_years_2 := dk_seg dksX1_years_1 23 rfl rfl
theorem dX1_years_0 : decode cX1_years 0 = .ok (.aload_n 0, 1) := dk_42 (dk_at dksX1_years_0 0 rfl rfl)
theorem dX1_years_1 : decode cX1_years 1 = .ok (.invokevirtual 243, 3) := dk_182 0 243 (dk_at dksX1_years_0 1 rfl rfl)
theorem dX1_years_4 : decode cX1_years 4 = .ok (.ifCond .eq 13, 3) := dk_153 0 13 (dk_at dksX1_years_0 4 rfl rfl)
theorem dX1_years_7 : decode cX1_years 7 = .ok (.iload_n 1, 1) := dk_27 (dk_at dksX1_years_0 7 rfl rfl)
theorem dX1_years_8 : decode cX1_years 8 = .ok (.iconst 1, 1) := dk_4 (dk_at dksX1_years_0 8 rfl rfl)
theorem dX1_years_9 : decode cX1_years 9 = .ok (.bipush 40, 2) := dk_16 40 (dk_at dksX1_years_0 9 rfl rfl)
theorem dX1_years_11 : decode cX1_years 11 = .ok (.invokestatic 47, 3) := dk_184 0 47 (dk_at dksX1_years_0 11 rfl rfl)
theorem dX1_years_14 : decode cX1_years 14 = .ok (.ifCond .ne 5, 3) := dk_154 0 5 (dk_at dksX1_years_0 14 rfl rfl)
theorem dX1_years_17 : decode cX1_years 17 = .ok (.iconst (-1), 1) := dk_2 (dk_at dksX1_years_0 17 rfl rfl)
theorem dX1_years_18 : decode cX1_years 18 = .ok (.ireturn, 1) := dk_172 (dk_at dksX1_years_0 18 rfl rfl)
theorem dX1_years_19 : decode cX1_years 19 = .ok (.aload_n 0, 1) := dk_42 (dk_at dksX1_years_0 19 rfl rfl)
theorem dX1_years_20 : decode cX1_years 20 = .ok (.lload_n 2, 1) := dk_32 (dk_at dksX1_years_0 20 rfl rfl)
theorem dX1_years_21 : decode cX1_years 21 = .ok (.putfield 475, 3) := dk_181 1 219 (dk_at dksX1_years_0 21 rfl rfl)
theorem dX1_years_24 : decode cX1_years 24 = .ok (.iconst 0, 1) := dk_3 (dk_at dksX1_years_1 0 rfl rfl)
theorem dX1_years_25 : decode cX1_years 25 = .ok (.istore 4, 2) := dk_54 4 (dk_at dksX1_years_1 1 rfl rfl)
theorem dX1_years_27 : decode cX1_years 27 = .ok (.iload 4, 2) := dk_21 4 (dk_at dksX1_years_1 3 rfl rfl)
theorem dX1_years_29 : decode cX1_years 29 = .ok (.iload_n 1, 1) := dk_27 (dk_at dksX1_years_1 5 rfl rfl)
theorem dX1_years_30 : decode cX1_years 30 = .ok (.if_icmp .ge 13, 3) := dk_162 0 13 (dk_at dksX1_years_1 6 rfl rfl)
theorem dX1_years_33 : decode cX1_years 33 = .ok (.aload_n 0, 1) := dk_42 (dk_at dksX1_years_1 9 rfl rfl)
theorem dX1_years_34 : decode cX1_years 34 = .ok (.invokevirtual 490, 3) := dk_182 1 234 (dk_at dksX1_years_1 10 rfl rfl)
theorem dX1_years_37 : decode cX1_years 37 = .ok (.iinc 4 1, 3) := dk_132 4 1 (dk_at dksX1_years_1 13 rfl rfl)
theorem dX1_years_40 : decode cX1_years 40 = .ok (.goto (-13), 3) := dk_167 255 243 (dk_at dksX1_years_1 16 rfl rfl)
theorem dX1_years_43 : decode cX1_years 43 = .ok (.aload_n 0, 1) := dk_42 (dk_at dksX1_years_1 19 rfl rfl)
theorem dX1_years_44 : decode cX1_years 44 = .ok (.getfield 178, 3) := dk_180 0 178 (dk_at dksX1_years_1 20 rfl rfl)
theorem dX1_years_47 : decode cX1_years 47 = .ok (.invokevirtual 451, 3) := dk_182 1 195 (dk_at dksX1_years_2 0 rfl rfl)
theorem dX1_years_50 : decode cX1_years 50 = .ok (.ireturn, 1) := dk_172 (dk_at dksX1_years_2 3 rfl rfl)
abbrev cX1_drawYear : ByteArray := prog_1_method_82_code
def yX1_drawYear : MethodName := ⟨RX1, "drawYear", "()V"⟩
def dkwX1_drawYear_9 : List UInt8 := [16, 6, 28, 29, 42, 6, 182, 1, 227, 3, 182, 1, 230, 42, 16, 7, 3, 3, 3, 3, 182, 1, 230, 177]
abbrev dktX1_drawYear_9 : List UInt8 := dkwX1_drawYear_9 ++ []
def dkwX1_drawYear_8 : List UInt8 := [182, 1, 230, 167, 0, 44, 42, 42, 182, 0, 185, 182, 1, 227, 61, 42, 17, 1, 0, 182, 1, 227, 62, 42]
abbrev dktX1_drawYear_8 : List UInt8 := dkwX1_drawYear_8 ++ dktX1_drawYear_9
def dkwX1_drawYear_7 : List UInt8 := [182, 0, 240, 182, 1, 227, 54, 4, 42, 8, 28, 29, 21, 4, 42, 17, 0, 255, 182, 1, 227, 4, 96]
abbrev dktX1_drawYear_7 : List UInt8 := dkwX1_drawYear_7 ++ dktX1_drawYear_8
def dkwX1_drawYear_6 : List UInt8 := [160, 0, 52, 42, 42, 182, 0, 247, 182, 1, 227, 61, 42, 42, 182, 0, 237, 182, 1, 227, 62, 42, 42]
abbrev dktX1_drawYear_6 : List UInt8 := dkwX1_drawYear_6 ++ dktX1_drawYear_7
def dkwX1_drawYear_5 : List UInt8 := [42, 42, 182, 0, 237, 182, 1, 227, 4, 96, 3, 3, 3, 182, 1, 230, 167, 0, 99, 27, 16, 10]
abbrev dktX1_drawYear_5 : List UInt8 := dkwX1_drawYear_5 ++ dktX1_drawYear_6
def dkwX1_drawYear_4 : List UInt8 := [182, 0, 237, 182, 1, 227, 4, 96, 3, 3, 182, 1, 230, 167, 0, 126, 27, 16, 9, 160, 0, 24, 42, 7]
abbrev dktX1_drawYear_4 : List UInt8 := dkwX1_drawYear_4 ++ dktX1_drawYear_5
def dkwX1_drawYear_3 : List UInt8 := [167, 0, 162, 27, 16, 9, 162, 0, 33, 42, 42, 182, 0, 247, 182, 1, 227, 61, 42, 6, 28, 42, 42]
abbrev dktX1_drawYear_3 : List UInt8 := dkwX1_drawYear_3 ++ dktX1_drawYear_4
def dkwX1_drawYear_2 : List UInt8 := [160, 0, 7, 4, 167, 0, 4, 5, 42, 42, 182, 0, 247, 182, 1, 227, 3, 3, 3, 182, 1, 230]
abbrev dktX1_drawYear_2 : List UInt8 := dkwX1_drawYear_2 ++ dktX1_drawYear_3
def dkwX1_drawYear_1 : List UInt8 := [42, 17, 1, 0, 182, 1, 227, 3, 3, 182, 1, 230, 167, 0, 196, 27, 16, 7, 162, 0, 31, 42, 27, 8]
abbrev dktX1_drawYear_1 : List UInt8 := dkwX1_drawYear_1 ++ dktX1_drawYear_2
def dkwX1_drawYear_0 : List UInt8 := [42, 16, 12, 182, 1, 227, 60, 27, 8, 162, 0, 30, 42, 42, 182, 0, 185, 182, 1, 227, 61, 42, 3, 28]
abbrev dktX1_drawYear_0 : List UInt8 := dkwX1_drawYear_0 ++ dktX1_drawYear_1
theorem dksX1_drawYear_0 : cX1_drawYear.data.toList.drop 0 = dktX1_drawYear_0 := by decide +kernel
theorem dksX1_drawYear_1 : cX1_drawYear.data.toList.drop 24 = dktX1_drawYear_1 := dk_seg dksX1_drawYear_0 24 rfl rfl
theorem dksX1_drawYear_2 : cX1_drawYear.data.toList.drop 48 = dktX1_drawYear_2 := dk_seg dksX1_drawYear_1 24 rfl rfl
theorem dksX1_drawYear_3 : cX1_drawYear.data.toList.drop 70 = dktX1_drawYear_3 := dk_seg dksX1_drawYear_2 22 rfl rfl
theorem dksX1_drawYear_4 : cX1_drawYear.data.toList.drop 93 = dktX1_drawYear_4 := dk_seg dksX1_drawYear_3 23 rfl rfl
theorem dksX1_drawYear_5 : cX1_drawYear.data.toList.drop 117 = dktX1_drawYear_5 := dk_seg dksX1_drawYear_4 24 rfl rfl
theorem dksX1_drawYear_6 : cX1_drawYear.data.toList.drop 139 = dktX1_drawYear_6 := dk_seg dksX1_drawYear_5 22 rfl rfl
theorem dksX1_drawYear_7 : cX1_drawYear.data.toList.drop 162 = dktX1_drawYear_7 := dk_seg dksX1_drawYear_6 23 rfl rfl
theorem dksX1_drawYear_8 : cX1_drawYear.data.toList.drop 185 = dktX1_drawYear_8 := dk_seg dksX1_drawYear_7 23 rfl rfl
theorem dksX1_drawYear_9 : cX1_drawYear.data.toList.drop 209 = dktX1_drawYear_9 := dk_seg dksX1_drawYear_8 24 rfl rfl
theorem dX1_drawYear_0 : decode cX1_drawYear 0 = .ok (.aload_n 0, 1) := dk_42 (dk_at dksX1_drawYear_0 0 rfl rfl)
theorem dX1_drawYear_1 : decode cX1_drawYear 1 = .ok (.bipush 12, 2) := dk_16 12 (dk_at dksX1_drawYear_0 1 rfl rfl)
theorem dX1_drawYear_3 : decode cX1_drawYear 3 = .ok (.invokevirtual 483, 3) := dk_182 1 227 (dk_at dksX1_drawYear_0 3 rfl rfl)
theorem dX1_drawYear_6 : decode cX1_drawYear 6 = .ok (.istore_n 1, 1) := dk_60 (dk_at dksX1_drawYear_0 6 rfl rfl)
theorem dX1_drawYear_7 : decode cX1_drawYear 7 = .ok (.iload_n 1, 1) := dk_27 (dk_at dksX1_drawYear_0 7 rfl rfl)
theorem dX1_drawYear_8 : decode cX1_drawYear 8 = .ok (.iconst 5, 1) := dk_8 (dk_at dksX1_drawYear_0 8 rfl rfl)
theorem dX1_drawYear_9 : decode cX1_drawYear 9 = .ok (.if_icmp .ge 30, 3) := dk_162 0 30 (dk_at dksX1_drawYear_0 9 rfl rfl)
theorem dX1_drawYear_12 : decode cX1_drawYear 12 = .ok (.aload_n 0, 1) := dk_42 (dk_at dksX1_drawYear_0 12 rfl rfl)
theorem dX1_drawYear_13 : decode cX1_drawYear 13 = .ok (.aload_n 0, 1) := dk_42 (dk_at dksX1_drawYear_0 13 rfl rfl)
theorem dX1_drawYear_14 : decode cX1_drawYear 14 = .ok (.invokevirtual 185, 3) := dk_182 0 185 (dk_at dksX1_drawYear_0 14 rfl rfl)
theorem dX1_drawYear_17 : decode cX1_drawYear 17 = .ok (.invokevirtual 483, 3) := dk_182 1 227 (dk_at dksX1_drawYear_0 17 rfl rfl)
theorem dX1_drawYear_20 : decode cX1_drawYear 20 = .ok (.istore_n 2, 1) := dk_61 (dk_at dksX1_drawYear_0 20 rfl rfl)
theorem dX1_drawYear_21 : decode cX1_drawYear 21 = .ok (.aload_n 0, 1) := dk_42 (dk_at dksX1_drawYear_0 21 rfl rfl)
theorem dX1_drawYear_22 : decode cX1_drawYear 22 = .ok (.iconst 0, 1) := dk_3 (dk_at dksX1_drawYear_0 22 rfl rfl)
theorem dX1_drawYear_23 : decode cX1_drawYear 23 = .ok (.iload_n 2, 1) := dk_28 (dk_at dksX1_drawYear_0 23 rfl rfl)
theorem dX1_drawYear_24 : decode cX1_drawYear 24 = .ok (.aload_n 0, 1) := dk_42 (dk_at dksX1_drawYear_1 0 rfl rfl)
theorem dX1_drawYear_25 : decode cX1_drawYear 25 = .ok (.sipush 256, 3) := dk_17 1 0 (dk_at dksX1_drawYear_1 1 rfl rfl)
theorem dX1_drawYear_28 : decode cX1_drawYear 28 = .ok (.invokevirtual 483, 3) := dk_182 1 227 (dk_at dksX1_drawYear_1 4 rfl rfl)
theorem dX1_drawYear_31 : decode cX1_drawYear 31 = .ok (.iconst 0, 1) := dk_3 (dk_at dksX1_drawYear_1 7 rfl rfl)
theorem dX1_drawYear_32 : decode cX1_drawYear 32 = .ok (.iconst 0, 1) := dk_3 (dk_at dksX1_drawYear_1 8 rfl rfl)
theorem dX1_drawYear_33 : decode cX1_drawYear 33 = .ok (.invokevirtual 486, 3) := dk_182 1 230 (dk_at dksX1_drawYear_1 9 rfl rfl)
theorem dX1_drawYear_36 : decode cX1_drawYear 36 = .ok (.goto 196, 3) := dk_167 0 196 (dk_at dksX1_drawYear_1 12 rfl rfl)
theorem dX1_drawYear_39 : decode cX1_drawYear 39 = .ok (.iload_n 1, 1) := dk_27 (dk_at dksX1_drawYear_1 15 rfl rfl)
theorem dX1_drawYear_40 : decode cX1_drawYear 40 = .ok (.bipush 7, 2) := dk_16 7 (dk_at dksX1_drawYear_1 16 rfl rfl)
theorem dX1_drawYear_42 : decode cX1_drawYear 42 = .ok (.if_icmp .ge 31, 3) := dk_162 0 31 (dk_at dksX1_drawYear_1 18 rfl rfl)
theorem dX1_drawYear_45 : decode cX1_drawYear 45 = .ok (.aload_n 0, 1) := dk_42 (dk_at dksX1_drawYear_1 21 rfl rfl)
theorem dX1_drawYear_46 : decode cX1_drawYear 46 = .ok (.iload_n 1, 1) := dk_27 (dk_at dksX1_drawYear_1 22 rfl rfl)
theorem dX1_drawYear_47 : decode cX1_drawYear 47 = .ok (.iconst 5, 1) := dk_8 (dk_at dksX1_drawYear_1 23 rfl rfl)
theorem dX1_drawYear_48 : decode cX1_drawYear 48 = .ok (.if_icmp .ne 7, 3) := dk_160 0 7 (dk_at dksX1_drawYear_2 0 rfl rfl)
theorem dX1_drawYear_51 : decode cX1_drawYear 51 = .ok (.iconst 1, 1) := dk_4 (dk_at dksX1_drawYear_2 3 rfl rfl)
theorem dX1_drawYear_52 : decode cX1_drawYear 52 = .ok (.goto 4, 3) := dk_167 0 4 (dk_at dksX1_drawYear_2 4 rfl rfl)
theorem dX1_drawYear_55 : decode cX1_drawYear 55 = .ok (.iconst 2, 1) := dk_5 (dk_at dksX1_drawYear_2 7 rfl rfl)
theorem dX1_drawYear_56 : decode cX1_drawYear 56 = .ok (.aload_n 0, 1) := dk_42 (dk_at dksX1_drawYear_2 8 rfl rfl)
theorem dX1_drawYear_57 : decode cX1_drawYear 57 = .ok (.aload_n 0, 1) := dk_42 (dk_at dksX1_drawYear_2 9 rfl rfl)
theorem dX1_drawYear_58 : decode cX1_drawYear 58 = .ok (.invokevirtual 247, 3) := dk_182 0 247 (dk_at dksX1_drawYear_2 10 rfl rfl)
theorem dX1_drawYear_61 : decode cX1_drawYear 61 = .ok (.invokevirtual 483, 3) := dk_182 1 227 (dk_at dksX1_drawYear_2 13 rfl rfl)
theorem dX1_drawYear_64 : decode cX1_drawYear 64 = .ok (.iconst 0, 1) := dk_3 (dk_at dksX1_drawYear_2 16 rfl rfl)
theorem dX1_drawYear_65 : decode cX1_drawYear 65 = .ok (.iconst 0, 1) := dk_3 (dk_at dksX1_drawYear_2 17 rfl rfl)
theorem dX1_drawYear_66 : decode cX1_drawYear 66 = .ok (.iconst 0, 1) := dk_3 (dk_at dksX1_drawYear_2 18 rfl rfl)
theorem dX1_drawYear_67 : decode cX1_drawYear 67 = .ok (.invokevirtual 486, 3) := dk_182 1 230 (dk_at dksX1_drawYear_2 19 rfl rfl)
theorem dX1_drawYear_70 : decode cX1_drawYear 70 = .ok (.goto 162, 3) := dk_167 0 162 (dk_at dksX1_drawYear_3 0 rfl rfl)
theorem dX1_drawYear_73 : decode cX1_drawYear 73 = .ok (.iload_n 1, 1) := dk_27 (dk_at dksX1_drawYear_3 3 rfl rfl)
theorem dX1_drawYear_74 : decode cX1_drawYear 74 = .ok (.bipush 9, 2) := dk_16 9 (dk_at dksX1_drawYear_3 4 rfl rfl)
theorem dX1_drawYear_76 : decode cX1_drawYear 76 = .ok (.if_icmp .ge 33, 3) := dk_162 0 33 (dk_at dksX1_drawYear_3 6 rfl rfl)
theorem dX1_drawYear_79 : decode cX1_drawYear 79 = .ok (.aload_n 0, 1) := dk_42 (dk_at dksX1_drawYear_3 9 rfl rfl)
theorem dX1_drawYear_80 : decode cX1_drawYear 80 = .ok (.aload_n 0, 1) := dk_42 (dk_at dksX1_drawYear_3 10 rfl rfl)
theorem dX1_drawYear_81 : decode cX1_drawYear 81 = .ok (.invokevirtual 247, 3) := dk_182 0 247 (dk_at dksX1_drawYear_3 11 rfl rfl)
theorem dX1_drawYear_84 : decode cX1_drawYear 84 = .ok (.invokevirtual 483, 3) := dk_182 1 227 (dk_at dksX1_drawYear_3 14 rfl rfl)
theorem dX1_drawYear_87 : decode cX1_drawYear 87 = .ok (.istore_n 2, 1) := dk_61 (dk_at dksX1_drawYear_3 17 rfl rfl)
theorem dX1_drawYear_88 : decode cX1_drawYear 88 = .ok (.aload_n 0, 1) := dk_42 (dk_at dksX1_drawYear_3 18 rfl rfl)
theorem dX1_drawYear_89 : decode cX1_drawYear 89 = .ok (.iconst 3, 1) := dk_6 (dk_at dksX1_drawYear_3 19 rfl rfl)
theorem dX1_drawYear_90 : decode cX1_drawYear 90 = .ok (.iload_n 2, 1) := dk_28 (dk_at dksX1_drawYear_3 20 rfl rfl)
theorem dX1_drawYear_91 : decode cX1_drawYear 91 = .ok (.aload_n 0, 1) := dk_42 (dk_at dksX1_drawYear_3 21 rfl rfl)
theorem dX1_drawYear_92 : decode cX1_drawYear 92 = .ok (.aload_n 0, 1) := dk_42 (dk_at dksX1_drawYear_3 22 rfl rfl)
theorem dX1_drawYear_93 : decode cX1_drawYear 93 = .ok (.invokevirtual 237, 3) := dk_182 0 237 (dk_at dksX1_drawYear_4 0 rfl rfl)
theorem dX1_drawYear_96 : decode cX1_drawYear 96 = .ok (.invokevirtual 483, 3) := dk_182 1 227 (dk_at dksX1_drawYear_4 3 rfl rfl)
theorem dX1_drawYear_99 : decode cX1_drawYear 99 = .ok (.iconst 1, 1) := dk_4 (dk_at dksX1_drawYear_4 6 rfl rfl)
theorem dX1_drawYear_100 : decode cX1_drawYear 100 = .ok (.iadd, 1) := dk_96 (dk_at dksX1_drawYear_4 7 rfl rfl)
theorem dX1_drawYear_101 : decode cX1_drawYear 101 = .ok (.iconst 0, 1) := dk_3 (dk_at dksX1_drawYear_4 8 rfl rfl)
theorem dX1_drawYear_102 : decode cX1_drawYear 102 = .ok (.iconst 0, 1) := dk_3 (dk_at dksX1_drawYear_4 9 rfl rfl)
theorem dX1_drawYear_103 : decode cX1_drawYear 103 = .ok (.invokevirtual 486, 3) := dk_182 1 230 (dk_at dksX1_drawYear_4 10 rfl rfl)
theorem dX1_drawYear_106 : decode cX1_drawYear 106 = .ok (.goto 126, 3) := dk_167 0 126 (dk_at dksX1_drawYear_4 13 rfl rfl)
theorem dX1_drawYear_109 : decode cX1_drawYear 109 = .ok (.iload_n 1, 1) := dk_27 (dk_at dksX1_drawYear_4 16 rfl rfl)
theorem dX1_drawYear_110 : decode cX1_drawYear 110 = .ok (.bipush 9, 2) := dk_16 9 (dk_at dksX1_drawYear_4 17 rfl rfl)
theorem dX1_drawYear_112 : decode cX1_drawYear 112 = .ok (.if_icmp .ne 24, 3) := dk_160 0 24 (dk_at dksX1_drawYear_4 19 rfl rfl)
theorem dX1_drawYear_115 : decode cX1_drawYear 115 = .ok (.aload_n 0, 1) := dk_42 (dk_at dksX1_drawYear_4 22 rfl rfl)
theorem dX1_drawYear_116 : decode cX1_drawYear 116 = .ok (.iconst 4, 1) := dk_7 (dk_at dksX1_drawYear_4 23 rfl rfl)
theorem dX1_drawYear_117 : decode cX1_drawYear 117 = .ok (.aload_n 0, 1) := dk_42 (dk_at dksX1_drawYear_5 0 rfl rfl)
theorem dX1_drawYear_118 : decode cX1_drawYear 118 = .ok (.aload_n 0, 1) := dk_42 (dk_at dksX1_drawYear_5 1 rfl rfl)
theorem dX1_drawYear_119 : decode cX1_drawYear 119 = .ok (.invokevirtual 237, 3) := dk_182 0 237 (dk_at dksX1_drawYear_5 2 rfl rfl)
theorem dX1_drawYear_122 : decode cX1_drawYear 122 = .ok (.invokevirtual 483, 3) := dk_182 1 227 (dk_at dksX1_drawYear_5 5 rfl rfl)
theorem dX1_drawYear_125 : decode cX1_drawYear 125 = .ok (.iconst 1, 1) := dk_4 (dk_at dksX1_drawYear_5 8 rfl rfl)
theorem dX1_drawYear_126 : decode cX1_drawYear 126 = .ok (.iadd, 1) := dk_96 (dk_at dksX1_drawYear_5 9 rfl rfl)
theorem dX1_drawYear_127 : decode cX1_drawYear 127 = .ok (.iconst 0, 1) := dk_3 (dk_at dksX1_drawYear_5 10 rfl rfl)
theorem dX1_drawYear_128 : decode cX1_drawYear 128 = .ok (.iconst 0, 1) := dk_3 (dk_at dksX1_drawYear_5 11 rfl rfl)
theorem dX1_drawYear_129 : decode cX1_drawYear 129 = .ok (.iconst 0, 1) := dk_3 (dk_at dksX1_drawYear_5 12 rfl rfl)
theorem dX1_drawYear_130 : decode cX1_drawYear 130 = .ok (.invokevirtual 486, 3) := dk_182 1 230 (dk_at dksX1_drawYear_5 13 rfl rfl)
theorem dX1_drawYear_133 : decode cX1_drawYear 133 = .ok (.goto 99, 3) := dk_167 0 99 (dk_at dksX1_drawYear_5 16 rfl rfl)
theorem dX1_drawYear_136 : decode cX1_drawYear 136 = .ok (.iload_n 1, 1) := dk_27 (dk_at dksX1_drawYear_5 19 rfl rfl)
theorem dX1_drawYear_137 : decode cX1_drawYear 137 = .ok (.bipush 10, 2) := dk_16 10 (dk_at dksX1_drawYear_5 20 rfl rfl)
theorem dX1_drawYear_139 : decode cX1_drawYear 139 = .ok (.if_icmp .ne 52, 3) := dk_160 0 52 (dk_at dksX1_drawYear_6 0 rfl rfl)
theorem dX1_drawYear_142 : decode cX1_drawYear 142 = .ok (.aload_n 0, 1) := dk_42 (dk_at dksX1_drawYear_6 3 rfl rfl)
theorem dX1_drawYear_143 : decode cX1_drawYear 143 = .ok (.aload_n 0, 1) := dk_42 (dk_at dksX1_drawYear_6 4 rfl rfl)
theorem dX1_drawYear_144 : decode cX1_drawYear 144 = .ok (.invokevirtual 247, 3) := dk_182 0 247 (dk_at dksX1_drawYear_6 5 rfl rfl)
theorem dX1_drawYear_147 : decode cX1_drawYear 147 = .ok (.invokevirtual 483, 3) := dk_182 1 227 (dk_at dksX1_drawYear_6 8 rfl rfl)
theorem dX1_drawYear_150 : decode cX1_drawYear 150 = .ok (.istore_n 2, 1) := dk_61 (dk_at dksX1_drawYear_6 11 rfl rfl)
theorem dX1_drawYear_151 : decode cX1_drawYear 151 = .ok (.aload_n 0, 1) := dk_42 (dk_at dksX1_drawYear_6 12 rfl rfl)
theorem dX1_drawYear_152 : decode cX1_drawYear 152 = .ok (.aload_n 0, 1) := dk_42 (dk_at dksX1_drawYear_6 13 rfl rfl)
theorem dX1_drawYear_153 : decode cX1_drawYear 153 = .ok (.invokevirtual 237, 3) := dk_182 0 237 (dk_at dksX1_drawYear_6 14 rfl rfl)
theorem dX1_drawYear_156 : decode cX1_drawYear 156 = .ok (.invokevirtual 483, 3) := dk_182 1 227 (dk_at dksX1_drawYear_6 17 rfl rfl)
theorem dX1_drawYear_159 : decode cX1_drawYear 159 = .ok (.istore_n 3, 1) := dk_62 (dk_at dksX1_drawYear_6 20 rfl rfl)
theorem dX1_drawYear_160 : decode cX1_drawYear 160 = .ok (.aload_n 0, 1) := dk_42 (dk_at dksX1_drawYear_6 21 rfl rfl)
theorem dX1_drawYear_161 : decode cX1_drawYear 161 = .ok (.aload_n 0, 1) := dk_42 (dk_at dksX1_drawYear_6 22 rfl rfl)
theorem dX1_drawYear_162 : decode cX1_drawYear 162 = .ok (.invokevirtual 240, 3) := dk_182 0 240 (dk_at dksX1_drawYear_7 0 rfl rfl)
theorem dX1_drawYear_165 : decode cX1_drawYear 165 = .ok (.invokevirtual 483, 3) := dk_182 1 227 (dk_at dksX1_drawYear_7 3 rfl rfl)
theorem dX1_drawYear_168 : decode cX1_drawYear 168 = .ok (.istore 4, 2) := dk_54 4 (dk_at dksX1_drawYear_7 6 rfl rfl)
theorem dX1_drawYear_170 : decode cX1_drawYear 170 = .ok (.aload_n 0, 1) := dk_42 (dk_at dksX1_drawYear_7 8 rfl rfl)
theorem dX1_drawYear_171 : decode cX1_drawYear 171 = .ok (.iconst 5, 1) := dk_8 (dk_at dksX1_drawYear_7 9 rfl rfl)
theorem dX1_drawYear_172 : decode cX1_drawYear 172 = .ok (.iload_n 2, 1) := dk_28 (dk_at dksX1_drawYear_7 10 rfl rfl)
theorem dX1_drawYear_173 : decode cX1_drawYear 173 = .ok (.iload_n 3, 1) := dk_29 (dk_at dksX1_drawYear_7 11 rfl rfl)
theorem dX1_drawYear_174 : decode cX1_drawYear 174 = .ok (.iload 4, 2) := dk_21 4 (dk_at dksX1_drawYear_7 12 rfl rfl)
theorem dX1_drawYear_176 : decode cX1_drawYear 176 = .ok (.aload_n 0, 1) := dk_42 (dk_at dksX1_drawYear_7 14 rfl rfl)
theorem dX1_drawYear_177 : decode cX1_drawYear 177 = .ok (.sipush 255, 3) := dk_17 0 255 (dk_at dksX1_drawYear_7 15 rfl rfl)
theorem dX1_drawYear_180 : decode cX1_drawYear 180 = .ok (.invokevirtual 483, 3) := dk_182 1 227 (dk_at dksX1_drawYear_7 18 rfl rfl)
theorem dX1_drawYear_183 : decode cX1_drawYear 183 = .ok (.iconst 1, 1) := dk_4 (dk_at dksX1_drawYear_7 21 rfl rfl)
theorem dX1_drawYear_184 : decode cX1_drawYear 184 = .ok (.iadd, 1) := dk_96 (dk_at dksX1_drawYear_7 22 rfl rfl)
theorem dX1_drawYear_185 : decode cX1_drawYear 185 = .ok (.invokevirtual 486, 3) := dk_182 1 230 (dk_at dksX1_drawYear_8 0 rfl rfl)
theorem dX1_drawYear_188 : decode cX1_drawYear 188 = .ok (.goto 44, 3) := dk_167 0 44 (dk_at dksX1_drawYear_8 3 rfl rfl)
theorem dX1_drawYear_191 : decode cX1_drawYear 191 = .ok (.aload_n 0, 1) := dk_42 (dk_at dksX1_drawYear_8 6 rfl rfl)
theorem dX1_drawYear_192 : decode cX1_drawYear 192 = .ok (.aload_n 0, 1) := dk_42 (dk_at dksX1_drawYear_8 7 rfl rfl)
theorem dX1_drawYear_193 : decode cX1_drawYear 193 = .ok (.invokevirtual 185, 3) := dk_182 0 185 (dk_at dksX1_drawYear_8 8 rfl rfl)
theorem dX1_drawYear_196 : decode cX1_drawYear 196 = .ok (.invokevirtual 483, 3) := dk_182 1 227 (dk_at dksX1_drawYear_8 11 rfl rfl)
theorem dX1_drawYear_199 : decode cX1_drawYear 199 = .ok (.istore_n 2, 1) := dk_61 (dk_at dksX1_drawYear_8 14 rfl rfl)
theorem dX1_drawYear_200 : decode cX1_drawYear 200 = .ok (.aload_n 0, 1) := dk_42 (dk_at dksX1_drawYear_8 15 rfl rfl)
theorem dX1_drawYear_201 : decode cX1_drawYear 201 = .ok (.sipush 256, 3) := dk_17 1 0 (dk_at dksX1_drawYear_8 16 rfl rfl)
theorem dX1_drawYear_204 : decode cX1_drawYear 204 = .ok (.invokevirtual 483, 3) := dk_182 1 227 (dk_at dksX1_drawYear_8 19 rfl rfl)
theorem dX1_drawYear_207 : decode cX1_drawYear 207 = .ok (.istore_n 3, 1) := dk_62 (dk_at dksX1_drawYear_8 22 rfl rfl)
theorem dX1_drawYear_208 : decode cX1_drawYear 208 = .ok (.aload_n 0, 1) := dk_42 (dk_at dksX1_drawYear_8 23 rfl rfl)
theorem dX1_drawYear_209 : decode cX1_drawYear 209 = .ok (.bipush 6, 2) := dk_16 6 (dk_at dksX1_drawYear_9 0 rfl rfl)
theorem dX1_drawYear_211 : decode cX1_drawYear 211 = .ok (.iload_n 2, 1) := dk_28 (dk_at dksX1_drawYear_9 2 rfl rfl)
theorem dX1_drawYear_212 : decode cX1_drawYear 212 = .ok (.iload_n 3, 1) := dk_29 (dk_at dksX1_drawYear_9 3 rfl rfl)
theorem dX1_drawYear_213 : decode cX1_drawYear 213 = .ok (.aload_n 0, 1) := dk_42 (dk_at dksX1_drawYear_9 4 rfl rfl)
theorem dX1_drawYear_214 : decode cX1_drawYear 214 = .ok (.iconst 3, 1) := dk_6 (dk_at dksX1_drawYear_9 5 rfl rfl)
theorem dX1_drawYear_215 : decode cX1_drawYear 215 = .ok (.invokevirtual 483, 3) := dk_182 1 227 (dk_at dksX1_drawYear_9 6 rfl rfl)
theorem dX1_drawYear_218 : decode cX1_drawYear 218 = .ok (.iconst 0, 1) := dk_3 (dk_at dksX1_drawYear_9 9 rfl rfl)
theorem dX1_drawYear_219 : decode cX1_drawYear 219 = .ok (.invokevirtual 486, 3) := dk_182 1 230 (dk_at dksX1_drawYear_9 10 rfl rfl)
theorem dX1_drawYear_222 : decode cX1_drawYear 222 = .ok (.aload_n 0, 1) := dk_42 (dk_at dksX1_drawYear_9 13 rfl rfl)
theorem dX1_drawYear_223 : decode cX1_drawYear 223 = .ok (.bipush 7, 2) := dk_16 7 (dk_at dksX1_drawYear_9 14 rfl rfl)
theorem dX1_drawYear_225 : decode cX1_drawYear 225 = .ok (.iconst 0, 1) := dk_3 (dk_at dksX1_drawYear_9 16 rfl rfl)
theorem dX1_drawYear_226 : decode cX1_drawYear 226 = .ok (.iconst 0, 1) := dk_3 (dk_at dksX1_drawYear_9 17 rfl rfl)
theorem dX1_drawYear_227 : decode cX1_drawYear 227 = .ok (.iconst 0, 1) := dk_3 (dk_at dksX1_drawYear_9 18 rfl rfl)
theorem dX1_drawYear_228 : decode cX1_drawYear 228 = .ok (.iconst 0, 1) := dk_3 (dk_at dksX1_drawYear_9 19 rfl rfl)
theorem dX1_drawYear_229 : decode cX1_drawYear 229 = .ok (.invokevirtual 486, 3) := dk_182 1 230 (dk_at dksX1_drawYear_9 20 rfl rfl)
theorem dX1_drawYear_232 : decode cX1_drawYear 232 = .ok (.return_, 1) := dk_177 (dk_at dksX1_drawYear_9 23 rfl rfl)
abbrev cX1_draw : ByteArray := prog_1_method_80_code
def yX1_draw : MethodName := ⟨RX1, "draw", "(I)I"⟩
def dkwX1_draw_1 : List UInt8 := [133, 113, 136, 172]
abbrev dktX1_draw_1 : List UInt8 := dkwX1_draw_1 ++ []
def dkwX1_draw_0 : List UInt8 := [42, 42, 180, 1, 219, 20, 1, 223, 105, 20, 1, 225, 97, 181, 1, 219, 42, 180, 1, 219, 16, 33, 125, 27]
abbrev dktX1_draw_0 : List UInt8 := dkwX1_draw_0 ++ dktX1_draw_1
theorem dksX1_draw_0 : cX1_draw.data.toList.drop 0 = dktX1_draw_0 := by decide +kernel
theorem dksX1_draw_1 : cX1_draw.data.toList.drop 24 = dktX1_draw_1 := dk_seg dksX1_draw_0 24 rfl rfl
theorem dX1_draw_0 : decode cX1_draw 0 = .ok (.aload_n 0, 1) := dk_42 (dk_at dksX1_draw_0 0 rfl rfl)
theorem dX1_draw_1 : decode cX1_draw 1 = .ok (.aload_n 0, 1) := dk_42 (dk_at dksX1_draw_0 1 rfl rfl)
theorem dX1_draw_2 : decode cX1_draw 2 = .ok (.getfield 475, 3) := dk_180 1 219 (dk_at dksX1_draw_0 2 rfl rfl)
theorem dX1_draw_5 : decode cX1_draw 5 = .ok (.ldc2_w 479, 3) := dk_20 1 223 (dk_at dksX1_draw_0 5 rfl rfl)
theorem dX1_draw_8 : decode cX1_draw 8 = .ok (.lmul, 1) := dk_105 (dk_at dksX1_draw_0 8 rfl rfl)
theorem dX1_draw_9 : decode cX1_draw 9 = .ok (.ldc2_w 481, 3) := dk_20 1 225 (dk_at dksX1_draw_0 9 rfl rfl)
theorem dX1_draw_12 : decode cX1_draw 12 = .ok (.ladd, 1) := dk_97 (dk_at dksX1_draw_0 12 rfl rfl)
theorem dX1_draw_13 : decode cX1_draw 13 = .ok (.putfield 475, 3) := dk_181 1 219 (dk_at dksX1_draw_0 13 rfl rfl)
theorem dX1_draw_16 : decode cX1_draw 16 = .ok (.aload_n 0, 1) := dk_42 (dk_at dksX1_draw_0 16 rfl rfl)
theorem dX1_draw_17 : decode cX1_draw 17 = .ok (.getfield 475, 3) := dk_180 1 219 (dk_at dksX1_draw_0 17 rfl rfl)
theorem dX1_draw_20 : decode cX1_draw 20 = .ok (.bipush 33, 2) := dk_16 33 (dk_at dksX1_draw_0 20 rfl rfl)
theorem dX1_draw_22 : decode cX1_draw 22 = .ok (.lushr, 1) := dk_125 (dk_at dksX1_draw_0 22 rfl rfl)
theorem dX1_draw_23 : decode cX1_draw 23 = .ok (.iload_n 1, 1) := dk_27 (dk_at dksX1_draw_0 23 rfl rfl)
theorem dX1_draw_24 : decode cX1_draw 24 = .ok (.i2l, 1) := dk_133 (dk_at dksX1_draw_1 0 rfl rfl)
theorem dX1_draw_25 : decode cX1_draw 25 = .ok (.lrem, 1) := dk_113 (dk_at dksX1_draw_1 1 rfl rfl)
theorem dX1_draw_26 : decode cX1_draw 26 = .ok (.l2i, 1) := dk_136 (dk_at dksX1_draw_1 2 rfl rfl)
theorem dX1_draw_27 : decode cX1_draw 27 = .ok (.ireturn, 1) := dk_172 (dk_at dksX1_draw_1 3 rfl rfl)
abbrev cX1_tryOne : ByteArray := prog_1_method_81_code
def yX1_tryOne : MethodName := ⟨RX1, "tryOne", "(IIIII)V"⟩
def dkwX1_tryOne_1 : List UInt8 := [182, 1, 210, 87, 177]
abbrev dktX1_tryOne_1 : List UInt8 := dkwX1_tryOne_1 ++ []
def dkwX1_tryOne_0 : List UInt8 := [42, 27, 28, 29, 21, 4, 21, 5, 182, 1, 207, 2, 160, 0, 15, 42, 27, 28, 29, 21, 4, 21, 5]
abbrev dktX1_tryOne_0 : List UInt8 := dkwX1_tryOne_0 ++ dktX1_tryOne_1
theorem dksX1_tryOne_0 : cX1_tryOne.data.toList.drop 0 = dktX1_tryOne_0 := by decide +kernel
theorem dksX1_tryOne_1 : cX1_tryOne.data.toList.drop 23 = dktX1_tryOne_1 := dk_seg dksX1_tryOne_0 23 rfl rfl
theorem dX1_tryOne_0 : decode cX1_tryOne 0 = .ok (.aload_n 0, 1) := dk_42 (dk_at dksX1_tryOne_0 0 rfl rfl)
theorem dX1_tryOne_1 : decode cX1_tryOne 1 = .ok (.iload_n 1, 1) := dk_27 (dk_at dksX1_tryOne_0 1 rfl rfl)
theorem dX1_tryOne_2 : decode cX1_tryOne 2 = .ok (.iload_n 2, 1) := dk_28 (dk_at dksX1_tryOne_0 2 rfl rfl)
theorem dX1_tryOne_3 : decode cX1_tryOne 3 = .ok (.iload_n 3, 1) := dk_29 (dk_at dksX1_tryOne_0 3 rfl rfl)
theorem dX1_tryOne_4 : decode cX1_tryOne 4 = .ok (.iload 4, 2) := dk_21 4 (dk_at dksX1_tryOne_0 4 rfl rfl)
theorem dX1_tryOne_6 : decode cX1_tryOne 6 = .ok (.iload 5, 2) := dk_21 5 (dk_at dksX1_tryOne_0 6 rfl rfl)
theorem dX1_tryOne_8 : decode cX1_tryOne 8 = .ok (.invokevirtual 463, 3) := dk_182 1 207 (dk_at dksX1_tryOne_0 8 rfl rfl)
theorem dX1_tryOne_11 : decode cX1_tryOne 11 = .ok (.iconst (-1), 1) := dk_2 (dk_at dksX1_tryOne_0 11 rfl rfl)
theorem dX1_tryOne_12 : decode cX1_tryOne 12 = .ok (.if_icmp .ne 15, 3) := dk_160 0 15 (dk_at dksX1_tryOne_0 12 rfl rfl)
theorem dX1_tryOne_15 : decode cX1_tryOne 15 = .ok (.aload_n 0, 1) := dk_42 (dk_at dksX1_tryOne_0 15 rfl rfl)
theorem dX1_tryOne_16 : decode cX1_tryOne 16 = .ok (.iload_n 1, 1) := dk_27 (dk_at dksX1_tryOne_0 16 rfl rfl)
theorem dX1_tryOne_17 : decode cX1_tryOne 17 = .ok (.iload_n 2, 1) := dk_28 (dk_at dksX1_tryOne_0 17 rfl rfl)
theorem dX1_tryOne_18 : decode cX1_tryOne 18 = .ok (.iload_n 3, 1) := dk_29 (dk_at dksX1_tryOne_0 18 rfl rfl)
theorem dX1_tryOne_19 : decode cX1_tryOne 19 = .ok (.iload 4, 2) := dk_21 4 (dk_at dksX1_tryOne_0 19 rfl rfl)
theorem dX1_tryOne_21 : decode cX1_tryOne 21 = .ok (.iload 5, 2) := dk_21 5 (dk_at dksX1_tryOne_0 21 rfl rfl)
theorem dX1_tryOne_23 : decode cX1_tryOne 23 = .ok (.invokevirtual 466, 3) := dk_182 1 210 (dk_at dksX1_tryOne_1 0 rfl rfl)
theorem dX1_tryOne_26 : decode cX1_tryOne 26 = .ok (.pop, 1) := dk_87 (dk_at dksX1_tryOne_1 3 rfl rfl)
theorem dX1_tryOne_27 : decode cX1_tryOne 27 = .ok (.return_, 1) := dk_177 (dk_at dksX1_tryOne_1 4 rfl rfl)
abbrev cX1_status : ByteArray := prog_1_method_84_code
def yX1_status : MethodName := ⟨RX1, "status", "(I)I"⟩
def dkwX1_status_0 : List UInt8 := [27, 3, 6, 184, 0, 47, 153, 0, 12, 42, 180, 1, 213, 27, 46, 167, 0, 4, 2, 172]
abbrev dktX1_status_0 : List UInt8 := dkwX1_status_0 ++ []
theorem dksX1_status_0 : cX1_status.data.toList.drop 0 = dktX1_status_0 := by decide +kernel
theorem dX1_status_0 : decode cX1_status 0 = .ok (.iload_n 1, 1) := dk_27 (dk_at dksX1_status_0 0 rfl rfl)
theorem dX1_status_1 : decode cX1_status 1 = .ok (.iconst 0, 1) := dk_3 (dk_at dksX1_status_0 1 rfl rfl)
theorem dX1_status_2 : decode cX1_status 2 = .ok (.iconst 3, 1) := dk_6 (dk_at dksX1_status_0 2 rfl rfl)
theorem dX1_status_3 : decode cX1_status 3 = .ok (.invokestatic 47, 3) := dk_184 0 47 (dk_at dksX1_status_0 3 rfl rfl)
theorem dX1_status_6 : decode cX1_status 6 = .ok (.ifCond .eq 12, 3) := dk_153 0 12 (dk_at dksX1_status_0 6 rfl rfl)
theorem dX1_status_9 : decode cX1_status 9 = .ok (.aload_n 0, 1) := dk_42 (dk_at dksX1_status_0 9 rfl rfl)
theorem dX1_status_10 : decode cX1_status 10 = .ok (.getfield 469, 3) := dk_180 1 213 (dk_at dksX1_status_0 10 rfl rfl)
theorem dX1_status_13 : decode cX1_status 13 = .ok (.iload_n 1, 1) := dk_27 (dk_at dksX1_status_0 13 rfl rfl)
theorem dX1_status_14 : decode cX1_status 14 = .ok (.iaload, 1) := dk_46 (dk_at dksX1_status_0 14 rfl rfl)
theorem dX1_status_15 : decode cX1_status 15 = .ok (.goto 4, 3) := dk_167 0 4 (dk_at dksX1_status_0 15 rfl rfl)
theorem dX1_status_18 : decode cX1_status 18 = .ok (.iconst (-1), 1) := dk_2 (dk_at dksX1_status_0 18 rfl rfl)
theorem dX1_status_19 : decode cX1_status 19 = .ok (.ireturn, 1) := dk_172 (dk_at dksX1_status_0 19 rfl rfl)
abbrev cX1_undo : ByteArray := prog_1_method_85_code
def yX1_undo : MethodName := ⟨RX1, "undo", "()I"⟩
def dkwX1_undo_1 : List UInt8 := [182, 1, 237, 192, 0, 173, 181, 0, 178, 42, 180, 0, 210, 180, 0, 214, 180, 0, 22, 172]
abbrev dktX1_undo_1 : List UInt8 := dkwX1_undo_1 ++ []
def dkwX1_undo_0 : List UInt8 := [42, 180, 0, 210, 180, 0, 214, 180, 0, 22, 154, 0, 5, 2, 172, 42, 42, 180, 0, 210, 180, 0, 214]
abbrev dktX1_undo_0 : List UInt8 := dkwX1_undo_0 ++ dktX1_undo_1
theorem dksX1_undo_0 : cX1_undo.data.toList.drop 0 = dktX1_undo_0 := by decide +kernel
theorem dksX1_undo_1 : cX1_undo.data.toList.drop 23 = dktX1_undo_1 := dk_seg dksX1_undo_0 23 rfl rfl
theorem dX1_undo_0 : decode cX1_undo 0 = .ok (.aload_n 0, 1) := dk_42 (dk_at dksX1_undo_0 0 rfl rfl)
theorem dX1_undo_1 : decode cX1_undo 1 = .ok (.getfield 210, 3) := dk_180 0 210 (dk_at dksX1_undo_0 1 rfl rfl)
theorem dX1_undo_4 : decode cX1_undo 4 = .ok (.getfield 214, 3) := dk_180 0 214 (dk_at dksX1_undo_0 4 rfl rfl)
theorem dX1_undo_7 : decode cX1_undo 7 = .ok (.getfield 22, 3) := dk_180 0 22 (dk_at dksX1_undo_0 7 rfl rfl)
theorem dX1_undo_10 : decode cX1_undo 10 = .ok (.ifCond .ne 5, 3) := dk_154 0 5 (dk_at dksX1_undo_0 10 rfl rfl)
theorem dX1_undo_13 : decode cX1_undo 13 = .ok (.iconst (-1), 1) := dk_2 (dk_at dksX1_undo_0 13 rfl rfl)
theorem dX1_undo_14 : decode cX1_undo 14 = .ok (.ireturn, 1) := dk_172 (dk_at dksX1_undo_0 14 rfl rfl)
theorem dX1_undo_15 : decode cX1_undo 15 = .ok (.aload_n 0, 1) := dk_42 (dk_at dksX1_undo_0 15 rfl rfl)
theorem dX1_undo_16 : decode cX1_undo 16 = .ok (.aload_n 0, 1) := dk_42 (dk_at dksX1_undo_0 16 rfl rfl)
theorem dX1_undo_17 : decode cX1_undo 17 = .ok (.getfield 210, 3) := dk_180 0 210 (dk_at dksX1_undo_0 17 rfl rfl)
theorem dX1_undo_20 : decode cX1_undo 20 = .ok (.getfield 214, 3) := dk_180 0 214 (dk_at dksX1_undo_0 20 rfl rfl)
theorem dX1_undo_23 : decode cX1_undo 23 = .ok (.invokevirtual 493, 3) := dk_182 1 237 (dk_at dksX1_undo_1 0 rfl rfl)
theorem dX1_undo_26 : decode cX1_undo 26 = .ok (.checkcast 173, 3) := dk_192 0 173 (dk_at dksX1_undo_1 3 rfl rfl)
theorem dX1_undo_29 : decode cX1_undo 29 = .ok (.putfield 178, 3) := dk_181 0 178 (dk_at dksX1_undo_1 6 rfl rfl)
theorem dX1_undo_32 : decode cX1_undo 32 = .ok (.aload_n 0, 1) := dk_42 (dk_at dksX1_undo_1 9 rfl rfl)
theorem dX1_undo_33 : decode cX1_undo 33 = .ok (.getfield 210, 3) := dk_180 0 210 (dk_at dksX1_undo_1 10 rfl rfl)
theorem dX1_undo_36 : decode cX1_undo 36 = .ok (.getfield 214, 3) := dk_180 0 214 (dk_at dksX1_undo_1 13 rfl rfl)
theorem dX1_undo_39 : decode cX1_undo 39 = .ok (.getfield 22, 3) := dk_180 0 22 (dk_at dksX1_undo_1 16 rfl rfl)
theorem dX1_undo_42 : decode cX1_undo 42 = .ok (.ireturn, 1) := dk_172 (dk_at dksX1_undo_1 19 rfl rfl)
abbrev cX1_log : ByteArray := prog_1_method_86_code
def yX1_log : MethodName := ⟨RX1, "log", "(II)I"⟩
def dkwX1_log_3 : List UInt8 := [180, 1, 247, 167, 0, 7, 45, 180, 1, 249, 172]
abbrev dktX1_log_3 : List UInt8 := dkwX1_log_3 ++ []
def dkwX1_log_2 : List UInt8 := [182, 1, 242, 192, 1, 204, 78, 28, 154, 0, 10, 45, 180, 1, 246, 167, 0, 19, 28, 4, 160, 0, 10, 45]
abbrev dktX1_log_2 : List UInt8 := dkwX1_log_2 ++ dktX1_log_3
def dkwX1_log_1 : List UInt8 := [153, 0, 12, 28, 3, 5, 184, 0, 47, 154, 0, 7, 19, 1, 241, 172, 42, 180, 0, 178, 180, 1, 202, 27]
abbrev dktX1_log_1 : List UInt8 := dkwX1_log_1 ++ dktX1_log_2
def dkwX1_log_0 : List UInt8 := [42, 182, 0, 243, 153, 0, 32, 27, 3, 42, 180, 0, 178, 180, 1, 202, 180, 0, 22, 4, 100, 184, 0, 47]
abbrev dktX1_log_0 : List UInt8 := dkwX1_log_0 ++ dktX1_log_1
theorem dksX1_log_0 : cX1_log.data.toList.drop 0 = dktX1_log_0 := by decide +kernel
theorem dksX1_log_1 : cX1_log.data.toList.drop 24 = dktX1_log_1 := dk_seg dksX1_log_0 24 rfl rfl
theorem dksX1_log_2 : cX1_log.data.toList.drop 48 = dktX1_log_2 := dk_seg dksX1_log_1 24 rfl rfl
theorem dksX1_log_3 : cX1_log.data.toList.drop 72 = dktX1_log_3 := dk_seg dksX1_log_2 24 rfl rfl
theorem dX1_log_0 : decode cX1_log 0 = .ok (.aload_n 0, 1) := dk_42 (dk_at dksX1_log_0 0 rfl rfl)
theorem dX1_log_1 : decode cX1_log 1 = .ok (.invokevirtual 243, 3) := dk_182 0 243 (dk_at dksX1_log_0 1 rfl rfl)
theorem dX1_log_4 : decode cX1_log 4 = .ok (.ifCond .eq 32, 3) := dk_153 0 32 (dk_at dksX1_log_0 4 rfl rfl)
theorem dX1_log_7 : decode cX1_log 7 = .ok (.iload_n 1, 1) := dk_27 (dk_at dksX1_log_0 7 rfl rfl)
theorem dX1_log_8 : decode cX1_log 8 = .ok (.iconst 0, 1) := dk_3 (dk_at dksX1_log_0 8 rfl rfl)
theorem dX1_log_9 : decode cX1_log 9 = .ok (.aload_n 0, 1) := dk_42 (dk_at dksX1_log_0 9 rfl rfl)
theorem dX1_log_10 : decode cX1_log 10 = .ok (.getfield 178, 3) := dk_180 0 178 (dk_at dksX1_log_0 10 rfl rfl)
theorem dX1_log_13 : decode cX1_log 13 = .ok (.getfield 458, 3) := dk_180 1 202 (dk_at dksX1_log_0 13 rfl rfl)
theorem dX1_log_16 : decode cX1_log 16 = .ok (.getfield 22, 3) := dk_180 0 22 (dk_at dksX1_log_0 16 rfl rfl)
theorem dX1_log_19 : decode cX1_log 19 = .ok (.iconst 1, 1) := dk_4 (dk_at dksX1_log_0 19 rfl rfl)
theorem dX1_log_20 : decode cX1_log 20 = .ok (.isub, 1) := dk_100 (dk_at dksX1_log_0 20 rfl rfl)
theorem dX1_log_21 : decode cX1_log 21 = .ok (.invokestatic 47, 3) := dk_184 0 47 (dk_at dksX1_log_0 21 rfl rfl)
theorem dX1_log_24 : decode cX1_log 24 = .ok (.ifCond .eq 12, 3) := dk_153 0 12 (dk_at dksX1_log_1 0 rfl rfl)
theorem dX1_log_27 : decode cX1_log 27 = .ok (.iload_n 2, 1) := dk_28 (dk_at dksX1_log_1 3 rfl rfl)
theorem dX1_log_28 : decode cX1_log 28 = .ok (.iconst 0, 1) := dk_3 (dk_at dksX1_log_1 4 rfl rfl)
theorem dX1_log_29 : decode cX1_log 29 = .ok (.iconst 2, 1) := dk_5 (dk_at dksX1_log_1 5 rfl rfl)
theorem dX1_log_30 : decode cX1_log 30 = .ok (.invokestatic 47, 3) := dk_184 0 47 (dk_at dksX1_log_1 6 rfl rfl)
theorem dX1_log_33 : decode cX1_log 33 = .ok (.ifCond .ne 7, 3) := dk_154 0 7 (dk_at dksX1_log_1 9 rfl rfl)
theorem dX1_log_36 : decode cX1_log 36 = .ok (.ldc_w 497, 3) := dk_19 1 241 (dk_at dksX1_log_1 12 rfl rfl)
theorem dX1_log_39 : decode cX1_log 39 = .ok (.ireturn, 1) := dk_172 (dk_at dksX1_log_1 15 rfl rfl)
theorem dX1_log_40 : decode cX1_log 40 = .ok (.aload_n 0, 1) := dk_42 (dk_at dksX1_log_1 16 rfl rfl)
theorem dX1_log_41 : decode cX1_log 41 = .ok (.getfield 178, 3) := dk_180 0 178 (dk_at dksX1_log_1 17 rfl rfl)
theorem dX1_log_44 : decode cX1_log 44 = .ok (.getfield 458, 3) := dk_180 1 202 (dk_at dksX1_log_1 20 rfl rfl)
theorem dX1_log_47 : decode cX1_log 47 = .ok (.iload_n 1, 1) := dk_27 (dk_at dksX1_log_1 23 rfl rfl)
theorem dX1_log_48 : decode cX1_log 48 = .ok (.invokevirtual 498, 3) := dk_182 1 242 (dk_at dksX1_log_2 0 rfl rfl)
theorem dX1_log_51 : decode cX1_log 51 = .ok (.checkcast 460, 3) := dk_192 1 204 (dk_at dksX1_log_2 3 rfl rfl)
theorem dX1_log_54 : decode cX1_log 54 = .ok (.astore_n 3, 1) := dk_78 (dk_at dksX1_log_2 6 rfl rfl)
theorem dX1_log_55 : decode cX1_log 55 = .ok (.iload_n 2, 1) := dk_28 (dk_at dksX1_log_2 7 rfl rfl)
theorem dX1_log_56 : decode cX1_log 56 = .ok (.ifCond .ne 10, 3) := dk_154 0 10 (dk_at dksX1_log_2 8 rfl rfl)
theorem dX1_log_59 : decode cX1_log 59 = .ok (.aload_n 3, 1) := dk_45 (dk_at dksX1_log_2 11 rfl rfl)
theorem dX1_log_60 : decode cX1_log 60 = .ok (.getfield 502, 3) := dk_180 1 246 (dk_at dksX1_log_2 12 rfl rfl)
theorem dX1_log_63 : decode cX1_log 63 = .ok (.goto 19, 3) := dk_167 0 19 (dk_at dksX1_log_2 15 rfl rfl)
theorem dX1_log_66 : decode cX1_log 66 = .ok (.iload_n 2, 1) := dk_28 (dk_at dksX1_log_2 18 rfl rfl)
theorem dX1_log_67 : decode cX1_log 67 = .ok (.iconst 1, 1) := dk_4 (dk_at dksX1_log_2 19 rfl rfl)
theorem dX1_log_68 : decode cX1_log 68 = .ok (.if_icmp .ne 10, 3) := dk_160 0 10 (dk_at dksX1_log_2 20 rfl rfl)
theorem dX1_log_71 : decode cX1_log 71 = .ok (.aload_n 3, 1) := dk_45 (dk_at dksX1_log_2 23 rfl rfl)
theorem dX1_log_72 : decode cX1_log 72 = .ok (.getfield 503, 3) := dk_180 1 247 (dk_at dksX1_log_3 0 rfl rfl)
theorem dX1_log_75 : decode cX1_log 75 = .ok (.goto 7, 3) := dk_167 0 7 (dk_at dksX1_log_3 3 rfl rfl)
theorem dX1_log_78 : decode cX1_log 78 = .ok (.aload_n 3, 1) := dk_45 (dk_at dksX1_log_3 6 rfl rfl)
theorem dX1_log_79 : decode cX1_log 79 = .ok (.getfield 505, 3) := dk_180 1 249 (dk_at dksX1_log_3 7 rfl rfl)
theorem dX1_log_82 : decode cX1_log 82 = .ok (.ireturn, 1) := dk_172 (dk_at dksX1_log_3 10 rfl rfl)
abbrev cX1_rule : ByteArray := prog_1_method_87_code
def yX1_rule : MethodName := ⟨RX1, "rule", "(I)I"⟩
def dkwX1_rule_2 : List UInt8 := [16, 6, 160, 0, 10, 42, 182, 0, 185, 167, 0, 9, 42, 180, 0, 155, 27, 46, 172]
abbrev dktX1_rule_2 : List UInt8 := dkwX1_rule_2 ++ []
def dkwX1_rule_1 : List UInt8 := [42, 180, 0, 178, 180, 0, 182, 167, 0, 34, 27, 8, 160, 0, 10, 42, 182, 0, 247, 167, 0, 22, 27]
abbrev dktX1_rule_1 : List UInt8 := dkwX1_rule_1 ++ dktX1_rule_2
def dkwX1_rule_0 : List UInt8 := [42, 182, 0, 243, 153, 0, 13, 27, 3, 16, 6, 184, 0, 47, 154, 0, 5, 2, 172, 27, 7, 160, 0, 13]
abbrev dktX1_rule_0 : List UInt8 := dkwX1_rule_0 ++ dktX1_rule_1
theorem dksX1_rule_0 : cX1_rule.data.toList.drop 0 = dktX1_rule_0 := by decide +kernel
theorem dksX1_rule_1 : cX1_rule.data.toList.drop 24 = dktX1_rule_1 := dk_seg dksX1_rule_0 24 rfl rfl
theorem dksX1_rule_2 : cX1_rule.data.toList.drop 47 = dktX1_rule_2 := dk_seg dksX1_rule_1 23 rfl rfl
theorem dX1_rule_0 : decode cX1_rule 0 = .ok (.aload_n 0, 1) := dk_42 (dk_at dksX1_rule_0 0 rfl rfl)
theorem dX1_rule_1 : decode cX1_rule 1 = .ok (.invokevirtual 243, 3) := dk_182 0 243 (dk_at dksX1_rule_0 1 rfl rfl)
theorem dX1_rule_4 : decode cX1_rule 4 = .ok (.ifCond .eq 13, 3) := dk_153 0 13 (dk_at dksX1_rule_0 4 rfl rfl)
theorem dX1_rule_7 : decode cX1_rule 7 = .ok (.iload_n 1, 1) := dk_27 (dk_at dksX1_rule_0 7 rfl rfl)
theorem dX1_rule_8 : decode cX1_rule 8 = .ok (.iconst 0, 1) := dk_3 (dk_at dksX1_rule_0 8 rfl rfl)
theorem dX1_rule_9 : decode cX1_rule 9 = .ok (.bipush 6, 2) := dk_16 6 (dk_at dksX1_rule_0 9 rfl rfl)
theorem dX1_rule_11 : decode cX1_rule 11 = .ok (.invokestatic 47, 3) := dk_184 0 47 (dk_at dksX1_rule_0 11 rfl rfl)
theorem dX1_rule_14 : decode cX1_rule 14 = .ok (.ifCond .ne 5, 3) := dk_154 0 5 (dk_at dksX1_rule_0 14 rfl rfl)
theorem dX1_rule_17 : decode cX1_rule 17 = .ok (.iconst (-1), 1) := dk_2 (dk_at dksX1_rule_0 17 rfl rfl)
theorem dX1_rule_18 : decode cX1_rule 18 = .ok (.ireturn, 1) := dk_172 (dk_at dksX1_rule_0 18 rfl rfl)
theorem dX1_rule_19 : decode cX1_rule 19 = .ok (.iload_n 1, 1) := dk_27 (dk_at dksX1_rule_0 19 rfl rfl)
theorem dX1_rule_20 : decode cX1_rule 20 = .ok (.iconst 4, 1) := dk_7 (dk_at dksX1_rule_0 20 rfl rfl)
theorem dX1_rule_21 : decode cX1_rule 21 = .ok (.if_icmp .ne 13, 3) := dk_160 0 13 (dk_at dksX1_rule_0 21 rfl rfl)
theorem dX1_rule_24 : decode cX1_rule 24 = .ok (.aload_n 0, 1) := dk_42 (dk_at dksX1_rule_1 0 rfl rfl)
theorem dX1_rule_25 : decode cX1_rule 25 = .ok (.getfield 178, 3) := dk_180 0 178 (dk_at dksX1_rule_1 1 rfl rfl)
theorem dX1_rule_28 : decode cX1_rule 28 = .ok (.getfield 182, 3) := dk_180 0 182 (dk_at dksX1_rule_1 4 rfl rfl)
theorem dX1_rule_31 : decode cX1_rule 31 = .ok (.goto 34, 3) := dk_167 0 34 (dk_at dksX1_rule_1 7 rfl rfl)
theorem dX1_rule_34 : decode cX1_rule 34 = .ok (.iload_n 1, 1) := dk_27 (dk_at dksX1_rule_1 10 rfl rfl)
theorem dX1_rule_35 : decode cX1_rule 35 = .ok (.iconst 5, 1) := dk_8 (dk_at dksX1_rule_1 11 rfl rfl)
theorem dX1_rule_36 : decode cX1_rule 36 = .ok (.if_icmp .ne 10, 3) := dk_160 0 10 (dk_at dksX1_rule_1 12 rfl rfl)
theorem dX1_rule_39 : decode cX1_rule 39 = .ok (.aload_n 0, 1) := dk_42 (dk_at dksX1_rule_1 15 rfl rfl)
theorem dX1_rule_40 : decode cX1_rule 40 = .ok (.invokevirtual 247, 3) := dk_182 0 247 (dk_at dksX1_rule_1 16 rfl rfl)
theorem dX1_rule_43 : decode cX1_rule 43 = .ok (.goto 22, 3) := dk_167 0 22 (dk_at dksX1_rule_1 19 rfl rfl)
theorem dX1_rule_46 : decode cX1_rule 46 = .ok (.iload_n 1, 1) := dk_27 (dk_at dksX1_rule_1 22 rfl rfl)
theorem dX1_rule_47 : decode cX1_rule 47 = .ok (.bipush 6, 2) := dk_16 6 (dk_at dksX1_rule_2 0 rfl rfl)
theorem dX1_rule_49 : decode cX1_rule 49 = .ok (.if_icmp .ne 10, 3) := dk_160 0 10 (dk_at dksX1_rule_2 2 rfl rfl)
theorem dX1_rule_52 : decode cX1_rule 52 = .ok (.aload_n 0, 1) := dk_42 (dk_at dksX1_rule_2 5 rfl rfl)
theorem dX1_rule_53 : decode cX1_rule 53 = .ok (.invokevirtual 185, 3) := dk_182 0 185 (dk_at dksX1_rule_2 6 rfl rfl)
theorem dX1_rule_56 : decode cX1_rule 56 = .ok (.goto 9, 3) := dk_167 0 9 (dk_at dksX1_rule_2 9 rfl rfl)
theorem dX1_rule_59 : decode cX1_rule 59 = .ok (.aload_n 0, 1) := dk_42 (dk_at dksX1_rule_2 12 rfl rfl)
theorem dX1_rule_60 : decode cX1_rule 60 = .ok (.getfield 155, 3) := dk_180 0 155 (dk_at dksX1_rule_2 13 rfl rfl)
theorem dX1_rule_63 : decode cX1_rule 63 = .ok (.iload_n 1, 1) := dk_27 (dk_at dksX1_rule_2 16 rfl rfl)
theorem dX1_rule_64 : decode cX1_rule 64 = .ok (.iaload, 1) := dk_46 (dk_at dksX1_rule_2 17 rfl rfl)
theorem dX1_rule_65 : decode cX1_rule 65 = .ok (.ireturn, 1) := dk_172 (dk_at dksX1_rule_2 18 rfl rfl)
abbrev cX1_times : ByteArray := prog_1_method_89_code
def yX1_times : MethodName := ⟨RX1, "times", "(II)I"⟩
def dkwX1_times_0 : List UInt8 := [42, 27, 28, 182, 1, 251, 153, 0, 15, 42, 180, 0, 164, 27, 28, 182, 1, 9, 167, 0, 4, 2, 172]
abbrev dktX1_times_0 : List UInt8 := dkwX1_times_0 ++ []
theorem dksX1_times_0 : cX1_times.data.toList.drop 0 = dktX1_times_0 := by decide +kernel
theorem dX1_times_0 : decode cX1_times 0 = .ok (.aload_n 0, 1) := dk_42 (dk_at dksX1_times_0 0 rfl rfl)
theorem dX1_times_1 : decode cX1_times 1 = .ok (.iload_n 1, 1) := dk_27 (dk_at dksX1_times_0 1 rfl rfl)
theorem dX1_times_2 : decode cX1_times 2 = .ok (.iload_n 2, 1) := dk_28 (dk_at dksX1_times_0 2 rfl rfl)
theorem dX1_times_3 : decode cX1_times 3 = .ok (.invokevirtual 507, 3) := dk_182 1 251 (dk_at dksX1_times_0 3 rfl rfl)
theorem dX1_times_6 : decode cX1_times 6 = .ok (.ifCond .eq 15, 3) := dk_153 0 15 (dk_at dksX1_times_0 6 rfl rfl)
theorem dX1_times_9 : decode cX1_times 9 = .ok (.aload_n 0, 1) := dk_42 (dk_at dksX1_times_0 9 rfl rfl)
theorem dX1_times_10 : decode cX1_times 10 = .ok (.getfield 164, 3) := dk_180 0 164 (dk_at dksX1_times_0 10 rfl rfl)
theorem dX1_times_13 : decode cX1_times 13 = .ok (.iload_n 1, 1) := dk_27 (dk_at dksX1_times_0 13 rfl rfl)
theorem dX1_times_14 : decode cX1_times 14 = .ok (.iload_n 2, 1) := dk_28 (dk_at dksX1_times_0 14 rfl rfl)
theorem dX1_times_15 : decode cX1_times 15 = .ok (.invokevirtual 265, 3) := dk_182 1 9 (dk_at dksX1_times_0 15 rfl rfl)
theorem dX1_times_18 : decode cX1_times 18 = .ok (.goto 4, 3) := dk_167 0 4 (dk_at dksX1_times_0 18 rfl rfl)
theorem dX1_times_21 : decode cX1_times 21 = .ok (.iconst (-1), 1) := dk_2 (dk_at dksX1_times_0 21 rfl rfl)
theorem dX1_times_22 : decode cX1_times 22 = .ok (.ireturn, 1) := dk_172 (dk_at dksX1_times_0 22 rfl rfl)
abbrev cX1_areBytes : ByteArray := prog_1_method_88_code
def yX1_areBytes : MethodName := ⟨RX1, "areBytes", "(II)Z"⟩
def dkwX1_areBytes_1 : List UInt8 := [184, 0, 47, 153, 0, 7, 4, 167, 0, 4, 3, 172]
abbrev dktX1_areBytes_1 : List UInt8 := dkwX1_areBytes_1 ++ []
def dkwX1_areBytes_0 : List UInt8 := [42, 182, 0, 243, 153, 0, 29, 27, 3, 17, 0, 255, 184, 0, 47, 153, 0, 18, 28, 3, 17, 0, 255]
abbrev dktX1_areBytes_0 : List UInt8 := dkwX1_areBytes_0 ++ dktX1_areBytes_1
theorem dksX1_areBytes_0 : cX1_areBytes.data.toList.drop 0 = dktX1_areBytes_0 := by decide +kernel
theorem dksX1_areBytes_1 : cX1_areBytes.data.toList.drop 23 = dktX1_areBytes_1 := dk_seg dksX1_areBytes_0 23 rfl rfl
theorem dX1_areBytes_0 : decode cX1_areBytes 0 = .ok (.aload_n 0, 1) := dk_42 (dk_at dksX1_areBytes_0 0 rfl rfl)
theorem dX1_areBytes_1 : decode cX1_areBytes 1 = .ok (.invokevirtual 243, 3) := dk_182 0 243 (dk_at dksX1_areBytes_0 1 rfl rfl)
theorem dX1_areBytes_4 : decode cX1_areBytes 4 = .ok (.ifCond .eq 29, 3) := dk_153 0 29 (dk_at dksX1_areBytes_0 4 rfl rfl)
theorem dX1_areBytes_7 : decode cX1_areBytes 7 = .ok (.iload_n 1, 1) := dk_27 (dk_at dksX1_areBytes_0 7 rfl rfl)
theorem dX1_areBytes_8 : decode cX1_areBytes 8 = .ok (.iconst 0, 1) := dk_3 (dk_at dksX1_areBytes_0 8 rfl rfl)
theorem dX1_areBytes_9 : decode cX1_areBytes 9 = .ok (.sipush 255, 3) := dk_17 0 255 (dk_at dksX1_areBytes_0 9 rfl rfl)
theorem dX1_areBytes_12 : decode cX1_areBytes 12 = .ok (.invokestatic 47, 3) := dk_184 0 47 (dk_at dksX1_areBytes_0 12 rfl rfl)
theorem dX1_areBytes_15 : decode cX1_areBytes 15 = .ok (.ifCond .eq 18, 3) := dk_153 0 18 (dk_at dksX1_areBytes_0 15 rfl rfl)
theorem dX1_areBytes_18 : decode cX1_areBytes 18 = .ok (.iload_n 2, 1) := dk_28 (dk_at dksX1_areBytes_0 18 rfl rfl)
theorem dX1_areBytes_19 : decode cX1_areBytes 19 = .ok (.iconst 0, 1) := dk_3 (dk_at dksX1_areBytes_0 19 rfl rfl)
theorem dX1_areBytes_20 : decode cX1_areBytes 20 = .ok (.sipush 255, 3) := dk_17 0 255 (dk_at dksX1_areBytes_0 20 rfl rfl)
theorem dX1_areBytes_23 : decode cX1_areBytes 23 = .ok (.invokestatic 47, 3) := dk_184 0 47 (dk_at dksX1_areBytes_1 0 rfl rfl)
theorem dX1_areBytes_26 : decode cX1_areBytes 26 = .ok (.ifCond .eq 7, 3) := dk_153 0 7 (dk_at dksX1_areBytes_1 3 rfl rfl)
theorem dX1_areBytes_29 : decode cX1_areBytes 29 = .ok (.iconst 1, 1) := dk_4 (dk_at dksX1_areBytes_1 6 rfl rfl)
theorem dX1_areBytes_30 : decode cX1_areBytes 30 = .ok (.goto 4, 3) := dk_167 0 4 (dk_at dksX1_areBytes_1 7 rfl rfl)
theorem dX1_areBytes_33 : decode cX1_areBytes 33 = .ok (.iconst 0, 1) := dk_3 (dk_at dksX1_areBytes_1 10 rfl rfl)
theorem dX1_areBytes_34 : decode cX1_areBytes 34 = .ok (.ireturn, 1) := dk_172 (dk_at dksX1_areBytes_1 11 rfl rfl)
abbrev cX1_over : ByteArray := prog_1_method_90_code
def yX1_over : MethodName := ⟨RX1, "over", "(II)I"⟩
def dkwX1_over_1 : List UInt8 := [167, 0, 4, 2, 172]
abbrev dktX1_over_1 : List UInt8 := dkwX1_over_1 ++ []
def dkwX1_over_0 : List UInt8 := [42, 27, 28, 182, 1, 251, 153, 0, 19, 28, 153, 0, 15, 42, 180, 0, 164, 27, 28, 182, 1, 26]
abbrev dktX1_over_0 : List UInt8 := dkwX1_over_0 ++ dktX1_over_1
theorem dksX1_over_0 : cX1_over.data.toList.drop 0 = dktX1_over_0 := by decide +kernel
theorem dksX1_over_1 : cX1_over.data.toList.drop 22 = dktX1_over_1 := dk_seg dksX1_over_0 22 rfl rfl
theorem dX1_over_0 : decode cX1_over 0 = .ok (.aload_n 0, 1) := dk_42 (dk_at dksX1_over_0 0 rfl rfl)
theorem dX1_over_1 : decode cX1_over 1 = .ok (.iload_n 1, 1) := dk_27 (dk_at dksX1_over_0 1 rfl rfl)
theorem dX1_over_2 : decode cX1_over 2 = .ok (.iload_n 2, 1) := dk_28 (dk_at dksX1_over_0 2 rfl rfl)
theorem dX1_over_3 : decode cX1_over 3 = .ok (.invokevirtual 507, 3) := dk_182 1 251 (dk_at dksX1_over_0 3 rfl rfl)
theorem dX1_over_6 : decode cX1_over 6 = .ok (.ifCond .eq 19, 3) := dk_153 0 19 (dk_at dksX1_over_0 6 rfl rfl)
theorem dX1_over_9 : decode cX1_over 9 = .ok (.iload_n 2, 1) := dk_28 (dk_at dksX1_over_0 9 rfl rfl)
theorem dX1_over_10 : decode cX1_over 10 = .ok (.ifCond .eq 15, 3) := dk_153 0 15 (dk_at dksX1_over_0 10 rfl rfl)
theorem dX1_over_13 : decode cX1_over 13 = .ok (.aload_n 0, 1) := dk_42 (dk_at dksX1_over_0 13 rfl rfl)
theorem dX1_over_14 : decode cX1_over 14 = .ok (.getfield 164, 3) := dk_180 0 164 (dk_at dksX1_over_0 14 rfl rfl)
theorem dX1_over_17 : decode cX1_over 17 = .ok (.iload_n 1, 1) := dk_27 (dk_at dksX1_over_0 17 rfl rfl)
theorem dX1_over_18 : decode cX1_over 18 = .ok (.iload_n 2, 1) := dk_28 (dk_at dksX1_over_0 18 rfl rfl)
theorem dX1_over_19 : decode cX1_over 19 = .ok (.invokevirtual 282, 3) := dk_182 1 26 (dk_at dksX1_over_0 19 rfl rfl)
theorem dX1_over_22 : decode cX1_over 22 = .ok (.goto 4, 3) := dk_167 0 4 (dk_at dksX1_over_1 0 rfl rfl)
theorem dX1_over_25 : decode cX1_over 25 = .ok (.iconst (-1), 1) := dk_2 (dk_at dksX1_over_1 3 rfl rfl)
theorem dX1_over_26 : decode cX1_over 26 = .ok (.ireturn, 1) := dk_172 (dk_at dksX1_over_1 4 rfl rfl)
abbrev cX1_power : ByteArray := prog_1_method_91_code
def yX1_power : MethodName := ⟨RX1, "power", "(I)I"⟩
def dkwX1_power_1 : List UInt8 := [182, 1, 6, 167, 0, 4, 2, 172]
abbrev dktX1_power_1 : List UInt8 := dkwX1_power_1 ++ []
def dkwX1_power_0 : List UInt8 := [42, 182, 0, 243, 153, 0, 25, 27, 3, 17, 3, 231, 184, 0, 47, 153, 0, 14, 42, 180, 0, 164, 27]
abbrev dktX1_power_0 : List UInt8 := dkwX1_power_0 ++ dktX1_power_1
theorem dksX1_power_0 : cX1_power.data.toList.drop 0 = dktX1_power_0 := by decide +kernel
theorem dksX1_power_1 : cX1_power.data.toList.drop 23 = dktX1_power_1 := dk_seg dksX1_power_0 23 rfl rfl
theorem dX1_power_0 : decode cX1_power 0 = .ok (.aload_n 0, 1) := dk_42 (dk_at dksX1_power_0 0 rfl rfl)
theorem dX1_power_1 : decode cX1_power 1 = .ok (.invokevirtual 243, 3) := dk_182 0 243 (dk_at dksX1_power_0 1 rfl rfl)
theorem dX1_power_4 : decode cX1_power 4 = .ok (.ifCond .eq 25, 3) := dk_153 0 25 (dk_at dksX1_power_0 4 rfl rfl)
theorem dX1_power_7 : decode cX1_power 7 = .ok (.iload_n 1, 1) := dk_27 (dk_at dksX1_power_0 7 rfl rfl)
theorem dX1_power_8 : decode cX1_power 8 = .ok (.iconst 0, 1) := dk_3 (dk_at dksX1_power_0 8 rfl rfl)
theorem dX1_power_9 : decode cX1_power 9 = .ok (.sipush 999, 3) := dk_17 3 231 (dk_at dksX1_power_0 9 rfl rfl)
theorem dX1_power_12 : decode cX1_power 12 = .ok (.invokestatic 47, 3) := dk_184 0 47 (dk_at dksX1_power_0 12 rfl rfl)
theorem dX1_power_15 : decode cX1_power 15 = .ok (.ifCond .eq 14, 3) := dk_153 0 14 (dk_at dksX1_power_0 15 rfl rfl)
theorem dX1_power_18 : decode cX1_power 18 = .ok (.aload_n 0, 1) := dk_42 (dk_at dksX1_power_0 18 rfl rfl)
theorem dX1_power_19 : decode cX1_power 19 = .ok (.getfield 164, 3) := dk_180 0 164 (dk_at dksX1_power_0 19 rfl rfl)
theorem dX1_power_22 : decode cX1_power 22 = .ok (.iload_n 1, 1) := dk_27 (dk_at dksX1_power_0 22 rfl rfl)
theorem dX1_power_23 : decode cX1_power 23 = .ok (.invokevirtual 262, 3) := dk_182 1 6 (dk_at dksX1_power_1 0 rfl rfl)
theorem dX1_power_26 : decode cX1_power 26 = .ok (.goto 4, 3) := dk_167 0 4 (dk_at dksX1_power_1 3 rfl rfl)
theorem dX1_power_29 : decode cX1_power 29 = .ok (.iconst (-1), 1) := dk_2 (dk_at dksX1_power_1 6 rfl rfl)
theorem dX1_power_30 : decode cX1_power 30 = .ok (.ireturn, 1) := dk_172 (dk_at dksX1_power_1 7 rfl rfl)
abbrev cX1_logOf : ByteArray := prog_1_method_92_code
def yX1_logOf : MethodName := ⟨RX1, "logOf", "(I)I"⟩
def dkwX1_logOf_1 : List UInt8 := [167, 0, 4, 2, 172]
abbrev dktX1_logOf_1 : List UInt8 := dkwX1_logOf_1 ++ []
def dkwX1_logOf_0 : List UInt8 := [42, 27, 3, 182, 1, 251, 153, 0, 19, 27, 153, 0, 15, 42, 180, 0, 164, 180, 1, 115, 27, 46]
abbrev dktX1_logOf_0 : List UInt8 := dkwX1_logOf_0 ++ dktX1_logOf_1
theorem dksX1_logOf_0 : cX1_logOf.data.toList.drop 0 = dktX1_logOf_0 := by decide +kernel
theorem dksX1_logOf_1 : cX1_logOf.data.toList.drop 22 = dktX1_logOf_1 := dk_seg dksX1_logOf_0 22 rfl rfl
theorem dX1_logOf_0 : decode cX1_logOf 0 = .ok (.aload_n 0, 1) := dk_42 (dk_at dksX1_logOf_0 0 rfl rfl)
theorem dX1_logOf_1 : decode cX1_logOf 1 = .ok (.iload_n 1, 1) := dk_27 (dk_at dksX1_logOf_0 1 rfl rfl)
theorem dX1_logOf_2 : decode cX1_logOf 2 = .ok (.iconst 0, 1) := dk_3 (dk_at dksX1_logOf_0 2 rfl rfl)
theorem dX1_logOf_3 : decode cX1_logOf 3 = .ok (.invokevirtual 507, 3) := dk_182 1 251 (dk_at dksX1_logOf_0 3 rfl rfl)
theorem dX1_logOf_6 : decode cX1_logOf 6 = .ok (.ifCond .eq 19, 3) := dk_153 0 19 (dk_at dksX1_logOf_0 6 rfl rfl)
theorem dX1_logOf_9 : decode cX1_logOf 9 = .ok (.iload_n 1, 1) := dk_27 (dk_at dksX1_logOf_0 9 rfl rfl)
theorem dX1_logOf_10 : decode cX1_logOf 10 = .ok (.ifCond .eq 15, 3) := dk_153 0 15 (dk_at dksX1_logOf_0 10 rfl rfl)
theorem dX1_logOf_13 : decode cX1_logOf 13 = .ok (.aload_n 0, 1) := dk_42 (dk_at dksX1_logOf_0 13 rfl rfl)
theorem dX1_logOf_14 : decode cX1_logOf 14 = .ok (.getfield 164, 3) := dk_180 0 164 (dk_at dksX1_logOf_0 14 rfl rfl)
theorem dX1_logOf_17 : decode cX1_logOf 17 = .ok (.getfield 371, 3) := dk_180 1 115 (dk_at dksX1_logOf_0 17 rfl rfl)
theorem dX1_logOf_20 : decode cX1_logOf 20 = .ok (.iload_n 1, 1) := dk_27 (dk_at dksX1_logOf_0 20 rfl rfl)
theorem dX1_logOf_21 : decode cX1_logOf 21 = .ok (.iaload, 1) := dk_46 (dk_at dksX1_logOf_0 21 rfl rfl)
theorem dX1_logOf_22 : decode cX1_logOf 22 = .ok (.goto 4, 3) := dk_167 0 4 (dk_at dksX1_logOf_1 0 rfl rfl)
theorem dX1_logOf_25 : decode cX1_logOf 25 = .ok (.iconst (-1), 1) := dk_2 (dk_at dksX1_logOf_1 3 rfl rfl)
theorem dX1_logOf_26 : decode cX1_logOf 26 = .ok (.ireturn, 1) := dk_172 (dk_at dksX1_logOf_1 4 rfl rfl)
abbrev cX1_place : ByteArray := prog_1_method_93_code
def yX1_place : MethodName := ⟨RX1, "place", "(II)I"⟩
def dkwX1_place_2 : List UInt8 := [5, 160, 0, 10, 42, 180, 0, 200, 167, 0, 7, 42, 180, 0, 253, 172]
abbrev dktX1_place_2 : List UInt8 := dkwX1_place_2 ++ []
def dkwX1_place_1 : List UInt8 := [28, 154, 0, 10, 42, 180, 0, 194, 167, 0, 31, 28, 4, 160, 0, 10, 42, 180, 0, 197, 167, 0, 19, 28]
abbrev dktX1_place_1 : List UInt8 := dkwX1_place_1 ++ dktX1_place_2
def dkwX1_place_0 : List UInt8 := [42, 27, 182, 1, 157, 153, 0, 12, 28, 3, 6, 184, 0, 47, 154, 0, 5, 2, 172, 42, 27, 182, 0, 188]
abbrev dktX1_place_0 : List UInt8 := dkwX1_place_0 ++ dktX1_place_1
theorem dksX1_place_0 : cX1_place.data.toList.drop 0 = dktX1_place_0 := by decide +kernel
theorem dksX1_place_1 : cX1_place.data.toList.drop 24 = dktX1_place_1 := dk_seg dksX1_place_0 24 rfl rfl
theorem dksX1_place_2 : cX1_place.data.toList.drop 48 = dktX1_place_2 := dk_seg dksX1_place_1 24 rfl rfl
theorem dX1_place_0 : decode cX1_place 0 = .ok (.aload_n 0, 1) := dk_42 (dk_at dksX1_place_0 0 rfl rfl)
theorem dX1_place_1 : decode cX1_place 1 = .ok (.iload_n 1, 1) := dk_27 (dk_at dksX1_place_0 1 rfl rfl)
theorem dX1_place_2 : decode cX1_place 2 = .ok (.invokevirtual 413, 3) := dk_182 1 157 (dk_at dksX1_place_0 2 rfl rfl)
theorem dX1_place_5 : decode cX1_place 5 = .ok (.ifCond .eq 12, 3) := dk_153 0 12 (dk_at dksX1_place_0 5 rfl rfl)
theorem dX1_place_8 : decode cX1_place 8 = .ok (.iload_n 2, 1) := dk_28 (dk_at dksX1_place_0 8 rfl rfl)
theorem dX1_place_9 : decode cX1_place 9 = .ok (.iconst 0, 1) := dk_3 (dk_at dksX1_place_0 9 rfl rfl)
theorem dX1_place_10 : decode cX1_place 10 = .ok (.iconst 3, 1) := dk_6 (dk_at dksX1_place_0 10 rfl rfl)
theorem dX1_place_11 : decode cX1_place 11 = .ok (.invokestatic 47, 3) := dk_184 0 47 (dk_at dksX1_place_0 11 rfl rfl)
theorem dX1_place_14 : decode cX1_place 14 = .ok (.ifCond .ne 5, 3) := dk_154 0 5 (dk_at dksX1_place_0 14 rfl rfl)
theorem dX1_place_17 : decode cX1_place 17 = .ok (.iconst (-1), 1) := dk_2 (dk_at dksX1_place_0 17 rfl rfl)
theorem dX1_place_18 : decode cX1_place 18 = .ok (.ireturn, 1) := dk_172 (dk_at dksX1_place_0 18 rfl rfl)
theorem dX1_place_19 : decode cX1_place 19 = .ok (.aload_n 0, 1) := dk_42 (dk_at dksX1_place_0 19 rfl rfl)
theorem dX1_place_20 : decode cX1_place 20 = .ok (.iload_n 1, 1) := dk_27 (dk_at dksX1_place_0 20 rfl rfl)
theorem dX1_place_21 : decode cX1_place 21 = .ok (.invokevirtual 188, 3) := dk_182 0 188 (dk_at dksX1_place_0 21 rfl rfl)
theorem dX1_place_24 : decode cX1_place 24 = .ok (.iload_n 2, 1) := dk_28 (dk_at dksX1_place_1 0 rfl rfl)
theorem dX1_place_25 : decode cX1_place 25 = .ok (.ifCond .ne 10, 3) := dk_154 0 10 (dk_at dksX1_place_1 1 rfl rfl)
theorem dX1_place_28 : decode cX1_place 28 = .ok (.aload_n 0, 1) := dk_42 (dk_at dksX1_place_1 4 rfl rfl)
theorem dX1_place_29 : decode cX1_place 29 = .ok (.getfield 194, 3) := dk_180 0 194 (dk_at dksX1_place_1 5 rfl rfl)
theorem dX1_place_32 : decode cX1_place 32 = .ok (.goto 31, 3) := dk_167 0 31 (dk_at dksX1_place_1 8 rfl rfl)
theorem dX1_place_35 : decode cX1_place 35 = .ok (.iload_n 2, 1) := dk_28 (dk_at dksX1_place_1 11 rfl rfl)
theorem dX1_place_36 : decode cX1_place 36 = .ok (.iconst 1, 1) := dk_4 (dk_at dksX1_place_1 12 rfl rfl)
theorem dX1_place_37 : decode cX1_place 37 = .ok (.if_icmp .ne 10, 3) := dk_160 0 10 (dk_at dksX1_place_1 13 rfl rfl)
theorem dX1_place_40 : decode cX1_place 40 = .ok (.aload_n 0, 1) := dk_42 (dk_at dksX1_place_1 16 rfl rfl)
theorem dX1_place_41 : decode cX1_place 41 = .ok (.getfield 197, 3) := dk_180 0 197 (dk_at dksX1_place_1 17 rfl rfl)
theorem dX1_place_44 : decode cX1_place 44 = .ok (.goto 19, 3) := dk_167 0 19 (dk_at dksX1_place_1 20 rfl rfl)
theorem dX1_place_47 : decode cX1_place 47 = .ok (.iload_n 2, 1) := dk_28 (dk_at dksX1_place_1 23 rfl rfl)
theorem dX1_place_48 : decode cX1_place 48 = .ok (.iconst 2, 1) := dk_5 (dk_at dksX1_place_2 0 rfl rfl)
theorem dX1_place_49 : decode cX1_place 49 = .ok (.if_icmp .ne 10, 3) := dk_160 0 10 (dk_at dksX1_place_2 1 rfl rfl)
theorem dX1_place_52 : decode cX1_place 52 = .ok (.aload_n 0, 1) := dk_42 (dk_at dksX1_place_2 4 rfl rfl)
theorem dX1_place_53 : decode cX1_place 53 = .ok (.getfield 200, 3) := dk_180 0 200 (dk_at dksX1_place_2 5 rfl rfl)
theorem dX1_place_56 : decode cX1_place 56 = .ok (.goto 7, 3) := dk_167 0 7 (dk_at dksX1_place_2 8 rfl rfl)
theorem dX1_place_59 : decode cX1_place 59 = .ok (.aload_n 0, 1) := dk_42 (dk_at dksX1_place_2 11 rfl rfl)
theorem dX1_place_60 : decode cX1_place 60 = .ok (.getfield 253, 3) := dk_180 0 253 (dk_at dksX1_place_2 12 rfl rfl)
theorem dX1_place_63 : decode cX1_place 63 = .ok (.ireturn, 1) := dk_172 (dk_at dksX1_place_2 15 rfl rfl)
abbrev cX1_part : ByteArray := prog_1_method_94_code
def yX1_part : MethodName := ⟨RX1, "part", "(II)I"⟩
def dkwX1_part_1 : List UInt8 := [167, 0, 4, 2, 172]
abbrev dktX1_part_1 : List UInt8 := dkwX1_part_1 ++ []
def dkwX1_part_0 : List UInt8 := [42, 27, 182, 1, 151, 153, 0, 20, 42, 28, 182, 1, 154, 153, 0, 12, 42, 27, 28, 182, 1, 97]
abbrev dktX1_part_0 : List UInt8 := dkwX1_part_0 ++ dktX1_part_1
theorem dksX1_part_0 : cX1_part.data.toList.drop 0 = dktX1_part_0 := by decide +kernel
theorem dksX1_part_1 : cX1_part.data.toList.drop 22 = dktX1_part_1 := dk_seg dksX1_part_0 22 rfl rfl
theorem dX1_part_0 : decode cX1_part 0 = .ok (.aload_n 0, 1) := dk_42 (dk_at dksX1_part_0 0 rfl rfl)
theorem dX1_part_1 : decode cX1_part 1 = .ok (.iload_n 1, 1) := dk_27 (dk_at dksX1_part_0 1 rfl rfl)
theorem dX1_part_2 : decode cX1_part 2 = .ok (.invokevirtual 407, 3) := dk_182 1 151 (dk_at dksX1_part_0 2 rfl rfl)
theorem dX1_part_5 : decode cX1_part 5 = .ok (.ifCond .eq 20, 3) := dk_153 0 20 (dk_at dksX1_part_0 5 rfl rfl)
theorem dX1_part_8 : decode cX1_part 8 = .ok (.aload_n 0, 1) := dk_42 (dk_at dksX1_part_0 8 rfl rfl)
theorem dX1_part_9 : decode cX1_part 9 = .ok (.iload_n 2, 1) := dk_28 (dk_at dksX1_part_0 9 rfl rfl)
theorem dX1_part_10 : decode cX1_part 10 = .ok (.invokevirtual 410, 3) := dk_182 1 154 (dk_at dksX1_part_0 10 rfl rfl)
theorem dX1_part_13 : decode cX1_part 13 = .ok (.ifCond .eq 12, 3) := dk_153 0 12 (dk_at dksX1_part_0 13 rfl rfl)
theorem dX1_part_16 : decode cX1_part 16 = .ok (.aload_n 0, 1) := dk_42 (dk_at dksX1_part_0 16 rfl rfl)
theorem dX1_part_17 : decode cX1_part 17 = .ok (.iload_n 1, 1) := dk_27 (dk_at dksX1_part_0 17 rfl rfl)
theorem dX1_part_18 : decode cX1_part 18 = .ok (.iload_n 2, 1) := dk_28 (dk_at dksX1_part_0 18 rfl rfl)
theorem dX1_part_19 : decode cX1_part 19 = .ok (.invokevirtual 353, 3) := dk_182 1 97 (dk_at dksX1_part_0 19 rfl rfl)
theorem dX1_part_22 : decode cX1_part 22 = .ok (.goto 4, 3) := dk_167 0 4 (dk_at dksX1_part_1 0 rfl rfl)
theorem dX1_part_25 : decode cX1_part 25 = .ok (.iconst (-1), 1) := dk_2 (dk_at dksX1_part_1 3 rfl rfl)
theorem dX1_part_26 : decode cX1_part 26 = .ok (.ireturn, 1) := dk_172 (dk_at dksX1_part_1 4 rfl rfl)
abbrev cX1_cell : ByteArray := prog_1_method_97_code
def yX1_cell : MethodName := ⟨RX1, "cell", "(III)I"⟩
def dkwX1_cell_1 : List UInt8 := [153, 0, 20, 42, 180, 0, 178, 180, 0, 191, 27, 28, 29, 184, 0, 203, 46, 167, 0, 6, 19, 1, 241, 172]
abbrev dktX1_cell_1 : List UInt8 := dkwX1_cell_1 ++ []
def dkwX1_cell_0 : List UInt8 := [42, 27, 28, 29, 182, 2, 1, 154, 0, 7, 2, 167, 0, 35, 42, 180, 0, 178, 27, 28, 182, 1, 0]
abbrev dktX1_cell_0 : List UInt8 := dkwX1_cell_0 ++ dktX1_cell_1
theorem dksX1_cell_0 : cX1_cell.data.toList.drop 0 = dktX1_cell_0 := by decide +kernel
theorem dksX1_cell_1 : cX1_cell.data.toList.drop 23 = dktX1_cell_1 := dk_seg dksX1_cell_0 23 rfl rfl
theorem dX1_cell_0 : decode cX1_cell 0 = .ok (.aload_n 0, 1) := dk_42 (dk_at dksX1_cell_0 0 rfl rfl)
theorem dX1_cell_1 : decode cX1_cell 1 = .ok (.iload_n 1, 1) := dk_27 (dk_at dksX1_cell_0 1 rfl rfl)
theorem dX1_cell_2 : decode cX1_cell 2 = .ok (.iload_n 2, 1) := dk_28 (dk_at dksX1_cell_0 2 rfl rfl)
theorem dX1_cell_3 : decode cX1_cell 3 = .ok (.iload_n 3, 1) := dk_29 (dk_at dksX1_cell_0 3 rfl rfl)
theorem dX1_cell_4 : decode cX1_cell 4 = .ok (.invokevirtual 513, 3) := dk_182 2 1 (dk_at dksX1_cell_0 4 rfl rfl)
theorem dX1_cell_7 : decode cX1_cell 7 = .ok (.ifCond .ne 7, 3) := dk_154 0 7 (dk_at dksX1_cell_0 7 rfl rfl)
theorem dX1_cell_10 : decode cX1_cell 10 = .ok (.iconst (-1), 1) := dk_2 (dk_at dksX1_cell_0 10 rfl rfl)
theorem dX1_cell_11 : decode cX1_cell 11 = .ok (.goto 35, 3) := dk_167 0 35 (dk_at dksX1_cell_0 11 rfl rfl)
theorem dX1_cell_14 : decode cX1_cell 14 = .ok (.aload_n 0, 1) := dk_42 (dk_at dksX1_cell_0 14 rfl rfl)
theorem dX1_cell_15 : decode cX1_cell 15 = .ok (.getfield 178, 3) := dk_180 0 178 (dk_at dksX1_cell_0 15 rfl rfl)
theorem dX1_cell_18 : decode cX1_cell 18 = .ok (.iload_n 1, 1) := dk_27 (dk_at dksX1_cell_0 18 rfl rfl)
theorem dX1_cell_19 : decode cX1_cell 19 = .ok (.iload_n 2, 1) := dk_28 (dk_at dksX1_cell_0 19 rfl rfl)
theorem dX1_cell_20 : decode cX1_cell 20 = .ok (.invokevirtual 256, 3) := dk_182 1 0 (dk_at dksX1_cell_0 20 rfl rfl)
theorem dX1_cell_23 : decode cX1_cell 23 = .ok (.ifCond .eq 20, 3) := dk_153 0 20 (dk_at dksX1_cell_1 0 rfl rfl)
theorem dX1_cell_26 : decode cX1_cell 26 = .ok (.aload_n 0, 1) := dk_42 (dk_at dksX1_cell_1 3 rfl rfl)
theorem dX1_cell_27 : decode cX1_cell 27 = .ok (.getfield 178, 3) := dk_180 0 178 (dk_at dksX1_cell_1 4 rfl rfl)
theorem dX1_cell_30 : decode cX1_cell 30 = .ok (.getfield 191, 3) := dk_180 0 191 (dk_at dksX1_cell_1 7 rfl rfl)
theorem dX1_cell_33 : decode cX1_cell 33 = .ok (.iload_n 1, 1) := dk_27 (dk_at dksX1_cell_1 10 rfl rfl)
theorem dX1_cell_34 : decode cX1_cell 34 = .ok (.iload_n 2, 1) := dk_28 (dk_at dksX1_cell_1 11 rfl rfl)
theorem dX1_cell_35 : decode cX1_cell 35 = .ok (.iload_n 3, 1) := dk_29 (dk_at dksX1_cell_1 12 rfl rfl)
theorem dX1_cell_36 : decode cX1_cell 36 = .ok (.invokestatic 203, 3) := dk_184 0 203 (dk_at dksX1_cell_1 13 rfl rfl)
theorem dX1_cell_39 : decode cX1_cell 39 = .ok (.iaload, 1) := dk_46 (dk_at dksX1_cell_1 16 rfl rfl)
theorem dX1_cell_40 : decode cX1_cell 40 = .ok (.goto 6, 3) := dk_167 0 6 (dk_at dksX1_cell_1 17 rfl rfl)
theorem dX1_cell_43 : decode cX1_cell 43 = .ok (.ldc_w 497, 3) := dk_19 1 241 (dk_at dksX1_cell_1 20 rfl rfl)
theorem dX1_cell_46 : decode cX1_cell 46 = .ok (.ireturn, 1) := dk_172 (dk_at dksX1_cell_1 23 rfl rfl)
abbrev cX1_isCell : ByteArray := prog_1_method_96_code
def yX1_isCell : MethodName := ⟨RX1, "isCell", "(III)Z"⟩
def dkwX1_isCell_1 : List UInt8 := [184, 0, 47, 153, 0, 7, 4, 167, 0, 4, 3, 172]
abbrev dktX1_isCell_1 : List UInt8 := dkwX1_isCell_1 ++ []
def dkwX1_isCell_0 : List UInt8 := [42, 27, 182, 1, 151, 153, 0, 29, 42, 28, 182, 1, 154, 153, 0, 21, 29, 3, 42, 182, 0, 240, 4, 100]
abbrev dktX1_isCell_0 : List UInt8 := dkwX1_isCell_0 ++ dktX1_isCell_1
theorem dksX1_isCell_0 : cX1_isCell.data.toList.drop 0 = dktX1_isCell_0 := by decide +kernel
theorem dksX1_isCell_1 : cX1_isCell.data.toList.drop 24 = dktX1_isCell_1 := dk_seg dksX1_isCell_0 24 rfl rfl
theorem dX1_isCell_0 : decode cX1_isCell 0 = .ok (.aload_n 0, 1) := dk_42 (dk_at dksX1_isCell_0 0 rfl rfl)
theorem dX1_isCell_1 : decode cX1_isCell 1 = .ok (.iload_n 1, 1) := dk_27 (dk_at dksX1_isCell_0 1 rfl rfl)
theorem dX1_isCell_2 : decode cX1_isCell 2 = .ok (.invokevirtual 407, 3) := dk_182 1 151 (dk_at dksX1_isCell_0 2 rfl rfl)
theorem dX1_isCell_5 : decode cX1_isCell 5 = .ok (.ifCond .eq 29, 3) := dk_153 0 29 (dk_at dksX1_isCell_0 5 rfl rfl)
theorem dX1_isCell_8 : decode cX1_isCell 8 = .ok (.aload_n 0, 1) := dk_42 (dk_at dksX1_isCell_0 8 rfl rfl)
theorem dX1_isCell_9 : decode cX1_isCell 9 = .ok (.iload_n 2, 1) := dk_28 (dk_at dksX1_isCell_0 9 rfl rfl)
theorem dX1_isCell_10 : decode cX1_isCell 10 = .ok (.invokevirtual 410, 3) := dk_182 1 154 (dk_at dksX1_isCell_0 10 rfl rfl)
theorem dX1_isCell_13 : decode cX1_isCell 13 = .ok (.ifCond .eq 21, 3) := dk_153 0 21 (dk_at dksX1_isCell_0 13 rfl rfl)
theorem dX1_isCell_16 : decode cX1_isCell 16 = .ok (.iload_n 3, 1) := dk_29 (dk_at dksX1_isCell_0 16 rfl rfl)
theorem dX1_isCell_17 : decode cX1_isCell 17 = .ok (.iconst 0, 1) := dk_3 (dk_at dksX1_isCell_0 17 rfl rfl)
theorem dX1_isCell_18 : decode cX1_isCell 18 = .ok (.aload_n 0, 1) := dk_42 (dk_at dksX1_isCell_0 18 rfl rfl)
theorem dX1_isCell_19 : decode cX1_isCell 19 = .ok (.invokevirtual 240, 3) := dk_182 0 240 (dk_at dksX1_isCell_0 19 rfl rfl)
theorem dX1_isCell_22 : decode cX1_isCell 22 = .ok (.iconst 1, 1) := dk_4 (dk_at dksX1_isCell_0 22 rfl rfl)
theorem dX1_isCell_23 : decode cX1_isCell 23 = .ok (.isub, 1) := dk_100 (dk_at dksX1_isCell_0 23 rfl rfl)
theorem dX1_isCell_24 : decode cX1_isCell 24 = .ok (.invokestatic 47, 3) := dk_184 0 47 (dk_at dksX1_isCell_1 0 rfl rfl)
theorem dX1_isCell_27 : decode cX1_isCell 27 = .ok (.ifCond .eq 7, 3) := dk_153 0 7 (dk_at dksX1_isCell_1 3 rfl rfl)
theorem dX1_isCell_30 : decode cX1_isCell 30 = .ok (.iconst 1, 1) := dk_4 (dk_at dksX1_isCell_1 6 rfl rfl)
theorem dX1_isCell_31 : decode cX1_isCell 31 = .ok (.goto 4, 3) := dk_167 0 4 (dk_at dksX1_isCell_1 7 rfl rfl)
theorem dX1_isCell_34 : decode cX1_isCell 34 = .ok (.iconst 0, 1) := dk_3 (dk_at dksX1_isCell_1 10 rfl rfl)
theorem dX1_isCell_35 : decode cX1_isCell 35 = .ok (.ireturn, 1) := dk_172 (dk_at dksX1_isCell_1 11 rfl rfl)
abbrev cX1_disk : ByteArray := prog_1_method_98_code
def yX1_disk : MethodName := ⟨RX1, "disk", "(II)I"⟩
def dkwX1_disk_3 : List UInt8 := [46, 172, 42, 180, 0, 178, 180, 2, 7, 27, 46, 172, 42, 180, 0, 178, 180, 1, 124, 27, 46, 172]
abbrev dktX1_disk_3 : List UInt8 := dkwX1_disk_3 ++ []
def dkwX1_disk_2 : List UInt8 := [42, 180, 0, 178, 180, 1, 88, 27, 46, 172, 42, 27, 182, 1, 103, 172, 42, 180, 0, 178, 180, 2, 4, 27]
abbrev dktX1_disk_2 : List UInt8 := dkwX1_disk_2 ++ dktX1_disk_3
def dkwX1_disk_1 : List UInt8 := [170, 0, 0, 0, 0, 0, 0, 68, 0, 0, 0, 0, 0, 0, 0, 3, 0, 0, 0, 32, 0, 0, 0, 42, 0, 0, 0, 48, 0, 0, 0, 58]
abbrev dktX1_disk_1 : List UInt8 := dkwX1_disk_1 ++ dktX1_disk_2
def dkwX1_disk_0 : List UInt8 := [42, 27, 182, 1, 151, 153, 0, 12, 28, 3, 7, 184, 0, 47, 154, 0, 5, 2, 172, 28]
abbrev dktX1_disk_0 : List UInt8 := dkwX1_disk_0 ++ dktX1_disk_1
theorem dksX1_disk_0 : cX1_disk.data.toList.drop 0 = dktX1_disk_0 := by decide +kernel
theorem dksX1_disk_1 : cX1_disk.data.toList.drop 20 = dktX1_disk_1 := dk_seg dksX1_disk_0 20 rfl rfl
theorem dksX1_disk_2 : cX1_disk.data.toList.drop 52 = dktX1_disk_2 := dk_seg dksX1_disk_1 32 rfl rfl
theorem dksX1_disk_3 : cX1_disk.data.toList.drop 76 = dktX1_disk_3 := dk_seg dksX1_disk_2 24 rfl rfl
theorem dX1_disk_0 : decode cX1_disk 0 = .ok (.aload_n 0, 1) := dk_42 (dk_at dksX1_disk_0 0 rfl rfl)
theorem dX1_disk_1 : decode cX1_disk 1 = .ok (.iload_n 1, 1) := dk_27 (dk_at dksX1_disk_0 1 rfl rfl)
theorem dX1_disk_2 : decode cX1_disk 2 = .ok (.invokevirtual 407, 3) := dk_182 1 151 (dk_at dksX1_disk_0 2 rfl rfl)
theorem dX1_disk_5 : decode cX1_disk 5 = .ok (.ifCond .eq 12, 3) := dk_153 0 12 (dk_at dksX1_disk_0 5 rfl rfl)
theorem dX1_disk_8 : decode cX1_disk 8 = .ok (.iload_n 2, 1) := dk_28 (dk_at dksX1_disk_0 8 rfl rfl)
theorem dX1_disk_9 : decode cX1_disk 9 = .ok (.iconst 0, 1) := dk_3 (dk_at dksX1_disk_0 9 rfl rfl)
theorem dX1_disk_10 : decode cX1_disk 10 = .ok (.iconst 4, 1) := dk_7 (dk_at dksX1_disk_0 10 rfl rfl)
theorem dX1_disk_11 : decode cX1_disk 11 = .ok (.invokestatic 47, 3) := dk_184 0 47 (dk_at dksX1_disk_0 11 rfl rfl)
theorem dX1_disk_14 : decode cX1_disk 14 = .ok (.ifCond .ne 5, 3) := dk_154 0 5 (dk_at dksX1_disk_0 14 rfl rfl)
theorem dX1_disk_17 : decode cX1_disk 17 = .ok (.iconst (-1), 1) := dk_2 (dk_at dksX1_disk_0 17 rfl rfl)
theorem dX1_disk_18 : decode cX1_disk 18 = .ok (.ireturn, 1) := dk_172 (dk_at dksX1_disk_0 18 rfl rfl)
theorem dX1_disk_19 : decode cX1_disk 19 = .ok (.iload_n 2, 1) := dk_28 (dk_at dksX1_disk_0 19 rfl rfl)
theorem dX1_disk_20 : decode cX1_disk 20 = .ok (.tableswitch 68 0 3 #[32, 42, 48, 58], 32) := by decide +kernel
theorem dX1_disk_52 : decode cX1_disk 52 = .ok (.aload_n 0, 1) := dk_42 (dk_at dksX1_disk_2 0 rfl rfl)
theorem dX1_disk_53 : decode cX1_disk 53 = .ok (.getfield 178, 3) := dk_180 0 178 (dk_at dksX1_disk_2 1 rfl rfl)
theorem dX1_disk_56 : decode cX1_disk 56 = .ok (.getfield 344, 3) := dk_180 1 88 (dk_at dksX1_disk_2 4 rfl rfl)
theorem dX1_disk_59 : decode cX1_disk 59 = .ok (.iload_n 1, 1) := dk_27 (dk_at dksX1_disk_2 7 rfl rfl)
theorem dX1_disk_60 : decode cX1_disk 60 = .ok (.iaload, 1) := dk_46 (dk_at dksX1_disk_2 8 rfl rfl)
theorem dX1_disk_61 : decode cX1_disk 61 = .ok (.ireturn, 1) := dk_172 (dk_at dksX1_disk_2 9 rfl rfl)
theorem dX1_disk_62 : decode cX1_disk 62 = .ok (.aload_n 0, 1) := dk_42 (dk_at dksX1_disk_2 10 rfl rfl)
theorem dX1_disk_63 : decode cX1_disk 63 = .ok (.iload_n 1, 1) := dk_27 (dk_at dksX1_disk_2 11 rfl rfl)
theorem dX1_disk_64 : decode cX1_disk 64 = .ok (.invokevirtual 359, 3) := dk_182 1 103 (dk_at dksX1_disk_2 12 rfl rfl)
theorem dX1_disk_67 : decode cX1_disk 67 = .ok (.ireturn, 1) := dk_172 (dk_at dksX1_disk_2 15 rfl rfl)
theorem dX1_disk_68 : decode cX1_disk 68 = .ok (.aload_n 0, 1) := dk_42 (dk_at dksX1_disk_2 16 rfl rfl)
theorem dX1_disk_69 : decode cX1_disk 69 = .ok (.getfield 178, 3) := dk_180 0 178 (dk_at dksX1_disk_2 17 rfl rfl)
theorem dX1_disk_72 : decode cX1_disk 72 = .ok (.getfield 516, 3) := dk_180 2 4 (dk_at dksX1_disk_2 20 rfl rfl)
theorem dX1_disk_75 : decode cX1_disk 75 = .ok (.iload_n 1, 1) := dk_27 (dk_at dksX1_disk_2 23 rfl rfl)
theorem dX1_disk_76 : decode cX1_disk 76 = .ok (.iaload, 1) := dk_46 (dk_at dksX1_disk_3 0 rfl rfl)
theorem dX1_disk_77 : decode cX1_disk 77 = .ok (.ireturn, 1) := dk_172 (dk_at dksX1_disk_3 1 rfl rfl)
theorem dX1_disk_78 : decode cX1_disk 78 = .ok (.aload_n 0, 1) := dk_42 (dk_at dksX1_disk_3 2 rfl rfl)
theorem dX1_disk_79 : decode cX1_disk 79 = .ok (.getfield 178, 3) := dk_180 0 178 (dk_at dksX1_disk_3 3 rfl rfl)
theorem dX1_disk_82 : decode cX1_disk 82 = .ok (.getfield 519, 3) := dk_180 2 7 (dk_at dksX1_disk_3 6 rfl rfl)
theorem dX1_disk_85 : decode cX1_disk 85 = .ok (.iload_n 1, 1) := dk_27 (dk_at dksX1_disk_3 9 rfl rfl)
theorem dX1_disk_86 : decode cX1_disk 86 = .ok (.iaload, 1) := dk_46 (dk_at dksX1_disk_3 10 rfl rfl)
theorem dX1_disk_87 : decode cX1_disk 87 = .ok (.ireturn, 1) := dk_172 (dk_at dksX1_disk_3 11 rfl rfl)
theorem dX1_disk_88 : decode cX1_disk 88 = .ok (.aload_n 0, 1) := dk_42 (dk_at dksX1_disk_3 12 rfl rfl)
theorem dX1_disk_89 : decode cX1_disk 89 = .ok (.getfield 178, 3) := dk_180 0 178 (dk_at dksX1_disk_3 13 rfl rfl)
theorem dX1_disk_92 : decode cX1_disk 92 = .ok (.getfield 380, 3) := dk_180 1 124 (dk_at dksX1_disk_3 16 rfl rfl)
theorem dX1_disk_95 : decode cX1_disk 95 = .ok (.iload_n 1, 1) := dk_27 (dk_at dksX1_disk_3 19 rfl rfl)
theorem dX1_disk_96 : decode cX1_disk 96 = .ok (.iaload, 1) := dk_46 (dk_at dksX1_disk_3 20 rfl rfl)
theorem dX1_disk_97 : decode cX1_disk 97 = .ok (.ireturn, 1) := dk_172 (dk_at dksX1_disk_3 21 rfl rfl)
abbrev cX1_cost : ByteArray := prog_1_method_99_code
def yX1_cost : MethodName := ⟨RX1, "cost", "(II)I"⟩
def dkwX1_cost_2 : List UInt8 := [180, 2, 12, 167, 0, 7, 45, 180, 1, 75, 172]
abbrev dktX1_cost_2 : List UInt8 := dkwX1_cost_2 ++ []
def dkwX1_cost_1 : List UInt8 := [42, 182, 1, 71, 78, 28, 154, 0, 10, 45, 180, 2, 10, 167, 0, 19, 28, 4, 160, 0, 10, 45]
abbrev dktX1_cost_1 : List UInt8 := dkwX1_cost_1 ++ dktX1_cost_2
def dkwX1_cost_0 : List UInt8 := [42, 27, 182, 1, 157, 153, 0, 12, 28, 3, 5, 184, 0, 47, 154, 0, 5, 2, 172, 42, 27, 182, 0, 188]
abbrev dktX1_cost_0 : List UInt8 := dkwX1_cost_0 ++ dktX1_cost_1
theorem dksX1_cost_0 : cX1_cost.data.toList.drop 0 = dktX1_cost_0 := by decide +kernel
theorem dksX1_cost_1 : cX1_cost.data.toList.drop 24 = dktX1_cost_1 := dk_seg dksX1_cost_0 24 rfl rfl
theorem dksX1_cost_2 : cX1_cost.data.toList.drop 46 = dktX1_cost_2 := dk_seg dksX1_cost_1 22 rfl rfl
theorem dX1_cost_0 : decode cX1_cost 0 = .ok (.aload_n 0, 1) := dk_42 (dk_at dksX1_cost_0 0 rfl rfl)
theorem dX1_cost_1 : decode cX1_cost 1 = .ok (.iload_n 1, 1) := dk_27 (dk_at dksX1_cost_0 1 rfl rfl)
theorem dX1_cost_2 : decode cX1_cost 2 = .ok (.invokevirtual 413, 3) := dk_182 1 157 (dk_at dksX1_cost_0 2 rfl rfl)
theorem dX1_cost_5 : decode cX1_cost 5 = .ok (.ifCond .eq 12, 3) := dk_153 0 12 (dk_at dksX1_cost_0 5 rfl rfl)
theorem dX1_cost_8 : decode cX1_cost 8 = .ok (.iload_n 2, 1) := dk_28 (dk_at dksX1_cost_0 8 rfl rfl)
theorem dX1_cost_9 : decode cX1_cost 9 = .ok (.iconst 0, 1) := dk_3 (dk_at dksX1_cost_0 9 rfl rfl)
theorem dX1_cost_10 : decode cX1_cost 10 = .ok (.iconst 2, 1) := dk_5 (dk_at dksX1_cost_0 10 rfl rfl)
theorem dX1_cost_11 : decode cX1_cost 11 = .ok (.invokestatic 47, 3) := dk_184 0 47 (dk_at dksX1_cost_0 11 rfl rfl)
theorem dX1_cost_14 : decode cX1_cost 14 = .ok (.ifCond .ne 5, 3) := dk_154 0 5 (dk_at dksX1_cost_0 14 rfl rfl)
theorem dX1_cost_17 : decode cX1_cost 17 = .ok (.iconst (-1), 1) := dk_2 (dk_at dksX1_cost_0 17 rfl rfl)
theorem dX1_cost_18 : decode cX1_cost 18 = .ok (.ireturn, 1) := dk_172 (dk_at dksX1_cost_0 18 rfl rfl)
theorem dX1_cost_19 : decode cX1_cost 19 = .ok (.aload_n 0, 1) := dk_42 (dk_at dksX1_cost_0 19 rfl rfl)
theorem dX1_cost_20 : decode cX1_cost 20 = .ok (.iload_n 1, 1) := dk_27 (dk_at dksX1_cost_0 20 rfl rfl)
theorem dX1_cost_21 : decode cX1_cost 21 = .ok (.invokevirtual 188, 3) := dk_182 0 188 (dk_at dksX1_cost_0 21 rfl rfl)
theorem dX1_cost_24 : decode cX1_cost 24 = .ok (.aload_n 0, 1) := dk_42 (dk_at dksX1_cost_1 0 rfl rfl)
theorem dX1_cost_25 : decode cX1_cost 25 = .ok (.invokevirtual 327, 3) := dk_182 1 71 (dk_at dksX1_cost_1 1 rfl rfl)
theorem dX1_cost_28 : decode cX1_cost 28 = .ok (.astore_n 3, 1) := dk_78 (dk_at dksX1_cost_1 4 rfl rfl)
theorem dX1_cost_29 : decode cX1_cost 29 = .ok (.iload_n 2, 1) := dk_28 (dk_at dksX1_cost_1 5 rfl rfl)
theorem dX1_cost_30 : decode cX1_cost 30 = .ok (.ifCond .ne 10, 3) := dk_154 0 10 (dk_at dksX1_cost_1 6 rfl rfl)
theorem dX1_cost_33 : decode cX1_cost 33 = .ok (.aload_n 3, 1) := dk_45 (dk_at dksX1_cost_1 9 rfl rfl)
theorem dX1_cost_34 : decode cX1_cost 34 = .ok (.getfield 522, 3) := dk_180 2 10 (dk_at dksX1_cost_1 10 rfl rfl)
theorem dX1_cost_37 : decode cX1_cost 37 = .ok (.goto 19, 3) := dk_167 0 19 (dk_at dksX1_cost_1 13 rfl rfl)
theorem dX1_cost_40 : decode cX1_cost 40 = .ok (.iload_n 2, 1) := dk_28 (dk_at dksX1_cost_1 16 rfl rfl)
theorem dX1_cost_41 : decode cX1_cost 41 = .ok (.iconst 1, 1) := dk_4 (dk_at dksX1_cost_1 17 rfl rfl)
theorem dX1_cost_42 : decode cX1_cost 42 = .ok (.if_icmp .ne 10, 3) := dk_160 0 10 (dk_at dksX1_cost_1 18 rfl rfl)
theorem dX1_cost_45 : decode cX1_cost 45 = .ok (.aload_n 3, 1) := dk_45 (dk_at dksX1_cost_1 21 rfl rfl)
theorem dX1_cost_46 : decode cX1_cost 46 = .ok (.getfield 524, 3) := dk_180 2 12 (dk_at dksX1_cost_2 0 rfl rfl)
theorem dX1_cost_49 : decode cX1_cost 49 = .ok (.goto 7, 3) := dk_167 0 7 (dk_at dksX1_cost_2 3 rfl rfl)
theorem dX1_cost_52 : decode cX1_cost 52 = .ok (.aload_n 3, 1) := dk_45 (dk_at dksX1_cost_2 6 rfl rfl)
theorem dX1_cost_53 : decode cX1_cost 53 = .ok (.getfield 331, 3) := dk_180 1 75 (dk_at dksX1_cost_2 7 rfl rfl)
theorem dX1_cost_56 : decode cX1_cost 56 = .ok (.ireturn, 1) := dk_172 (dk_at dksX1_cost_2 10 rfl rfl)
abbrev cX1_told : ByteArray := prog_1_method_100_code
def yX1_told : MethodName := ⟨RX1, "told", "(IIIII)I"⟩
def dkwX1_told_4 : List UInt8 := [28, 182, 1, 97, 46, 172]
abbrev dktX1_told_4 : List UInt8 := dkwX1_told_4 ++ []
def dkwX1_told_3 : List UInt8 := [2, 130, 126, 153, 0, 7, 19, 1, 241, 172, 42, 28, 29, 21, 6, 182, 1, 36, 42, 180, 1, 3, 42, 27]
abbrev dktX1_told_3 : List UInt8 := dkwX1_told_3 ++ dktX1_told_4
def dkwX1_told_2 : List UInt8 := [28, 182, 1, 97, 120, 4, 42, 21, 5, 28, 182, 1, 97, 120, 128, 54, 6, 42, 28, 182, 1, 33, 21, 6]
abbrev dktX1_told_2 : List UInt8 := dkwX1_told_2 ++ dktX1_told_3
def dkwX1_told_1 : List UInt8 := [182, 1, 151, 153, 0, 15, 27, 21, 4, 159, 0, 11, 27, 21, 5, 159, 0, 5, 2, 172, 4, 42, 21, 4]
abbrev dktX1_told_1 : List UInt8 := dkwX1_told_1 ++ dktX1_told_2
def dkwX1_told_0 : List UInt8 := [42, 27, 28, 29, 182, 2, 1, 153, 0, 33, 42, 21, 4, 182, 1, 151, 153, 0, 24, 42, 21, 5]
abbrev dktX1_told_0 : List UInt8 := dkwX1_told_0 ++ dktX1_told_1
theorem dksX1_told_0 : cX1_told.data.toList.drop 0 = dktX1_told_0 := by decide +kernel
theorem dksX1_told_1 : cX1_told.data.toList.drop 22 = dktX1_told_1 := dk_seg dksX1_told_0 22 rfl rfl
theorem dksX1_told_2 : cX1_told.data.toList.drop 46 = dktX1_told_2 := dk_seg dksX1_told_1 24 rfl rfl
theorem dksX1_told_3 : cX1_told.data.toList.drop 70 = dktX1_told_3 := dk_seg dksX1_told_2 24 rfl rfl
theorem dksX1_told_4 : cX1_told.data.toList.drop 94 = dktX1_told_4 := dk_seg dksX1_told_3 24 rfl rfl
theorem dX1_told_0 : decode cX1_told 0 = .ok (.aload_n 0, 1) := dk_42 (dk_at dksX1_told_0 0 rfl rfl)
theorem dX1_told_1 : decode cX1_told 1 = .ok (.iload_n 1, 1) := dk_27 (dk_at dksX1_told_0 1 rfl rfl)
theorem dX1_told_2 : decode cX1_told 2 = .ok (.iload_n 2, 1) := dk_28 (dk_at dksX1_told_0 2 rfl rfl)
theorem dX1_told_3 : decode cX1_told 3 = .ok (.iload_n 3, 1) := dk_29 (dk_at dksX1_told_0 3 rfl rfl)
theorem dX1_told_4 : decode cX1_told 4 = .ok (.invokevirtual 513, 3) := dk_182 2 1 (dk_at dksX1_told_0 4 rfl rfl)
theorem dX1_told_7 : decode cX1_told 7 = .ok (.ifCond .eq 33, 3) := dk_153 0 33 (dk_at dksX1_told_0 7 rfl rfl)
theorem dX1_told_10 : decode cX1_told 10 = .ok (.aload_n 0, 1) := dk_42 (dk_at dksX1_told_0 10 rfl rfl)
theorem dX1_told_11 : decode cX1_told 11 = .ok (.iload 4, 2) := dk_21 4 (dk_at dksX1_told_0 11 rfl rfl)
theorem dX1_told_13 : decode cX1_told 13 = .ok (.invokevirtual 407, 3) := dk_182 1 151 (dk_at dksX1_told_0 13 rfl rfl)
theorem dX1_told_16 : decode cX1_told 16 = .ok (.ifCond .eq 24, 3) := dk_153 0 24 (dk_at dksX1_told_0 16 rfl rfl)
theorem dX1_told_19 : decode cX1_told 19 = .ok (.aload_n 0, 1) := dk_42 (dk_at dksX1_told_0 19 rfl rfl)
theorem dX1_told_20 : decode cX1_told 20 = .ok (.iload 5, 2) := dk_21 5 (dk_at dksX1_told_0 20 rfl rfl)
theorem dX1_told_22 : decode cX1_told 22 = .ok (.invokevirtual 407, 3) := dk_182 1 151 (dk_at dksX1_told_1 0 rfl rfl)
theorem dX1_told_25 : decode cX1_told 25 = .ok (.ifCond .eq 15, 3) := dk_153 0 15 (dk_at dksX1_told_1 3 rfl rfl)
theorem dX1_told_28 : decode cX1_told 28 = .ok (.iload_n 1, 1) := dk_27 (dk_at dksX1_told_1 6 rfl rfl)
theorem dX1_told_29 : decode cX1_told 29 = .ok (.iload 4, 2) := dk_21 4 (dk_at dksX1_told_1 7 rfl rfl)
theorem dX1_told_31 : decode cX1_told 31 = .ok (.if_icmp .eq 11, 3) := dk_159 0 11 (dk_at dksX1_told_1 9 rfl rfl)
theorem dX1_told_34 : decode cX1_told 34 = .ok (.iload_n 1, 1) := dk_27 (dk_at dksX1_told_1 12 rfl rfl)
theorem dX1_told_35 : decode cX1_told 35 = .ok (.iload 5, 2) := dk_21 5 (dk_at dksX1_told_1 13 rfl rfl)
theorem dX1_told_37 : decode cX1_told 37 = .ok (.if_icmp .eq 5, 3) := dk_159 0 5 (dk_at dksX1_told_1 15 rfl rfl)
theorem dX1_told_40 : decode cX1_told 40 = .ok (.iconst (-1), 1) := dk_2 (dk_at dksX1_told_1 18 rfl rfl)
theorem dX1_told_41 : decode cX1_told 41 = .ok (.ireturn, 1) := dk_172 (dk_at dksX1_told_1 19 rfl rfl)
theorem dX1_told_42 : decode cX1_told 42 = .ok (.iconst 1, 1) := dk_4 (dk_at dksX1_told_1 20 rfl rfl)
theorem dX1_told_43 : decode cX1_told 43 = .ok (.aload_n 0, 1) := dk_42 (dk_at dksX1_told_1 21 rfl rfl)
theorem dX1_told_44 : decode cX1_told 44 = .ok (.iload 4, 2) := dk_21 4 (dk_at dksX1_told_1 22 rfl rfl)
theorem dX1_told_46 : decode cX1_told 46 = .ok (.iload_n 2, 1) := dk_28 (dk_at dksX1_told_2 0 rfl rfl)
theorem dX1_told_47 : decode cX1_told 47 = .ok (.invokevirtual 353, 3) := dk_182 1 97 (dk_at dksX1_told_2 1 rfl rfl)
theorem dX1_told_50 : decode cX1_told 50 = .ok (.ishl, 1) := dk_120 (dk_at dksX1_told_2 4 rfl rfl)
theorem dX1_told_51 : decode cX1_told 51 = .ok (.iconst 1, 1) := dk_4 (dk_at dksX1_told_2 5 rfl rfl)
theorem dX1_told_52 : decode cX1_told 52 = .ok (.aload_n 0, 1) := dk_42 (dk_at dksX1_told_2 6 rfl rfl)
theorem dX1_told_53 : decode cX1_told 53 = .ok (.iload 5, 2) := dk_21 5 (dk_at dksX1_told_2 7 rfl rfl)
theorem dX1_told_55 : decode cX1_told 55 = .ok (.iload_n 2, 1) := dk_28 (dk_at dksX1_told_2 9 rfl rfl)
theorem dX1_told_56 : decode cX1_told 56 = .ok (.invokevirtual 353, 3) := dk_182 1 97 (dk_at dksX1_told_2 10 rfl rfl)
theorem dX1_told_59 : decode cX1_told 59 = .ok (.ishl, 1) := dk_120 (dk_at dksX1_told_2 13 rfl rfl)
theorem dX1_told_60 : decode cX1_told 60 = .ok (.ior, 1) := dk_128 (dk_at dksX1_told_2 14 rfl rfl)
theorem dX1_told_61 : decode cX1_told 61 = .ok (.istore 6, 2) := dk_54 6 (dk_at dksX1_told_2 15 rfl rfl)
theorem dX1_told_63 : decode cX1_told 63 = .ok (.aload_n 0, 1) := dk_42 (dk_at dksX1_told_2 17 rfl rfl)
theorem dX1_told_64 : decode cX1_told 64 = .ok (.iload_n 2, 1) := dk_28 (dk_at dksX1_told_2 18 rfl rfl)
theorem dX1_told_65 : decode cX1_told 65 = .ok (.invokevirtual 289, 3) := dk_182 1 33 (dk_at dksX1_told_2 19 rfl rfl)
theorem dX1_told_68 : decode cX1_told 68 = .ok (.iload 6, 2) := dk_21 6 (dk_at dksX1_told_2 22 rfl rfl)
theorem dX1_told_70 : decode cX1_told 70 = .ok (.iconst (-1), 1) := dk_2 (dk_at dksX1_told_3 0 rfl rfl)
theorem dX1_told_71 : decode cX1_told 71 = .ok (.ixor, 1) := dk_130 (dk_at dksX1_told_3 1 rfl rfl)
theorem dX1_told_72 : decode cX1_told 72 = .ok (.iand, 1) := dk_126 (dk_at dksX1_told_3 2 rfl rfl)
theorem dX1_told_73 : decode cX1_told 73 = .ok (.ifCond .eq 7, 3) := dk_153 0 7 (dk_at dksX1_told_3 3 rfl rfl)
theorem dX1_told_76 : decode cX1_told 76 = .ok (.ldc_w 497, 3) := dk_19 1 241 (dk_at dksX1_told_3 6 rfl rfl)
theorem dX1_told_79 : decode cX1_told 79 = .ok (.ireturn, 1) := dk_172 (dk_at dksX1_told_3 9 rfl rfl)
theorem dX1_told_80 : decode cX1_told 80 = .ok (.aload_n 0, 1) := dk_42 (dk_at dksX1_told_3 10 rfl rfl)
theorem dX1_told_81 : decode cX1_told 81 = .ok (.iload_n 2, 1) := dk_28 (dk_at dksX1_told_3 11 rfl rfl)
theorem dX1_told_82 : decode cX1_told 82 = .ok (.iload_n 3, 1) := dk_29 (dk_at dksX1_told_3 12 rfl rfl)
theorem dX1_told_83 : decode cX1_told 83 = .ok (.iload 6, 2) := dk_21 6 (dk_at dksX1_told_3 13 rfl rfl)
theorem dX1_told_85 : decode cX1_told 85 = .ok (.invokevirtual 292, 3) := dk_182 1 36 (dk_at dksX1_told_3 15 rfl rfl)
theorem dX1_told_88 : decode cX1_told 88 = .ok (.aload_n 0, 1) := dk_42 (dk_at dksX1_told_3 18 rfl rfl)
theorem dX1_told_89 : decode cX1_told 89 = .ok (.getfield 259, 3) := dk_180 1 3 (dk_at dksX1_told_3 19 rfl rfl)
theorem dX1_told_92 : decode cX1_told 92 = .ok (.aload_n 0, 1) := dk_42 (dk_at dksX1_told_3 22 rfl rfl)
theorem dX1_told_93 : decode cX1_told 93 = .ok (.iload_n 1, 1) := dk_27 (dk_at dksX1_told_3 23 rfl rfl)
theorem dX1_told_94 : decode cX1_told 94 = .ok (.iload_n 2, 1) := dk_28 (dk_at dksX1_told_4 0 rfl rfl)
theorem dX1_told_95 : decode cX1_told 95 = .ok (.invokevirtual 353, 3) := dk_182 1 97 (dk_at dksX1_told_4 1 rfl rfl)
theorem dX1_told_98 : decode cX1_told 98 = .ok (.iaload, 1) := dk_46 (dk_at dksX1_told_4 4 rfl rfl)
theorem dX1_told_99 : decode cX1_told 99 = .ok (.ireturn, 1) := dk_172 (dk_at dksX1_told_4 5 rfl rfl)
abbrev cX1_who : ByteArray := prog_1_method_101_code
def yX1_who : MethodName := ⟨RX1, "who", "(II)I"⟩
def dkwX1_who_2 : List UInt8 := [167, 0, 9, 42, 27, 29, 182, 0, 250, 172]
abbrev dktX1_who_2 : List UInt8 := dkwX1_who_2 ++ []
def dkwX1_who_1 : List UInt8 := [182, 1, 139, 154, 0, 7, 19, 1, 241, 172, 42, 27, 28, 182, 1, 118, 62, 29, 156, 0, 7, 29]
abbrev dktX1_who_1 : List UInt8 := dkwX1_who_1 ++ dktX1_who_2
def dkwX1_who_0 : List UInt8 := [42, 27, 182, 1, 154, 153, 0, 25, 28, 3, 42, 182, 0, 240, 4, 100, 184, 0, 47, 153, 0, 11, 42, 27]
abbrev dktX1_who_0 : List UInt8 := dkwX1_who_0 ++ dktX1_who_1
theorem dksX1_who_0 : cX1_who.data.toList.drop 0 = dktX1_who_0 := by decide +kernel
theorem dksX1_who_1 : cX1_who.data.toList.drop 24 = dktX1_who_1 := dk_seg dksX1_who_0 24 rfl rfl
theorem dksX1_who_2 : cX1_who.data.toList.drop 46 = dktX1_who_2 := dk_seg dksX1_who_1 22 rfl rfl
theorem dX1_who_0 : decode cX1_who 0 = .ok (.aload_n 0, 1) := dk_42 (dk_at dksX1_who_0 0 rfl rfl)
theorem dX1_who_1 : decode cX1_who 1 = .ok (.iload_n 1, 1) := dk_27 (dk_at dksX1_who_0 1 rfl rfl)
theorem dX1_who_2 : decode cX1_who 2 = .ok (.invokevirtual 410, 3) := dk_182 1 154 (dk_at dksX1_who_0 2 rfl rfl)
theorem dX1_who_5 : decode cX1_who 5 = .ok (.ifCond .eq 25, 3) := dk_153 0 25 (dk_at dksX1_who_0 5 rfl rfl)
theorem dX1_who_8 : decode cX1_who 8 = .ok (.iload_n 2, 1) := dk_28 (dk_at dksX1_who_0 8 rfl rfl)
theorem dX1_who_9 : decode cX1_who 9 = .ok (.iconst 0, 1) := dk_3 (dk_at dksX1_who_0 9 rfl rfl)
theorem dX1_who_10 : decode cX1_who 10 = .ok (.aload_n 0, 1) := dk_42 (dk_at dksX1_who_0 10 rfl rfl)
theorem dX1_who_11 : decode cX1_who 11 = .ok (.invokevirtual 240, 3) := dk_182 0 240 (dk_at dksX1_who_0 11 rfl rfl)
theorem dX1_who_14 : decode cX1_who 14 = .ok (.iconst 1, 1) := dk_4 (dk_at dksX1_who_0 14 rfl rfl)
theorem dX1_who_15 : decode cX1_who 15 = .ok (.isub, 1) := dk_100 (dk_at dksX1_who_0 15 rfl rfl)
theorem dX1_who_16 : decode cX1_who 16 = .ok (.invokestatic 47, 3) := dk_184 0 47 (dk_at dksX1_who_0 16 rfl rfl)
theorem dX1_who_19 : decode cX1_who 19 = .ok (.ifCond .eq 11, 3) := dk_153 0 11 (dk_at dksX1_who_0 19 rfl rfl)
theorem dX1_who_22 : decode cX1_who 22 = .ok (.aload_n 0, 1) := dk_42 (dk_at dksX1_who_0 22 rfl rfl)
theorem dX1_who_23 : decode cX1_who 23 = .ok (.iload_n 1, 1) := dk_27 (dk_at dksX1_who_0 23 rfl rfl)
theorem dX1_who_24 : decode cX1_who 24 = .ok (.invokevirtual 395, 3) := dk_182 1 139 (dk_at dksX1_who_1 0 rfl rfl)
theorem dX1_who_27 : decode cX1_who 27 = .ok (.ifCond .ne 7, 3) := dk_154 0 7 (dk_at dksX1_who_1 3 rfl rfl)
theorem dX1_who_30 : decode cX1_who 30 = .ok (.ldc_w 497, 3) := dk_19 1 241 (dk_at dksX1_who_1 6 rfl rfl)
theorem dX1_who_33 : decode cX1_who 33 = .ok (.ireturn, 1) := dk_172 (dk_at dksX1_who_1 9 rfl rfl)
theorem dX1_who_34 : decode cX1_who 34 = .ok (.aload_n 0, 1) := dk_42 (dk_at dksX1_who_1 10 rfl rfl)
theorem dX1_who_35 : decode cX1_who 35 = .ok (.iload_n 1, 1) := dk_27 (dk_at dksX1_who_1 11 rfl rfl)
theorem dX1_who_36 : decode cX1_who 36 = .ok (.iload_n 2, 1) := dk_28 (dk_at dksX1_who_1 12 rfl rfl)
theorem dX1_who_37 : decode cX1_who 37 = .ok (.invokevirtual 374, 3) := dk_182 1 118 (dk_at dksX1_who_1 13 rfl rfl)
theorem dX1_who_40 : decode cX1_who 40 = .ok (.istore_n 3, 1) := dk_62 (dk_at dksX1_who_1 16 rfl rfl)
theorem dX1_who_41 : decode cX1_who 41 = .ok (.iload_n 3, 1) := dk_29 (dk_at dksX1_who_1 17 rfl rfl)
theorem dX1_who_42 : decode cX1_who 42 = .ok (.ifCond .ge 7, 3) := dk_156 0 7 (dk_at dksX1_who_1 18 rfl rfl)
theorem dX1_who_45 : decode cX1_who 45 = .ok (.iload_n 3, 1) := dk_29 (dk_at dksX1_who_1 21 rfl rfl)
theorem dX1_who_46 : decode cX1_who 46 = .ok (.goto 9, 3) := dk_167 0 9 (dk_at dksX1_who_2 0 rfl rfl)
theorem dX1_who_49 : decode cX1_who 49 = .ok (.aload_n 0, 1) := dk_42 (dk_at dksX1_who_2 3 rfl rfl)
theorem dX1_who_50 : decode cX1_who 50 = .ok (.iload_n 1, 1) := dk_27 (dk_at dksX1_who_2 4 rfl rfl)
theorem dX1_who_51 : decode cX1_who 51 = .ok (.iload_n 3, 1) := dk_29 (dk_at dksX1_who_2 5 rfl rfl)
theorem dX1_who_52 : decode cX1_who 52 = .ok (.invokevirtual 250, 3) := dk_182 0 250 (dk_at dksX1_who_2 6 rfl rfl)
theorem dX1_who_55 : decode cX1_who 55 = .ok (.ireturn, 1) := dk_172 (dk_at dksX1_who_2 9 rfl rfl)
abbrev cX1_more : ByteArray := prog_1_method_102_code
def yX1_more : MethodName := ⟨RX1, "more", "()I"⟩
def dkwX1_more_1 : List UInt8 := [3, 3, 3, 182, 1, 207, 2, 160, 0, 9, 27, 4, 28, 120, 128, 60, 132, 2, 1, 167, 255, 226, 27, 172]
abbrev dktX1_more_1 : List UInt8 := dkwX1_more_1 ++ []
def dkwX1_more_0 : List UInt8 := [42, 182, 0, 243, 154, 0, 5, 2, 172, 3, 60, 3, 61, 28, 42, 182, 0, 247, 162, 0, 28, 42, 4, 28]
abbrev dktX1_more_0 : List UInt8 := dkwX1_more_0 ++ dktX1_more_1
theorem dksX1_more_0 : cX1_more.data.toList.drop 0 = dktX1_more_0 := by decide +kernel
theorem dksX1_more_1 : cX1_more.data.toList.drop 24 = dktX1_more_1 := dk_seg dksX1_more_0 24 rfl rfl
theorem dX1_more_0 : decode cX1_more 0 = .ok (.aload_n 0, 1) := dk_42 (dk_at dksX1_more_0 0 rfl rfl)
theorem dX1_more_1 : decode cX1_more 1 = .ok (.invokevirtual 243, 3) := dk_182 0 243 (dk_at dksX1_more_0 1 rfl rfl)
theorem dX1_more_4 : decode cX1_more 4 = .ok (.ifCond .ne 5, 3) := dk_154 0 5 (dk_at dksX1_more_0 4 rfl rfl)
theorem dX1_more_7 : decode cX1_more 7 = .ok (.iconst (-1), 1) := dk_2 (dk_at dksX1_more_0 7 rfl rfl)
theorem dX1_more_8 : decode cX1_more 8 = .ok (.ireturn, 1) := dk_172 (dk_at dksX1_more_0 8 rfl rfl)
theorem dX1_more_9 : decode cX1_more 9 = .ok (.iconst 0, 1) := dk_3 (dk_at dksX1_more_0 9 rfl rfl)
theorem dX1_more_10 : decode cX1_more 10 = .ok (.istore_n 1, 1) := dk_60 (dk_at dksX1_more_0 10 rfl rfl)
theorem dX1_more_11 : decode cX1_more 11 = .ok (.iconst 0, 1) := dk_3 (dk_at dksX1_more_0 11 rfl rfl)
theorem dX1_more_12 : decode cX1_more 12 = .ok (.istore_n 2, 1) := dk_61 (dk_at dksX1_more_0 12 rfl rfl)
theorem dX1_more_13 : decode cX1_more 13 = .ok (.iload_n 2, 1) := dk_28 (dk_at dksX1_more_0 13 rfl rfl)
theorem dX1_more_14 : decode cX1_more 14 = .ok (.aload_n 0, 1) := dk_42 (dk_at dksX1_more_0 14 rfl rfl)
theorem dX1_more_15 : decode cX1_more 15 = .ok (.invokevirtual 247, 3) := dk_182 0 247 (dk_at dksX1_more_0 15 rfl rfl)
theorem dX1_more_18 : decode cX1_more 18 = .ok (.if_icmp .ge 28, 3) := dk_162 0 28 (dk_at dksX1_more_0 18 rfl rfl)
theorem dX1_more_21 : decode cX1_more 21 = .ok (.aload_n 0, 1) := dk_42 (dk_at dksX1_more_0 21 rfl rfl)
theorem dX1_more_22 : decode cX1_more 22 = .ok (.iconst 1, 1) := dk_4 (dk_at dksX1_more_0 22 rfl rfl)
theorem dX1_more_23 : decode cX1_more 23 = .ok (.iload_n 2, 1) := dk_28 (dk_at dksX1_more_0 23 rfl rfl)
theorem dX1_more_24 : decode cX1_more 24 = .ok (.iconst 0, 1) := dk_3 (dk_at dksX1_more_1 0 rfl rfl)
theorem dX1_more_25 : decode cX1_more 25 = .ok (.iconst 0, 1) := dk_3 (dk_at dksX1_more_1 1 rfl rfl)
theorem dX1_more_26 : decode cX1_more 26 = .ok (.iconst 0, 1) := dk_3 (dk_at dksX1_more_1 2 rfl rfl)
theorem dX1_more_27 : decode cX1_more 27 = .ok (.invokevirtual 463, 3) := dk_182 1 207 (dk_at dksX1_more_1 3 rfl rfl)
theorem dX1_more_30 : decode cX1_more 30 = .ok (.iconst (-1), 1) := dk_2 (dk_at dksX1_more_1 6 rfl rfl)
theorem dX1_more_31 : decode cX1_more 31 = .ok (.if_icmp .ne 9, 3) := dk_160 0 9 (dk_at dksX1_more_1 7 rfl rfl)
theorem dX1_more_34 : decode cX1_more 34 = .ok (.iload_n 1, 1) := dk_27 (dk_at dksX1_more_1 10 rfl rfl)
theorem dX1_more_35 : decode cX1_more 35 = .ok (.iconst 1, 1) := dk_4 (dk_at dksX1_more_1 11 rfl rfl)
theorem dX1_more_36 : decode cX1_more 36 = .ok (.iload_n 2, 1) := dk_28 (dk_at dksX1_more_1 12 rfl rfl)
theorem dX1_more_37 : decode cX1_more 37 = .ok (.ishl, 1) := dk_120 (dk_at dksX1_more_1 13 rfl rfl)
theorem dX1_more_38 : decode cX1_more 38 = .ok (.ior, 1) := dk_128 (dk_at dksX1_more_1 14 rfl rfl)
theorem dX1_more_39 : decode cX1_more 39 = .ok (.istore_n 1, 1) := dk_60 (dk_at dksX1_more_1 15 rfl rfl)
theorem dX1_more_40 : decode cX1_more 40 = .ok (.iinc 2 1, 3) := dk_132 2 1 (dk_at dksX1_more_1 16 rfl rfl)
theorem dX1_more_43 : decode cX1_more 43 = .ok (.goto (-30), 3) := dk_167 255 226 (dk_at dksX1_more_1 19 rfl rfl)
theorem dX1_more_46 : decode cX1_more 46 = .ok (.iload_n 1, 1) := dk_27 (dk_at dksX1_more_1 22 rfl rfl)
theorem dX1_more_47 : decode cX1_more 47 = .ok (.ireturn, 1) := dk_172 (dk_at dksX1_more_1 23 rfl rfl)
abbrev cX1_left : ByteArray := prog_1_method_103_code
def yX1_left : MethodName := ⟨RX1, "left", "(I)I"⟩
def dkwX1_left_6 : List UInt8 := [167, 0, 5, 21, 5, 172]
abbrev dktX1_left_6 : List UInt8 := dkwX1_left_6 ++ []
def dkwX1_left_5 : List UInt8 := [180, 0, 178, 180, 2, 4, 182, 2, 18, 29, 100, 54, 5, 42, 44, 181, 0, 178, 27, 154, 0, 8, 21, 4]
abbrev dktX1_left_5 : List UInt8 := dkwX1_left_5 ++ dktX1_left_6
def dkwX1_left_4 : List UInt8 := [96, 54, 4, 42, 21, 5, 16, 12, 182, 1, 176, 87, 132, 5, 1, 167, 255, 198, 42, 180, 0, 178, 42]
abbrev dktX1_left_4 : List UInt8 := dkwX1_left_4 ++ dktX1_left_5
def dkwX1_left_3 : List UInt8 := [5, 159, 0, 6, 167, 0, 32, 21, 4, 42, 182, 0, 237, 42, 180, 0, 178, 180, 1, 91, 21, 5, 46, 100]
abbrev dktX1_left_3 : List UInt8 := dkwX1_left_3 ++ dktX1_left_4
def dkwX1_left_2 : List UInt8 := [54, 4, 3, 54, 5, 21, 5, 42, 182, 0, 247, 162, 0, 55, 42, 180, 0, 178, 180, 1, 88, 21, 5, 46]
abbrev dktX1_left_2 : List UInt8 := dkwX1_left_2 ++ dktX1_left_3
def dkwX1_left_1 : List UInt8 := [44, 182, 2, 14, 181, 0, 178, 42, 180, 0, 178, 42, 180, 0, 178, 180, 2, 4, 182, 2, 18, 62, 3]
abbrev dktX1_left_1 : List UInt8 := dkwX1_left_1 ++ dktX1_left_2
def dkwX1_left_0 : List UInt8 := [42, 182, 0, 243, 153, 0, 12, 27, 3, 4, 184, 0, 47, 154, 0, 5, 2, 172, 42, 180, 0, 178, 77, 42]
abbrev dktX1_left_0 : List UInt8 := dkwX1_left_0 ++ dktX1_left_1
theorem dksX1_left_0 : cX1_left.data.toList.drop 0 = dktX1_left_0 := by decide +kernel
theorem dksX1_left_1 : cX1_left.data.toList.drop 24 = dktX1_left_1 := dk_seg dksX1_left_0 24 rfl rfl
theorem dksX1_left_2 : cX1_left.data.toList.drop 47 = dktX1_left_2 := dk_seg dksX1_left_1 23 rfl rfl
theorem dksX1_left_3 : cX1_left.data.toList.drop 71 = dktX1_left_3 := dk_seg dksX1_left_2 24 rfl rfl
theorem dksX1_left_4 : cX1_left.data.toList.drop 95 = dktX1_left_4 := dk_seg dksX1_left_3 24 rfl rfl
theorem dksX1_left_5 : cX1_left.data.toList.drop 118 = dktX1_left_5 := dk_seg dksX1_left_4 23 rfl rfl
theorem dksX1_left_6 : cX1_left.data.toList.drop 142 = dktX1_left_6 := dk_seg dksX1_left_5 24 rfl rfl
theorem dX1_left_0 : decode cX1_left 0 = .ok (.aload_n 0, 1) := dk_42 (dk_at dksX1_left_0 0 rfl rfl)
theorem dX1_left_1 : decode cX1_left 1 = .ok (.invokevirtual 243, 3) := dk_182 0 243 (dk_at dksX1_left_0 1 rfl rfl)
theorem dX1_left_4 : decode cX1_left 4 = .ok (.ifCond .eq 12, 3) := dk_153 0 12 (dk_at dksX1_left_0 4 rfl rfl)
theorem dX1_left_7 : decode cX1_left 7 = .ok (.iload_n 1, 1) := dk_27 (dk_at dksX1_left_0 7 rfl rfl)
theorem dX1_left_8 : decode cX1_left 8 = .ok (.iconst 0, 1) := dk_3 (dk_at dksX1_left_0 8 rfl rfl)
theorem dX1_left_9 : decode cX1_left 9 = .ok (.iconst 1, 1) := dk_4 (dk_at dksX1_left_0 9 rfl rfl)
theorem dX1_left_10 : decode cX1_left 10 = .ok (.invokestatic 47, 3) := dk_184 0 47 (dk_at dksX1_left_0 10 rfl rfl)
theorem dX1_left_13 : decode cX1_left 13 = .ok (.ifCond .ne 5, 3) := dk_154 0 5 (dk_at dksX1_left_0 13 rfl rfl)
theorem dX1_left_16 : decode cX1_left 16 = .ok (.iconst (-1), 1) := dk_2 (dk_at dksX1_left_0 16 rfl rfl)
theorem dX1_left_17 : decode cX1_left 17 = .ok (.ireturn, 1) := dk_172 (dk_at dksX1_left_0 17 rfl rfl)
theorem dX1_left_18 : decode cX1_left 18 = .ok (.aload_n 0, 1) := dk_42 (dk_at dksX1_left_0 18 rfl rfl)
theorem dX1_left_19 : decode cX1_left 19 = .ok (.getfield 178, 3) := dk_180 0 178 (dk_at dksX1_left_0 19 rfl rfl)
theorem dX1_left_22 : decode cX1_left 22 = .ok (.astore_n 2, 1) := dk_77 (dk_at dksX1_left_0 22 rfl rfl)
theorem dX1_left_23 : decode cX1_left 23 = .ok (.aload_n 0, 1) := dk_42 (dk_at dksX1_left_0 23 rfl rfl)
theorem dX1_left_24 : decode cX1_left 24 = .ok (.aload_n 2, 1) := dk_44 (dk_at dksX1_left_1 0 rfl rfl)
theorem dX1_left_25 : decode cX1_left 25 = .ok (.invokevirtual 526, 3) := dk_182 2 14 (dk_at dksX1_left_1 1 rfl rfl)
theorem dX1_left_28 : decode cX1_left 28 = .ok (.putfield 178, 3) := dk_181 0 178 (dk_at dksX1_left_1 4 rfl rfl)
theorem dX1_left_31 : decode cX1_left 31 = .ok (.aload_n 0, 1) := dk_42 (dk_at dksX1_left_1 7 rfl rfl)
theorem dX1_left_32 : decode cX1_left 32 = .ok (.getfield 178, 3) := dk_180 0 178 (dk_at dksX1_left_1 8 rfl rfl)
theorem dX1_left_35 : decode cX1_left 35 = .ok (.aload_n 0, 1) := dk_42 (dk_at dksX1_left_1 11 rfl rfl)
theorem dX1_left_36 : decode cX1_left 36 = .ok (.getfield 178, 3) := dk_180 0 178 (dk_at dksX1_left_1 12 rfl rfl)
theorem dX1_left_39 : decode cX1_left 39 = .ok (.getfield 516, 3) := dk_180 2 4 (dk_at dksX1_left_1 15 rfl rfl)
theorem dX1_left_42 : decode cX1_left 42 = .ok (.invokevirtual 530, 3) := dk_182 2 18 (dk_at dksX1_left_1 18 rfl rfl)
theorem dX1_left_45 : decode cX1_left 45 = .ok (.istore_n 3, 1) := dk_62 (dk_at dksX1_left_1 21 rfl rfl)
theorem dX1_left_46 : decode cX1_left 46 = .ok (.iconst 0, 1) := dk_3 (dk_at dksX1_left_1 22 rfl rfl)
theorem dX1_left_47 : decode cX1_left 47 = .ok (.istore 4, 2) := dk_54 4 (dk_at dksX1_left_2 0 rfl rfl)
theorem dX1_left_49 : decode cX1_left 49 = .ok (.iconst 0, 1) := dk_3 (dk_at dksX1_left_2 2 rfl rfl)
theorem dX1_left_50 : decode cX1_left 50 = .ok (.istore 5, 2) := dk_54 5 (dk_at dksX1_left_2 3 rfl rfl)
theorem dX1_left_52 : decode cX1_left 52 = .ok (.iload 5, 2) := dk_21 5 (dk_at dksX1_left_2 5 rfl rfl)
theorem dX1_left_54 : decode cX1_left 54 = .ok (.aload_n 0, 1) := dk_42 (dk_at dksX1_left_2 7 rfl rfl)
theorem dX1_left_55 : decode cX1_left 55 = .ok (.invokevirtual 247, 3) := dk_182 0 247 (dk_at dksX1_left_2 8 rfl rfl)
theorem dX1_left_58 : decode cX1_left 58 = .ok (.if_icmp .ge 55, 3) := dk_162 0 55 (dk_at dksX1_left_2 11 rfl rfl)
theorem dX1_left_61 : decode cX1_left 61 = .ok (.aload_n 0, 1) := dk_42 (dk_at dksX1_left_2 14 rfl rfl)
theorem dX1_left_62 : decode cX1_left 62 = .ok (.getfield 178, 3) := dk_180 0 178 (dk_at dksX1_left_2 15 rfl rfl)
theorem dX1_left_65 : decode cX1_left 65 = .ok (.getfield 344, 3) := dk_180 1 88 (dk_at dksX1_left_2 18 rfl rfl)
theorem dX1_left_68 : decode cX1_left 68 = .ok (.iload 5, 2) := dk_21 5 (dk_at dksX1_left_2 21 rfl rfl)
theorem dX1_left_70 : decode cX1_left 70 = .ok (.iaload, 1) := dk_46 (dk_at dksX1_left_2 23 rfl rfl)
theorem dX1_left_71 : decode cX1_left 71 = .ok (.iconst 2, 1) := dk_5 (dk_at dksX1_left_3 0 rfl rfl)
theorem dX1_left_72 : decode cX1_left 72 = .ok (.if_icmp .eq 6, 3) := dk_159 0 6 (dk_at dksX1_left_3 1 rfl rfl)
theorem dX1_left_75 : decode cX1_left 75 = .ok (.goto 32, 3) := dk_167 0 32 (dk_at dksX1_left_3 4 rfl rfl)
theorem dX1_left_78 : decode cX1_left 78 = .ok (.iload 4, 2) := dk_21 4 (dk_at dksX1_left_3 7 rfl rfl)
theorem dX1_left_80 : decode cX1_left 80 = .ok (.aload_n 0, 1) := dk_42 (dk_at dksX1_left_3 9 rfl rfl)
theorem dX1_left_81 : decode cX1_left 81 = .ok (.invokevirtual 237, 3) := dk_182 0 237 (dk_at dksX1_left_3 10 rfl rfl)
theorem dX1_left_84 : decode cX1_left 84 = .ok (.aload_n 0, 1) := dk_42 (dk_at dksX1_left_3 13 rfl rfl)
theorem dX1_left_85 : decode cX1_left 85 = .ok (.getfield 178, 3) := dk_180 0 178 (dk_at dksX1_left_3 14 rfl rfl)
theorem dX1_left_88 : decode cX1_left 88 = .ok (.getfield 347, 3) := dk_180 1 91 (dk_at dksX1_left_3 17 rfl rfl)
theorem dX1_left_91 : decode cX1_left 91 = .ok (.iload 5, 2) := dk_21 5 (dk_at dksX1_left_3 20 rfl rfl)
theorem dX1_left_93 : decode cX1_left 93 = .ok (.iaload, 1) := dk_46 (dk_at dksX1_left_3 22 rfl rfl)
theorem dX1_left_94 : decode cX1_left 94 = .ok (.isub, 1) := dk_100 (dk_at dksX1_left_3 23 rfl rfl)
theorem dX1_left_95 : decode cX1_left 95 = .ok (.iadd, 1) := dk_96 (dk_at dksX1_left_4 0 rfl rfl)
theorem dX1_left_96 : decode cX1_left 96 = .ok (.istore 4, 2) := dk_54 4 (dk_at dksX1_left_4 1 rfl rfl)
theorem dX1_left_98 : decode cX1_left 98 = .ok (.aload_n 0, 1) := dk_42 (dk_at dksX1_left_4 3 rfl rfl)
theorem dX1_left_99 : decode cX1_left 99 = .ok (.iload 5, 2) := dk_21 5 (dk_at dksX1_left_4 4 rfl rfl)
theorem dX1_left_101 : decode cX1_left 101 = .ok (.bipush 12, 2) := dk_16 12 (dk_at dksX1_left_4 6 rfl rfl)
theorem dX1_left_103 : decode cX1_left 103 = .ok (.invokevirtual 432, 3) := dk_182 1 176 (dk_at dksX1_left_4 8 rfl rfl)
theorem dX1_left_106 : decode cX1_left 106 = .ok (.pop, 1) := dk_87 (dk_at dksX1_left_4 11 rfl rfl)
theorem dX1_left_107 : decode cX1_left 107 = .ok (.iinc 5 1, 3) := dk_132 5 1 (dk_at dksX1_left_4 12 rfl rfl)
theorem dX1_left_110 : decode cX1_left 110 = .ok (.goto (-58), 3) := dk_167 255 198 (dk_at dksX1_left_4 15 rfl rfl)
theorem dX1_left_113 : decode cX1_left 113 = .ok (.aload_n 0, 1) := dk_42 (dk_at dksX1_left_4 18 rfl rfl)
theorem dX1_left_114 : decode cX1_left 114 = .ok (.getfield 178, 3) := dk_180 0 178 (dk_at dksX1_left_4 19 rfl rfl)
theorem dX1_left_117 : decode cX1_left 117 = .ok (.aload_n 0, 1) := dk_42 (dk_at dksX1_left_4 22 rfl rfl)
theorem dX1_left_118 : decode cX1_left 118 = .ok (.getfield 178, 3) := dk_180 0 178 (dk_at dksX1_left_5 0 rfl rfl)
theorem dX1_left_121 : decode cX1_left 121 = .ok (.getfield 516, 3) := dk_180 2 4 (dk_at dksX1_left_5 3 rfl rfl)
theorem dX1_left_124 : decode cX1_left 124 = .ok (.invokevirtual 530, 3) := dk_182 2 18 (dk_at dksX1_left_5 6 rfl rfl)
theorem dX1_left_127 : decode cX1_left 127 = .ok (.iload_n 3, 1) := dk_29 (dk_at dksX1_left_5 9 rfl rfl)
theorem dX1_left_128 : decode cX1_left 128 = .ok (.isub, 1) := dk_100 (dk_at dksX1_left_5 10 rfl rfl)
theorem dX1_left_129 : decode cX1_left 129 = .ok (.istore 5, 2) := dk_54 5 (dk_at dksX1_left_5 11 rfl rfl)
theorem dX1_left_131 : decode cX1_left 131 = .ok (.aload_n 0, 1) := dk_42 (dk_at dksX1_left_5 13 rfl rfl)
theorem dX1_left_132 : decode cX1_left 132 = .ok (.aload_n 2, 1) := dk_44 (dk_at dksX1_left_5 14 rfl rfl)
theorem dX1_left_133 : decode cX1_left 133 = .ok (.putfield 178, 3) := dk_181 0 178 (dk_at dksX1_left_5 15 rfl rfl)
theorem dX1_left_136 : decode cX1_left 136 = .ok (.iload_n 1, 1) := dk_27 (dk_at dksX1_left_5 18 rfl rfl)
theorem dX1_left_137 : decode cX1_left 137 = .ok (.ifCond .ne 8, 3) := dk_154 0 8 (dk_at dksX1_left_5 19 rfl rfl)
theorem dX1_left_140 : decode cX1_left 140 = .ok (.iload 4, 2) := dk_21 4 (dk_at dksX1_left_5 22 rfl rfl)
theorem dX1_left_142 : decode cX1_left 142 = .ok (.goto 5, 3) := dk_167 0 5 (dk_at dksX1_left_6 0 rfl rfl)
theorem dX1_left_145 : decode cX1_left 145 = .ok (.iload 5, 2) := dk_21 5 (dk_at dksX1_left_6 3 rfl rfl)
theorem dX1_left_147 : decode cX1_left 147 = .ok (.ireturn, 1) := dk_172 (dk_at dksX1_left_6 5 rfl rfl)
abbrev cX1_fit : ByteArray := prog_1_method_104_code
def yX1_fit : MethodName := ⟨RX1, "fit", "()I"⟩
def dkwX1_fit_3 : List UInt8 := [167, 255, 223, 29, 153, 0, 9, 27, 4, 28, 120, 128, 60, 132, 2, 1, 167, 255, 182, 27, 172]
abbrev dktX1_fit_3 : List UInt8 := dkwX1_fit_3 ++ []
def dkwX1_fit_2 : List UInt8 := [29, 153, 0, 26, 42, 28, 21, 4, 182, 1, 118, 2, 160, 0, 7, 4, 167, 0, 4, 3, 62, 132, 4, 1]
abbrev dktX1_fit_2 : List UInt8 := dkwX1_fit_2 ++ dktX1_fit_3
def dkwX1_fit_1 : List UInt8 := [182, 1, 33, 154, 0, 7, 4, 167, 0, 4, 3, 62, 3, 54, 4, 21, 4, 42, 182, 0, 240, 162, 0, 30]
abbrev dktX1_fit_1 : List UInt8 := dkwX1_fit_1 ++ dktX1_fit_2
def dkwX1_fit_0 : List UInt8 := [42, 182, 0, 243, 154, 0, 5, 2, 172, 3, 60, 3, 61, 28, 42, 182, 0, 237, 162, 0, 72, 42, 28]
abbrev dktX1_fit_0 : List UInt8 := dkwX1_fit_0 ++ dktX1_fit_1
theorem dksX1_fit_0 : cX1_fit.data.toList.drop 0 = dktX1_fit_0 := by decide +kernel
theorem dksX1_fit_1 : cX1_fit.data.toList.drop 23 = dktX1_fit_1 := dk_seg dksX1_fit_0 23 rfl rfl
theorem dksX1_fit_2 : cX1_fit.data.toList.drop 47 = dktX1_fit_2 := dk_seg dksX1_fit_1 24 rfl rfl
theorem dksX1_fit_3 : cX1_fit.data.toList.drop 71 = dktX1_fit_3 := dk_seg dksX1_fit_2 24 rfl rfl
theorem dX1_fit_0 : decode cX1_fit 0 = .ok (.aload_n 0, 1) := dk_42 (dk_at dksX1_fit_0 0 rfl rfl)
theorem dX1_fit_1 : decode cX1_fit 1 = .ok (.invokevirtual 243, 3) := dk_182 0 243 (dk_at dksX1_fit_0 1 rfl rfl)
theorem dX1_fit_4 : decode cX1_fit 4 = .ok (.ifCond .ne 5, 3) := dk_154 0 5 (dk_at dksX1_fit_0 4 rfl rfl)
theorem dX1_fit_7 : decode cX1_fit 7 = .ok (.iconst (-1), 1) := dk_2 (dk_at dksX1_fit_0 7 rfl rfl)
theorem dX1_fit_8 : decode cX1_fit 8 = .ok (.ireturn, 1) := dk_172 (dk_at dksX1_fit_0 8 rfl rfl)
theorem dX1_fit_9 : decode cX1_fit 9 = .ok (.iconst 0, 1) := dk_3 (dk_at dksX1_fit_0 9 rfl rfl)
theorem dX1_fit_10 : decode cX1_fit 10 = .ok (.istore_n 1, 1) := dk_60 (dk_at dksX1_fit_0 10 rfl rfl)
theorem dX1_fit_11 : decode cX1_fit 11 = .ok (.iconst 0, 1) := dk_3 (dk_at dksX1_fit_0 11 rfl rfl)
theorem dX1_fit_12 : decode cX1_fit 12 = .ok (.istore_n 2, 1) := dk_61 (dk_at dksX1_fit_0 12 rfl rfl)
theorem dX1_fit_13 : decode cX1_fit 13 = .ok (.iload_n 2, 1) := dk_28 (dk_at dksX1_fit_0 13 rfl rfl)
theorem dX1_fit_14 : decode cX1_fit 14 = .ok (.aload_n 0, 1) := dk_42 (dk_at dksX1_fit_0 14 rfl rfl)
theorem dX1_fit_15 : decode cX1_fit 15 = .ok (.invokevirtual 237, 3) := dk_182 0 237 (dk_at dksX1_fit_0 15 rfl rfl)
theorem dX1_fit_18 : decode cX1_fit 18 = .ok (.if_icmp .ge 72, 3) := dk_162 0 72 (dk_at dksX1_fit_0 18 rfl rfl)
theorem dX1_fit_21 : decode cX1_fit 21 = .ok (.aload_n 0, 1) := dk_42 (dk_at dksX1_fit_0 21 rfl rfl)
theorem dX1_fit_22 : decode cX1_fit 22 = .ok (.iload_n 2, 1) := dk_28 (dk_at dksX1_fit_0 22 rfl rfl)
theorem dX1_fit_23 : decode cX1_fit 23 = .ok (.invokevirtual 289, 3) := dk_182 1 33 (dk_at dksX1_fit_1 0 rfl rfl)
theorem dX1_fit_26 : decode cX1_fit 26 = .ok (.ifCond .ne 7, 3) := dk_154 0 7 (dk_at dksX1_fit_1 3 rfl rfl)
theorem dX1_fit_29 : decode cX1_fit 29 = .ok (.iconst 1, 1) := dk_4 (dk_at dksX1_fit_1 6 rfl rfl)
theorem dX1_fit_30 : decode cX1_fit 30 = .ok (.goto 4, 3) := dk_167 0 4 (dk_at dksX1_fit_1 7 rfl rfl)
theorem dX1_fit_33 : decode cX1_fit 33 = .ok (.iconst 0, 1) := dk_3 (dk_at dksX1_fit_1 10 rfl rfl)
theorem dX1_fit_34 : decode cX1_fit 34 = .ok (.istore_n 3, 1) := dk_62 (dk_at dksX1_fit_1 11 rfl rfl)
theorem dX1_fit_35 : decode cX1_fit 35 = .ok (.iconst 0, 1) := dk_3 (dk_at dksX1_fit_1 12 rfl rfl)
theorem dX1_fit_36 : decode cX1_fit 36 = .ok (.istore 4, 2) := dk_54 4 (dk_at dksX1_fit_1 13 rfl rfl)
theorem dX1_fit_38 : decode cX1_fit 38 = .ok (.iload 4, 2) := dk_21 4 (dk_at dksX1_fit_1 15 rfl rfl)
theorem dX1_fit_40 : decode cX1_fit 40 = .ok (.aload_n 0, 1) := dk_42 (dk_at dksX1_fit_1 17 rfl rfl)
theorem dX1_fit_41 : decode cX1_fit 41 = .ok (.invokevirtual 240, 3) := dk_182 0 240 (dk_at dksX1_fit_1 18 rfl rfl)
theorem dX1_fit_44 : decode cX1_fit 44 = .ok (.if_icmp .ge 30, 3) := dk_162 0 30 (dk_at dksX1_fit_1 21 rfl rfl)
theorem dX1_fit_47 : decode cX1_fit 47 = .ok (.iload_n 3, 1) := dk_29 (dk_at dksX1_fit_2 0 rfl rfl)
theorem dX1_fit_48 : decode cX1_fit 48 = .ok (.ifCond .eq 26, 3) := dk_153 0 26 (dk_at dksX1_fit_2 1 rfl rfl)
theorem dX1_fit_51 : decode cX1_fit 51 = .ok (.aload_n 0, 1) := dk_42 (dk_at dksX1_fit_2 4 rfl rfl)
theorem dX1_fit_52 : decode cX1_fit 52 = .ok (.iload_n 2, 1) := dk_28 (dk_at dksX1_fit_2 5 rfl rfl)
theorem dX1_fit_53 : decode cX1_fit 53 = .ok (.iload 4, 2) := dk_21 4 (dk_at dksX1_fit_2 6 rfl rfl)
theorem dX1_fit_55 : decode cX1_fit 55 = .ok (.invokevirtual 374, 3) := dk_182 1 118 (dk_at dksX1_fit_2 8 rfl rfl)
theorem dX1_fit_58 : decode cX1_fit 58 = .ok (.iconst (-1), 1) := dk_2 (dk_at dksX1_fit_2 11 rfl rfl)
theorem dX1_fit_59 : decode cX1_fit 59 = .ok (.if_icmp .ne 7, 3) := dk_160 0 7 (dk_at dksX1_fit_2 12 rfl rfl)
theorem dX1_fit_62 : decode cX1_fit 62 = .ok (.iconst 1, 1) := dk_4 (dk_at dksX1_fit_2 15 rfl rfl)
theorem dX1_fit_63 : decode cX1_fit 63 = .ok (.goto 4, 3) := dk_167 0 4 (dk_at dksX1_fit_2 16 rfl rfl)
theorem dX1_fit_66 : decode cX1_fit 66 = .ok (.iconst 0, 1) := dk_3 (dk_at dksX1_fit_2 19 rfl rfl)
theorem dX1_fit_67 : decode cX1_fit 67 = .ok (.istore_n 3, 1) := dk_62 (dk_at dksX1_fit_2 20 rfl rfl)
theorem dX1_fit_68 : decode cX1_fit 68 = .ok (.iinc 4 1, 3) := dk_132 4 1 (dk_at dksX1_fit_2 21 rfl rfl)
theorem dX1_fit_71 : decode cX1_fit 71 = .ok (.goto (-33), 3) := dk_167 255 223 (dk_at dksX1_fit_3 0 rfl rfl)
theorem dX1_fit_74 : decode cX1_fit 74 = .ok (.iload_n 3, 1) := dk_29 (dk_at dksX1_fit_3 3 rfl rfl)
theorem dX1_fit_75 : decode cX1_fit 75 = .ok (.ifCond .eq 9, 3) := dk_153 0 9 (dk_at dksX1_fit_3 4 rfl rfl)
theorem dX1_fit_78 : decode cX1_fit 78 = .ok (.iload_n 1, 1) := dk_27 (dk_at dksX1_fit_3 7 rfl rfl)
theorem dX1_fit_79 : decode cX1_fit 79 = .ok (.iconst 1, 1) := dk_4 (dk_at dksX1_fit_3 8 rfl rfl)
theorem dX1_fit_80 : decode cX1_fit 80 = .ok (.iload_n 2, 1) := dk_28 (dk_at dksX1_fit_3 9 rfl rfl)
theorem dX1_fit_81 : decode cX1_fit 81 = .ok (.ishl, 1) := dk_120 (dk_at dksX1_fit_3 10 rfl rfl)
theorem dX1_fit_82 : decode cX1_fit 82 = .ok (.ior, 1) := dk_128 (dk_at dksX1_fit_3 11 rfl rfl)
theorem dX1_fit_83 : decode cX1_fit 83 = .ok (.istore_n 1, 1) := dk_60 (dk_at dksX1_fit_3 12 rfl rfl)
theorem dX1_fit_84 : decode cX1_fit 84 = .ok (.iinc 2 1, 3) := dk_132 2 1 (dk_at dksX1_fit_3 13 rfl rfl)
theorem dX1_fit_87 : decode cX1_fit 87 = .ok (.goto (-74), 3) := dk_167 255 182 (dk_at dksX1_fit_3 16 rfl rfl)
theorem dX1_fit_90 : decode cX1_fit 90 = .ok (.iload_n 1, 1) := dk_27 (dk_at dksX1_fit_3 19 rfl rfl)
theorem dX1_fit_91 : decode cX1_fit 91 = .ok (.ireturn, 1) := dk_172 (dk_at dksX1_fit_3 20 rfl rfl)
abbrev cX1_checked : ByteArray := prog_1_method_105_code
def yX1_checked : MethodName := ⟨RX1, "checked", "(I)I"⟩
def dkwX1_checked_2 : List UInt8 := [28, 42, 180, 1, 109, 130, 167, 0, 4, 28, 172]
abbrev dktX1_checked_2 : List UInt8 := dkwX1_checked_2 ++ []
def dkwX1_checked_1 : List UInt8 := [154, 0, 5, 28, 172, 42, 42, 180, 0, 197, 42, 180, 0, 200, 182, 1, 118, 42, 180, 0, 253, 160, 0, 12]
abbrev dktX1_checked_1 : List UInt8 := dkwX1_checked_1 ++ dktX1_checked_2
def dkwX1_checked_0 : List UInt8 := [42, 27, 182, 1, 157, 154, 0, 5, 2, 172, 42, 27, 182, 1, 68, 61, 42, 42, 180, 0, 197, 182, 1, 139]
abbrev dktX1_checked_0 : List UInt8 := dkwX1_checked_0 ++ dktX1_checked_1
theorem dksX1_checked_0 : cX1_checked.data.toList.drop 0 = dktX1_checked_0 := by decide +kernel
theorem dksX1_checked_1 : cX1_checked.data.toList.drop 24 = dktX1_checked_1 := dk_seg dksX1_checked_0 24 rfl rfl
theorem dksX1_checked_2 : cX1_checked.data.toList.drop 48 = dktX1_checked_2 := dk_seg dksX1_checked_1 24 rfl rfl
theorem dX1_checked_0 : decode cX1_checked 0 = .ok (.aload_n 0, 1) := dk_42 (dk_at dksX1_checked_0 0 rfl rfl)
theorem dX1_checked_1 : decode cX1_checked 1 = .ok (.iload_n 1, 1) := dk_27 (dk_at dksX1_checked_0 1 rfl rfl)
theorem dX1_checked_2 : decode cX1_checked 2 = .ok (.invokevirtual 413, 3) := dk_182 1 157 (dk_at dksX1_checked_0 2 rfl rfl)
theorem dX1_checked_5 : decode cX1_checked 5 = .ok (.ifCond .ne 5, 3) := dk_154 0 5 (dk_at dksX1_checked_0 5 rfl rfl)
theorem dX1_checked_8 : decode cX1_checked 8 = .ok (.iconst (-1), 1) := dk_2 (dk_at dksX1_checked_0 8 rfl rfl)
theorem dX1_checked_9 : decode cX1_checked 9 = .ok (.ireturn, 1) := dk_172 (dk_at dksX1_checked_0 9 rfl rfl)
theorem dX1_checked_10 : decode cX1_checked 10 = .ok (.aload_n 0, 1) := dk_42 (dk_at dksX1_checked_0 10 rfl rfl)
theorem dX1_checked_11 : decode cX1_checked 11 = .ok (.iload_n 1, 1) := dk_27 (dk_at dksX1_checked_0 11 rfl rfl)
theorem dX1_checked_12 : decode cX1_checked 12 = .ok (.invokevirtual 324, 3) := dk_182 1 68 (dk_at dksX1_checked_0 12 rfl rfl)
theorem dX1_checked_15 : decode cX1_checked 15 = .ok (.istore_n 2, 1) := dk_61 (dk_at dksX1_checked_0 15 rfl rfl)
theorem dX1_checked_16 : decode cX1_checked 16 = .ok (.aload_n 0, 1) := dk_42 (dk_at dksX1_checked_0 16 rfl rfl)
theorem dX1_checked_17 : decode cX1_checked 17 = .ok (.aload_n 0, 1) := dk_42 (dk_at dksX1_checked_0 17 rfl rfl)
theorem dX1_checked_18 : decode cX1_checked 18 = .ok (.getfield 197, 3) := dk_180 0 197 (dk_at dksX1_checked_0 18 rfl rfl)
theorem dX1_checked_21 : decode cX1_checked 21 = .ok (.invokevirtual 395, 3) := dk_182 1 139 (dk_at dksX1_checked_0 21 rfl rfl)
theorem dX1_checked_24 : decode cX1_checked 24 = .ok (.ifCond .ne 5, 3) := dk_154 0 5 (dk_at dksX1_checked_1 0 rfl rfl)
theorem dX1_checked_27 : decode cX1_checked 27 = .ok (.iload_n 2, 1) := dk_28 (dk_at dksX1_checked_1 3 rfl rfl)
theorem dX1_checked_28 : decode cX1_checked 28 = .ok (.ireturn, 1) := dk_172 (dk_at dksX1_checked_1 4 rfl rfl)
theorem dX1_checked_29 : decode cX1_checked 29 = .ok (.aload_n 0, 1) := dk_42 (dk_at dksX1_checked_1 5 rfl rfl)
theorem dX1_checked_30 : decode cX1_checked 30 = .ok (.aload_n 0, 1) := dk_42 (dk_at dksX1_checked_1 6 rfl rfl)
theorem dX1_checked_31 : decode cX1_checked 31 = .ok (.getfield 197, 3) := dk_180 0 197 (dk_at dksX1_checked_1 7 rfl rfl)
theorem dX1_checked_34 : decode cX1_checked 34 = .ok (.aload_n 0, 1) := dk_42 (dk_at dksX1_checked_1 10 rfl rfl)
theorem dX1_checked_35 : decode cX1_checked 35 = .ok (.getfield 200, 3) := dk_180 0 200 (dk_at dksX1_checked_1 11 rfl rfl)
theorem dX1_checked_38 : decode cX1_checked 38 = .ok (.invokevirtual 374, 3) := dk_182 1 118 (dk_at dksX1_checked_1 14 rfl rfl)
theorem dX1_checked_41 : decode cX1_checked 41 = .ok (.aload_n 0, 1) := dk_42 (dk_at dksX1_checked_1 17 rfl rfl)
theorem dX1_checked_42 : decode cX1_checked 42 = .ok (.getfield 253, 3) := dk_180 0 253 (dk_at dksX1_checked_1 18 rfl rfl)
theorem dX1_checked_45 : decode cX1_checked 45 = .ok (.if_icmp .ne 12, 3) := dk_160 0 12 (dk_at dksX1_checked_1 21 rfl rfl)
theorem dX1_checked_48 : decode cX1_checked 48 = .ok (.iload_n 2, 1) := dk_28 (dk_at dksX1_checked_2 0 rfl rfl)
theorem dX1_checked_49 : decode cX1_checked 49 = .ok (.aload_n 0, 1) := dk_42 (dk_at dksX1_checked_2 1 rfl rfl)
theorem dX1_checked_50 : decode cX1_checked 50 = .ok (.getfield 365, 3) := dk_180 1 109 (dk_at dksX1_checked_2 2 rfl rfl)
theorem dX1_checked_53 : decode cX1_checked 53 = .ok (.ixor, 1) := dk_130 (dk_at dksX1_checked_2 5 rfl rfl)
theorem dX1_checked_54 : decode cX1_checked 54 = .ok (.goto 4, 3) := dk_167 0 4 (dk_at dksX1_checked_2 6 rfl rfl)
theorem dX1_checked_57 : decode cX1_checked 57 = .ok (.iload_n 2, 1) := dk_28 (dk_at dksX1_checked_2 9 rfl rfl)
theorem dX1_checked_58 : decode cX1_checked 58 = .ok (.ireturn, 1) := dk_172 (dk_at dksX1_checked_2 10 rfl rfl)
abbrev cX1_equal : ByteArray := prog_1_method_106_code
def yX1_equal : MethodName := ⟨RX1, "equal", "()I"⟩
def dkwX1_equal_4 : List UInt8 := [29, 172]
abbrev dktX1_equal_4 : List UInt8 := dkwX1_equal_4 ++ []
def dkwX1_equal_3 : List UInt8 := [182, 1, 68, 43, 21, 4, 46, 160, 0, 6, 132, 3, 1, 132, 4, 1, 167, 255, 228, 42, 44, 181, 0, 178]
abbrev dktX1_equal_3 : List UInt8 := dkwX1_equal_3 ++ dktX1_equal_4
def dkwX1_equal_2 : List UInt8 := [180, 0, 223, 181, 0, 178, 3, 62, 3, 54, 4, 21, 4, 42, 182, 0, 185, 162, 0, 25, 42, 21, 4]
abbrev dktX1_equal_2 : List UInt8 := dkwX1_equal_2 ++ dktX1_equal_3
def dkwX1_equal_1 : List UInt8 := [162, 0, 17, 43, 28, 42, 28, 182, 1, 68, 79, 132, 2, 1, 167, 255, 237, 42, 180, 0, 178, 77, 42, 42]
abbrev dktX1_equal_1 : List UInt8 := dkwX1_equal_1 ++ dktX1_equal_2
def dkwX1_equal_0 : List UInt8 := [42, 180, 0, 223, 199, 0, 5, 2, 172, 42, 182, 0, 185, 188, 10, 76, 3, 61, 28, 42, 182, 0, 185]
abbrev dktX1_equal_0 : List UInt8 := dkwX1_equal_0 ++ dktX1_equal_1
theorem dksX1_equal_0 : cX1_equal.data.toList.drop 0 = dktX1_equal_0 := by decide +kernel
theorem dksX1_equal_1 : cX1_equal.data.toList.drop 23 = dktX1_equal_1 := dk_seg dksX1_equal_0 23 rfl rfl
theorem dksX1_equal_2 : cX1_equal.data.toList.drop 47 = dktX1_equal_2 := dk_seg dksX1_equal_1 24 rfl rfl
theorem dksX1_equal_3 : cX1_equal.data.toList.drop 70 = dktX1_equal_3 := dk_seg dksX1_equal_2 23 rfl rfl
theorem dksX1_equal_4 : cX1_equal.data.toList.drop 94 = dktX1_equal_4 := dk_seg dksX1_equal_3 24 rfl rfl
theorem dX1_equal_0 : decode cX1_equal 0 = .ok (.aload_n 0, 1) := dk_42 (dk_at dksX1_equal_0 0 rfl rfl)
theorem dX1_equal_1 : decode cX1_equal 1 = .ok (.getfield 223, 3) := dk_180 0 223 (dk_at dksX1_equal_0 1 rfl rfl)
theorem dX1_equal_4 : decode cX1_equal 4 = .ok (.ifnonnull 5, 3) := dk_199 0 5 (dk_at dksX1_equal_0 4 rfl rfl)
theorem dX1_equal_7 : decode cX1_equal 7 = .ok (.iconst (-1), 1) := dk_2 (dk_at dksX1_equal_0 7 rfl rfl)
theorem dX1_equal_8 : decode cX1_equal 8 = .ok (.ireturn, 1) := dk_172 (dk_at dksX1_equal_0 8 rfl rfl)
theorem dX1_equal_9 : decode cX1_equal 9 = .ok (.aload_n 0, 1) := dk_42 (dk_at dksX1_equal_0 9 rfl rfl)
theorem dX1_equal_10 : decode cX1_equal 10 = .ok (.invokevirtual 185, 3) := dk_182 0 185 (dk_at dksX1_equal_0 10 rfl rfl)
theorem dX1_equal_13 : decode cX1_equal 13 = .ok (.newarray .int, 2) := dk_188_10 (dk_at dksX1_equal_0 13 rfl rfl)
theorem dX1_equal_15 : decode cX1_equal 15 = .ok (.astore_n 1, 1) := dk_76 (dk_at dksX1_equal_0 15 rfl rfl)
theorem dX1_equal_16 : decode cX1_equal 16 = .ok (.iconst 0, 1) := dk_3 (dk_at dksX1_equal_0 16 rfl rfl)
theorem dX1_equal_17 : decode cX1_equal 17 = .ok (.istore_n 2, 1) := dk_61 (dk_at dksX1_equal_0 17 rfl rfl)
theorem dX1_equal_18 : decode cX1_equal 18 = .ok (.iload_n 2, 1) := dk_28 (dk_at dksX1_equal_0 18 rfl rfl)
theorem dX1_equal_19 : decode cX1_equal 19 = .ok (.aload_n 0, 1) := dk_42 (dk_at dksX1_equal_0 19 rfl rfl)
theorem dX1_equal_20 : decode cX1_equal 20 = .ok (.invokevirtual 185, 3) := dk_182 0 185 (dk_at dksX1_equal_0 20 rfl rfl)
theorem dX1_equal_23 : decode cX1_equal 23 = .ok (.if_icmp .ge 17, 3) := dk_162 0 17 (dk_at dksX1_equal_1 0 rfl rfl)
theorem dX1_equal_26 : decode cX1_equal 26 = .ok (.aload_n 1, 1) := dk_43 (dk_at dksX1_equal_1 3 rfl rfl)
theorem dX1_equal_27 : decode cX1_equal 27 = .ok (.iload_n 2, 1) := dk_28 (dk_at dksX1_equal_1 4 rfl rfl)
theorem dX1_equal_28 : decode cX1_equal 28 = .ok (.aload_n 0, 1) := dk_42 (dk_at dksX1_equal_1 5 rfl rfl)
theorem dX1_equal_29 : decode cX1_equal 29 = .ok (.iload_n 2, 1) := dk_28 (dk_at dksX1_equal_1 6 rfl rfl)
theorem dX1_equal_30 : decode cX1_equal 30 = .ok (.invokevirtual 324, 3) := dk_182 1 68 (dk_at dksX1_equal_1 7 rfl rfl)
theorem dX1_equal_33 : decode cX1_equal 33 = .ok (.iastore, 1) := dk_79 (dk_at dksX1_equal_1 10 rfl rfl)
theorem dX1_equal_34 : decode cX1_equal 34 = .ok (.iinc 2 1, 3) := dk_132 2 1 (dk_at dksX1_equal_1 11 rfl rfl)
theorem dX1_equal_37 : decode cX1_equal 37 = .ok (.goto (-19), 3) := dk_167 255 237 (dk_at dksX1_equal_1 14 rfl rfl)
theorem dX1_equal_40 : decode cX1_equal 40 = .ok (.aload_n 0, 1) := dk_42 (dk_at dksX1_equal_1 17 rfl rfl)
theorem dX1_equal_41 : decode cX1_equal 41 = .ok (.getfield 178, 3) := dk_180 0 178 (dk_at dksX1_equal_1 18 rfl rfl)
theorem dX1_equal_44 : decode cX1_equal 44 = .ok (.astore_n 2, 1) := dk_77 (dk_at dksX1_equal_1 21 rfl rfl)
theorem dX1_equal_45 : decode cX1_equal 45 = .ok (.aload_n 0, 1) := dk_42 (dk_at dksX1_equal_1 22 rfl rfl)
theorem dX1_equal_46 : decode cX1_equal 46 = .ok (.aload_n 0, 1) := dk_42 (dk_at dksX1_equal_1 23 rfl rfl)
theorem dX1_equal_47 : decode cX1_equal 47 = .ok (.getfield 223, 3) := dk_180 0 223 (dk_at dksX1_equal_2 0 rfl rfl)
theorem dX1_equal_50 : decode cX1_equal 50 = .ok (.putfield 178, 3) := dk_181 0 178 (dk_at dksX1_equal_2 3 rfl rfl)
theorem dX1_equal_53 : decode cX1_equal 53 = .ok (.iconst 0, 1) := dk_3 (dk_at dksX1_equal_2 6 rfl rfl)
theorem dX1_equal_54 : decode cX1_equal 54 = .ok (.istore_n 3, 1) := dk_62 (dk_at dksX1_equal_2 7 rfl rfl)
theorem dX1_equal_55 : decode cX1_equal 55 = .ok (.iconst 0, 1) := dk_3 (dk_at dksX1_equal_2 8 rfl rfl)
theorem dX1_equal_56 : decode cX1_equal 56 = .ok (.istore 4, 2) := dk_54 4 (dk_at dksX1_equal_2 9 rfl rfl)
theorem dX1_equal_58 : decode cX1_equal 58 = .ok (.iload 4, 2) := dk_21 4 (dk_at dksX1_equal_2 11 rfl rfl)
theorem dX1_equal_60 : decode cX1_equal 60 = .ok (.aload_n 0, 1) := dk_42 (dk_at dksX1_equal_2 13 rfl rfl)
theorem dX1_equal_61 : decode cX1_equal 61 = .ok (.invokevirtual 185, 3) := dk_182 0 185 (dk_at dksX1_equal_2 14 rfl rfl)
theorem dX1_equal_64 : decode cX1_equal 64 = .ok (.if_icmp .ge 25, 3) := dk_162 0 25 (dk_at dksX1_equal_2 17 rfl rfl)
theorem dX1_equal_67 : decode cX1_equal 67 = .ok (.aload_n 0, 1) := dk_42 (dk_at dksX1_equal_2 20 rfl rfl)
theorem dX1_equal_68 : decode cX1_equal 68 = .ok (.iload 4, 2) := dk_21 4 (dk_at dksX1_equal_2 21 rfl rfl)
theorem dX1_equal_70 : decode cX1_equal 70 = .ok (.invokevirtual 324, 3) := dk_182 1 68 (dk_at dksX1_equal_3 0 rfl rfl)
theorem dX1_equal_73 : decode cX1_equal 73 = .ok (.aload_n 1, 1) := dk_43 (dk_at dksX1_equal_3 3 rfl rfl)
theorem dX1_equal_74 : decode cX1_equal 74 = .ok (.iload 4, 2) := dk_21 4 (dk_at dksX1_equal_3 4 rfl rfl)
theorem dX1_equal_76 : decode cX1_equal 76 = .ok (.iaload, 1) := dk_46 (dk_at dksX1_equal_3 6 rfl rfl)
theorem dX1_equal_77 : decode cX1_equal 77 = .ok (.if_icmp .ne 6, 3) := dk_160 0 6 (dk_at dksX1_equal_3 7 rfl rfl)
theorem dX1_equal_80 : decode cX1_equal 80 = .ok (.iinc 3 1, 3) := dk_132 3 1 (dk_at dksX1_equal_3 10 rfl rfl)
theorem dX1_equal_83 : decode cX1_equal 83 = .ok (.iinc 4 1, 3) := dk_132 4 1 (dk_at dksX1_equal_3 13 rfl rfl)
theorem dX1_equal_86 : decode cX1_equal 86 = .ok (.goto (-28), 3) := dk_167 255 228 (dk_at dksX1_equal_3 16 rfl rfl)
theorem dX1_equal_89 : decode cX1_equal 89 = .ok (.aload_n 0, 1) := dk_42 (dk_at dksX1_equal_3 19 rfl rfl)
theorem dX1_equal_90 : decode cX1_equal 90 = .ok (.aload_n 2, 1) := dk_44 (dk_at dksX1_equal_3 20 rfl rfl)
theorem dX1_equal_91 : decode cX1_equal 91 = .ok (.putfield 178, 3) := dk_181 0 178 (dk_at dksX1_equal_3 21 rfl rfl)
theorem dX1_equal_94 : decode cX1_equal 94 = .ok (.iload_n 3, 1) := dk_29 (dk_at dksX1_equal_4 0 rfl rfl)
theorem dX1_equal_95 : decode cX1_equal 95 = .ok (.ireturn, 1) := dk_172 (dk_at dksX1_equal_4 1 rfl rfl)
abbrev cX1_risk : ByteArray := prog_1_method_107_code
def yX1_risk : MethodName := ⟨RX1, "risk", "()I"⟩
def dkwX1_risk_5 : List UInt8 := [27, 172]
abbrev dktX1_risk_5 : List UInt8 := dkwX1_risk_5 ++ []
def dkwX1_risk_4 : List UInt8 := [167, 0, 4, 3, 96, 5, 163, 0, 6, 132, 1, 1, 132, 3, 1, 167, 255, 172, 132, 2, 1, 167, 255, 156]
abbrev dktX1_risk_4 : List UInt8 := dkwX1_risk_4 ++ dktX1_risk_5
def dkwX1_risk_3 : List UInt8 := [154, 0, 7, 4, 167, 0, 4, 3, 96, 42, 180, 0, 178, 180, 1, 88, 29, 46, 154, 0, 7, 4]
abbrev dktX1_risk_3 : List UInt8 := dkwX1_risk_3 ++ dktX1_risk_4
def dkwX1_risk_2 : List UInt8 := [29, 46, 4, 160, 0, 6, 167, 0, 50, 42, 182, 1, 94, 42, 180, 0, 178, 180, 1, 88, 28, 46]
abbrev dktX1_risk_2 : List UInt8 := dkwX1_risk_2 ++ dktX1_risk_3
def dkwX1_risk_1 : List UInt8 := [28, 162, 0, 85, 42, 180, 0, 178, 180, 1, 88, 28, 46, 4, 159, 0, 66, 42, 180, 0, 178, 180, 1, 88]
abbrev dktX1_risk_1 : List UInt8 := dkwX1_risk_1 ++ dktX1_risk_2
def dkwX1_risk_0 : List UInt8 := [42, 182, 0, 243, 154, 0, 5, 2, 172, 3, 60, 3, 61, 28, 42, 182, 0, 247, 162, 0, 98, 3, 62, 29]
abbrev dktX1_risk_0 : List UInt8 := dkwX1_risk_0 ++ dktX1_risk_1
theorem dksX1_risk_0 : cX1_risk.data.toList.drop 0 = dktX1_risk_0 := by decide +kernel
theorem dksX1_risk_1 : cX1_risk.data.toList.drop 24 = dktX1_risk_1 := dk_seg dksX1_risk_0 24 rfl rfl
theorem dksX1_risk_2 : cX1_risk.data.toList.drop 48 = dktX1_risk_2 := dk_seg dksX1_risk_1 24 rfl rfl
theorem dksX1_risk_3 : cX1_risk.data.toList.drop 70 = dktX1_risk_3 := dk_seg dksX1_risk_2 22 rfl rfl
theorem dksX1_risk_4 : cX1_risk.data.toList.drop 92 = dktX1_risk_4 := dk_seg dksX1_risk_3 22 rfl rfl
theorem dksX1_risk_5 : cX1_risk.data.toList.drop 116 = dktX1_risk_5 := dk_seg dksX1_risk_4 24 rfl rfl
theorem dX1_risk_0 : decode cX1_risk 0 = .ok (.aload_n 0, 1) := dk_42 (dk_at dksX1_risk_0 0 rfl rfl)
theorem dX1_risk_1 : decode cX1_risk 1 = .ok (.invokevirtual 243, 3) := dk_182 0 243 (dk_at dksX1_risk_0 1 rfl rfl)
theorem dX1_risk_4 : decode cX1_risk 4 = .ok (.ifCond .ne 5, 3) := dk_154 0 5 (dk_at dksX1_risk_0 4 rfl rfl)
theorem dX1_risk_7 : decode cX1_risk 7 = .ok (.iconst (-1), 1) := dk_2 (dk_at dksX1_risk_0 7 rfl rfl)
theorem dX1_risk_8 : decode cX1_risk 8 = .ok (.ireturn, 1) := dk_172 (dk_at dksX1_risk_0 8 rfl rfl)
theorem dX1_risk_9 : decode cX1_risk 9 = .ok (.iconst 0, 1) := dk_3 (dk_at dksX1_risk_0 9 rfl rfl)
theorem dX1_risk_10 : decode cX1_risk 10 = .ok (.istore_n 1, 1) := dk_60 (dk_at dksX1_risk_0 10 rfl rfl)
theorem dX1_risk_11 : decode cX1_risk 11 = .ok (.iconst 0, 1) := dk_3 (dk_at dksX1_risk_0 11 rfl rfl)
theorem dX1_risk_12 : decode cX1_risk 12 = .ok (.istore_n 2, 1) := dk_61 (dk_at dksX1_risk_0 12 rfl rfl)
theorem dX1_risk_13 : decode cX1_risk 13 = .ok (.iload_n 2, 1) := dk_28 (dk_at dksX1_risk_0 13 rfl rfl)
theorem dX1_risk_14 : decode cX1_risk 14 = .ok (.aload_n 0, 1) := dk_42 (dk_at dksX1_risk_0 14 rfl rfl)
theorem dX1_risk_15 : decode cX1_risk 15 = .ok (.invokevirtual 247, 3) := dk_182 0 247 (dk_at dksX1_risk_0 15 rfl rfl)
theorem dX1_risk_18 : decode cX1_risk 18 = .ok (.if_icmp .ge 98, 3) := dk_162 0 98 (dk_at dksX1_risk_0 18 rfl rfl)
theorem dX1_risk_21 : decode cX1_risk 21 = .ok (.iconst 0, 1) := dk_3 (dk_at dksX1_risk_0 21 rfl rfl)
theorem dX1_risk_22 : decode cX1_risk 22 = .ok (.istore_n 3, 1) := dk_62 (dk_at dksX1_risk_0 22 rfl rfl)
theorem dX1_risk_23 : decode cX1_risk 23 = .ok (.iload_n 3, 1) := dk_29 (dk_at dksX1_risk_0 23 rfl rfl)
theorem dX1_risk_24 : decode cX1_risk 24 = .ok (.iload_n 2, 1) := dk_28 (dk_at dksX1_risk_1 0 rfl rfl)
theorem dX1_risk_25 : decode cX1_risk 25 = .ok (.if_icmp .ge 85, 3) := dk_162 0 85 (dk_at dksX1_risk_1 1 rfl rfl)
theorem dX1_risk_28 : decode cX1_risk 28 = .ok (.aload_n 0, 1) := dk_42 (dk_at dksX1_risk_1 4 rfl rfl)
theorem dX1_risk_29 : decode cX1_risk 29 = .ok (.getfield 178, 3) := dk_180 0 178 (dk_at dksX1_risk_1 5 rfl rfl)
theorem dX1_risk_32 : decode cX1_risk 32 = .ok (.getfield 344, 3) := dk_180 1 88 (dk_at dksX1_risk_1 8 rfl rfl)
theorem dX1_risk_35 : decode cX1_risk 35 = .ok (.iload_n 2, 1) := dk_28 (dk_at dksX1_risk_1 11 rfl rfl)
theorem dX1_risk_36 : decode cX1_risk 36 = .ok (.iaload, 1) := dk_46 (dk_at dksX1_risk_1 12 rfl rfl)
theorem dX1_risk_37 : decode cX1_risk 37 = .ok (.iconst 1, 1) := dk_4 (dk_at dksX1_risk_1 13 rfl rfl)
theorem dX1_risk_38 : decode cX1_risk 38 = .ok (.if_icmp .eq 66, 3) := dk_159 0 66 (dk_at dksX1_risk_1 14 rfl rfl)
theorem dX1_risk_41 : decode cX1_risk 41 = .ok (.aload_n 0, 1) := dk_42 (dk_at dksX1_risk_1 17 rfl rfl)
theorem dX1_risk_42 : decode cX1_risk 42 = .ok (.getfield 178, 3) := dk_180 0 178 (dk_at dksX1_risk_1 18 rfl rfl)
theorem dX1_risk_45 : decode cX1_risk 45 = .ok (.getfield 344, 3) := dk_180 1 88 (dk_at dksX1_risk_1 21 rfl rfl)
theorem dX1_risk_48 : decode cX1_risk 48 = .ok (.iload_n 3, 1) := dk_29 (dk_at dksX1_risk_2 0 rfl rfl)
theorem dX1_risk_49 : decode cX1_risk 49 = .ok (.iaload, 1) := dk_46 (dk_at dksX1_risk_2 1 rfl rfl)
theorem dX1_risk_50 : decode cX1_risk 50 = .ok (.iconst 1, 1) := dk_4 (dk_at dksX1_risk_2 2 rfl rfl)
theorem dX1_risk_51 : decode cX1_risk 51 = .ok (.if_icmp .ne 6, 3) := dk_160 0 6 (dk_at dksX1_risk_2 3 rfl rfl)
theorem dX1_risk_54 : decode cX1_risk 54 = .ok (.goto 50, 3) := dk_167 0 50 (dk_at dksX1_risk_2 6 rfl rfl)
theorem dX1_risk_57 : decode cX1_risk 57 = .ok (.aload_n 0, 1) := dk_42 (dk_at dksX1_risk_2 9 rfl rfl)
theorem dX1_risk_58 : decode cX1_risk 58 = .ok (.invokevirtual 350, 3) := dk_182 1 94 (dk_at dksX1_risk_2 10 rfl rfl)
theorem dX1_risk_61 : decode cX1_risk 61 = .ok (.aload_n 0, 1) := dk_42 (dk_at dksX1_risk_2 13 rfl rfl)
theorem dX1_risk_62 : decode cX1_risk 62 = .ok (.getfield 178, 3) := dk_180 0 178 (dk_at dksX1_risk_2 14 rfl rfl)
theorem dX1_risk_65 : decode cX1_risk 65 = .ok (.getfield 344, 3) := dk_180 1 88 (dk_at dksX1_risk_2 17 rfl rfl)
theorem dX1_risk_68 : decode cX1_risk 68 = .ok (.iload_n 2, 1) := dk_28 (dk_at dksX1_risk_2 20 rfl rfl)
theorem dX1_risk_69 : decode cX1_risk 69 = .ok (.iaload, 1) := dk_46 (dk_at dksX1_risk_2 21 rfl rfl)
theorem dX1_risk_70 : decode cX1_risk 70 = .ok (.ifCond .ne 7, 3) := dk_154 0 7 (dk_at dksX1_risk_3 0 rfl rfl)
theorem dX1_risk_73 : decode cX1_risk 73 = .ok (.iconst 1, 1) := dk_4 (dk_at dksX1_risk_3 3 rfl rfl)
theorem dX1_risk_74 : decode cX1_risk 74 = .ok (.goto 4, 3) := dk_167 0 4 (dk_at dksX1_risk_3 4 rfl rfl)
theorem dX1_risk_77 : decode cX1_risk 77 = .ok (.iconst 0, 1) := dk_3 (dk_at dksX1_risk_3 7 rfl rfl)
theorem dX1_risk_78 : decode cX1_risk 78 = .ok (.iadd, 1) := dk_96 (dk_at dksX1_risk_3 8 rfl rfl)
theorem dX1_risk_79 : decode cX1_risk 79 = .ok (.aload_n 0, 1) := dk_42 (dk_at dksX1_risk_3 9 rfl rfl)
theorem dX1_risk_80 : decode cX1_risk 80 = .ok (.getfield 178, 3) := dk_180 0 178 (dk_at dksX1_risk_3 10 rfl rfl)
theorem dX1_risk_83 : decode cX1_risk 83 = .ok (.getfield 344, 3) := dk_180 1 88 (dk_at dksX1_risk_3 13 rfl rfl)
theorem dX1_risk_86 : decode cX1_risk 86 = .ok (.iload_n 3, 1) := dk_29 (dk_at dksX1_risk_3 16 rfl rfl)
theorem dX1_risk_87 : decode cX1_risk 87 = .ok (.iaload, 1) := dk_46 (dk_at dksX1_risk_3 17 rfl rfl)
theorem dX1_risk_88 : decode cX1_risk 88 = .ok (.ifCond .ne 7, 3) := dk_154 0 7 (dk_at dksX1_risk_3 18 rfl rfl)
theorem dX1_risk_91 : decode cX1_risk 91 = .ok (.iconst 1, 1) := dk_4 (dk_at dksX1_risk_3 21 rfl rfl)
theorem dX1_risk_92 : decode cX1_risk 92 = .ok (.goto 4, 3) := dk_167 0 4 (dk_at dksX1_risk_4 0 rfl rfl)
theorem dX1_risk_95 : decode cX1_risk 95 = .ok (.iconst 0, 1) := dk_3 (dk_at dksX1_risk_4 3 rfl rfl)
theorem dX1_risk_96 : decode cX1_risk 96 = .ok (.iadd, 1) := dk_96 (dk_at dksX1_risk_4 4 rfl rfl)
theorem dX1_risk_97 : decode cX1_risk 97 = .ok (.iconst 2, 1) := dk_5 (dk_at dksX1_risk_4 5 rfl rfl)
theorem dX1_risk_98 : decode cX1_risk 98 = .ok (.if_icmp .gt 6, 3) := dk_163 0 6 (dk_at dksX1_risk_4 6 rfl rfl)
theorem dX1_risk_101 : decode cX1_risk 101 = .ok (.iinc 1 1, 3) := dk_132 1 1 (dk_at dksX1_risk_4 9 rfl rfl)
theorem dX1_risk_104 : decode cX1_risk 104 = .ok (.iinc 3 1, 3) := dk_132 3 1 (dk_at dksX1_risk_4 12 rfl rfl)
theorem dX1_risk_107 : decode cX1_risk 107 = .ok (.goto (-84), 3) := dk_167 255 172 (dk_at dksX1_risk_4 15 rfl rfl)
theorem dX1_risk_110 : decode cX1_risk 110 = .ok (.iinc 2 1, 3) := dk_132 2 1 (dk_at dksX1_risk_4 18 rfl rfl)
theorem dX1_risk_113 : decode cX1_risk 113 = .ok (.goto (-100), 3) := dk_167 255 156 (dk_at dksX1_risk_4 21 rfl rfl)
theorem dX1_risk_116 : decode cX1_risk 116 = .ok (.iload_n 1, 1) := dk_27 (dk_at dksX1_risk_5 0 rfl rfl)
theorem dX1_risk_117 : decode cX1_risk 117 = .ok (.ireturn, 1) := dk_172 (dk_at dksX1_risk_5 1 rfl rfl)
abbrev cX1_first : ByteArray := prog_1_method_109_code
def yX1_first : MethodName := ⟨RX1, "first", "(I)I"⟩
def dkwX1_first_4 : List UInt8 := [182, 0, 237, 42, 180, 0, 178, 180, 1, 91, 28, 46, 100, 167, 0, 8, 42, 28, 182, 2, 22, 172]
abbrev dktX1_first_4 : List UInt8 := dkwX1_first_4 ++ []
def dkwX1_first_3 : List UInt8 := [132, 3, 1, 167, 255, 204, 28, 2, 159, 0, 7, 27, 154, 0, 5, 28, 172, 27, 4, 160, 0, 20, 42]
abbrev dktX1_first_3 : List UInt8 := dkwX1_first_3 ++ dktX1_first_4
def dkwX1_first_2 : List UInt8 := [42, 180, 0, 178, 180, 1, 91, 29, 46, 42, 180, 0, 178, 180, 1, 91, 28, 46, 164, 0, 5, 29, 61]
abbrev dktX1_first_2 : List UInt8 := dkwX1_first_2 ++ dktX1_first_3
def dkwX1_first_1 : List UInt8 := [182, 0, 247, 162, 0, 50, 42, 180, 0, 178, 180, 1, 88, 29, 46, 5, 160, 0, 31, 28, 2, 159, 0, 24]
abbrev dktX1_first_1 : List UInt8 := dkwX1_first_1 ++ dktX1_first_2
def dkwX1_first_0 : List UInt8 := [42, 182, 0, 243, 153, 0, 12, 27, 3, 5, 184, 0, 47, 154, 0, 5, 2, 172, 2, 61, 3, 62, 29, 42]
abbrev dktX1_first_0 : List UInt8 := dkwX1_first_0 ++ dktX1_first_1
theorem dksX1_first_0 : cX1_first.data.toList.drop 0 = dktX1_first_0 := by decide +kernel
theorem dksX1_first_1 : cX1_first.data.toList.drop 24 = dktX1_first_1 := dk_seg dksX1_first_0 24 rfl rfl
theorem dksX1_first_2 : cX1_first.data.toList.drop 48 = dktX1_first_2 := dk_seg dksX1_first_1 24 rfl rfl
theorem dksX1_first_3 : cX1_first.data.toList.drop 71 = dktX1_first_3 := dk_seg dksX1_first_2 23 rfl rfl
theorem dksX1_first_4 : cX1_first.data.toList.drop 94 = dktX1_first_4 := dk_seg dksX1_first_3 23 rfl rfl
theorem dX1_first_0 : decode cX1_first 0 = .ok (.aload_n 0, 1) := dk_42 (dk_at dksX1_first_0 0 rfl rfl)
theorem dX1_first_1 : decode cX1_first 1 = .ok (.invokevirtual 243, 3) := dk_182 0 243 (dk_at dksX1_first_0 1 rfl rfl)
theorem dX1_first_4 : decode cX1_first 4 = .ok (.ifCond .eq 12, 3) := dk_153 0 12 (dk_at dksX1_first_0 4 rfl rfl)
theorem dX1_first_7 : decode cX1_first 7 = .ok (.iload_n 1, 1) := dk_27 (dk_at dksX1_first_0 7 rfl rfl)
theorem dX1_first_8 : decode cX1_first 8 = .ok (.iconst 0, 1) := dk_3 (dk_at dksX1_first_0 8 rfl rfl)
theorem dX1_first_9 : decode cX1_first 9 = .ok (.iconst 2, 1) := dk_5 (dk_at dksX1_first_0 9 rfl rfl)
theorem dX1_first_10 : decode cX1_first 10 = .ok (.invokestatic 47, 3) := dk_184 0 47 (dk_at dksX1_first_0 10 rfl rfl)
theorem dX1_first_13 : decode cX1_first 13 = .ok (.ifCond .ne 5, 3) := dk_154 0 5 (dk_at dksX1_first_0 13 rfl rfl)
theorem dX1_first_16 : decode cX1_first 16 = .ok (.iconst (-1), 1) := dk_2 (dk_at dksX1_first_0 16 rfl rfl)
theorem dX1_first_17 : decode cX1_first 17 = .ok (.ireturn, 1) := dk_172 (dk_at dksX1_first_0 17 rfl rfl)
theorem dX1_first_18 : decode cX1_first 18 = .ok (.iconst (-1), 1) := dk_2 (dk_at dksX1_first_0 18 rfl rfl)
theorem dX1_first_19 : decode cX1_first 19 = .ok (.istore_n 2, 1) := dk_61 (dk_at dksX1_first_0 19 rfl rfl)
theorem dX1_first_20 : decode cX1_first 20 = .ok (.iconst 0, 1) := dk_3 (dk_at dksX1_first_0 20 rfl rfl)
theorem dX1_first_21 : decode cX1_first 21 = .ok (.istore_n 3, 1) := dk_62 (dk_at dksX1_first_0 21 rfl rfl)
theorem dX1_first_22 : decode cX1_first 22 = .ok (.iload_n 3, 1) := dk_29 (dk_at dksX1_first_0 22 rfl rfl)
theorem dX1_first_23 : decode cX1_first 23 = .ok (.aload_n 0, 1) := dk_42 (dk_at dksX1_first_0 23 rfl rfl)
theorem dX1_first_24 : decode cX1_first 24 = .ok (.invokevirtual 247, 3) := dk_182 0 247 (dk_at dksX1_first_1 0 rfl rfl)
theorem dX1_first_27 : decode cX1_first 27 = .ok (.if_icmp .ge 50, 3) := dk_162 0 50 (dk_at dksX1_first_1 3 rfl rfl)
theorem dX1_first_30 : decode cX1_first 30 = .ok (.aload_n 0, 1) := dk_42 (dk_at dksX1_first_1 6 rfl rfl)
theorem dX1_first_31 : decode cX1_first 31 = .ok (.getfield 178, 3) := dk_180 0 178 (dk_at dksX1_first_1 7 rfl rfl)
theorem dX1_first_34 : decode cX1_first 34 = .ok (.getfield 344, 3) := dk_180 1 88 (dk_at dksX1_first_1 10 rfl rfl)
theorem dX1_first_37 : decode cX1_first 37 = .ok (.iload_n 3, 1) := dk_29 (dk_at dksX1_first_1 13 rfl rfl)
theorem dX1_first_38 : decode cX1_first 38 = .ok (.iaload, 1) := dk_46 (dk_at dksX1_first_1 14 rfl rfl)
theorem dX1_first_39 : decode cX1_first 39 = .ok (.iconst 2, 1) := dk_5 (dk_at dksX1_first_1 15 rfl rfl)
theorem dX1_first_40 : decode cX1_first 40 = .ok (.if_icmp .ne 31, 3) := dk_160 0 31 (dk_at dksX1_first_1 16 rfl rfl)
theorem dX1_first_43 : decode cX1_first 43 = .ok (.iload_n 2, 1) := dk_28 (dk_at dksX1_first_1 19 rfl rfl)
theorem dX1_first_44 : decode cX1_first 44 = .ok (.iconst (-1), 1) := dk_2 (dk_at dksX1_first_1 20 rfl rfl)
theorem dX1_first_45 : decode cX1_first 45 = .ok (.if_icmp .eq 24, 3) := dk_159 0 24 (dk_at dksX1_first_1 21 rfl rfl)
theorem dX1_first_48 : decode cX1_first 48 = .ok (.aload_n 0, 1) := dk_42 (dk_at dksX1_first_2 0 rfl rfl)
theorem dX1_first_49 : decode cX1_first 49 = .ok (.getfield 178, 3) := dk_180 0 178 (dk_at dksX1_first_2 1 rfl rfl)
theorem dX1_first_52 : decode cX1_first 52 = .ok (.getfield 347, 3) := dk_180 1 91 (dk_at dksX1_first_2 4 rfl rfl)
theorem dX1_first_55 : decode cX1_first 55 = .ok (.iload_n 3, 1) := dk_29 (dk_at dksX1_first_2 7 rfl rfl)
theorem dX1_first_56 : decode cX1_first 56 = .ok (.iaload, 1) := dk_46 (dk_at dksX1_first_2 8 rfl rfl)
theorem dX1_first_57 : decode cX1_first 57 = .ok (.aload_n 0, 1) := dk_42 (dk_at dksX1_first_2 9 rfl rfl)
theorem dX1_first_58 : decode cX1_first 58 = .ok (.getfield 178, 3) := dk_180 0 178 (dk_at dksX1_first_2 10 rfl rfl)
theorem dX1_first_61 : decode cX1_first 61 = .ok (.getfield 347, 3) := dk_180 1 91 (dk_at dksX1_first_2 13 rfl rfl)
theorem dX1_first_64 : decode cX1_first 64 = .ok (.iload_n 2, 1) := dk_28 (dk_at dksX1_first_2 16 rfl rfl)
theorem dX1_first_65 : decode cX1_first 65 = .ok (.iaload, 1) := dk_46 (dk_at dksX1_first_2 17 rfl rfl)
theorem dX1_first_66 : decode cX1_first 66 = .ok (.if_icmp .le 5, 3) := dk_164 0 5 (dk_at dksX1_first_2 18 rfl rfl)
theorem dX1_first_69 : decode cX1_first 69 = .ok (.iload_n 3, 1) := dk_29 (dk_at dksX1_first_2 21 rfl rfl)
theorem dX1_first_70 : decode cX1_first 70 = .ok (.istore_n 2, 1) := dk_61 (dk_at dksX1_first_2 22 rfl rfl)
theorem dX1_first_71 : decode cX1_first 71 = .ok (.iinc 3 1, 3) := dk_132 3 1 (dk_at dksX1_first_3 0 rfl rfl)
theorem dX1_first_74 : decode cX1_first 74 = .ok (.goto (-52), 3) := dk_167 255 204 (dk_at dksX1_first_3 3 rfl rfl)
theorem dX1_first_77 : decode cX1_first 77 = .ok (.iload_n 2, 1) := dk_28 (dk_at dksX1_first_3 6 rfl rfl)
theorem dX1_first_78 : decode cX1_first 78 = .ok (.iconst (-1), 1) := dk_2 (dk_at dksX1_first_3 7 rfl rfl)
theorem dX1_first_79 : decode cX1_first 79 = .ok (.if_icmp .eq 7, 3) := dk_159 0 7 (dk_at dksX1_first_3 8 rfl rfl)
theorem dX1_first_82 : decode cX1_first 82 = .ok (.iload_n 1, 1) := dk_27 (dk_at dksX1_first_3 11 rfl rfl)
theorem dX1_first_83 : decode cX1_first 83 = .ok (.ifCond .ne 5, 3) := dk_154 0 5 (dk_at dksX1_first_3 12 rfl rfl)
theorem dX1_first_86 : decode cX1_first 86 = .ok (.iload_n 2, 1) := dk_28 (dk_at dksX1_first_3 15 rfl rfl)
theorem dX1_first_87 : decode cX1_first 87 = .ok (.ireturn, 1) := dk_172 (dk_at dksX1_first_3 16 rfl rfl)
theorem dX1_first_88 : decode cX1_first 88 = .ok (.iload_n 1, 1) := dk_27 (dk_at dksX1_first_3 17 rfl rfl)
theorem dX1_first_89 : decode cX1_first 89 = .ok (.iconst 1, 1) := dk_4 (dk_at dksX1_first_3 18 rfl rfl)
theorem dX1_first_90 : decode cX1_first 90 = .ok (.if_icmp .ne 20, 3) := dk_160 0 20 (dk_at dksX1_first_3 19 rfl rfl)
theorem dX1_first_93 : decode cX1_first 93 = .ok (.aload_n 0, 1) := dk_42 (dk_at dksX1_first_3 22 rfl rfl)
theorem dX1_first_94 : decode cX1_first 94 = .ok (.invokevirtual 237, 3) := dk_182 0 237 (dk_at dksX1_first_4 0 rfl rfl)
theorem dX1_first_97 : decode cX1_first 97 = .ok (.aload_n 0, 1) := dk_42 (dk_at dksX1_first_4 3 rfl rfl)
theorem dX1_first_98 : decode cX1_first 98 = .ok (.getfield 178, 3) := dk_180 0 178 (dk_at dksX1_first_4 4 rfl rfl)
theorem dX1_first_101 : decode cX1_first 101 = .ok (.getfield 347, 3) := dk_180 1 91 (dk_at dksX1_first_4 7 rfl rfl)
theorem dX1_first_104 : decode cX1_first 104 = .ok (.iload_n 2, 1) := dk_28 (dk_at dksX1_first_4 10 rfl rfl)
theorem dX1_first_105 : decode cX1_first 105 = .ok (.iaload, 1) := dk_46 (dk_at dksX1_first_4 11 rfl rfl)
theorem dX1_first_106 : decode cX1_first 106 = .ok (.isub, 1) := dk_100 (dk_at dksX1_first_4 12 rfl rfl)
theorem dX1_first_107 : decode cX1_first 107 = .ok (.goto 8, 3) := dk_167 0 8 (dk_at dksX1_first_4 13 rfl rfl)
theorem dX1_first_110 : decode cX1_first 110 = .ok (.aload_n 0, 1) := dk_42 (dk_at dksX1_first_4 16 rfl rfl)
theorem dX1_first_111 : decode cX1_first 111 = .ok (.iload_n 2, 1) := dk_28 (dk_at dksX1_first_4 17 rfl rfl)
theorem dX1_first_112 : decode cX1_first 112 = .ok (.invokevirtual 534, 3) := dk_182 2 22 (dk_at dksX1_first_4 18 rfl rfl)
theorem dX1_first_115 : decode cX1_first 115 = .ok (.ireturn, 1) := dk_172 (dk_at dksX1_first_4 21 rfl rfl)
abbrev cX1_readsTillWhole : ByteArray := prog_1_method_108_code
def yX1_readsTillWhole : MethodName := ⟨RX1, "readsTillWhole", "(I)I"⟩
def dkwX1_readsTillWhole_2 : List UInt8 := [44, 181, 0, 178, 29, 172]
abbrev dktX1_readsTillWhole_2 : List UInt8 := dkwX1_readsTillWhole_2 ++ []
def dkwX1_readsTillWhole_1 : List UInt8 := [180, 0, 178, 42, 180, 0, 178, 180, 2, 4, 182, 2, 18, 44, 44, 180, 2, 4, 182, 2, 18, 100, 62, 42]
abbrev dktX1_readsTillWhole_1 : List UInt8 := dkwX1_readsTillWhole_1 ++ dktX1_readsTillWhole_2
def dkwX1_readsTillWhole_0 : List UInt8 := [42, 180, 0, 178, 77, 42, 44, 182, 2, 14, 181, 0, 178, 42, 27, 16, 12, 182, 1, 176, 87, 42]
abbrev dktX1_readsTillWhole_0 : List UInt8 := dkwX1_readsTillWhole_0 ++ dktX1_readsTillWhole_1
theorem dksX1_readsTillWhole_0 : cX1_readsTillWhole.data.toList.drop 0 = dktX1_readsTillWhole_0 := by decide +kernel
theorem dksX1_readsTillWhole_1 : cX1_readsTillWhole.data.toList.drop 22 = dktX1_readsTillWhole_1 := dk_seg dksX1_readsTillWhole_0 22 rfl rfl
theorem dksX1_readsTillWhole_2 : cX1_readsTillWhole.data.toList.drop 46 = dktX1_readsTillWhole_2 := dk_seg dksX1_readsTillWhole_1 24 rfl rfl
theorem dX1_readsTillWhole_0 : decode cX1_readsTillWhole 0 = .ok (.aload_n 0, 1) := dk_42 (dk_at dksX1_readsTillWhole_0 0 rfl rfl)
theorem dX1_readsTillWhole_1 : decode cX1_readsTillWhole 1 = .ok (.getfield 178, 3) := dk_180 0 178 (dk_at dksX1_readsTillWhole_0 1 rfl rfl)
theorem dX1_readsTillWhole_4 : decode cX1_readsTillWhole 4 = .ok (.astore_n 2, 1) := dk_77 (dk_at dksX1_readsTillWhole_0 4 rfl rfl)
theorem dX1_readsTillWhole_5 : decode cX1_readsTillWhole 5 = .ok (.aload_n 0, 1) := dk_42 (dk_at dksX1_readsTillWhole_0 5 rfl rfl)
theorem dX1_readsTillWhole_6 : decode cX1_readsTillWhole 6 = .ok (.aload_n 2, 1) := dk_44 (dk_at dksX1_readsTillWhole_0 6 rfl rfl)
theorem dX1_readsTillWhole_7 : decode cX1_readsTillWhole 7 = .ok (.invokevirtual 526, 3) := dk_182 2 14 (dk_at dksX1_readsTillWhole_0 7 rfl rfl)
theorem dX1_readsTillWhole_10 : decode cX1_readsTillWhole 10 = .ok (.putfield 178, 3) := dk_181 0 178 (dk_at dksX1_readsTillWhole_0 10 rfl rfl)
theorem dX1_readsTillWhole_13 : decode cX1_readsTillWhole 13 = .ok (.aload_n 0, 1) := dk_42 (dk_at dksX1_readsTillWhole_0 13 rfl rfl)
theorem dX1_readsTillWhole_14 : decode cX1_readsTillWhole 14 = .ok (.iload_n 1, 1) := dk_27 (dk_at dksX1_readsTillWhole_0 14 rfl rfl)
theorem dX1_readsTillWhole_15 : decode cX1_readsTillWhole 15 = .ok (.bipush 12, 2) := dk_16 12 (dk_at dksX1_readsTillWhole_0 15 rfl rfl)
theorem dX1_readsTillWhole_17 : decode cX1_readsTillWhole 17 = .ok (.invokevirtual 432, 3) := dk_182 1 176 (dk_at dksX1_readsTillWhole_0 17 rfl rfl)
theorem dX1_readsTillWhole_20 : decode cX1_readsTillWhole 20 = .ok (.pop, 1) := dk_87 (dk_at dksX1_readsTillWhole_0 20 rfl rfl)
theorem dX1_readsTillWhole_21 : decode cX1_readsTillWhole 21 = .ok (.aload_n 0, 1) := dk_42 (dk_at dksX1_readsTillWhole_0 21 rfl rfl)
theorem dX1_readsTillWhole_22 : decode cX1_readsTillWhole 22 = .ok (.getfield 178, 3) := dk_180 0 178 (dk_at dksX1_readsTillWhole_1 0 rfl rfl)
theorem dX1_readsTillWhole_25 : decode cX1_readsTillWhole 25 = .ok (.aload_n 0, 1) := dk_42 (dk_at dksX1_readsTillWhole_1 3 rfl rfl)
theorem dX1_readsTillWhole_26 : decode cX1_readsTillWhole 26 = .ok (.getfield 178, 3) := dk_180 0 178 (dk_at dksX1_readsTillWhole_1 4 rfl rfl)
theorem dX1_readsTillWhole_29 : decode cX1_readsTillWhole 29 = .ok (.getfield 516, 3) := dk_180 2 4 (dk_at dksX1_readsTillWhole_1 7 rfl rfl)
theorem dX1_readsTillWhole_32 : decode cX1_readsTillWhole 32 = .ok (.invokevirtual 530, 3) := dk_182 2 18 (dk_at dksX1_readsTillWhole_1 10 rfl rfl)
theorem dX1_readsTillWhole_35 : decode cX1_readsTillWhole 35 = .ok (.aload_n 2, 1) := dk_44 (dk_at dksX1_readsTillWhole_1 13 rfl rfl)
theorem dX1_readsTillWhole_36 : decode cX1_readsTillWhole 36 = .ok (.aload_n 2, 1) := dk_44 (dk_at dksX1_readsTillWhole_1 14 rfl rfl)
theorem dX1_readsTillWhole_37 : decode cX1_readsTillWhole 37 = .ok (.getfield 516, 3) := dk_180 2 4 (dk_at dksX1_readsTillWhole_1 15 rfl rfl)
theorem dX1_readsTillWhole_40 : decode cX1_readsTillWhole 40 = .ok (.invokevirtual 530, 3) := dk_182 2 18 (dk_at dksX1_readsTillWhole_1 18 rfl rfl)
theorem dX1_readsTillWhole_43 : decode cX1_readsTillWhole 43 = .ok (.isub, 1) := dk_100 (dk_at dksX1_readsTillWhole_1 21 rfl rfl)
theorem dX1_readsTillWhole_44 : decode cX1_readsTillWhole 44 = .ok (.istore_n 3, 1) := dk_62 (dk_at dksX1_readsTillWhole_1 22 rfl rfl)
theorem dX1_readsTillWhole_45 : decode cX1_readsTillWhole 45 = .ok (.aload_n 0, 1) := dk_42 (dk_at dksX1_readsTillWhole_1 23 rfl rfl)
theorem dX1_readsTillWhole_46 : decode cX1_readsTillWhole 46 = .ok (.aload_n 2, 1) := dk_44 (dk_at dksX1_readsTillWhole_2 0 rfl rfl)
theorem dX1_readsTillWhole_47 : decode cX1_readsTillWhole 47 = .ok (.putfield 178, 3) := dk_181 0 178 (dk_at dksX1_readsTillWhole_2 1 rfl rfl)
theorem dX1_readsTillWhole_50 : decode cX1_readsTillWhole 50 = .ok (.iload_n 3, 1) := dk_29 (dk_at dksX1_readsTillWhole_2 4 rfl rfl)
theorem dX1_readsTillWhole_51 : decode cX1_readsTillWhole 51 = .ok (.ireturn, 1) := dk_172 (dk_at dksX1_readsTillWhole_2 5 rfl rfl)
abbrev cX1_votes : ByteArray := prog_1_method_110_code
def yX1_votes : MethodName := ⟨RX1, "votes", "(II)I"⟩
def dkwX1_votes_5 : List UInt8 := [167, 255, 193, 132, 5, 1, 167, 255, 175, 21, 4, 172]
abbrev dktX1_votes_5 : List UInt8 := dkwX1_votes_5 ++ []
def dkwX1_votes_4 : List UInt8 := [182, 1, 36, 42, 180, 1, 3, 42, 180, 0, 253, 46, 28, 160, 0, 6, 132, 4, 1, 132, 6, 1]
abbrev dktX1_votes_4 : List UInt8 := dkwX1_votes_4 ++ dktX1_votes_5
def dkwX1_votes_3 : List UInt8 := [29, 21, 7, 2, 130, 126, 153, 0, 6, 167, 0, 33, 42, 42, 180, 0, 197, 42, 180, 0, 200, 21, 7]
abbrev dktX1_votes_3 : List UInt8 := dkwX1_votes_3 ++ dktX1_votes_4
def dkwX1_votes_2 : List UInt8 := [162, 0, 78, 3, 54, 6, 21, 6, 21, 5, 162, 0, 62, 4, 21, 5, 120, 4, 21, 6, 120, 128, 54, 7]
abbrev dktX1_votes_2 : List UInt8 := dkwX1_votes_2 ++ dktX1_votes_3
def dkwX1_votes_1 : List UInt8 := [182, 0, 188, 42, 42, 180, 0, 197, 182, 1, 33, 62, 3, 54, 4, 3, 54, 5, 21, 5, 42, 182, 0, 247]
abbrev dktX1_votes_1 : List UInt8 := dkwX1_votes_1 ++ dktX1_votes_2
def dkwX1_votes_0 : List UInt8 := [42, 27, 182, 1, 157, 153, 0, 14, 28, 3, 17, 0, 255, 184, 0, 47, 154, 0, 5, 2, 172, 42, 27]
abbrev dktX1_votes_0 : List UInt8 := dkwX1_votes_0 ++ dktX1_votes_1
theorem dksX1_votes_0 : cX1_votes.data.toList.drop 0 = dktX1_votes_0 := by decide +kernel
theorem dksX1_votes_1 : cX1_votes.data.toList.drop 23 = dktX1_votes_1 := dk_seg dksX1_votes_0 23 rfl rfl
theorem dksX1_votes_2 : cX1_votes.data.toList.drop 47 = dktX1_votes_2 := dk_seg dksX1_votes_1 24 rfl rfl
theorem dksX1_votes_3 : cX1_votes.data.toList.drop 71 = dktX1_votes_3 := dk_seg dksX1_votes_2 24 rfl rfl
theorem dksX1_votes_4 : cX1_votes.data.toList.drop 94 = dktX1_votes_4 := dk_seg dksX1_votes_3 23 rfl rfl
theorem dksX1_votes_5 : cX1_votes.data.toList.drop 116 = dktX1_votes_5 := dk_seg dksX1_votes_4 22 rfl rfl
theorem dX1_votes_0 : decode cX1_votes 0 = .ok (.aload_n 0, 1) := dk_42 (dk_at dksX1_votes_0 0 rfl rfl)
theorem dX1_votes_1 : decode cX1_votes 1 = .ok (.iload_n 1, 1) := dk_27 (dk_at dksX1_votes_0 1 rfl rfl)
theorem dX1_votes_2 : decode cX1_votes 2 = .ok (.invokevirtual 413, 3) := dk_182 1 157 (dk_at dksX1_votes_0 2 rfl rfl)
theorem dX1_votes_5 : decode cX1_votes 5 = .ok (.ifCond .eq 14, 3) := dk_153 0 14 (dk_at dksX1_votes_0 5 rfl rfl)
theorem dX1_votes_8 : decode cX1_votes 8 = .ok (.iload_n 2, 1) := dk_28 (dk_at dksX1_votes_0 8 rfl rfl)
theorem dX1_votes_9 : decode cX1_votes 9 = .ok (.iconst 0, 1) := dk_3 (dk_at dksX1_votes_0 9 rfl rfl)
theorem dX1_votes_10 : decode cX1_votes 10 = .ok (.sipush 255, 3) := dk_17 0 255 (dk_at dksX1_votes_0 10 rfl rfl)
theorem dX1_votes_13 : decode cX1_votes 13 = .ok (.invokestatic 47, 3) := dk_184 0 47 (dk_at dksX1_votes_0 13 rfl rfl)
theorem dX1_votes_16 : decode cX1_votes 16 = .ok (.ifCond .ne 5, 3) := dk_154 0 5 (dk_at dksX1_votes_0 16 rfl rfl)
theorem dX1_votes_19 : decode cX1_votes 19 = .ok (.iconst (-1), 1) := dk_2 (dk_at dksX1_votes_0 19 rfl rfl)
theorem dX1_votes_20 : decode cX1_votes 20 = .ok (.ireturn, 1) := dk_172 (dk_at dksX1_votes_0 20 rfl rfl)
theorem dX1_votes_21 : decode cX1_votes 21 = .ok (.aload_n 0, 1) := dk_42 (dk_at dksX1_votes_0 21 rfl rfl)
theorem dX1_votes_22 : decode cX1_votes 22 = .ok (.iload_n 1, 1) := dk_27 (dk_at dksX1_votes_0 22 rfl rfl)
theorem dX1_votes_23 : decode cX1_votes 23 = .ok (.invokevirtual 188, 3) := dk_182 0 188 (dk_at dksX1_votes_1 0 rfl rfl)
theorem dX1_votes_26 : decode cX1_votes 26 = .ok (.aload_n 0, 1) := dk_42 (dk_at dksX1_votes_1 3 rfl rfl)
theorem dX1_votes_27 : decode cX1_votes 27 = .ok (.aload_n 0, 1) := dk_42 (dk_at dksX1_votes_1 4 rfl rfl)
theorem dX1_votes_28 : decode cX1_votes 28 = .ok (.getfield 197, 3) := dk_180 0 197 (dk_at dksX1_votes_1 5 rfl rfl)
theorem dX1_votes_31 : decode cX1_votes 31 = .ok (.invokevirtual 289, 3) := dk_182 1 33 (dk_at dksX1_votes_1 8 rfl rfl)
theorem dX1_votes_34 : decode cX1_votes 34 = .ok (.istore_n 3, 1) := dk_62 (dk_at dksX1_votes_1 11 rfl rfl)
theorem dX1_votes_35 : decode cX1_votes 35 = .ok (.iconst 0, 1) := dk_3 (dk_at dksX1_votes_1 12 rfl rfl)
theorem dX1_votes_36 : decode cX1_votes 36 = .ok (.istore 4, 2) := dk_54 4 (dk_at dksX1_votes_1 13 rfl rfl)
theorem dX1_votes_38 : decode cX1_votes 38 = .ok (.iconst 0, 1) := dk_3 (dk_at dksX1_votes_1 15 rfl rfl)
theorem dX1_votes_39 : decode cX1_votes 39 = .ok (.istore 5, 2) := dk_54 5 (dk_at dksX1_votes_1 16 rfl rfl)
theorem dX1_votes_41 : decode cX1_votes 41 = .ok (.iload 5, 2) := dk_21 5 (dk_at dksX1_votes_1 18 rfl rfl)
theorem dX1_votes_43 : decode cX1_votes 43 = .ok (.aload_n 0, 1) := dk_42 (dk_at dksX1_votes_1 20 rfl rfl)
theorem dX1_votes_44 : decode cX1_votes 44 = .ok (.invokevirtual 247, 3) := dk_182 0 247 (dk_at dksX1_votes_1 21 rfl rfl)
theorem dX1_votes_47 : decode cX1_votes 47 = .ok (.if_icmp .ge 78, 3) := dk_162 0 78 (dk_at dksX1_votes_2 0 rfl rfl)
theorem dX1_votes_50 : decode cX1_votes 50 = .ok (.iconst 0, 1) := dk_3 (dk_at dksX1_votes_2 3 rfl rfl)
theorem dX1_votes_51 : decode cX1_votes 51 = .ok (.istore 6, 2) := dk_54 6 (dk_at dksX1_votes_2 4 rfl rfl)
theorem dX1_votes_53 : decode cX1_votes 53 = .ok (.iload 6, 2) := dk_21 6 (dk_at dksX1_votes_2 6 rfl rfl)
theorem dX1_votes_55 : decode cX1_votes 55 = .ok (.iload 5, 2) := dk_21 5 (dk_at dksX1_votes_2 8 rfl rfl)
theorem dX1_votes_57 : decode cX1_votes 57 = .ok (.if_icmp .ge 62, 3) := dk_162 0 62 (dk_at dksX1_votes_2 10 rfl rfl)
theorem dX1_votes_60 : decode cX1_votes 60 = .ok (.iconst 1, 1) := dk_4 (dk_at dksX1_votes_2 13 rfl rfl)
theorem dX1_votes_61 : decode cX1_votes 61 = .ok (.iload 5, 2) := dk_21 5 (dk_at dksX1_votes_2 14 rfl rfl)
theorem dX1_votes_63 : decode cX1_votes 63 = .ok (.ishl, 1) := dk_120 (dk_at dksX1_votes_2 16 rfl rfl)
theorem dX1_votes_64 : decode cX1_votes 64 = .ok (.iconst 1, 1) := dk_4 (dk_at dksX1_votes_2 17 rfl rfl)
theorem dX1_votes_65 : decode cX1_votes 65 = .ok (.iload 6, 2) := dk_21 6 (dk_at dksX1_votes_2 18 rfl rfl)
theorem dX1_votes_67 : decode cX1_votes 67 = .ok (.ishl, 1) := dk_120 (dk_at dksX1_votes_2 20 rfl rfl)
theorem dX1_votes_68 : decode cX1_votes 68 = .ok (.ior, 1) := dk_128 (dk_at dksX1_votes_2 21 rfl rfl)
theorem dX1_votes_69 : decode cX1_votes 69 = .ok (.istore 7, 2) := dk_54 7 (dk_at dksX1_votes_2 22 rfl rfl)
theorem dX1_votes_71 : decode cX1_votes 71 = .ok (.iload_n 3, 1) := dk_29 (dk_at dksX1_votes_3 0 rfl rfl)
theorem dX1_votes_72 : decode cX1_votes 72 = .ok (.iload 7, 2) := dk_21 7 (dk_at dksX1_votes_3 1 rfl rfl)
theorem dX1_votes_74 : decode cX1_votes 74 = .ok (.iconst (-1), 1) := dk_2 (dk_at dksX1_votes_3 3 rfl rfl)
theorem dX1_votes_75 : decode cX1_votes 75 = .ok (.ixor, 1) := dk_130 (dk_at dksX1_votes_3 4 rfl rfl)
theorem dX1_votes_76 : decode cX1_votes 76 = .ok (.iand, 1) := dk_126 (dk_at dksX1_votes_3 5 rfl rfl)
theorem dX1_votes_77 : decode cX1_votes 77 = .ok (.ifCond .eq 6, 3) := dk_153 0 6 (dk_at dksX1_votes_3 6 rfl rfl)
theorem dX1_votes_80 : decode cX1_votes 80 = .ok (.goto 33, 3) := dk_167 0 33 (dk_at dksX1_votes_3 9 rfl rfl)
theorem dX1_votes_83 : decode cX1_votes 83 = .ok (.aload_n 0, 1) := dk_42 (dk_at dksX1_votes_3 12 rfl rfl)
theorem dX1_votes_84 : decode cX1_votes 84 = .ok (.aload_n 0, 1) := dk_42 (dk_at dksX1_votes_3 13 rfl rfl)
theorem dX1_votes_85 : decode cX1_votes 85 = .ok (.getfield 197, 3) := dk_180 0 197 (dk_at dksX1_votes_3 14 rfl rfl)
theorem dX1_votes_88 : decode cX1_votes 88 = .ok (.aload_n 0, 1) := dk_42 (dk_at dksX1_votes_3 17 rfl rfl)
theorem dX1_votes_89 : decode cX1_votes 89 = .ok (.getfield 200, 3) := dk_180 0 200 (dk_at dksX1_votes_3 18 rfl rfl)
theorem dX1_votes_92 : decode cX1_votes 92 = .ok (.iload 7, 2) := dk_21 7 (dk_at dksX1_votes_3 21 rfl rfl)
theorem dX1_votes_94 : decode cX1_votes 94 = .ok (.invokevirtual 292, 3) := dk_182 1 36 (dk_at dksX1_votes_4 0 rfl rfl)
theorem dX1_votes_97 : decode cX1_votes 97 = .ok (.aload_n 0, 1) := dk_42 (dk_at dksX1_votes_4 3 rfl rfl)
theorem dX1_votes_98 : decode cX1_votes 98 = .ok (.getfield 259, 3) := dk_180 1 3 (dk_at dksX1_votes_4 4 rfl rfl)
theorem dX1_votes_101 : decode cX1_votes 101 = .ok (.aload_n 0, 1) := dk_42 (dk_at dksX1_votes_4 7 rfl rfl)
theorem dX1_votes_102 : decode cX1_votes 102 = .ok (.getfield 253, 3) := dk_180 0 253 (dk_at dksX1_votes_4 8 rfl rfl)
theorem dX1_votes_105 : decode cX1_votes 105 = .ok (.iaload, 1) := dk_46 (dk_at dksX1_votes_4 11 rfl rfl)
theorem dX1_votes_106 : decode cX1_votes 106 = .ok (.iload_n 2, 1) := dk_28 (dk_at dksX1_votes_4 12 rfl rfl)
theorem dX1_votes_107 : decode cX1_votes 107 = .ok (.if_icmp .ne 6, 3) := dk_160 0 6 (dk_at dksX1_votes_4 13 rfl rfl)
theorem dX1_votes_110 : decode cX1_votes 110 = .ok (.iinc 4 1, 3) := dk_132 4 1 (dk_at dksX1_votes_4 16 rfl rfl)
theorem dX1_votes_113 : decode cX1_votes 113 = .ok (.iinc 6 1, 3) := dk_132 6 1 (dk_at dksX1_votes_4 19 rfl rfl)
theorem dX1_votes_116 : decode cX1_votes 116 = .ok (.goto (-63), 3) := dk_167 255 193 (dk_at dksX1_votes_5 0 rfl rfl)
theorem dX1_votes_119 : decode cX1_votes 119 = .ok (.iinc 5 1, 3) := dk_132 5 1 (dk_at dksX1_votes_5 3 rfl rfl)
theorem dX1_votes_122 : decode cX1_votes 122 = .ok (.goto (-81), 3) := dk_167 255 175 (dk_at dksX1_votes_5 6 rfl rfl)
theorem dX1_votes_125 : decode cX1_votes 125 = .ok (.iload 4, 2) := dk_21 4 (dk_at dksX1_votes_5 9 rfl rfl)
theorem dX1_votes_127 : decode cX1_votes 127 = .ok (.ireturn, 1) := dk_172 (dk_at dksX1_votes_5 11 rfl rfl)
abbrev cX1_span : ByteArray := prog_1_method_111_code
def yX1_span : MethodName := ⟨RX1, "span", "(I)I"⟩
def dkwX1_span_4 : List UInt8 := [167, 255, 190, 27, 154, 0, 7, 28, 167, 0, 4, 29, 172]
abbrev dktX1_span_4 : List UInt8 := dkwX1_span_4 ++ []
def dkwX1_span_3 : List UInt8 := [21, 4, 28, 163, 0, 6, 167, 0, 14, 21, 4, 61, 21, 5, 4, 96, 21, 4, 100, 62, 132, 5, 1]
abbrev dktX1_span_3 : List UInt8 := dkwX1_span_3 ++ dktX1_span_4
def dkwX1_span_2 : List UInt8 := [42, 180, 0, 194, 42, 180, 0, 197, 182, 1, 0, 153, 0, 7, 3, 167, 0, 7, 21, 4, 4, 96, 54, 4]
abbrev dktX1_span_2 : List UInt8 := dkwX1_span_2 ++ dktX1_span_3
def dkwX1_span_1 : List UInt8 := [54, 4, 3, 54, 5, 21, 5, 42, 182, 0, 185, 162, 0, 63, 42, 21, 5, 182, 0, 188, 42, 180, 0, 178]
abbrev dktX1_span_1 : List UInt8 := dkwX1_span_1 ++ dktX1_span_2
def dkwX1_span_0 : List UInt8 := [42, 182, 0, 243, 153, 0, 12, 27, 3, 4, 184, 0, 47, 154, 0, 5, 2, 172, 3, 61, 2, 62, 3]
abbrev dktX1_span_0 : List UInt8 := dkwX1_span_0 ++ dktX1_span_1
theorem dksX1_span_0 : cX1_span.data.toList.drop 0 = dktX1_span_0 := by decide +kernel
theorem dksX1_span_1 : cX1_span.data.toList.drop 23 = dktX1_span_1 := dk_seg dksX1_span_0 23 rfl rfl
theorem dksX1_span_2 : cX1_span.data.toList.drop 47 = dktX1_span_2 := dk_seg dksX1_span_1 24 rfl rfl
theorem dksX1_span_3 : cX1_span.data.toList.drop 71 = dktX1_span_3 := dk_seg dksX1_span_2 24 rfl rfl
theorem dksX1_span_4 : cX1_span.data.toList.drop 94 = dktX1_span_4 := dk_seg dksX1_span_3 23 rfl rfl
theorem dX1_span_0 : decode cX1_span 0 = .ok (.aload_n 0, 1) := dk_42 (dk_at dksX1_span_0 0 rfl rfl)
theorem dX1_span_1 : decode cX1_span 1 = .ok (.invokevirtual 243, 3) := dk_182 0 243 (dk_at dksX1_span_0 1 rfl rfl)
theorem dX1_span_4 : decode cX1_span 4 = .ok (.ifCond .eq 12, 3) := dk_153 0 12 (dk_at dksX1_span_0 4 rfl rfl)
theorem dX1_span_7 : decode cX1_span 7 = .ok (.iload_n 1, 1) := dk_27 (dk_at dksX1_span_0 7 rfl rfl)
theorem dX1_span_8 : decode cX1_span 8 = .ok (.iconst 0, 1) := dk_3 (dk_at dksX1_span_0 8 rfl rfl)
theorem dX1_span_9 : decode cX1_span 9 = .ok (.iconst 1, 1) := dk_4 (dk_at dksX1_span_0 9 rfl rfl)
theorem dX1_span_10 : decode cX1_span 10 = .ok (.invokestatic 47, 3) := dk_184 0 47 (dk_at dksX1_span_0 10 rfl rfl)
theorem dX1_span_13 : decode cX1_span 13 = .ok (.ifCond .ne 5, 3) := dk_154 0 5 (dk_at dksX1_span_0 13 rfl rfl)
theorem dX1_span_16 : decode cX1_span 16 = .ok (.iconst (-1), 1) := dk_2 (dk_at dksX1_span_0 16 rfl rfl)
theorem dX1_span_17 : decode cX1_span 17 = .ok (.ireturn, 1) := dk_172 (dk_at dksX1_span_0 17 rfl rfl)
theorem dX1_span_18 : decode cX1_span 18 = .ok (.iconst 0, 1) := dk_3 (dk_at dksX1_span_0 18 rfl rfl)
theorem dX1_span_19 : decode cX1_span 19 = .ok (.istore_n 2, 1) := dk_61 (dk_at dksX1_span_0 19 rfl rfl)
theorem dX1_span_20 : decode cX1_span 20 = .ok (.iconst (-1), 1) := dk_2 (dk_at dksX1_span_0 20 rfl rfl)
theorem dX1_span_21 : decode cX1_span 21 = .ok (.istore_n 3, 1) := dk_62 (dk_at dksX1_span_0 21 rfl rfl)
theorem dX1_span_22 : decode cX1_span 22 = .ok (.iconst 0, 1) := dk_3 (dk_at dksX1_span_0 22 rfl rfl)
theorem dX1_span_23 : decode cX1_span 23 = .ok (.istore 4, 2) := dk_54 4 (dk_at dksX1_span_1 0 rfl rfl)
theorem dX1_span_25 : decode cX1_span 25 = .ok (.iconst 0, 1) := dk_3 (dk_at dksX1_span_1 2 rfl rfl)
theorem dX1_span_26 : decode cX1_span 26 = .ok (.istore 5, 2) := dk_54 5 (dk_at dksX1_span_1 3 rfl rfl)
theorem dX1_span_28 : decode cX1_span 28 = .ok (.iload 5, 2) := dk_21 5 (dk_at dksX1_span_1 5 rfl rfl)
theorem dX1_span_30 : decode cX1_span 30 = .ok (.aload_n 0, 1) := dk_42 (dk_at dksX1_span_1 7 rfl rfl)
theorem dX1_span_31 : decode cX1_span 31 = .ok (.invokevirtual 185, 3) := dk_182 0 185 (dk_at dksX1_span_1 8 rfl rfl)
theorem dX1_span_34 : decode cX1_span 34 = .ok (.if_icmp .ge 63, 3) := dk_162 0 63 (dk_at dksX1_span_1 11 rfl rfl)
theorem dX1_span_37 : decode cX1_span 37 = .ok (.aload_n 0, 1) := dk_42 (dk_at dksX1_span_1 14 rfl rfl)
theorem dX1_span_38 : decode cX1_span 38 = .ok (.iload 5, 2) := dk_21 5 (dk_at dksX1_span_1 15 rfl rfl)
theorem dX1_span_40 : decode cX1_span 40 = .ok (.invokevirtual 188, 3) := dk_182 0 188 (dk_at dksX1_span_1 17 rfl rfl)
theorem dX1_span_43 : decode cX1_span 43 = .ok (.aload_n 0, 1) := dk_42 (dk_at dksX1_span_1 20 rfl rfl)
theorem dX1_span_44 : decode cX1_span 44 = .ok (.getfield 178, 3) := dk_180 0 178 (dk_at dksX1_span_1 21 rfl rfl)
theorem dX1_span_47 : decode cX1_span 47 = .ok (.aload_n 0, 1) := dk_42 (dk_at dksX1_span_2 0 rfl rfl)
theorem dX1_span_48 : decode cX1_span 48 = .ok (.getfield 194, 3) := dk_180 0 194 (dk_at dksX1_span_2 1 rfl rfl)
theorem dX1_span_51 : decode cX1_span 51 = .ok (.aload_n 0, 1) := dk_42 (dk_at dksX1_span_2 4 rfl rfl)
theorem dX1_span_52 : decode cX1_span 52 = .ok (.getfield 197, 3) := dk_180 0 197 (dk_at dksX1_span_2 5 rfl rfl)
theorem dX1_span_55 : decode cX1_span 55 = .ok (.invokevirtual 256, 3) := dk_182 1 0 (dk_at dksX1_span_2 8 rfl rfl)
theorem dX1_span_58 : decode cX1_span 58 = .ok (.ifCond .eq 7, 3) := dk_153 0 7 (dk_at dksX1_span_2 11 rfl rfl)
theorem dX1_span_61 : decode cX1_span 61 = .ok (.iconst 0, 1) := dk_3 (dk_at dksX1_span_2 14 rfl rfl)
theorem dX1_span_62 : decode cX1_span 62 = .ok (.goto 7, 3) := dk_167 0 7 (dk_at dksX1_span_2 15 rfl rfl)
theorem dX1_span_65 : decode cX1_span 65 = .ok (.iload 4, 2) := dk_21 4 (dk_at dksX1_span_2 18 rfl rfl)
theorem dX1_span_67 : decode cX1_span 67 = .ok (.iconst 1, 1) := dk_4 (dk_at dksX1_span_2 20 rfl rfl)
theorem dX1_span_68 : decode cX1_span 68 = .ok (.iadd, 1) := dk_96 (dk_at dksX1_span_2 21 rfl rfl)
theorem dX1_span_69 : decode cX1_span 69 = .ok (.istore 4, 2) := dk_54 4 (dk_at dksX1_span_2 22 rfl rfl)
theorem dX1_span_71 : decode cX1_span 71 = .ok (.iload 4, 2) := dk_21 4 (dk_at dksX1_span_3 0 rfl rfl)
theorem dX1_span_73 : decode cX1_span 73 = .ok (.iload_n 2, 1) := dk_28 (dk_at dksX1_span_3 2 rfl rfl)
theorem dX1_span_74 : decode cX1_span 74 = .ok (.if_icmp .gt 6, 3) := dk_163 0 6 (dk_at dksX1_span_3 3 rfl rfl)
theorem dX1_span_77 : decode cX1_span 77 = .ok (.goto 14, 3) := dk_167 0 14 (dk_at dksX1_span_3 6 rfl rfl)
theorem dX1_span_80 : decode cX1_span 80 = .ok (.iload 4, 2) := dk_21 4 (dk_at dksX1_span_3 9 rfl rfl)
theorem dX1_span_82 : decode cX1_span 82 = .ok (.istore_n 2, 1) := dk_61 (dk_at dksX1_span_3 11 rfl rfl)
theorem dX1_span_83 : decode cX1_span 83 = .ok (.iload 5, 2) := dk_21 5 (dk_at dksX1_span_3 12 rfl rfl)
theorem dX1_span_85 : decode cX1_span 85 = .ok (.iconst 1, 1) := dk_4 (dk_at dksX1_span_3 14 rfl rfl)
theorem dX1_span_86 : decode cX1_span 86 = .ok (.iadd, 1) := dk_96 (dk_at dksX1_span_3 15 rfl rfl)
theorem dX1_span_87 : decode cX1_span 87 = .ok (.iload 4, 2) := dk_21 4 (dk_at dksX1_span_3 16 rfl rfl)
theorem dX1_span_89 : decode cX1_span 89 = .ok (.isub, 1) := dk_100 (dk_at dksX1_span_3 18 rfl rfl)
theorem dX1_span_90 : decode cX1_span 90 = .ok (.istore_n 3, 1) := dk_62 (dk_at dksX1_span_3 19 rfl rfl)
theorem dX1_span_91 : decode cX1_span 91 = .ok (.iinc 5 1, 3) := dk_132 5 1 (dk_at dksX1_span_3 20 rfl rfl)
theorem dX1_span_94 : decode cX1_span 94 = .ok (.goto (-66), 3) := dk_167 255 190 (dk_at dksX1_span_4 0 rfl rfl)
theorem dX1_span_97 : decode cX1_span 97 = .ok (.iload_n 1, 1) := dk_27 (dk_at dksX1_span_4 3 rfl rfl)
theorem dX1_span_98 : decode cX1_span 98 = .ok (.ifCond .ne 7, 3) := dk_154 0 7 (dk_at dksX1_span_4 4 rfl rfl)
theorem dX1_span_101 : decode cX1_span 101 = .ok (.iload_n 2, 1) := dk_28 (dk_at dksX1_span_4 7 rfl rfl)
theorem dX1_span_102 : decode cX1_span 102 = .ok (.goto 4, 3) := dk_167 0 4 (dk_at dksX1_span_4 8 rfl rfl)
theorem dX1_span_105 : decode cX1_span 105 = .ok (.iload_n 3, 1) := dk_29 (dk_at dksX1_span_4 11 rfl rfl)
theorem dX1_span_106 : decode cX1_span 106 = .ok (.ireturn, 1) := dk_172 (dk_at dksX1_span_4 12 rfl rfl)
abbrev cX1_step : ByteArray := prog_1_method_113_code
def yX1_step : MethodName := ⟨RX1, "step", "(III)I"⟩
def dkwX1_step_2 : List UInt8 := [167, 0, 6, 19, 1, 241, 172]
abbrev dktX1_step_2 : List UInt8 := dkwX1_step_2 ++ []
def dkwX1_step_1 : List UInt8 := [29, 3, 7, 184, 0, 47, 153, 0, 21, 42, 180, 0, 128, 8, 16, 16, 27, 104, 28, 96, 104, 29, 96, 46]
abbrev dktX1_step_1 : List UInt8 := dkwX1_step_1 ++ dktX1_step_2
def dkwX1_step_0 : List UInt8 := [42, 27, 182, 2, 25, 153, 0, 46, 28, 3, 42, 180, 0, 138, 27, 46, 4, 100, 184, 0, 47, 153, 0, 30]
abbrev dktX1_step_0 : List UInt8 := dkwX1_step_0 ++ dktX1_step_1
theorem dksX1_step_0 : cX1_step.data.toList.drop 0 = dktX1_step_0 := by decide +kernel
theorem dksX1_step_1 : cX1_step.data.toList.drop 24 = dktX1_step_1 := dk_seg dksX1_step_0 24 rfl rfl
theorem dksX1_step_2 : cX1_step.data.toList.drop 48 = dktX1_step_2 := dk_seg dksX1_step_1 24 rfl rfl
theorem dX1_step_0 : decode cX1_step 0 = .ok (.aload_n 0, 1) := dk_42 (dk_at dksX1_step_0 0 rfl rfl)
theorem dX1_step_1 : decode cX1_step 1 = .ok (.iload_n 1, 1) := dk_27 (dk_at dksX1_step_0 1 rfl rfl)
theorem dX1_step_2 : decode cX1_step 2 = .ok (.invokevirtual 537, 3) := dk_182 2 25 (dk_at dksX1_step_0 2 rfl rfl)
theorem dX1_step_5 : decode cX1_step 5 = .ok (.ifCond .eq 46, 3) := dk_153 0 46 (dk_at dksX1_step_0 5 rfl rfl)
theorem dX1_step_8 : decode cX1_step 8 = .ok (.iload_n 2, 1) := dk_28 (dk_at dksX1_step_0 8 rfl rfl)
theorem dX1_step_9 : decode cX1_step 9 = .ok (.iconst 0, 1) := dk_3 (dk_at dksX1_step_0 9 rfl rfl)
theorem dX1_step_10 : decode cX1_step 10 = .ok (.aload_n 0, 1) := dk_42 (dk_at dksX1_step_0 10 rfl rfl)
theorem dX1_step_11 : decode cX1_step 11 = .ok (.getfield 138, 3) := dk_180 0 138 (dk_at dksX1_step_0 11 rfl rfl)
theorem dX1_step_14 : decode cX1_step 14 = .ok (.iload_n 1, 1) := dk_27 (dk_at dksX1_step_0 14 rfl rfl)
theorem dX1_step_15 : decode cX1_step 15 = .ok (.iaload, 1) := dk_46 (dk_at dksX1_step_0 15 rfl rfl)
theorem dX1_step_16 : decode cX1_step 16 = .ok (.iconst 1, 1) := dk_4 (dk_at dksX1_step_0 16 rfl rfl)
theorem dX1_step_17 : decode cX1_step 17 = .ok (.isub, 1) := dk_100 (dk_at dksX1_step_0 17 rfl rfl)
theorem dX1_step_18 : decode cX1_step 18 = .ok (.invokestatic 47, 3) := dk_184 0 47 (dk_at dksX1_step_0 18 rfl rfl)
theorem dX1_step_21 : decode cX1_step 21 = .ok (.ifCond .eq 30, 3) := dk_153 0 30 (dk_at dksX1_step_0 21 rfl rfl)
theorem dX1_step_24 : decode cX1_step 24 = .ok (.iload_n 3, 1) := dk_29 (dk_at dksX1_step_1 0 rfl rfl)
theorem dX1_step_25 : decode cX1_step 25 = .ok (.iconst 0, 1) := dk_3 (dk_at dksX1_step_1 1 rfl rfl)
theorem dX1_step_26 : decode cX1_step 26 = .ok (.iconst 4, 1) := dk_7 (dk_at dksX1_step_1 2 rfl rfl)
theorem dX1_step_27 : decode cX1_step 27 = .ok (.invokestatic 47, 3) := dk_184 0 47 (dk_at dksX1_step_1 3 rfl rfl)
theorem dX1_step_30 : decode cX1_step 30 = .ok (.ifCond .eq 21, 3) := dk_153 0 21 (dk_at dksX1_step_1 6 rfl rfl)
theorem dX1_step_33 : decode cX1_step 33 = .ok (.aload_n 0, 1) := dk_42 (dk_at dksX1_step_1 9 rfl rfl)
theorem dX1_step_34 : decode cX1_step 34 = .ok (.getfield 128, 3) := dk_180 0 128 (dk_at dksX1_step_1 10 rfl rfl)
theorem dX1_step_37 : decode cX1_step 37 = .ok (.iconst 5, 1) := dk_8 (dk_at dksX1_step_1 13 rfl rfl)
theorem dX1_step_38 : decode cX1_step 38 = .ok (.bipush 16, 2) := dk_16 16 (dk_at dksX1_step_1 14 rfl rfl)
theorem dX1_step_40 : decode cX1_step 40 = .ok (.iload_n 1, 1) := dk_27 (dk_at dksX1_step_1 16 rfl rfl)
theorem dX1_step_41 : decode cX1_step 41 = .ok (.imul, 1) := dk_104 (dk_at dksX1_step_1 17 rfl rfl)
theorem dX1_step_42 : decode cX1_step 42 = .ok (.iload_n 2, 1) := dk_28 (dk_at dksX1_step_1 18 rfl rfl)
theorem dX1_step_43 : decode cX1_step 43 = .ok (.iadd, 1) := dk_96 (dk_at dksX1_step_1 19 rfl rfl)
theorem dX1_step_44 : decode cX1_step 44 = .ok (.imul, 1) := dk_104 (dk_at dksX1_step_1 20 rfl rfl)
theorem dX1_step_45 : decode cX1_step 45 = .ok (.iload_n 3, 1) := dk_29 (dk_at dksX1_step_1 21 rfl rfl)
theorem dX1_step_46 : decode cX1_step 46 = .ok (.iadd, 1) := dk_96 (dk_at dksX1_step_1 22 rfl rfl)
theorem dX1_step_47 : decode cX1_step 47 = .ok (.iaload, 1) := dk_46 (dk_at dksX1_step_1 23 rfl rfl)
theorem dX1_step_48 : decode cX1_step 48 = .ok (.goto 6, 3) := dk_167 0 6 (dk_at dksX1_step_2 0 rfl rfl)
theorem dX1_step_51 : decode cX1_step 51 = .ok (.ldc_w 497, 3) := dk_19 1 241 (dk_at dksX1_step_2 3 rfl rfl)
theorem dX1_step_54 : decode cX1_step 54 = .ok (.ireturn, 1) := dk_172 (dk_at dksX1_step_2 6 rfl rfl)
abbrev cX1_isScript : ByteArray := prog_1_method_112_code
def yX1_isScript : MethodName := ⟨RX1, "isScript", "(I)Z"⟩
def dkwX1_isScript_0 : List UInt8 := [27, 3, 42, 180, 0, 152, 4, 100, 184, 0, 47, 172]
abbrev dktX1_isScript_0 : List UInt8 := dkwX1_isScript_0 ++ []
theorem dksX1_isScript_0 : cX1_isScript.data.toList.drop 0 = dktX1_isScript_0 := by decide +kernel
theorem dX1_isScript_0 : decode cX1_isScript 0 = .ok (.iload_n 1, 1) := dk_27 (dk_at dksX1_isScript_0 0 rfl rfl)
theorem dX1_isScript_1 : decode cX1_isScript 1 = .ok (.iconst 0, 1) := dk_3 (dk_at dksX1_isScript_0 1 rfl rfl)
theorem dX1_isScript_2 : decode cX1_isScript 2 = .ok (.aload_n 0, 1) := dk_42 (dk_at dksX1_isScript_0 2 rfl rfl)
theorem dX1_isScript_3 : decode cX1_isScript 3 = .ok (.getfield 152, 3) := dk_180 0 152 (dk_at dksX1_isScript_0 3 rfl rfl)
theorem dX1_isScript_6 : decode cX1_isScript 6 = .ok (.iconst 1, 1) := dk_4 (dk_at dksX1_isScript_0 6 rfl rfl)
theorem dX1_isScript_7 : decode cX1_isScript 7 = .ok (.isub, 1) := dk_100 (dk_at dksX1_isScript_0 7 rfl rfl)
theorem dX1_isScript_8 : decode cX1_isScript 8 = .ok (.invokestatic 47, 3) := dk_184 0 47 (dk_at dksX1_isScript_0 8 rfl rfl)
theorem dX1_isScript_11 : decode cX1_isScript 11 = .ok (.ireturn, 1) := dk_172 (dk_at dksX1_isScript_0 11 rfl rfl)
abbrev cX1_run : ByteArray := prog_1_method_115_code
def yX1_run : MethodName := ⟨RX1, "run", "(II)I"⟩
def dkwX1_run_4 : List UInt8 := [21, 4, 172]
abbrev dktX1_run_4 : List UInt8 := dkwX1_run_4 ++ []
def dkwX1_run_3 : List UInt8 := [160, 0, 8, 21, 5, 167, 0, 20, 21, 4, 42, 180, 0, 138, 27, 46, 160, 0, 7, 2, 167, 0, 5]
abbrev dktX1_run_3 : List UInt8 := dkwX1_run_3 ++ dktX1_run_4
def dkwX1_run_2 : List UInt8 := [54, 4, 42, 180, 0, 178, 182, 1, 195, 45, 182, 1, 195, 100, 54, 5, 42, 45, 181, 0, 178, 28, 4]
abbrev dktX1_run_2 : List UInt8 := dkwX1_run_2 ++ dktX1_run_3
def dkwX1_run_1 : List UInt8 := [19, 1, 241, 172, 42, 180, 0, 178, 78, 42, 45, 182, 2, 14, 181, 0, 178, 42, 27, 3, 182, 2, 28]
abbrev dktX1_run_1 : List UInt8 := dkwX1_run_1 ++ dktX1_run_2
def dkwX1_run_0 : List UInt8 := [42, 27, 182, 2, 25, 153, 0, 19, 42, 182, 0, 243, 153, 0, 12, 28, 3, 4, 184, 0, 47, 154, 0, 7]
abbrev dktX1_run_0 : List UInt8 := dkwX1_run_0 ++ dktX1_run_1
theorem dksX1_run_0 : cX1_run.data.toList.drop 0 = dktX1_run_0 := by decide +kernel
theorem dksX1_run_1 : cX1_run.data.toList.drop 24 = dktX1_run_1 := dk_seg dksX1_run_0 24 rfl rfl
theorem dksX1_run_2 : cX1_run.data.toList.drop 47 = dktX1_run_2 := dk_seg dksX1_run_1 23 rfl rfl
theorem dksX1_run_3 : cX1_run.data.toList.drop 70 = dktX1_run_3 := dk_seg dksX1_run_2 23 rfl rfl
theorem dksX1_run_4 : cX1_run.data.toList.drop 93 = dktX1_run_4 := dk_seg dksX1_run_3 23 rfl rfl
theorem dX1_run_0 : decode cX1_run 0 = .ok (.aload_n 0, 1) := dk_42 (dk_at dksX1_run_0 0 rfl rfl)
theorem dX1_run_1 : decode cX1_run 1 = .ok (.iload_n 1, 1) := dk_27 (dk_at dksX1_run_0 1 rfl rfl)
theorem dX1_run_2 : decode cX1_run 2 = .ok (.invokevirtual 537, 3) := dk_182 2 25 (dk_at dksX1_run_0 2 rfl rfl)
theorem dX1_run_5 : decode cX1_run 5 = .ok (.ifCond .eq 19, 3) := dk_153 0 19 (dk_at dksX1_run_0 5 rfl rfl)
theorem dX1_run_8 : decode cX1_run 8 = .ok (.aload_n 0, 1) := dk_42 (dk_at dksX1_run_0 8 rfl rfl)
theorem dX1_run_9 : decode cX1_run 9 = .ok (.invokevirtual 243, 3) := dk_182 0 243 (dk_at dksX1_run_0 9 rfl rfl)
theorem dX1_run_12 : decode cX1_run 12 = .ok (.ifCond .eq 12, 3) := dk_153 0 12 (dk_at dksX1_run_0 12 rfl rfl)
theorem dX1_run_15 : decode cX1_run 15 = .ok (.iload_n 2, 1) := dk_28 (dk_at dksX1_run_0 15 rfl rfl)
theorem dX1_run_16 : decode cX1_run 16 = .ok (.iconst 0, 1) := dk_3 (dk_at dksX1_run_0 16 rfl rfl)
theorem dX1_run_17 : decode cX1_run 17 = .ok (.iconst 1, 1) := dk_4 (dk_at dksX1_run_0 17 rfl rfl)
theorem dX1_run_18 : decode cX1_run 18 = .ok (.invokestatic 47, 3) := dk_184 0 47 (dk_at dksX1_run_0 18 rfl rfl)
theorem dX1_run_21 : decode cX1_run 21 = .ok (.ifCond .ne 7, 3) := dk_154 0 7 (dk_at dksX1_run_0 21 rfl rfl)
theorem dX1_run_24 : decode cX1_run 24 = .ok (.ldc_w 497, 3) := dk_19 1 241 (dk_at dksX1_run_1 0 rfl rfl)
theorem dX1_run_27 : decode cX1_run 27 = .ok (.ireturn, 1) := dk_172 (dk_at dksX1_run_1 3 rfl rfl)
theorem dX1_run_28 : decode cX1_run 28 = .ok (.aload_n 0, 1) := dk_42 (dk_at dksX1_run_1 4 rfl rfl)
theorem dX1_run_29 : decode cX1_run 29 = .ok (.getfield 178, 3) := dk_180 0 178 (dk_at dksX1_run_1 5 rfl rfl)
theorem dX1_run_32 : decode cX1_run 32 = .ok (.astore_n 3, 1) := dk_78 (dk_at dksX1_run_1 8 rfl rfl)
theorem dX1_run_33 : decode cX1_run 33 = .ok (.aload_n 0, 1) := dk_42 (dk_at dksX1_run_1 9 rfl rfl)
theorem dX1_run_34 : decode cX1_run 34 = .ok (.aload_n 3, 1) := dk_45 (dk_at dksX1_run_1 10 rfl rfl)
theorem dX1_run_35 : decode cX1_run 35 = .ok (.invokevirtual 526, 3) := dk_182 2 14 (dk_at dksX1_run_1 11 rfl rfl)
theorem dX1_run_38 : decode cX1_run 38 = .ok (.putfield 178, 3) := dk_181 0 178 (dk_at dksX1_run_1 14 rfl rfl)
theorem dX1_run_41 : decode cX1_run 41 = .ok (.aload_n 0, 1) := dk_42 (dk_at dksX1_run_1 17 rfl rfl)
theorem dX1_run_42 : decode cX1_run 42 = .ok (.iload_n 1, 1) := dk_27 (dk_at dksX1_run_1 18 rfl rfl)
theorem dX1_run_43 : decode cX1_run 43 = .ok (.iconst 0, 1) := dk_3 (dk_at dksX1_run_1 19 rfl rfl)
theorem dX1_run_44 : decode cX1_run 44 = .ok (.invokevirtual 540, 3) := dk_182 2 28 (dk_at dksX1_run_1 20 rfl rfl)
theorem dX1_run_47 : decode cX1_run 47 = .ok (.istore 4, 2) := dk_54 4 (dk_at dksX1_run_2 0 rfl rfl)
theorem dX1_run_49 : decode cX1_run 49 = .ok (.aload_n 0, 1) := dk_42 (dk_at dksX1_run_2 2 rfl rfl)
theorem dX1_run_50 : decode cX1_run 50 = .ok (.getfield 178, 3) := dk_180 0 178 (dk_at dksX1_run_2 3 rfl rfl)
theorem dX1_run_53 : decode cX1_run 53 = .ok (.invokevirtual 451, 3) := dk_182 1 195 (dk_at dksX1_run_2 6 rfl rfl)
theorem dX1_run_56 : decode cX1_run 56 = .ok (.aload_n 3, 1) := dk_45 (dk_at dksX1_run_2 9 rfl rfl)
theorem dX1_run_57 : decode cX1_run 57 = .ok (.invokevirtual 451, 3) := dk_182 1 195 (dk_at dksX1_run_2 10 rfl rfl)
theorem dX1_run_60 : decode cX1_run 60 = .ok (.isub, 1) := dk_100 (dk_at dksX1_run_2 13 rfl rfl)
theorem dX1_run_61 : decode cX1_run 61 = .ok (.istore 5, 2) := dk_54 5 (dk_at dksX1_run_2 14 rfl rfl)
theorem dX1_run_63 : decode cX1_run 63 = .ok (.aload_n 0, 1) := dk_42 (dk_at dksX1_run_2 16 rfl rfl)
theorem dX1_run_64 : decode cX1_run 64 = .ok (.aload_n 3, 1) := dk_45 (dk_at dksX1_run_2 17 rfl rfl)
theorem dX1_run_65 : decode cX1_run 65 = .ok (.putfield 178, 3) := dk_181 0 178 (dk_at dksX1_run_2 18 rfl rfl)
theorem dX1_run_68 : decode cX1_run 68 = .ok (.iload_n 2, 1) := dk_28 (dk_at dksX1_run_2 21 rfl rfl)
theorem dX1_run_69 : decode cX1_run 69 = .ok (.iconst 1, 1) := dk_4 (dk_at dksX1_run_2 22 rfl rfl)
theorem dX1_run_70 : decode cX1_run 70 = .ok (.if_icmp .ne 8, 3) := dk_160 0 8 (dk_at dksX1_run_3 0 rfl rfl)
theorem dX1_run_73 : decode cX1_run 73 = .ok (.iload 5, 2) := dk_21 5 (dk_at dksX1_run_3 3 rfl rfl)
theorem dX1_run_75 : decode cX1_run 75 = .ok (.goto 20, 3) := dk_167 0 20 (dk_at dksX1_run_3 5 rfl rfl)
theorem dX1_run_78 : decode cX1_run 78 = .ok (.iload 4, 2) := dk_21 4 (dk_at dksX1_run_3 8 rfl rfl)
theorem dX1_run_80 : decode cX1_run 80 = .ok (.aload_n 0, 1) := dk_42 (dk_at dksX1_run_3 10 rfl rfl)
theorem dX1_run_81 : decode cX1_run 81 = .ok (.getfield 138, 3) := dk_180 0 138 (dk_at dksX1_run_3 11 rfl rfl)
theorem dX1_run_84 : decode cX1_run 84 = .ok (.iload_n 1, 1) := dk_27 (dk_at dksX1_run_3 14 rfl rfl)
theorem dX1_run_85 : decode cX1_run 85 = .ok (.iaload, 1) := dk_46 (dk_at dksX1_run_3 15 rfl rfl)
theorem dX1_run_86 : decode cX1_run 86 = .ok (.if_icmp .ne 7, 3) := dk_160 0 7 (dk_at dksX1_run_3 16 rfl rfl)
theorem dX1_run_89 : decode cX1_run 89 = .ok (.iconst (-1), 1) := dk_2 (dk_at dksX1_run_3 19 rfl rfl)
theorem dX1_run_90 : decode cX1_run 90 = .ok (.goto 5, 3) := dk_167 0 5 (dk_at dksX1_run_3 20 rfl rfl)
theorem dX1_run_93 : decode cX1_run 93 = .ok (.iload 4, 2) := dk_21 4 (dk_at dksX1_run_4 0 rfl rfl)
theorem dX1_run_95 : decode cX1_run 95 = .ok (.ireturn, 1) := dk_172 (dk_at dksX1_run_4 2 rfl rfl)
abbrev cX1_goSteps : ByteArray := prog_1_method_114_code
def yX1_goSteps : MethodName := ⟨RX1, "goSteps", "(IZ)I"⟩
def dkwX1_goSteps_8 : List UInt8 := [172]
abbrev dktX1_goSteps_8 : List UInt8 := dkwX1_goSteps_8 ++ []
def dkwX1_goSteps_7 : List UInt8 := [180, 0, 128, 21, 4, 7, 96, 46, 182, 1, 198, 87, 132, 3, 1, 167, 255, 77, 42, 180, 0, 138, 27, 46]
abbrev dktX1_goSteps_7 : List UInt8 := dkwX1_goSteps_7 ++ dktX1_goSteps_8
def dkwX1_goSteps_6 : List UInt8 := [21, 4, 4, 96, 46, 42, 180, 0, 128, 21, 4, 5, 96, 46, 42, 180, 0, 128, 21, 4, 6, 96, 46, 42]
abbrev dktX1_goSteps_6 : List UInt8 := dkwX1_goSteps_6 ++ dktX1_goSteps_7
def dkwX1_goSteps_5 : List UInt8 := [21, 4, 7, 96, 46, 182, 1, 210, 87, 167, 0, 51, 42, 42, 180, 0, 128, 21, 4, 46, 42, 180, 0, 128]
abbrev dktX1_goSteps_5 : List UInt8 := dkwX1_goSteps_5 ++ dktX1_goSteps_6
def dkwX1_goSteps_4 : List UInt8 := [96, 46, 42, 180, 0, 128, 21, 4, 5, 96, 46, 42, 180, 0, 128, 21, 4, 6, 96, 46, 42, 180, 0, 128]
abbrev dktX1_goSteps_4 : List UInt8 := dkwX1_goSteps_4 ++ dktX1_goSteps_5
def dkwX1_goSteps_3 : List UInt8 := [159, 0, 5, 29, 172, 28, 153, 0, 54, 42, 42, 180, 0, 128, 21, 4, 46, 42, 180, 0, 128, 21, 4, 4]
abbrev dktX1_goSteps_3 : List UInt8 := dkwX1_goSteps_3 ++ dktX1_goSteps_4
def dkwX1_goSteps_2 : List UInt8 := [42, 180, 0, 128, 21, 4, 6, 96, 46, 42, 180, 0, 128, 21, 4, 7, 96, 46, 182, 1, 207, 2]
abbrev dktX1_goSteps_2 : List UInt8 := dkwX1_goSteps_2 ++ dktX1_goSteps_3
def dkwX1_goSteps_1 : List UInt8 := [180, 0, 128, 21, 4, 46, 42, 180, 0, 128, 21, 4, 4, 96, 46, 42, 180, 0, 128, 21, 4, 5, 96, 46]
abbrev dktX1_goSteps_1 : List UInt8 := dkwX1_goSteps_1 ++ dktX1_goSteps_2
def dkwX1_goSteps_0 : List UInt8 := [3, 62, 29, 42, 180, 0, 138, 27, 46, 162, 0, 175, 8, 16, 16, 27, 104, 29, 96, 104, 54, 4, 42, 42]
abbrev dktX1_goSteps_0 : List UInt8 := dkwX1_goSteps_0 ++ dktX1_goSteps_1
theorem dksX1_goSteps_0 : cX1_goSteps.data.toList.drop 0 = dktX1_goSteps_0 := by decide +kernel
theorem dksX1_goSteps_1 : cX1_goSteps.data.toList.drop 24 = dktX1_goSteps_1 := dk_seg dksX1_goSteps_0 24 rfl rfl
theorem dksX1_goSteps_2 : cX1_goSteps.data.toList.drop 48 = dktX1_goSteps_2 := dk_seg dksX1_goSteps_1 24 rfl rfl
theorem dksX1_goSteps_3 : cX1_goSteps.data.toList.drop 70 = dktX1_goSteps_3 := dk_seg dksX1_goSteps_2 22 rfl rfl
theorem dksX1_goSteps_4 : cX1_goSteps.data.toList.drop 94 = dktX1_goSteps_4 := dk_seg dksX1_goSteps_3 24 rfl rfl
theorem dksX1_goSteps_5 : cX1_goSteps.data.toList.drop 118 = dktX1_goSteps_5 := dk_seg dksX1_goSteps_4 24 rfl rfl
theorem dksX1_goSteps_6 : cX1_goSteps.data.toList.drop 142 = dktX1_goSteps_6 := dk_seg dksX1_goSteps_5 24 rfl rfl
theorem dksX1_goSteps_7 : cX1_goSteps.data.toList.drop 166 = dktX1_goSteps_7 := dk_seg dksX1_goSteps_6 24 rfl rfl
theorem dksX1_goSteps_8 : cX1_goSteps.data.toList.drop 190 = dktX1_goSteps_8 := dk_seg dksX1_goSteps_7 24 rfl rfl
theorem dX1_goSteps_0 : decode cX1_goSteps 0 = .ok (.iconst 0, 1) := dk_3 (dk_at dksX1_goSteps_0 0 rfl rfl)
theorem dX1_goSteps_1 : decode cX1_goSteps 1 = .ok (.istore_n 3, 1) := dk_62 (dk_at dksX1_goSteps_0 1 rfl rfl)
theorem dX1_goSteps_2 : decode cX1_goSteps 2 = .ok (.iload_n 3, 1) := dk_29 (dk_at dksX1_goSteps_0 2 rfl rfl)
theorem dX1_goSteps_3 : decode cX1_goSteps 3 = .ok (.aload_n 0, 1) := dk_42 (dk_at dksX1_goSteps_0 3 rfl rfl)
theorem dX1_goSteps_4 : decode cX1_goSteps 4 = .ok (.getfield 138, 3) := dk_180 0 138 (dk_at dksX1_goSteps_0 4 rfl rfl)
theorem dX1_goSteps_7 : decode cX1_goSteps 7 = .ok (.iload_n 1, 1) := dk_27 (dk_at dksX1_goSteps_0 7 rfl rfl)
theorem dX1_goSteps_8 : decode cX1_goSteps 8 = .ok (.iaload, 1) := dk_46 (dk_at dksX1_goSteps_0 8 rfl rfl)
theorem dX1_goSteps_9 : decode cX1_goSteps 9 = .ok (.if_icmp .ge 175, 3) := dk_162 0 175 (dk_at dksX1_goSteps_0 9 rfl rfl)
theorem dX1_goSteps_12 : decode cX1_goSteps 12 = .ok (.iconst 5, 1) := dk_8 (dk_at dksX1_goSteps_0 12 rfl rfl)
theorem dX1_goSteps_13 : decode cX1_goSteps 13 = .ok (.bipush 16, 2) := dk_16 16 (dk_at dksX1_goSteps_0 13 rfl rfl)
theorem dX1_goSteps_15 : decode cX1_goSteps 15 = .ok (.iload_n 1, 1) := dk_27 (dk_at dksX1_goSteps_0 15 rfl rfl)
theorem dX1_goSteps_16 : decode cX1_goSteps 16 = .ok (.imul, 1) := dk_104 (dk_at dksX1_goSteps_0 16 rfl rfl)
theorem dX1_goSteps_17 : decode cX1_goSteps 17 = .ok (.iload_n 3, 1) := dk_29 (dk_at dksX1_goSteps_0 17 rfl rfl)
theorem dX1_goSteps_18 : decode cX1_goSteps 18 = .ok (.iadd, 1) := dk_96 (dk_at dksX1_goSteps_0 18 rfl rfl)
theorem dX1_goSteps_19 : decode cX1_goSteps 19 = .ok (.imul, 1) := dk_104 (dk_at dksX1_goSteps_0 19 rfl rfl)
theorem dX1_goSteps_20 : decode cX1_goSteps 20 = .ok (.istore 4, 2) := dk_54 4 (dk_at dksX1_goSteps_0 20 rfl rfl)
theorem dX1_goSteps_22 : decode cX1_goSteps 22 = .ok (.aload_n 0, 1) := dk_42 (dk_at dksX1_goSteps_0 22 rfl rfl)
theorem dX1_goSteps_23 : decode cX1_goSteps 23 = .ok (.aload_n 0, 1) := dk_42 (dk_at dksX1_goSteps_0 23 rfl rfl)
theorem dX1_goSteps_24 : decode cX1_goSteps 24 = .ok (.getfield 128, 3) := dk_180 0 128 (dk_at dksX1_goSteps_1 0 rfl rfl)
theorem dX1_goSteps_27 : decode cX1_goSteps 27 = .ok (.iload 4, 2) := dk_21 4 (dk_at dksX1_goSteps_1 3 rfl rfl)
theorem dX1_goSteps_29 : decode cX1_goSteps 29 = .ok (.iaload, 1) := dk_46 (dk_at dksX1_goSteps_1 5 rfl rfl)
theorem dX1_goSteps_30 : decode cX1_goSteps 30 = .ok (.aload_n 0, 1) := dk_42 (dk_at dksX1_goSteps_1 6 rfl rfl)
theorem dX1_goSteps_31 : decode cX1_goSteps 31 = .ok (.getfield 128, 3) := dk_180 0 128 (dk_at dksX1_goSteps_1 7 rfl rfl)
theorem dX1_goSteps_34 : decode cX1_goSteps 34 = .ok (.iload 4, 2) := dk_21 4 (dk_at dksX1_goSteps_1 10 rfl rfl)
theorem dX1_goSteps_36 : decode cX1_goSteps 36 = .ok (.iconst 1, 1) := dk_4 (dk_at dksX1_goSteps_1 12 rfl rfl)
theorem dX1_goSteps_37 : decode cX1_goSteps 37 = .ok (.iadd, 1) := dk_96 (dk_at dksX1_goSteps_1 13 rfl rfl)
theorem dX1_goSteps_38 : decode cX1_goSteps 38 = .ok (.iaload, 1) := dk_46 (dk_at dksX1_goSteps_1 14 rfl rfl)
theorem dX1_goSteps_39 : decode cX1_goSteps 39 = .ok (.aload_n 0, 1) := dk_42 (dk_at dksX1_goSteps_1 15 rfl rfl)
theorem dX1_goSteps_40 : decode cX1_goSteps 40 = .ok (.getfield 128, 3) := dk_180 0 128 (dk_at dksX1_goSteps_1 16 rfl rfl)
theorem dX1_goSteps_43 : decode cX1_goSteps 43 = .ok (.iload 4, 2) := dk_21 4 (dk_at dksX1_goSteps_1 19 rfl rfl)
theorem dX1_goSteps_45 : decode cX1_goSteps 45 = .ok (.iconst 2, 1) := dk_5 (dk_at dksX1_goSteps_1 21 rfl rfl)
theorem dX1_goSteps_46 : decode cX1_goSteps 46 = .ok (.iadd, 1) := dk_96 (dk_at dksX1_goSteps_1 22 rfl rfl)
theorem dX1_goSteps_47 : decode cX1_goSteps 47 = .ok (.iaload, 1) := dk_46 (dk_at dksX1_goSteps_1 23 rfl rfl)
theorem dX1_goSteps_48 : decode cX1_goSteps 48 = .ok (.aload_n 0, 1) := dk_42 (dk_at dksX1_goSteps_2 0 rfl rfl)
theorem dX1_goSteps_49 : decode cX1_goSteps 49 = .ok (.getfield 128, 3) := dk_180 0 128 (dk_at dksX1_goSteps_2 1 rfl rfl)
theorem dX1_goSteps_52 : decode cX1_goSteps 52 = .ok (.iload 4, 2) := dk_21 4 (dk_at dksX1_goSteps_2 4 rfl rfl)
theorem dX1_goSteps_54 : decode cX1_goSteps 54 = .ok (.iconst 3, 1) := dk_6 (dk_at dksX1_goSteps_2 6 rfl rfl)
theorem dX1_goSteps_55 : decode cX1_goSteps 55 = .ok (.iadd, 1) := dk_96 (dk_at dksX1_goSteps_2 7 rfl rfl)
theorem dX1_goSteps_56 : decode cX1_goSteps 56 = .ok (.iaload, 1) := dk_46 (dk_at dksX1_goSteps_2 8 rfl rfl)
theorem dX1_goSteps_57 : decode cX1_goSteps 57 = .ok (.aload_n 0, 1) := dk_42 (dk_at dksX1_goSteps_2 9 rfl rfl)
theorem dX1_goSteps_58 : decode cX1_goSteps 58 = .ok (.getfield 128, 3) := dk_180 0 128 (dk_at dksX1_goSteps_2 10 rfl rfl)
theorem dX1_goSteps_61 : decode cX1_goSteps 61 = .ok (.iload 4, 2) := dk_21 4 (dk_at dksX1_goSteps_2 13 rfl rfl)
theorem dX1_goSteps_63 : decode cX1_goSteps 63 = .ok (.iconst 4, 1) := dk_7 (dk_at dksX1_goSteps_2 15 rfl rfl)
theorem dX1_goSteps_64 : decode cX1_goSteps 64 = .ok (.iadd, 1) := dk_96 (dk_at dksX1_goSteps_2 16 rfl rfl)
theorem dX1_goSteps_65 : decode cX1_goSteps 65 = .ok (.iaload, 1) := dk_46 (dk_at dksX1_goSteps_2 17 rfl rfl)
theorem dX1_goSteps_66 : decode cX1_goSteps 66 = .ok (.invokevirtual 463, 3) := dk_182 1 207 (dk_at dksX1_goSteps_2 18 rfl rfl)
theorem dX1_goSteps_69 : decode cX1_goSteps 69 = .ok (.iconst (-1), 1) := dk_2 (dk_at dksX1_goSteps_2 21 rfl rfl)
theorem dX1_goSteps_70 : decode cX1_goSteps 70 = .ok (.if_icmp .eq 5, 3) := dk_159 0 5 (dk_at dksX1_goSteps_3 0 rfl rfl)
theorem dX1_goSteps_73 : decode cX1_goSteps 73 = .ok (.iload_n 3, 1) := dk_29 (dk_at dksX1_goSteps_3 3 rfl rfl)
theorem dX1_goSteps_74 : decode cX1_goSteps 74 = .ok (.ireturn, 1) := dk_172 (dk_at dksX1_goSteps_3 4 rfl rfl)
theorem dX1_goSteps_75 : decode cX1_goSteps 75 = .ok (.iload_n 2, 1) := dk_28 (dk_at dksX1_goSteps_3 5 rfl rfl)
theorem dX1_goSteps_76 : decode cX1_goSteps 76 = .ok (.ifCond .eq 54, 3) := dk_153 0 54 (dk_at dksX1_goSteps_3 6 rfl rfl)
theorem dX1_goSteps_79 : decode cX1_goSteps 79 = .ok (.aload_n 0, 1) := dk_42 (dk_at dksX1_goSteps_3 9 rfl rfl)
theorem dX1_goSteps_80 : decode cX1_goSteps 80 = .ok (.aload_n 0, 1) := dk_42 (dk_at dksX1_goSteps_3 10 rfl rfl)
theorem dX1_goSteps_81 : decode cX1_goSteps 81 = .ok (.getfield 128, 3) := dk_180 0 128 (dk_at dksX1_goSteps_3 11 rfl rfl)
theorem dX1_goSteps_84 : decode cX1_goSteps 84 = .ok (.iload 4, 2) := dk_21 4 (dk_at dksX1_goSteps_3 14 rfl rfl)
theorem dX1_goSteps_86 : decode cX1_goSteps 86 = .ok (.iaload, 1) := dk_46 (dk_at dksX1_goSteps_3 16 rfl rfl)
theorem dX1_goSteps_87 : decode cX1_goSteps 87 = .ok (.aload_n 0, 1) := dk_42 (dk_at dksX1_goSteps_3 17 rfl rfl)
theorem dX1_goSteps_88 : decode cX1_goSteps 88 = .ok (.getfield 128, 3) := dk_180 0 128 (dk_at dksX1_goSteps_3 18 rfl rfl)
theorem dX1_goSteps_91 : decode cX1_goSteps 91 = .ok (.iload 4, 2) := dk_21 4 (dk_at dksX1_goSteps_3 21 rfl rfl)
theorem dX1_goSteps_93 : decode cX1_goSteps 93 = .ok (.iconst 1, 1) := dk_4 (dk_at dksX1_goSteps_3 23 rfl rfl)
theorem dX1_goSteps_94 : decode cX1_goSteps 94 = .ok (.iadd, 1) := dk_96 (dk_at dksX1_goSteps_4 0 rfl rfl)
theorem dX1_goSteps_95 : decode cX1_goSteps 95 = .ok (.iaload, 1) := dk_46 (dk_at dksX1_goSteps_4 1 rfl rfl)
theorem dX1_goSteps_96 : decode cX1_goSteps 96 = .ok (.aload_n 0, 1) := dk_42 (dk_at dksX1_goSteps_4 2 rfl rfl)
theorem dX1_goSteps_97 : decode cX1_goSteps 97 = .ok (.getfield 128, 3) := dk_180 0 128 (dk_at dksX1_goSteps_4 3 rfl rfl)
theorem dX1_goSteps_100 : decode cX1_goSteps 100 = .ok (.iload 4, 2) := dk_21 4 (dk_at dksX1_goSteps_4 6 rfl rfl)
theorem dX1_goSteps_102 : decode cX1_goSteps 102 = .ok (.iconst 2, 1) := dk_5 (dk_at dksX1_goSteps_4 8 rfl rfl)
theorem dX1_goSteps_103 : decode cX1_goSteps 103 = .ok (.iadd, 1) := dk_96 (dk_at dksX1_goSteps_4 9 rfl rfl)
theorem dX1_goSteps_104 : decode cX1_goSteps 104 = .ok (.iaload, 1) := dk_46 (dk_at dksX1_goSteps_4 10 rfl rfl)
theorem dX1_goSteps_105 : decode cX1_goSteps 105 = .ok (.aload_n 0, 1) := dk_42 (dk_at dksX1_goSteps_4 11 rfl rfl)
theorem dX1_goSteps_106 : decode cX1_goSteps 106 = .ok (.getfield 128, 3) := dk_180 0 128 (dk_at dksX1_goSteps_4 12 rfl rfl)
theorem dX1_goSteps_109 : decode cX1_goSteps 109 = .ok (.iload 4, 2) := dk_21 4 (dk_at dksX1_goSteps_4 15 rfl rfl)
theorem dX1_goSteps_111 : decode cX1_goSteps 111 = .ok (.iconst 3, 1) := dk_6 (dk_at dksX1_goSteps_4 17 rfl rfl)
theorem dX1_goSteps_112 : decode cX1_goSteps 112 = .ok (.iadd, 1) := dk_96 (dk_at dksX1_goSteps_4 18 rfl rfl)
theorem dX1_goSteps_113 : decode cX1_goSteps 113 = .ok (.iaload, 1) := dk_46 (dk_at dksX1_goSteps_4 19 rfl rfl)
theorem dX1_goSteps_114 : decode cX1_goSteps 114 = .ok (.aload_n 0, 1) := dk_42 (dk_at dksX1_goSteps_4 20 rfl rfl)
theorem dX1_goSteps_115 : decode cX1_goSteps 115 = .ok (.getfield 128, 3) := dk_180 0 128 (dk_at dksX1_goSteps_4 21 rfl rfl)
theorem dX1_goSteps_118 : decode cX1_goSteps 118 = .ok (.iload 4, 2) := dk_21 4 (dk_at dksX1_goSteps_5 0 rfl rfl)
theorem dX1_goSteps_120 : decode cX1_goSteps 120 = .ok (.iconst 4, 1) := dk_7 (dk_at dksX1_goSteps_5 2 rfl rfl)
theorem dX1_goSteps_121 : decode cX1_goSteps 121 = .ok (.iadd, 1) := dk_96 (dk_at dksX1_goSteps_5 3 rfl rfl)
theorem dX1_goSteps_122 : decode cX1_goSteps 122 = .ok (.iaload, 1) := dk_46 (dk_at dksX1_goSteps_5 4 rfl rfl)
theorem dX1_goSteps_123 : decode cX1_goSteps 123 = .ok (.invokevirtual 466, 3) := dk_182 1 210 (dk_at dksX1_goSteps_5 5 rfl rfl)
theorem dX1_goSteps_126 : decode cX1_goSteps 126 = .ok (.pop, 1) := dk_87 (dk_at dksX1_goSteps_5 8 rfl rfl)
theorem dX1_goSteps_127 : decode cX1_goSteps 127 = .ok (.goto 51, 3) := dk_167 0 51 (dk_at dksX1_goSteps_5 9 rfl rfl)
theorem dX1_goSteps_130 : decode cX1_goSteps 130 = .ok (.aload_n 0, 1) := dk_42 (dk_at dksX1_goSteps_5 12 rfl rfl)
theorem dX1_goSteps_131 : decode cX1_goSteps 131 = .ok (.aload_n 0, 1) := dk_42 (dk_at dksX1_goSteps_5 13 rfl rfl)
theorem dX1_goSteps_132 : decode cX1_goSteps 132 = .ok (.getfield 128, 3) := dk_180 0 128 (dk_at dksX1_goSteps_5 14 rfl rfl)
theorem dX1_goSteps_135 : decode cX1_goSteps 135 = .ok (.iload 4, 2) := dk_21 4 (dk_at dksX1_goSteps_5 17 rfl rfl)
theorem dX1_goSteps_137 : decode cX1_goSteps 137 = .ok (.iaload, 1) := dk_46 (dk_at dksX1_goSteps_5 19 rfl rfl)
theorem dX1_goSteps_138 : decode cX1_goSteps 138 = .ok (.aload_n 0, 1) := dk_42 (dk_at dksX1_goSteps_5 20 rfl rfl)
theorem dX1_goSteps_139 : decode cX1_goSteps 139 = .ok (.getfield 128, 3) := dk_180 0 128 (dk_at dksX1_goSteps_5 21 rfl rfl)
theorem dX1_goSteps_142 : decode cX1_goSteps 142 = .ok (.iload 4, 2) := dk_21 4 (dk_at dksX1_goSteps_6 0 rfl rfl)
theorem dX1_goSteps_144 : decode cX1_goSteps 144 = .ok (.iconst 1, 1) := dk_4 (dk_at dksX1_goSteps_6 2 rfl rfl)
theorem dX1_goSteps_145 : decode cX1_goSteps 145 = .ok (.iadd, 1) := dk_96 (dk_at dksX1_goSteps_6 3 rfl rfl)
theorem dX1_goSteps_146 : decode cX1_goSteps 146 = .ok (.iaload, 1) := dk_46 (dk_at dksX1_goSteps_6 4 rfl rfl)
theorem dX1_goSteps_147 : decode cX1_goSteps 147 = .ok (.aload_n 0, 1) := dk_42 (dk_at dksX1_goSteps_6 5 rfl rfl)
theorem dX1_goSteps_148 : decode cX1_goSteps 148 = .ok (.getfield 128, 3) := dk_180 0 128 (dk_at dksX1_goSteps_6 6 rfl rfl)
theorem dX1_goSteps_151 : decode cX1_goSteps 151 = .ok (.iload 4, 2) := dk_21 4 (dk_at dksX1_goSteps_6 9 rfl rfl)
theorem dX1_goSteps_153 : decode cX1_goSteps 153 = .ok (.iconst 2, 1) := dk_5 (dk_at dksX1_goSteps_6 11 rfl rfl)
theorem dX1_goSteps_154 : decode cX1_goSteps 154 = .ok (.iadd, 1) := dk_96 (dk_at dksX1_goSteps_6 12 rfl rfl)
theorem dX1_goSteps_155 : decode cX1_goSteps 155 = .ok (.iaload, 1) := dk_46 (dk_at dksX1_goSteps_6 13 rfl rfl)
theorem dX1_goSteps_156 : decode cX1_goSteps 156 = .ok (.aload_n 0, 1) := dk_42 (dk_at dksX1_goSteps_6 14 rfl rfl)
theorem dX1_goSteps_157 : decode cX1_goSteps 157 = .ok (.getfield 128, 3) := dk_180 0 128 (dk_at dksX1_goSteps_6 15 rfl rfl)
theorem dX1_goSteps_160 : decode cX1_goSteps 160 = .ok (.iload 4, 2) := dk_21 4 (dk_at dksX1_goSteps_6 18 rfl rfl)
theorem dX1_goSteps_162 : decode cX1_goSteps 162 = .ok (.iconst 3, 1) := dk_6 (dk_at dksX1_goSteps_6 20 rfl rfl)
theorem dX1_goSteps_163 : decode cX1_goSteps 163 = .ok (.iadd, 1) := dk_96 (dk_at dksX1_goSteps_6 21 rfl rfl)
theorem dX1_goSteps_164 : decode cX1_goSteps 164 = .ok (.iaload, 1) := dk_46 (dk_at dksX1_goSteps_6 22 rfl rfl)
theorem dX1_goSteps_165 : decode cX1_goSteps 165 = .ok (.aload_n 0, 1) := dk_42 (dk_at dksX1_goSteps_6 23 rfl rfl)
theorem dX1_goSteps_166 : decode cX1_goSteps 166 = .ok (.getfield 128, 3) := dk_180 0 128 (dk_at dksX1_goSteps_7 0 rfl rfl)
theorem dX1_goSteps_169 : decode cX1_goSteps 169 = .ok (.iload 4, 2) := dk_21 4 (dk_at dksX1_goSteps_7 3 rfl rfl)
theorem dX1_goSteps_171 : decode cX1_goSteps 171 = .ok (.iconst 4, 1) := dk_7 (dk_at dksX1_goSteps_7 5 rfl rfl)
theorem dX1_goSteps_172 : decode cX1_goSteps 172 = .ok (.iadd, 1) := dk_96 (dk_at dksX1_goSteps_7 6 rfl rfl)
theorem dX1_goSteps_173 : decode cX1_goSteps 173 = .ok (.iaload, 1) := dk_46 (dk_at dksX1_goSteps_7 7 rfl rfl)
theorem dX1_goSteps_174 : decode cX1_goSteps 174 = .ok (.invokevirtual 454, 3) := dk_182 1 198 (dk_at dksX1_goSteps_7 8 rfl rfl)
theorem dX1_goSteps_177 : decode cX1_goSteps 177 = .ok (.pop, 1) := dk_87 (dk_at dksX1_goSteps_7 11 rfl rfl)
theorem dX1_goSteps_178 : decode cX1_goSteps 178 = .ok (.iinc 3 1, 3) := dk_132 3 1 (dk_at dksX1_goSteps_7 12 rfl rfl)
theorem dX1_goSteps_181 : decode cX1_goSteps 181 = .ok (.goto (-179), 3) := dk_167 255 77 (dk_at dksX1_goSteps_7 15 rfl rfl)
theorem dX1_goSteps_184 : decode cX1_goSteps 184 = .ok (.aload_n 0, 1) := dk_42 (dk_at dksX1_goSteps_7 18 rfl rfl)
theorem dX1_goSteps_185 : decode cX1_goSteps 185 = .ok (.getfield 138, 3) := dk_180 0 138 (dk_at dksX1_goSteps_7 19 rfl rfl)
theorem dX1_goSteps_188 : decode cX1_goSteps 188 = .ok (.iload_n 1, 1) := dk_27 (dk_at dksX1_goSteps_7 22 rfl rfl)
theorem dX1_goSteps_189 : decode cX1_goSteps 189 = .ok (.iaload, 1) := dk_46 (dk_at dksX1_goSteps_7 23 rfl rfl)
theorem dX1_goSteps_190 : decode cX1_goSteps 190 = .ok (.ireturn, 1) := dk_172 (dk_at dksX1_goSteps_8 0 rfl rfl)
abbrev cX1_perform : ByteArray := prog_1_method_116_code
def yX1_perform : MethodName := ⟨RX1, "perform", "(I)I"⟩
def dkwX1_perform_1 : List UInt8 := [2, 172]
abbrev dktX1_perform_1 : List UInt8 := dkwX1_perform_1 ++ []
def dkwX1_perform_0 : List UInt8 := [42, 27, 182, 2, 25, 153, 0, 19, 42, 182, 0, 243, 153, 0, 12, 42, 27, 4, 182, 2, 28, 167, 0, 4]
abbrev dktX1_perform_0 : List UInt8 := dkwX1_perform_0 ++ dktX1_perform_1
theorem dksX1_perform_0 : cX1_perform.data.toList.drop 0 = dktX1_perform_0 := by decide +kernel
theorem dksX1_perform_1 : cX1_perform.data.toList.drop 24 = dktX1_perform_1 := dk_seg dksX1_perform_0 24 rfl rfl
theorem dX1_perform_0 : decode cX1_perform 0 = .ok (.aload_n 0, 1) := dk_42 (dk_at dksX1_perform_0 0 rfl rfl)
theorem dX1_perform_1 : decode cX1_perform 1 = .ok (.iload_n 1, 1) := dk_27 (dk_at dksX1_perform_0 1 rfl rfl)
theorem dX1_perform_2 : decode cX1_perform 2 = .ok (.invokevirtual 537, 3) := dk_182 2 25 (dk_at dksX1_perform_0 2 rfl rfl)
theorem dX1_perform_5 : decode cX1_perform 5 = .ok (.ifCond .eq 19, 3) := dk_153 0 19 (dk_at dksX1_perform_0 5 rfl rfl)
theorem dX1_perform_8 : decode cX1_perform 8 = .ok (.aload_n 0, 1) := dk_42 (dk_at dksX1_perform_0 8 rfl rfl)
theorem dX1_perform_9 : decode cX1_perform 9 = .ok (.invokevirtual 243, 3) := dk_182 0 243 (dk_at dksX1_perform_0 9 rfl rfl)
theorem dX1_perform_12 : decode cX1_perform 12 = .ok (.ifCond .eq 12, 3) := dk_153 0 12 (dk_at dksX1_perform_0 12 rfl rfl)
theorem dX1_perform_15 : decode cX1_perform 15 = .ok (.aload_n 0, 1) := dk_42 (dk_at dksX1_perform_0 15 rfl rfl)
theorem dX1_perform_16 : decode cX1_perform 16 = .ok (.iload_n 1, 1) := dk_27 (dk_at dksX1_perform_0 16 rfl rfl)
theorem dX1_perform_17 : decode cX1_perform 17 = .ok (.iconst 1, 1) := dk_4 (dk_at dksX1_perform_0 17 rfl rfl)
theorem dX1_perform_18 : decode cX1_perform 18 = .ok (.invokevirtual 540, 3) := dk_182 2 28 (dk_at dksX1_perform_0 18 rfl rfl)
theorem dX1_perform_21 : decode cX1_perform 21 = .ok (.goto 4, 3) := dk_167 0 4 (dk_at dksX1_perform_0 21 rfl rfl)
theorem dX1_perform_24 : decode cX1_perform 24 = .ok (.iconst (-1), 1) := dk_2 (dk_at dksX1_perform_1 0 rfl rfl)
theorem dX1_perform_25 : decode cX1_perform 25 = .ok (.ireturn, 1) := dk_172 (dk_at dksX1_perform_1 1 rfl rfl)
abbrev cX1_most : ByteArray := prog_1_method_118_code
def yX1_most : MethodName := ⟨RX1, "most", "(I)I"⟩
def dkwX1_most_6 : List UInt8 := [180, 1, 130, 172, 42, 180, 0, 178, 180, 1, 133, 172]
abbrev dktX1_most_6 : List UInt8 := dkwX1_most_6 ++ []
def dkwX1_most_5 : List UInt8 := [180, 0, 178, 180, 1, 106, 172, 42, 182, 2, 32, 172, 42, 180, 0, 178, 180, 1, 127, 172, 42, 180, 0, 178]
abbrev dktX1_most_5 : List UInt8 := dkwX1_most_5 ++ dktX1_most_6
def dkwX1_most_4 : List UInt8 := [180, 0, 178, 180, 1, 121, 172, 42, 180, 0, 178, 180, 1, 142, 172, 42, 180, 0, 178, 180, 1, 136, 172, 42]
abbrev dktX1_most_4 : List UInt8 := dkwX1_most_4 ++ dktX1_most_5
def dkwX1_most_3 : List UInt8 := [180, 2, 7, 182, 2, 18, 172, 42, 180, 0, 178, 42, 180, 0, 178, 180, 1, 124, 182, 2, 18, 172, 42]
abbrev dktX1_most_3 : List UInt8 := dkwX1_most_3 ++ dktX1_most_4
def dkwX1_most_2 : List UInt8 := [42, 180, 0, 178, 42, 180, 0, 178, 180, 2, 4, 182, 2, 18, 172, 42, 180, 0, 178, 42, 180, 0, 178]
abbrev dktX1_most_2 : List UInt8 := dkwX1_most_2 ++ dktX1_most_3
def dkwX1_most_1 : List UInt8 := [170, 0, 0, 0, 0, 152, 0, 0, 0, 0, 0, 0, 0, 9, 0, 0, 0, 54, 0, 0, 0, 69, 0, 0, 0, 84, 0, 0, 0, 99, 0, 0, 0, 107, 0, 0, 0, 115, 0, 0, 0, 123, 0, 0, 0, 131, 0, 0, 0, 136, 0, 0, 0, 144]
abbrev dktX1_most_1 : List UInt8 := dkwX1_most_1 ++ dktX1_most_2
def dkwX1_most_0 : List UInt8 := [42, 182, 0, 243, 153, 0, 13, 27, 3, 16, 10, 184, 0, 47, 154, 0, 7, 19, 1, 241, 172, 27]
abbrev dktX1_most_0 : List UInt8 := dkwX1_most_0 ++ dktX1_most_1
theorem dksX1_most_0 : cX1_most.data.toList.drop 0 = dktX1_most_0 := by decide +kernel
theorem dksX1_most_1 : cX1_most.data.toList.drop 22 = dktX1_most_1 := dk_seg dksX1_most_0 22 rfl rfl
theorem dksX1_most_2 : cX1_most.data.toList.drop 76 = dktX1_most_2 := dk_seg dksX1_most_1 54 rfl rfl
theorem dksX1_most_3 : cX1_most.data.toList.drop 99 = dktX1_most_3 := dk_seg dksX1_most_2 23 rfl rfl
theorem dksX1_most_4 : cX1_most.data.toList.drop 122 = dktX1_most_4 := dk_seg dksX1_most_3 23 rfl rfl
theorem dksX1_most_5 : cX1_most.data.toList.drop 146 = dktX1_most_5 := dk_seg dksX1_most_4 24 rfl rfl
theorem dksX1_most_6 : cX1_most.data.toList.drop 170 = dktX1_most_6 := dk_seg dksX1_most_5 24 rfl rfl
theorem dX1_most_0 : decode cX1_most 0 = .ok (.aload_n 0, 1) := dk_42 (dk_at dksX1_most_0 0 rfl rfl)
theorem dX1_most_1 : decode cX1_most 1 = .ok (.invokevirtual 243, 3) := dk_182 0 243 (dk_at dksX1_most_0 1 rfl rfl)
theorem dX1_most_4 : decode cX1_most 4 = .ok (.ifCond .eq 13, 3) := dk_153 0 13 (dk_at dksX1_most_0 4 rfl rfl)
theorem dX1_most_7 : decode cX1_most 7 = .ok (.iload_n 1, 1) := dk_27 (dk_at dksX1_most_0 7 rfl rfl)
theorem dX1_most_8 : decode cX1_most 8 = .ok (.iconst 0, 1) := dk_3 (dk_at dksX1_most_0 8 rfl rfl)
theorem dX1_most_9 : decode cX1_most 9 = .ok (.bipush 10, 2) := dk_16 10 (dk_at dksX1_most_0 9 rfl rfl)
theorem dX1_most_11 : decode cX1_most 11 = .ok (.invokestatic 47, 3) := dk_184 0 47 (dk_at dksX1_most_0 11 rfl rfl)
theorem dX1_most_14 : decode cX1_most 14 = .ok (.ifCond .ne 7, 3) := dk_154 0 7 (dk_at dksX1_most_0 14 rfl rfl)
theorem dX1_most_17 : decode cX1_most 17 = .ok (.ldc_w 497, 3) := dk_19 1 241 (dk_at dksX1_most_0 17 rfl rfl)
theorem dX1_most_20 : decode cX1_most 20 = .ok (.ireturn, 1) := dk_172 (dk_at dksX1_most_0 20 rfl rfl)
theorem dX1_most_21 : decode cX1_most 21 = .ok (.iload_n 1, 1) := dk_27 (dk_at dksX1_most_0 21 rfl rfl)
theorem dX1_most_22 : decode cX1_most 22 = .ok (.tableswitch 152 0 9 #[54, 69, 84, 99, 107, 115, 123, 131, 136, 144], 54) := by decide +kernel
theorem dX1_most_76 : decode cX1_most 76 = .ok (.aload_n 0, 1) := dk_42 (dk_at dksX1_most_2 0 rfl rfl)
theorem dX1_most_77 : decode cX1_most 77 = .ok (.getfield 178, 3) := dk_180 0 178 (dk_at dksX1_most_2 1 rfl rfl)
theorem dX1_most_80 : decode cX1_most 80 = .ok (.aload_n 0, 1) := dk_42 (dk_at dksX1_most_2 4 rfl rfl)
theorem dX1_most_81 : decode cX1_most 81 = .ok (.getfield 178, 3) := dk_180 0 178 (dk_at dksX1_most_2 5 rfl rfl)
theorem dX1_most_84 : decode cX1_most 84 = .ok (.getfield 516, 3) := dk_180 2 4 (dk_at dksX1_most_2 8 rfl rfl)
theorem dX1_most_87 : decode cX1_most 87 = .ok (.invokevirtual 530, 3) := dk_182 2 18 (dk_at dksX1_most_2 11 rfl rfl)
theorem dX1_most_90 : decode cX1_most 90 = .ok (.ireturn, 1) := dk_172 (dk_at dksX1_most_2 14 rfl rfl)
theorem dX1_most_91 : decode cX1_most 91 = .ok (.aload_n 0, 1) := dk_42 (dk_at dksX1_most_2 15 rfl rfl)
theorem dX1_most_92 : decode cX1_most 92 = .ok (.getfield 178, 3) := dk_180 0 178 (dk_at dksX1_most_2 16 rfl rfl)
theorem dX1_most_95 : decode cX1_most 95 = .ok (.aload_n 0, 1) := dk_42 (dk_at dksX1_most_2 19 rfl rfl)
theorem dX1_most_96 : decode cX1_most 96 = .ok (.getfield 178, 3) := dk_180 0 178 (dk_at dksX1_most_2 20 rfl rfl)
theorem dX1_most_99 : decode cX1_most 99 = .ok (.getfield 519, 3) := dk_180 2 7 (dk_at dksX1_most_3 0 rfl rfl)
theorem dX1_most_102 : decode cX1_most 102 = .ok (.invokevirtual 530, 3) := dk_182 2 18 (dk_at dksX1_most_3 3 rfl rfl)
theorem dX1_most_105 : decode cX1_most 105 = .ok (.ireturn, 1) := dk_172 (dk_at dksX1_most_3 6 rfl rfl)
theorem dX1_most_106 : decode cX1_most 106 = .ok (.aload_n 0, 1) := dk_42 (dk_at dksX1_most_3 7 rfl rfl)
theorem dX1_most_107 : decode cX1_most 107 = .ok (.getfield 178, 3) := dk_180 0 178 (dk_at dksX1_most_3 8 rfl rfl)
theorem dX1_most_110 : decode cX1_most 110 = .ok (.aload_n 0, 1) := dk_42 (dk_at dksX1_most_3 11 rfl rfl)
theorem dX1_most_111 : decode cX1_most 111 = .ok (.getfield 178, 3) := dk_180 0 178 (dk_at dksX1_most_3 12 rfl rfl)
theorem dX1_most_114 : decode cX1_most 114 = .ok (.getfield 380, 3) := dk_180 1 124 (dk_at dksX1_most_3 15 rfl rfl)
theorem dX1_most_117 : decode cX1_most 117 = .ok (.invokevirtual 530, 3) := dk_182 2 18 (dk_at dksX1_most_3 18 rfl rfl)
theorem dX1_most_120 : decode cX1_most 120 = .ok (.ireturn, 1) := dk_172 (dk_at dksX1_most_3 21 rfl rfl)
theorem dX1_most_121 : decode cX1_most 121 = .ok (.aload_n 0, 1) := dk_42 (dk_at dksX1_most_3 22 rfl rfl)
theorem dX1_most_122 : decode cX1_most 122 = .ok (.getfield 178, 3) := dk_180 0 178 (dk_at dksX1_most_4 0 rfl rfl)
theorem dX1_most_125 : decode cX1_most 125 = .ok (.getfield 377, 3) := dk_180 1 121 (dk_at dksX1_most_4 3 rfl rfl)
theorem dX1_most_128 : decode cX1_most 128 = .ok (.ireturn, 1) := dk_172 (dk_at dksX1_most_4 6 rfl rfl)
theorem dX1_most_129 : decode cX1_most 129 = .ok (.aload_n 0, 1) := dk_42 (dk_at dksX1_most_4 7 rfl rfl)
theorem dX1_most_130 : decode cX1_most 130 = .ok (.getfield 178, 3) := dk_180 0 178 (dk_at dksX1_most_4 8 rfl rfl)
theorem dX1_most_133 : decode cX1_most 133 = .ok (.getfield 398, 3) := dk_180 1 142 (dk_at dksX1_most_4 11 rfl rfl)
theorem dX1_most_136 : decode cX1_most 136 = .ok (.ireturn, 1) := dk_172 (dk_at dksX1_most_4 14 rfl rfl)
theorem dX1_most_137 : decode cX1_most 137 = .ok (.aload_n 0, 1) := dk_42 (dk_at dksX1_most_4 15 rfl rfl)
theorem dX1_most_138 : decode cX1_most 138 = .ok (.getfield 178, 3) := dk_180 0 178 (dk_at dksX1_most_4 16 rfl rfl)
theorem dX1_most_141 : decode cX1_most 141 = .ok (.getfield 392, 3) := dk_180 1 136 (dk_at dksX1_most_4 19 rfl rfl)
theorem dX1_most_144 : decode cX1_most 144 = .ok (.ireturn, 1) := dk_172 (dk_at dksX1_most_4 22 rfl rfl)
theorem dX1_most_145 : decode cX1_most 145 = .ok (.aload_n 0, 1) := dk_42 (dk_at dksX1_most_4 23 rfl rfl)
theorem dX1_most_146 : decode cX1_most 146 = .ok (.getfield 178, 3) := dk_180 0 178 (dk_at dksX1_most_5 0 rfl rfl)
theorem dX1_most_149 : decode cX1_most 149 = .ok (.getfield 362, 3) := dk_180 1 106 (dk_at dksX1_most_5 3 rfl rfl)
theorem dX1_most_152 : decode cX1_most 152 = .ok (.ireturn, 1) := dk_172 (dk_at dksX1_most_5 6 rfl rfl)
theorem dX1_most_153 : decode cX1_most 153 = .ok (.aload_n 0, 1) := dk_42 (dk_at dksX1_most_5 7 rfl rfl)
theorem dX1_most_154 : decode cX1_most 154 = .ok (.invokevirtual 544, 3) := dk_182 2 32 (dk_at dksX1_most_5 8 rfl rfl)
theorem dX1_most_157 : decode cX1_most 157 = .ok (.ireturn, 1) := dk_172 (dk_at dksX1_most_5 11 rfl rfl)
theorem dX1_most_158 : decode cX1_most 158 = .ok (.aload_n 0, 1) := dk_42 (dk_at dksX1_most_5 12 rfl rfl)
theorem dX1_most_159 : decode cX1_most 159 = .ok (.getfield 178, 3) := dk_180 0 178 (dk_at dksX1_most_5 13 rfl rfl)
theorem dX1_most_162 : decode cX1_most 162 = .ok (.getfield 383, 3) := dk_180 1 127 (dk_at dksX1_most_5 16 rfl rfl)
theorem dX1_most_165 : decode cX1_most 165 = .ok (.ireturn, 1) := dk_172 (dk_at dksX1_most_5 19 rfl rfl)
theorem dX1_most_166 : decode cX1_most 166 = .ok (.aload_n 0, 1) := dk_42 (dk_at dksX1_most_5 20 rfl rfl)
theorem dX1_most_167 : decode cX1_most 167 = .ok (.getfield 178, 3) := dk_180 0 178 (dk_at dksX1_most_5 21 rfl rfl)
theorem dX1_most_170 : decode cX1_most 170 = .ok (.getfield 386, 3) := dk_180 1 130 (dk_at dksX1_most_6 0 rfl rfl)
theorem dX1_most_173 : decode cX1_most 173 = .ok (.ireturn, 1) := dk_172 (dk_at dksX1_most_6 3 rfl rfl)
theorem dX1_most_174 : decode cX1_most 174 = .ok (.aload_n 0, 1) := dk_42 (dk_at dksX1_most_6 4 rfl rfl)
theorem dX1_most_175 : decode cX1_most 175 = .ok (.getfield 178, 3) := dk_180 0 178 (dk_at dksX1_most_6 5 rfl rfl)
theorem dX1_most_178 : decode cX1_most 178 = .ok (.getfield 389, 3) := dk_180 1 133 (dk_at dksX1_most_6 8 rfl rfl)
theorem dX1_most_181 : decode cX1_most 181 = .ok (.ireturn, 1) := dk_172 (dk_at dksX1_most_6 11 rfl rfl)
abbrev cX1_notWhole : ByteArray := prog_1_method_117_code
def yX1_notWhole : MethodName := ⟨RX1, "notWhole", "()I"⟩
def dkwX1_notWhole_1 : List UInt8 := [27, 4, 28, 120, 128, 60, 132, 2, 1, 167, 255, 227, 27, 172]
abbrev dktX1_notWhole_1 : List UInt8 := dkwX1_notWhole_1 ++ []
def dkwX1_notWhole_0 : List UInt8 := [3, 60, 3, 61, 28, 42, 182, 0, 247, 162, 0, 27, 42, 180, 0, 178, 180, 1, 88, 28, 46, 153, 0, 9]
abbrev dktX1_notWhole_0 : List UInt8 := dkwX1_notWhole_0 ++ dktX1_notWhole_1
theorem dksX1_notWhole_0 : cX1_notWhole.data.toList.drop 0 = dktX1_notWhole_0 := by decide +kernel
theorem dksX1_notWhole_1 : cX1_notWhole.data.toList.drop 24 = dktX1_notWhole_1 := dk_seg dksX1_notWhole_0 24 rfl rfl
theorem dX1_notWhole_0 : decode cX1_notWhole 0 = .ok (.iconst 0, 1) := dk_3 (dk_at dksX1_notWhole_0 0 rfl rfl)
theorem dX1_notWhole_1 : decode cX1_notWhole 1 = .ok (.istore_n 1, 1) := dk_60 (dk_at dksX1_notWhole_0 1 rfl rfl)
theorem dX1_notWhole_2 : decode cX1_notWhole 2 = .ok (.iconst 0, 1) := dk_3 (dk_at dksX1_notWhole_0 2 rfl rfl)
theorem dX1_notWhole_3 : decode cX1_notWhole 3 = .ok (.istore_n 2, 1) := dk_61 (dk_at dksX1_notWhole_0 3 rfl rfl)
theorem dX1_notWhole_4 : decode cX1_notWhole 4 = .ok (.iload_n 2, 1) := dk_28 (dk_at dksX1_notWhole_0 4 rfl rfl)
theorem dX1_notWhole_5 : decode cX1_notWhole 5 = .ok (.aload_n 0, 1) := dk_42 (dk_at dksX1_notWhole_0 5 rfl rfl)
theorem dX1_notWhole_6 : decode cX1_notWhole 6 = .ok (.invokevirtual 247, 3) := dk_182 0 247 (dk_at dksX1_notWhole_0 6 rfl rfl)
theorem dX1_notWhole_9 : decode cX1_notWhole 9 = .ok (.if_icmp .ge 27, 3) := dk_162 0 27 (dk_at dksX1_notWhole_0 9 rfl rfl)
theorem dX1_notWhole_12 : decode cX1_notWhole 12 = .ok (.aload_n 0, 1) := dk_42 (dk_at dksX1_notWhole_0 12 rfl rfl)
theorem dX1_notWhole_13 : decode cX1_notWhole 13 = .ok (.getfield 178, 3) := dk_180 0 178 (dk_at dksX1_notWhole_0 13 rfl rfl)
theorem dX1_notWhole_16 : decode cX1_notWhole 16 = .ok (.getfield 344, 3) := dk_180 1 88 (dk_at dksX1_notWhole_0 16 rfl rfl)
theorem dX1_notWhole_19 : decode cX1_notWhole 19 = .ok (.iload_n 2, 1) := dk_28 (dk_at dksX1_notWhole_0 19 rfl rfl)
theorem dX1_notWhole_20 : decode cX1_notWhole 20 = .ok (.iaload, 1) := dk_46 (dk_at dksX1_notWhole_0 20 rfl rfl)
theorem dX1_notWhole_21 : decode cX1_notWhole 21 = .ok (.ifCond .eq 9, 3) := dk_153 0 9 (dk_at dksX1_notWhole_0 21 rfl rfl)
theorem dX1_notWhole_24 : decode cX1_notWhole 24 = .ok (.iload_n 1, 1) := dk_27 (dk_at dksX1_notWhole_1 0 rfl rfl)
theorem dX1_notWhole_25 : decode cX1_notWhole 25 = .ok (.iconst 1, 1) := dk_4 (dk_at dksX1_notWhole_1 1 rfl rfl)
theorem dX1_notWhole_26 : decode cX1_notWhole 26 = .ok (.iload_n 2, 1) := dk_28 (dk_at dksX1_notWhole_1 2 rfl rfl)
theorem dX1_notWhole_27 : decode cX1_notWhole 27 = .ok (.ishl, 1) := dk_120 (dk_at dksX1_notWhole_1 3 rfl rfl)
theorem dX1_notWhole_28 : decode cX1_notWhole 28 = .ok (.ior, 1) := dk_128 (dk_at dksX1_notWhole_1 4 rfl rfl)
theorem dX1_notWhole_29 : decode cX1_notWhole 29 = .ok (.istore_n 1, 1) := dk_60 (dk_at dksX1_notWhole_1 5 rfl rfl)
theorem dX1_notWhole_30 : decode cX1_notWhole 30 = .ok (.iinc 2 1, 3) := dk_132 2 1 (dk_at dksX1_notWhole_1 6 rfl rfl)
theorem dX1_notWhole_33 : decode cX1_notWhole 33 = .ok (.goto (-29), 3) := dk_167 255 227 (dk_at dksX1_notWhole_1 9 rfl rfl)
theorem dX1_notWhole_36 : decode cX1_notWhole 36 = .ok (.iload_n 1, 1) := dk_27 (dk_at dksX1_notWhole_1 12 rfl rfl)
theorem dX1_notWhole_37 : decode cX1_notWhole 37 = .ok (.ireturn, 1) := dk_172 (dk_at dksX1_notWhole_1 13 rfl rfl)
abbrev cX1_init : ByteArray := prog_1_method_119_code
def yX1_init : MethodName := ⟨RX1, "<init>", "()V"⟩
def dkwX1_init_12 : List UInt8 := [187, 0, 2, 89, 183, 2, 44, 181, 1, 43, 177]
abbrev dktX1_init_12 : List UInt8 := dkwX1_init_12 ++ []
def dkwX1_init_11 : List UInt8 := [183, 2, 42, 181, 0, 210, 42, 7, 188, 10, 181, 1, 213, 42, 16, 8, 188, 10, 181, 1, 3, 42]
abbrev dktX1_init_11 : List UInt8 := dkwX1_init_11 ++ dktX1_init_12
def dkwX1_init_10 : List UInt8 := [79, 181, 0, 131, 42, 187, 0, 169, 89, 42, 183, 2, 39, 181, 0, 164, 42, 187, 0, 215, 89, 16, 40]
abbrev dktX1_init_10 : List UInt8 := dkwX1_init_10 ++ dktX1_init_11
def dkwX1_init_9 : List UInt8 := [5, 79, 89, 7, 4, 79, 89, 8, 7, 79, 89, 16, 6, 6, 79, 89, 16, 7, 3, 79, 89, 16, 8, 7]
abbrev dktX1_init_9 : List UInt8 := dkwX1_init_9 ++ dktX1_init_10
def dkwX1_init_8 : List UInt8 := [188, 10, 181, 0, 138, 42, 16, 9, 188, 10, 89, 3, 5, 79, 89, 4, 4, 79, 89, 5, 4, 79, 89, 6]
abbrev dktX1_init_8 : List UInt8 := dkwX1_init_8 ++ dktX1_init_9
def dkwX1_init_7 : List UInt8 := [188, 10, 89, 3, 3, 79, 89, 4, 4, 79, 181, 0, 120, 42, 17, 1, 144, 188, 10, 181, 0, 128, 42, 8]
abbrev dktX1_init_7 : List UInt8 := dkwX1_init_7 ++ dktX1_init_8
def dkwX1_init_6 : List UInt8 := [181, 0, 114, 42, 5, 188, 10, 89, 3, 17, 1, 31, 79, 89, 4, 17, 0, 255, 79, 181, 0, 117, 42, 5]
abbrev dktX1_init_6 : List UInt8 := dkwX1_init_6 ++ dktX1_init_7
def dkwX1_init_5 : List UInt8 := [79, 89, 6, 3, 79, 89, 7, 4, 79, 181, 0, 97, 42, 5, 188, 10, 89, 3, 3, 79, 89, 4, 3, 79]
abbrev dktX1_init_5 : List UInt8 := dkwX1_init_5 ++ dktX1_init_6
def dkwX1_init_4 : List UInt8 := [79, 89, 7, 16, 9, 79, 181, 0, 105, 42, 8, 188, 10, 89, 3, 6, 79, 89, 4, 7, 79, 89, 5, 5]
abbrev dktX1_init_4 : List UInt8 := dkwX1_init_4 ++ dktX1_init_5
def dkwX1_init_3 : List UInt8 := [181, 0, 102, 42, 8, 188, 10, 89, 3, 16, 6, 79, 89, 4, 16, 12, 79, 89, 5, 7, 79, 89, 6, 6]
abbrev dktX1_init_3 : List UInt8 := dkwX1_init_3 ++ dktX1_init_4
def dkwX1_init_2 : List UInt8 := [188, 10, 89, 3, 5, 79, 89, 4, 4, 79, 89, 5, 4, 79, 89, 6, 3, 79, 89, 7, 3, 79]
abbrev dktX1_init_2 : List UInt8 := dkwX1_init_2 ++ dktX1_init_3
def dkwX1_init_1 : List UInt8 := [42, 8, 188, 10, 181, 0, 93, 42, 8, 188, 10, 181, 0, 155, 42, 16, 32, 188, 10, 181, 0, 123, 42, 8]
abbrev dktX1_init_1 : List UInt8 := dkwX1_init_1 ++ dktX1_init_2
def dkwX1_init_0 : List UInt8 := [42, 183, 2, 35, 42, 187, 0, 150, 89, 183, 2, 38, 181, 0, 58, 42, 17, 1, 24, 188, 8, 181, 0, 43]
abbrev dktX1_init_0 : List UInt8 := dkwX1_init_0 ++ dktX1_init_1
theorem dksX1_init_0 : cX1_init.data.toList.drop 0 = dktX1_init_0 := by decide +kernel
theorem dksX1_init_1 : cX1_init.data.toList.drop 24 = dktX1_init_1 := dk_seg dksX1_init_0 24 rfl rfl
theorem dksX1_init_2 : cX1_init.data.toList.drop 48 = dktX1_init_2 := dk_seg dksX1_init_1 24 rfl rfl
theorem dksX1_init_3 : cX1_init.data.toList.drop 70 = dktX1_init_3 := dk_seg dksX1_init_2 22 rfl rfl
theorem dksX1_init_4 : cX1_init.data.toList.drop 94 = dktX1_init_4 := dk_seg dksX1_init_3 24 rfl rfl
theorem dksX1_init_5 : cX1_init.data.toList.drop 118 = dktX1_init_5 := dk_seg dksX1_init_4 24 rfl rfl
theorem dksX1_init_6 : cX1_init.data.toList.drop 142 = dktX1_init_6 := dk_seg dksX1_init_5 24 rfl rfl
theorem dksX1_init_7 : cX1_init.data.toList.drop 166 = dktX1_init_7 := dk_seg dksX1_init_6 24 rfl rfl
theorem dksX1_init_8 : cX1_init.data.toList.drop 190 = dktX1_init_8 := dk_seg dksX1_init_7 24 rfl rfl
theorem dksX1_init_9 : cX1_init.data.toList.drop 214 = dktX1_init_9 := dk_seg dksX1_init_8 24 rfl rfl
theorem dksX1_init_10 : cX1_init.data.toList.drop 238 = dktX1_init_10 := dk_seg dksX1_init_9 24 rfl rfl
theorem dksX1_init_11 : cX1_init.data.toList.drop 261 = dktX1_init_11 := dk_seg dksX1_init_10 23 rfl rfl
theorem dksX1_init_12 : cX1_init.data.toList.drop 283 = dktX1_init_12 := dk_seg dksX1_init_11 22 rfl rfl
theorem dX1_init_0 : decode cX1_init 0 = .ok (.aload_n 0, 1) := dk_42 (dk_at dksX1_init_0 0 rfl rfl)
theorem dX1_init_1 : decode cX1_init 1 = .ok (.invokespecial 547, 3) := dk_183 2 35 (dk_at dksX1_init_0 1 rfl rfl)
theorem dX1_init_4 : decode cX1_init 4 = .ok (.aload_n 0, 1) := dk_42 (dk_at dksX1_init_0 4 rfl rfl)
theorem dX1_init_5 : decode cX1_init 5 = .ok (.new 150, 3) := dk_187 0 150 (dk_at dksX1_init_0 5 rfl rfl)
theorem dX1_init_8 : decode cX1_init 8 = .ok (.dup, 1) := dk_89 (dk_at dksX1_init_0 8 rfl rfl)
theorem dX1_init_9 : decode cX1_init 9 = .ok (.invokespecial 550, 3) := dk_183 2 38 (dk_at dksX1_init_0 9 rfl rfl)
theorem dX1_init_12 : decode cX1_init 12 = .ok (.putfield 58, 3) := dk_181 0 58 (dk_at dksX1_init_0 12 rfl rfl)
theorem dX1_init_15 : decode cX1_init 15 = .ok (.aload_n 0, 1) := dk_42 (dk_at dksX1_init_0 15 rfl rfl)
theorem dX1_init_16 : decode cX1_init 16 = .ok (.sipush 280, 3) := dk_17 1 24 (dk_at dksX1_init_0 16 rfl rfl)
theorem dX1_init_19 : decode cX1_init 19 = .ok (.newarray .byte, 2) := dk_188_8 (dk_at dksX1_init_0 19 rfl rfl)
theorem dX1_init_21 : decode cX1_init 21 = .ok (.putfield 43, 3) := dk_181 0 43 (dk_at dksX1_init_0 21 rfl rfl)
theorem dX1_init_24 : decode cX1_init 24 = .ok (.aload_n 0, 1) := dk_42 (dk_at dksX1_init_1 0 rfl rfl)
theorem dX1_init_25 : decode cX1_init 25 = .ok (.iconst 5, 1) := dk_8 (dk_at dksX1_init_1 1 rfl rfl)
theorem dX1_init_26 : decode cX1_init 26 = .ok (.newarray .int, 2) := dk_188_10 (dk_at dksX1_init_1 2 rfl rfl)
theorem dX1_init_28 : decode cX1_init 28 = .ok (.putfield 93, 3) := dk_181 0 93 (dk_at dksX1_init_1 4 rfl rfl)
theorem dX1_init_31 : decode cX1_init 31 = .ok (.aload_n 0, 1) := dk_42 (dk_at dksX1_init_1 7 rfl rfl)
theorem dX1_init_32 : decode cX1_init 32 = .ok (.iconst 5, 1) := dk_8 (dk_at dksX1_init_1 8 rfl rfl)
theorem dX1_init_33 : decode cX1_init 33 = .ok (.newarray .int, 2) := dk_188_10 (dk_at dksX1_init_1 9 rfl rfl)
theorem dX1_init_35 : decode cX1_init 35 = .ok (.putfield 155, 3) := dk_181 0 155 (dk_at dksX1_init_1 11 rfl rfl)
theorem dX1_init_38 : decode cX1_init 38 = .ok (.aload_n 0, 1) := dk_42 (dk_at dksX1_init_1 14 rfl rfl)
theorem dX1_init_39 : decode cX1_init 39 = .ok (.bipush 32, 2) := dk_16 32 (dk_at dksX1_init_1 15 rfl rfl)
theorem dX1_init_41 : decode cX1_init 41 = .ok (.newarray .int, 2) := dk_188_10 (dk_at dksX1_init_1 17 rfl rfl)
theorem dX1_init_43 : decode cX1_init 43 = .ok (.putfield 123, 3) := dk_181 0 123 (dk_at dksX1_init_1 19 rfl rfl)
theorem dX1_init_46 : decode cX1_init 46 = .ok (.aload_n 0, 1) := dk_42 (dk_at dksX1_init_1 22 rfl rfl)
theorem dX1_init_47 : decode cX1_init 47 = .ok (.iconst 5, 1) := dk_8 (dk_at dksX1_init_1 23 rfl rfl)
theorem dX1_init_48 : decode cX1_init 48 = .ok (.newarray .int, 2) := dk_188_10 (dk_at dksX1_init_2 0 rfl rfl)
theorem dX1_init_50 : decode cX1_init 50 = .ok (.dup, 1) := dk_89 (dk_at dksX1_init_2 2 rfl rfl)
theorem dX1_init_51 : decode cX1_init 51 = .ok (.iconst 0, 1) := dk_3 (dk_at dksX1_init_2 3 rfl rfl)
theorem dX1_init_52 : decode cX1_init 52 = .ok (.iconst 2, 1) := dk_5 (dk_at dksX1_init_2 4 rfl rfl)
theorem dX1_init_53 : decode cX1_init 53 = .ok (.iastore, 1) := dk_79 (dk_at dksX1_init_2 5 rfl rfl)
theorem dX1_init_54 : decode cX1_init 54 = .ok (.dup, 1) := dk_89 (dk_at dksX1_init_2 6 rfl rfl)
theorem dX1_init_55 : decode cX1_init 55 = .ok (.iconst 1, 1) := dk_4 (dk_at dksX1_init_2 7 rfl rfl)
theorem dX1_init_56 : decode cX1_init 56 = .ok (.iconst 1, 1) := dk_4 (dk_at dksX1_init_2 8 rfl rfl)
theorem dX1_init_57 : decode cX1_init 57 = .ok (.iastore, 1) := dk_79 (dk_at dksX1_init_2 9 rfl rfl)
theorem dX1_init_58 : decode cX1_init 58 = .ok (.dup, 1) := dk_89 (dk_at dksX1_init_2 10 rfl rfl)
theorem dX1_init_59 : decode cX1_init 59 = .ok (.iconst 2, 1) := dk_5 (dk_at dksX1_init_2 11 rfl rfl)
theorem dX1_init_60 : decode cX1_init 60 = .ok (.iconst 1, 1) := dk_4 (dk_at dksX1_init_2 12 rfl rfl)
theorem dX1_init_61 : decode cX1_init 61 = .ok (.iastore, 1) := dk_79 (dk_at dksX1_init_2 13 rfl rfl)
theorem dX1_init_62 : decode cX1_init 62 = .ok (.dup, 1) := dk_89 (dk_at dksX1_init_2 14 rfl rfl)
theorem dX1_init_63 : decode cX1_init 63 = .ok (.iconst 3, 1) := dk_6 (dk_at dksX1_init_2 15 rfl rfl)
theorem dX1_init_64 : decode cX1_init 64 = .ok (.iconst 0, 1) := dk_3 (dk_at dksX1_init_2 16 rfl rfl)
theorem dX1_init_65 : decode cX1_init 65 = .ok (.iastore, 1) := dk_79 (dk_at dksX1_init_2 17 rfl rfl)
theorem dX1_init_66 : decode cX1_init 66 = .ok (.dup, 1) := dk_89 (dk_at dksX1_init_2 18 rfl rfl)
theorem dX1_init_67 : decode cX1_init 67 = .ok (.iconst 4, 1) := dk_7 (dk_at dksX1_init_2 19 rfl rfl)
theorem dX1_init_68 : decode cX1_init 68 = .ok (.iconst 0, 1) := dk_3 (dk_at dksX1_init_2 20 rfl rfl)
theorem dX1_init_69 : decode cX1_init 69 = .ok (.iastore, 1) := dk_79 (dk_at dksX1_init_2 21 rfl rfl)
theorem dX1_init_70 : decode cX1_init 70 = .ok (.putfield 102, 3) := dk_181 0 102 (dk_at dksX1_init_3 0 rfl rfl)
theorem dX1_init_73 : decode cX1_init 73 = .ok (.aload_n 0, 1) := dk_42 (dk_at dksX1_init_3 3 rfl rfl)
theorem dX1_init_74 : decode cX1_init 74 = .ok (.iconst 5, 1) := dk_8 (dk_at dksX1_init_3 4 rfl rfl)
theorem dX1_init_75 : decode cX1_init 75 = .ok (.newarray .int, 2) := dk_188_10 (dk_at dksX1_init_3 5 rfl rfl)
theorem dX1_init_77 : decode cX1_init 77 = .ok (.dup, 1) := dk_89 (dk_at dksX1_init_3 7 rfl rfl)
theorem dX1_init_78 : decode cX1_init 78 = .ok (.iconst 0, 1) := dk_3 (dk_at dksX1_init_3 8 rfl rfl)
theorem dX1_init_79 : decode cX1_init 79 = .ok (.bipush 6, 2) := dk_16 6 (dk_at dksX1_init_3 9 rfl rfl)
theorem dX1_init_81 : decode cX1_init 81 = .ok (.iastore, 1) := dk_79 (dk_at dksX1_init_3 11 rfl rfl)
theorem dX1_init_82 : decode cX1_init 82 = .ok (.dup, 1) := dk_89 (dk_at dksX1_init_3 12 rfl rfl)
theorem dX1_init_83 : decode cX1_init 83 = .ok (.iconst 1, 1) := dk_4 (dk_at dksX1_init_3 13 rfl rfl)
theorem dX1_init_84 : decode cX1_init 84 = .ok (.bipush 12, 2) := dk_16 12 (dk_at dksX1_init_3 14 rfl rfl)
theorem dX1_init_86 : decode cX1_init 86 = .ok (.iastore, 1) := dk_79 (dk_at dksX1_init_3 16 rfl rfl)
theorem dX1_init_87 : decode cX1_init 87 = .ok (.dup, 1) := dk_89 (dk_at dksX1_init_3 17 rfl rfl)
theorem dX1_init_88 : decode cX1_init 88 = .ok (.iconst 2, 1) := dk_5 (dk_at dksX1_init_3 18 rfl rfl)
theorem dX1_init_89 : decode cX1_init 89 = .ok (.iconst 4, 1) := dk_7 (dk_at dksX1_init_3 19 rfl rfl)
theorem dX1_init_90 : decode cX1_init 90 = .ok (.iastore, 1) := dk_79 (dk_at dksX1_init_3 20 rfl rfl)
theorem dX1_init_91 : decode cX1_init 91 = .ok (.dup, 1) := dk_89 (dk_at dksX1_init_3 21 rfl rfl)
theorem dX1_init_92 : decode cX1_init 92 = .ok (.iconst 3, 1) := dk_6 (dk_at dksX1_init_3 22 rfl rfl)
theorem dX1_init_93 : decode cX1_init 93 = .ok (.iconst 3, 1) := dk_6 (dk_at dksX1_init_3 23 rfl rfl)
theorem dX1_init_94 : decode cX1_init 94 = .ok (.iastore, 1) := dk_79 (dk_at dksX1_init_4 0 rfl rfl)
theorem dX1_init_95 : decode cX1_init 95 = .ok (.dup, 1) := dk_89 (dk_at dksX1_init_4 1 rfl rfl)
theorem dX1_init_96 : decode cX1_init 96 = .ok (.iconst 4, 1) := dk_7 (dk_at dksX1_init_4 2 rfl rfl)
theorem dX1_init_97 : decode cX1_init 97 = .ok (.bipush 9, 2) := dk_16 9 (dk_at dksX1_init_4 3 rfl rfl)
theorem dX1_init_99 : decode cX1_init 99 = .ok (.iastore, 1) := dk_79 (dk_at dksX1_init_4 5 rfl rfl)
theorem dX1_init_100 : decode cX1_init 100 = .ok (.putfield 105, 3) := dk_181 0 105 (dk_at dksX1_init_4 6 rfl rfl)
theorem dX1_init_103 : decode cX1_init 103 = .ok (.aload_n 0, 1) := dk_42 (dk_at dksX1_init_4 9 rfl rfl)
theorem dX1_init_104 : decode cX1_init 104 = .ok (.iconst 5, 1) := dk_8 (dk_at dksX1_init_4 10 rfl rfl)
theorem dX1_init_105 : decode cX1_init 105 = .ok (.newarray .int, 2) := dk_188_10 (dk_at dksX1_init_4 11 rfl rfl)
theorem dX1_init_107 : decode cX1_init 107 = .ok (.dup, 1) := dk_89 (dk_at dksX1_init_4 13 rfl rfl)
theorem dX1_init_108 : decode cX1_init 108 = .ok (.iconst 0, 1) := dk_3 (dk_at dksX1_init_4 14 rfl rfl)
theorem dX1_init_109 : decode cX1_init 109 = .ok (.iconst 3, 1) := dk_6 (dk_at dksX1_init_4 15 rfl rfl)
theorem dX1_init_110 : decode cX1_init 110 = .ok (.iastore, 1) := dk_79 (dk_at dksX1_init_4 16 rfl rfl)
theorem dX1_init_111 : decode cX1_init 111 = .ok (.dup, 1) := dk_89 (dk_at dksX1_init_4 17 rfl rfl)
theorem dX1_init_112 : decode cX1_init 112 = .ok (.iconst 1, 1) := dk_4 (dk_at dksX1_init_4 18 rfl rfl)
theorem dX1_init_113 : decode cX1_init 113 = .ok (.iconst 4, 1) := dk_7 (dk_at dksX1_init_4 19 rfl rfl)
theorem dX1_init_114 : decode cX1_init 114 = .ok (.iastore, 1) := dk_79 (dk_at dksX1_init_4 20 rfl rfl)
theorem dX1_init_115 : decode cX1_init 115 = .ok (.dup, 1) := dk_89 (dk_at dksX1_init_4 21 rfl rfl)
theorem dX1_init_116 : decode cX1_init 116 = .ok (.iconst 2, 1) := dk_5 (dk_at dksX1_init_4 22 rfl rfl)
theorem dX1_init_117 : decode cX1_init 117 = .ok (.iconst 2, 1) := dk_5 (dk_at dksX1_init_4 23 rfl rfl)
theorem dX1_init_118 : decode cX1_init 118 = .ok (.iastore, 1) := dk_79 (dk_at dksX1_init_5 0 rfl rfl)
theorem dX1_init_119 : decode cX1_init 119 = .ok (.dup, 1) := dk_89 (dk_at dksX1_init_5 1 rfl rfl)
theorem dX1_init_120 : decode cX1_init 120 = .ok (.iconst 3, 1) := dk_6 (dk_at dksX1_init_5 2 rfl rfl)
theorem dX1_init_121 : decode cX1_init 121 = .ok (.iconst 0, 1) := dk_3 (dk_at dksX1_init_5 3 rfl rfl)
theorem dX1_init_122 : decode cX1_init 122 = .ok (.iastore, 1) := dk_79 (dk_at dksX1_init_5 4 rfl rfl)
theorem dX1_init_123 : decode cX1_init 123 = .ok (.dup, 1) := dk_89 (dk_at dksX1_init_5 5 rfl rfl)
theorem dX1_init_124 : decode cX1_init 124 = .ok (.iconst 4, 1) := dk_7 (dk_at dksX1_init_5 6 rfl rfl)
theorem dX1_init_125 : decode cX1_init 125 = .ok (.iconst 1, 1) := dk_4 (dk_at dksX1_init_5 7 rfl rfl)
theorem dX1_init_126 : decode cX1_init 126 = .ok (.iastore, 1) := dk_79 (dk_at dksX1_init_5 8 rfl rfl)
theorem dX1_init_127 : decode cX1_init 127 = .ok (.putfield 97, 3) := dk_181 0 97 (dk_at dksX1_init_5 9 rfl rfl)
theorem dX1_init_130 : decode cX1_init 130 = .ok (.aload_n 0, 1) := dk_42 (dk_at dksX1_init_5 12 rfl rfl)
theorem dX1_init_131 : decode cX1_init 131 = .ok (.iconst 2, 1) := dk_5 (dk_at dksX1_init_5 13 rfl rfl)
theorem dX1_init_132 : decode cX1_init 132 = .ok (.newarray .int, 2) := dk_188_10 (dk_at dksX1_init_5 14 rfl rfl)
theorem dX1_init_134 : decode cX1_init 134 = .ok (.dup, 1) := dk_89 (dk_at dksX1_init_5 16 rfl rfl)
theorem dX1_init_135 : decode cX1_init 135 = .ok (.iconst 0, 1) := dk_3 (dk_at dksX1_init_5 17 rfl rfl)
theorem dX1_init_136 : decode cX1_init 136 = .ok (.iconst 0, 1) := dk_3 (dk_at dksX1_init_5 18 rfl rfl)
theorem dX1_init_137 : decode cX1_init 137 = .ok (.iastore, 1) := dk_79 (dk_at dksX1_init_5 19 rfl rfl)
theorem dX1_init_138 : decode cX1_init 138 = .ok (.dup, 1) := dk_89 (dk_at dksX1_init_5 20 rfl rfl)
theorem dX1_init_139 : decode cX1_init 139 = .ok (.iconst 1, 1) := dk_4 (dk_at dksX1_init_5 21 rfl rfl)
theorem dX1_init_140 : decode cX1_init 140 = .ok (.iconst 0, 1) := dk_3 (dk_at dksX1_init_5 22 rfl rfl)
theorem dX1_init_141 : decode cX1_init 141 = .ok (.iastore, 1) := dk_79 (dk_at dksX1_init_5 23 rfl rfl)
theorem dX1_init_142 : decode cX1_init 142 = .ok (.putfield 114, 3) := dk_181 0 114 (dk_at dksX1_init_6 0 rfl rfl)
theorem dX1_init_145 : decode cX1_init 145 = .ok (.aload_n 0, 1) := dk_42 (dk_at dksX1_init_6 3 rfl rfl)
theorem dX1_init_146 : decode cX1_init 146 = .ok (.iconst 2, 1) := dk_5 (dk_at dksX1_init_6 4 rfl rfl)
theorem dX1_init_147 : decode cX1_init 147 = .ok (.newarray .int, 2) := dk_188_10 (dk_at dksX1_init_6 5 rfl rfl)
theorem dX1_init_149 : decode cX1_init 149 = .ok (.dup, 1) := dk_89 (dk_at dksX1_init_6 7 rfl rfl)
theorem dX1_init_150 : decode cX1_init 150 = .ok (.iconst 0, 1) := dk_3 (dk_at dksX1_init_6 8 rfl rfl)
theorem dX1_init_151 : decode cX1_init 151 = .ok (.sipush 287, 3) := dk_17 1 31 (dk_at dksX1_init_6 9 rfl rfl)
theorem dX1_init_154 : decode cX1_init 154 = .ok (.iastore, 1) := dk_79 (dk_at dksX1_init_6 12 rfl rfl)
theorem dX1_init_155 : decode cX1_init 155 = .ok (.dup, 1) := dk_89 (dk_at dksX1_init_6 13 rfl rfl)
theorem dX1_init_156 : decode cX1_init 156 = .ok (.iconst 1, 1) := dk_4 (dk_at dksX1_init_6 14 rfl rfl)
theorem dX1_init_157 : decode cX1_init 157 = .ok (.sipush 255, 3) := dk_17 0 255 (dk_at dksX1_init_6 15 rfl rfl)
theorem dX1_init_160 : decode cX1_init 160 = .ok (.iastore, 1) := dk_79 (dk_at dksX1_init_6 18 rfl rfl)
theorem dX1_init_161 : decode cX1_init 161 = .ok (.putfield 117, 3) := dk_181 0 117 (dk_at dksX1_init_6 19 rfl rfl)
theorem dX1_init_164 : decode cX1_init 164 = .ok (.aload_n 0, 1) := dk_42 (dk_at dksX1_init_6 22 rfl rfl)
theorem dX1_init_165 : decode cX1_init 165 = .ok (.iconst 2, 1) := dk_5 (dk_at dksX1_init_6 23 rfl rfl)
theorem dX1_init_166 : decode cX1_init 166 = .ok (.newarray .int, 2) := dk_188_10 (dk_at dksX1_init_7 0 rfl rfl)
theorem dX1_init_168 : decode cX1_init 168 = .ok (.dup, 1) := dk_89 (dk_at dksX1_init_7 2 rfl rfl)
theorem dX1_init_169 : decode cX1_init 169 = .ok (.iconst 0, 1) := dk_3 (dk_at dksX1_init_7 3 rfl rfl)
theorem dX1_init_170 : decode cX1_init 170 = .ok (.iconst 0, 1) := dk_3 (dk_at dksX1_init_7 4 rfl rfl)
theorem dX1_init_171 : decode cX1_init 171 = .ok (.iastore, 1) := dk_79 (dk_at dksX1_init_7 5 rfl rfl)
theorem dX1_init_172 : decode cX1_init 172 = .ok (.dup, 1) := dk_89 (dk_at dksX1_init_7 6 rfl rfl)
theorem dX1_init_173 : decode cX1_init 173 = .ok (.iconst 1, 1) := dk_4 (dk_at dksX1_init_7 7 rfl rfl)
theorem dX1_init_174 : decode cX1_init 174 = .ok (.iconst 1, 1) := dk_4 (dk_at dksX1_init_7 8 rfl rfl)
theorem dX1_init_175 : decode cX1_init 175 = .ok (.iastore, 1) := dk_79 (dk_at dksX1_init_7 9 rfl rfl)
theorem dX1_init_176 : decode cX1_init 176 = .ok (.putfield 120, 3) := dk_181 0 120 (dk_at dksX1_init_7 10 rfl rfl)
theorem dX1_init_179 : decode cX1_init 179 = .ok (.aload_n 0, 1) := dk_42 (dk_at dksX1_init_7 13 rfl rfl)
theorem dX1_init_180 : decode cX1_init 180 = .ok (.sipush 400, 3) := dk_17 1 144 (dk_at dksX1_init_7 14 rfl rfl)
theorem dX1_init_183 : decode cX1_init 183 = .ok (.newarray .int, 2) := dk_188_10 (dk_at dksX1_init_7 17 rfl rfl)
theorem dX1_init_185 : decode cX1_init 185 = .ok (.putfield 128, 3) := dk_181 0 128 (dk_at dksX1_init_7 19 rfl rfl)
theorem dX1_init_188 : decode cX1_init 188 = .ok (.aload_n 0, 1) := dk_42 (dk_at dksX1_init_7 22 rfl rfl)
theorem dX1_init_189 : decode cX1_init 189 = .ok (.iconst 5, 1) := dk_8 (dk_at dksX1_init_7 23 rfl rfl)
theorem dX1_init_190 : decode cX1_init 190 = .ok (.newarray .int, 2) := dk_188_10 (dk_at dksX1_init_8 0 rfl rfl)
theorem dX1_init_192 : decode cX1_init 192 = .ok (.putfield 138, 3) := dk_181 0 138 (dk_at dksX1_init_8 2 rfl rfl)
theorem dX1_init_195 : decode cX1_init 195 = .ok (.aload_n 0, 1) := dk_42 (dk_at dksX1_init_8 5 rfl rfl)
theorem dX1_init_196 : decode cX1_init 196 = .ok (.bipush 9, 2) := dk_16 9 (dk_at dksX1_init_8 6 rfl rfl)
theorem dX1_init_198 : decode cX1_init 198 = .ok (.newarray .int, 2) := dk_188_10 (dk_at dksX1_init_8 8 rfl rfl)
theorem dX1_init_200 : decode cX1_init 200 = .ok (.dup, 1) := dk_89 (dk_at dksX1_init_8 10 rfl rfl)
theorem dX1_init_201 : decode cX1_init 201 = .ok (.iconst 0, 1) := dk_3 (dk_at dksX1_init_8 11 rfl rfl)
theorem dX1_init_202 : decode cX1_init 202 = .ok (.iconst 2, 1) := dk_5 (dk_at dksX1_init_8 12 rfl rfl)
theorem dX1_init_203 : decode cX1_init 203 = .ok (.iastore, 1) := dk_79 (dk_at dksX1_init_8 13 rfl rfl)
theorem dX1_init_204 : decode cX1_init 204 = .ok (.dup, 1) := dk_89 (dk_at dksX1_init_8 14 rfl rfl)
theorem dX1_init_205 : decode cX1_init 205 = .ok (.iconst 1, 1) := dk_4 (dk_at dksX1_init_8 15 rfl rfl)
theorem dX1_init_206 : decode cX1_init 206 = .ok (.iconst 1, 1) := dk_4 (dk_at dksX1_init_8 16 rfl rfl)
theorem dX1_init_207 : decode cX1_init 207 = .ok (.iastore, 1) := dk_79 (dk_at dksX1_init_8 17 rfl rfl)
theorem dX1_init_208 : decode cX1_init 208 = .ok (.dup, 1) := dk_89 (dk_at dksX1_init_8 18 rfl rfl)
theorem dX1_init_209 : decode cX1_init 209 = .ok (.iconst 2, 1) := dk_5 (dk_at dksX1_init_8 19 rfl rfl)
theorem dX1_init_210 : decode cX1_init 210 = .ok (.iconst 1, 1) := dk_4 (dk_at dksX1_init_8 20 rfl rfl)
theorem dX1_init_211 : decode cX1_init 211 = .ok (.iastore, 1) := dk_79 (dk_at dksX1_init_8 21 rfl rfl)
theorem dX1_init_212 : decode cX1_init 212 = .ok (.dup, 1) := dk_89 (dk_at dksX1_init_8 22 rfl rfl)
theorem dX1_init_213 : decode cX1_init 213 = .ok (.iconst 3, 1) := dk_6 (dk_at dksX1_init_8 23 rfl rfl)
theorem dX1_init_214 : decode cX1_init 214 = .ok (.iconst 2, 1) := dk_5 (dk_at dksX1_init_9 0 rfl rfl)
theorem dX1_init_215 : decode cX1_init 215 = .ok (.iastore, 1) := dk_79 (dk_at dksX1_init_9 1 rfl rfl)
theorem dX1_init_216 : decode cX1_init 216 = .ok (.dup, 1) := dk_89 (dk_at dksX1_init_9 2 rfl rfl)
theorem dX1_init_217 : decode cX1_init 217 = .ok (.iconst 4, 1) := dk_7 (dk_at dksX1_init_9 3 rfl rfl)
theorem dX1_init_218 : decode cX1_init 218 = .ok (.iconst 1, 1) := dk_4 (dk_at dksX1_init_9 4 rfl rfl)
theorem dX1_init_219 : decode cX1_init 219 = .ok (.iastore, 1) := dk_79 (dk_at dksX1_init_9 5 rfl rfl)
theorem dX1_init_220 : decode cX1_init 220 = .ok (.dup, 1) := dk_89 (dk_at dksX1_init_9 6 rfl rfl)
theorem dX1_init_221 : decode cX1_init 221 = .ok (.iconst 5, 1) := dk_8 (dk_at dksX1_init_9 7 rfl rfl)
theorem dX1_init_222 : decode cX1_init 222 = .ok (.iconst 4, 1) := dk_7 (dk_at dksX1_init_9 8 rfl rfl)
theorem dX1_init_223 : decode cX1_init 223 = .ok (.iastore, 1) := dk_79 (dk_at dksX1_init_9 9 rfl rfl)
theorem dX1_init_224 : decode cX1_init 224 = .ok (.dup, 1) := dk_89 (dk_at dksX1_init_9 10 rfl rfl)
theorem dX1_init_225 : decode cX1_init 225 = .ok (.bipush 6, 2) := dk_16 6 (dk_at dksX1_init_9 11 rfl rfl)
theorem dX1_init_227 : decode cX1_init 227 = .ok (.iconst 3, 1) := dk_6 (dk_at dksX1_init_9 13 rfl rfl)
theorem dX1_init_228 : decode cX1_init 228 = .ok (.iastore, 1) := dk_79 (dk_at dksX1_init_9 14 rfl rfl)
theorem dX1_init_229 : decode cX1_init 229 = .ok (.dup, 1) := dk_89 (dk_at dksX1_init_9 15 rfl rfl)
theorem dX1_init_230 : decode cX1_init 230 = .ok (.bipush 7, 2) := dk_16 7 (dk_at dksX1_init_9 16 rfl rfl)
theorem dX1_init_232 : decode cX1_init 232 = .ok (.iconst 0, 1) := dk_3 (dk_at dksX1_init_9 18 rfl rfl)
theorem dX1_init_233 : decode cX1_init 233 = .ok (.iastore, 1) := dk_79 (dk_at dksX1_init_9 19 rfl rfl)
theorem dX1_init_234 : decode cX1_init 234 = .ok (.dup, 1) := dk_89 (dk_at dksX1_init_9 20 rfl rfl)
theorem dX1_init_235 : decode cX1_init 235 = .ok (.bipush 8, 2) := dk_16 8 (dk_at dksX1_init_9 21 rfl rfl)
theorem dX1_init_237 : decode cX1_init 237 = .ok (.iconst 4, 1) := dk_7 (dk_at dksX1_init_9 23 rfl rfl)
theorem dX1_init_238 : decode cX1_init 238 = .ok (.iastore, 1) := dk_79 (dk_at dksX1_init_10 0 rfl rfl)
theorem dX1_init_239 : decode cX1_init 239 = .ok (.putfield 131, 3) := dk_181 0 131 (dk_at dksX1_init_10 1 rfl rfl)
theorem dX1_init_242 : decode cX1_init 242 = .ok (.aload_n 0, 1) := dk_42 (dk_at dksX1_init_10 4 rfl rfl)
theorem dX1_init_243 : decode cX1_init 243 = .ok (.new 169, 3) := dk_187 0 169 (dk_at dksX1_init_10 5 rfl rfl)
theorem dX1_init_246 : decode cX1_init 246 = .ok (.dup, 1) := dk_89 (dk_at dksX1_init_10 8 rfl rfl)
theorem dX1_init_247 : decode cX1_init 247 = .ok (.aload_n 0, 1) := dk_42 (dk_at dksX1_init_10 9 rfl rfl)
theorem dX1_init_248 : decode cX1_init 248 = .ok (.invokespecial 551, 3) := dk_183 2 39 (dk_at dksX1_init_10 10 rfl rfl)
theorem dX1_init_251 : decode cX1_init 251 = .ok (.putfield 164, 3) := dk_181 0 164 (dk_at dksX1_init_10 13 rfl rfl)
theorem dX1_init_254 : decode cX1_init 254 = .ok (.aload_n 0, 1) := dk_42 (dk_at dksX1_init_10 16 rfl rfl)
theorem dX1_init_255 : decode cX1_init 255 = .ok (.new 215, 3) := dk_187 0 215 (dk_at dksX1_init_10 17 rfl rfl)
theorem dX1_init_258 : decode cX1_init 258 = .ok (.dup, 1) := dk_89 (dk_at dksX1_init_10 20 rfl rfl)
theorem dX1_init_259 : decode cX1_init 259 = .ok (.bipush 40, 2) := dk_16 40 (dk_at dksX1_init_10 21 rfl rfl)
theorem dX1_init_261 : decode cX1_init 261 = .ok (.invokespecial 554, 3) := dk_183 2 42 (dk_at dksX1_init_11 0 rfl rfl)
theorem dX1_init_264 : decode cX1_init 264 = .ok (.putfield 210, 3) := dk_181 0 210 (dk_at dksX1_init_11 3 rfl rfl)
theorem dX1_init_267 : decode cX1_init 267 = .ok (.aload_n 0, 1) := dk_42 (dk_at dksX1_init_11 6 rfl rfl)
theorem dX1_init_268 : decode cX1_init 268 = .ok (.iconst 4, 1) := dk_7 (dk_at dksX1_init_11 7 rfl rfl)
theorem dX1_init_269 : decode cX1_init 269 = .ok (.newarray .int, 2) := dk_188_10 (dk_at dksX1_init_11 8 rfl rfl)
theorem dX1_init_271 : decode cX1_init 271 = .ok (.putfield 469, 3) := dk_181 1 213 (dk_at dksX1_init_11 10 rfl rfl)
theorem dX1_init_274 : decode cX1_init 274 = .ok (.aload_n 0, 1) := dk_42 (dk_at dksX1_init_11 13 rfl rfl)
theorem dX1_init_275 : decode cX1_init 275 = .ok (.bipush 8, 2) := dk_16 8 (dk_at dksX1_init_11 14 rfl rfl)
theorem dX1_init_277 : decode cX1_init 277 = .ok (.newarray .int, 2) := dk_188_10 (dk_at dksX1_init_11 16 rfl rfl)
theorem dX1_init_279 : decode cX1_init 279 = .ok (.putfield 259, 3) := dk_181 1 3 (dk_at dksX1_init_11 18 rfl rfl)
theorem dX1_init_282 : decode cX1_init 282 = .ok (.aload_n 0, 1) := dk_42 (dk_at dksX1_init_11 21 rfl rfl)
theorem dX1_init_283 : decode cX1_init 283 = .ok (.new 2, 3) := dk_187 0 2 (dk_at dksX1_init_12 0 rfl rfl)
theorem dX1_init_286 : decode cX1_init 286 = .ok (.dup, 1) := dk_89 (dk_at dksX1_init_12 3 rfl rfl)
theorem dX1_init_287 : decode cX1_init 287 = .ok (.invokespecial 556, 3) := dk_183 2 44 (dk_at dksX1_init_12 4 rfl rfl)
theorem dX1_init_290 : decode cX1_init 290 = .ok (.putfield 299, 3) := dk_181 1 43 (dk_at dksX1_init_12 7 rfl rfl)
theorem dX1_init_293 : decode cX1_init 293 = .ok (.return_, 1) := dk_177 (dk_at dksX1_init_12 10 rfl rfl)
abbrev cX1_image : ByteArray := prog_1_method_120_code
def yX1_image : MethodName := ⟨RX1, "image", "()I"⟩
def dkwX1_image_1 : List UInt8 := [182, 1, 195, 172]
abbrev dktX1_image_1 : List UInt8 := dkwX1_image_1 ++ []
def dkwX1_image_0 : List UInt8 := [42, 182, 0, 243, 154, 0, 5, 2, 172, 42, 42, 180, 0, 178, 182, 2, 14, 181, 0, 223, 42, 180, 0, 178]
abbrev dktX1_image_0 : List UInt8 := dkwX1_image_0 ++ dktX1_image_1
theorem dksX1_image_0 : cX1_image.data.toList.drop 0 = dktX1_image_0 := by decide +kernel
theorem dksX1_image_1 : cX1_image.data.toList.drop 24 = dktX1_image_1 := dk_seg dksX1_image_0 24 rfl rfl
theorem dX1_image_0 : decode cX1_image 0 = .ok (.aload_n 0, 1) := dk_42 (dk_at dksX1_image_0 0 rfl rfl)
theorem dX1_image_1 : decode cX1_image 1 = .ok (.invokevirtual 243, 3) := dk_182 0 243 (dk_at dksX1_image_0 1 rfl rfl)
theorem dX1_image_4 : decode cX1_image 4 = .ok (.ifCond .ne 5, 3) := dk_154 0 5 (dk_at dksX1_image_0 4 rfl rfl)
theorem dX1_image_7 : decode cX1_image 7 = .ok (.iconst (-1), 1) := dk_2 (dk_at dksX1_image_0 7 rfl rfl)
theorem dX1_image_8 : decode cX1_image 8 = .ok (.ireturn, 1) := dk_172 (dk_at dksX1_image_0 8 rfl rfl)
theorem dX1_image_9 : decode cX1_image 9 = .ok (.aload_n 0, 1) := dk_42 (dk_at dksX1_image_0 9 rfl rfl)
theorem dX1_image_10 : decode cX1_image 10 = .ok (.aload_n 0, 1) := dk_42 (dk_at dksX1_image_0 10 rfl rfl)
theorem dX1_image_11 : decode cX1_image 11 = .ok (.getfield 178, 3) := dk_180 0 178 (dk_at dksX1_image_0 11 rfl rfl)
theorem dX1_image_14 : decode cX1_image 14 = .ok (.invokevirtual 526, 3) := dk_182 2 14 (dk_at dksX1_image_0 14 rfl rfl)
theorem dX1_image_17 : decode cX1_image 17 = .ok (.putfield 223, 3) := dk_181 0 223 (dk_at dksX1_image_0 17 rfl rfl)
theorem dX1_image_20 : decode cX1_image 20 = .ok (.aload_n 0, 1) := dk_42 (dk_at dksX1_image_0 20 rfl rfl)
theorem dX1_image_21 : decode cX1_image 21 = .ok (.getfield 178, 3) := dk_180 0 178 (dk_at dksX1_image_0 21 rfl rfl)
theorem dX1_image_24 : decode cX1_image 24 = .ok (.invokevirtual 451, 3) := dk_182 1 195 (dk_at dksX1_image_1 0 rfl rfl)
theorem dX1_image_27 : decode cX1_image 27 = .ok (.ireturn, 1) := dk_172 (dk_at dksX1_image_1 3 rfl rfl)
abbrev cX1_back : ByteArray := prog_1_method_121_code
def yX1_back : MethodName := ⟨RX1, "back", "()I"⟩
def dkwX1_back_1 : List UInt8 := [180, 0, 214, 182, 0, 220, 42, 180, 0, 178, 182, 1, 195, 172]
abbrev dktX1_back_1 : List UInt8 := dkwX1_back_1 ++ []
def dkwX1_back_0 : List UInt8 := [42, 180, 0, 223, 199, 0, 5, 2, 172, 42, 42, 180, 0, 223, 182, 2, 14, 181, 0, 178, 42, 180, 0, 210]
abbrev dktX1_back_0 : List UInt8 := dkwX1_back_0 ++ dktX1_back_1
theorem dksX1_back_0 : cX1_back.data.toList.drop 0 = dktX1_back_0 := by decide +kernel
theorem dksX1_back_1 : cX1_back.data.toList.drop 24 = dktX1_back_1 := dk_seg dksX1_back_0 24 rfl rfl
theorem dX1_back_0 : decode cX1_back 0 = .ok (.aload_n 0, 1) := dk_42 (dk_at dksX1_back_0 0 rfl rfl)
theorem dX1_back_1 : decode cX1_back 1 = .ok (.getfield 223, 3) := dk_180 0 223 (dk_at dksX1_back_0 1 rfl rfl)
theorem dX1_back_4 : decode cX1_back 4 = .ok (.ifnonnull 5, 3) := dk_199 0 5 (dk_at dksX1_back_0 4 rfl rfl)
theorem dX1_back_7 : decode cX1_back 7 = .ok (.iconst (-1), 1) := dk_2 (dk_at dksX1_back_0 7 rfl rfl)
theorem dX1_back_8 : decode cX1_back 8 = .ok (.ireturn, 1) := dk_172 (dk_at dksX1_back_0 8 rfl rfl)
theorem dX1_back_9 : decode cX1_back 9 = .ok (.aload_n 0, 1) := dk_42 (dk_at dksX1_back_0 9 rfl rfl)
theorem dX1_back_10 : decode cX1_back 10 = .ok (.aload_n 0, 1) := dk_42 (dk_at dksX1_back_0 10 rfl rfl)
theorem dX1_back_11 : decode cX1_back 11 = .ok (.getfield 223, 3) := dk_180 0 223 (dk_at dksX1_back_0 11 rfl rfl)
theorem dX1_back_14 : decode cX1_back 14 = .ok (.invokevirtual 526, 3) := dk_182 2 14 (dk_at dksX1_back_0 14 rfl rfl)
theorem dX1_back_17 : decode cX1_back 17 = .ok (.putfield 178, 3) := dk_181 0 178 (dk_at dksX1_back_0 17 rfl rfl)
theorem dX1_back_20 : decode cX1_back 20 = .ok (.aload_n 0, 1) := dk_42 (dk_at dksX1_back_0 20 rfl rfl)
theorem dX1_back_21 : decode cX1_back 21 = .ok (.getfield 210, 3) := dk_180 0 210 (dk_at dksX1_back_0 21 rfl rfl)
theorem dX1_back_24 : decode cX1_back 24 = .ok (.getfield 214, 3) := dk_180 0 214 (dk_at dksX1_back_1 0 rfl rfl)
theorem dX1_back_27 : decode cX1_back 27 = .ok (.invokevirtual 220, 3) := dk_182 0 220 (dk_at dksX1_back_1 3 rfl rfl)
theorem dX1_back_30 : decode cX1_back 30 = .ok (.aload_n 0, 1) := dk_42 (dk_at dksX1_back_1 6 rfl rfl)
theorem dX1_back_31 : decode cX1_back 31 = .ok (.getfield 178, 3) := dk_180 0 178 (dk_at dksX1_back_1 7 rfl rfl)
theorem dX1_back_34 : decode cX1_back 34 = .ok (.invokevirtual 451, 3) := dk_182 1 195 (dk_at dksX1_back_1 10 rfl rfl)
theorem dX1_back_37 : decode cX1_back 37 = .ok (.ireturn, 1) := dk_172 (dk_at dksX1_back_1 13 rfl rfl)
abbrev cX1_count : ByteArray := prog_1_method_122_code
def yX1_count : MethodName := ⟨RX1, "count", "(I)I"⟩
def dkwX1_count_4 : List UInt8 := [3, 172, 42, 180, 0, 210, 180, 0, 214, 180, 0, 22, 172, 19, 1, 241, 172]
abbrev dktX1_count_4 : List UInt8 := dkwX1_count_4 ++ []
def dkwX1_count_3 : List UInt8 := [180, 0, 40, 172, 42, 182, 0, 243, 153, 0, 16, 42, 180, 0, 178, 180, 1, 202, 180, 0, 22, 167, 0, 4]
abbrev dktX1_count_3 : List UInt8 := dkwX1_count_3 ++ dktX1_count_4
def dkwX1_count_2 : List UInt8 := [42, 182, 0, 243, 153, 0, 10, 42, 182, 0, 185, 167, 0, 4, 3, 172, 42, 180, 0, 152, 172, 42]
abbrev dktX1_count_2 : List UInt8 := dkwX1_count_2 ++ dktX1_count_3
def dkwX1_count_1 : List UInt8 := [170, 0, 0, 0, 0, 0, 94, 0, 0, 0, 0, 0, 0, 0, 4, 0, 0, 0, 35, 0, 0, 0, 51, 0, 0, 0, 56, 0, 0, 0, 61, 0, 0, 0, 83]
abbrev dktX1_count_1 : List UInt8 := dkwX1_count_1 ++ dktX1_count_2
def dkwX1_count_0 : List UInt8 := [27]
abbrev dktX1_count_0 : List UInt8 := dkwX1_count_0 ++ dktX1_count_1
theorem dksX1_count_0 : cX1_count.data.toList.drop 0 = dktX1_count_0 := by decide +kernel
theorem dksX1_count_1 : cX1_count.data.toList.drop 1 = dktX1_count_1 := dk_seg dksX1_count_0 1 rfl rfl
theorem dksX1_count_2 : cX1_count.data.toList.drop 36 = dktX1_count_2 := dk_seg dksX1_count_1 35 rfl rfl
theorem dksX1_count_3 : cX1_count.data.toList.drop 58 = dktX1_count_3 := dk_seg dksX1_count_2 22 rfl rfl
theorem dksX1_count_4 : cX1_count.data.toList.drop 82 = dktX1_count_4 := dk_seg dksX1_count_3 24 rfl rfl
theorem dX1_count_0 : decode cX1_count 0 = .ok (.iload_n 1, 1) := dk_27 (dk_at dksX1_count_0 0 rfl rfl)
theorem dX1_count_1 : decode cX1_count 1 = .ok (.tableswitch 94 0 4 #[35, 51, 56, 61, 83], 35) := by decide +kernel
theorem dX1_count_36 : decode cX1_count 36 = .ok (.aload_n 0, 1) := dk_42 (dk_at dksX1_count_2 0 rfl rfl)
theorem dX1_count_37 : decode cX1_count 37 = .ok (.invokevirtual 243, 3) := dk_182 0 243 (dk_at dksX1_count_2 1 rfl rfl)
theorem dX1_count_40 : decode cX1_count 40 = .ok (.ifCond .eq 10, 3) := dk_153 0 10 (dk_at dksX1_count_2 4 rfl rfl)
theorem dX1_count_43 : decode cX1_count 43 = .ok (.aload_n 0, 1) := dk_42 (dk_at dksX1_count_2 7 rfl rfl)
theorem dX1_count_44 : decode cX1_count 44 = .ok (.invokevirtual 185, 3) := dk_182 0 185 (dk_at dksX1_count_2 8 rfl rfl)
theorem dX1_count_47 : decode cX1_count 47 = .ok (.goto 4, 3) := dk_167 0 4 (dk_at dksX1_count_2 11 rfl rfl)
theorem dX1_count_50 : decode cX1_count 50 = .ok (.iconst 0, 1) := dk_3 (dk_at dksX1_count_2 14 rfl rfl)
theorem dX1_count_51 : decode cX1_count 51 = .ok (.ireturn, 1) := dk_172 (dk_at dksX1_count_2 15 rfl rfl)
theorem dX1_count_52 : decode cX1_count 52 = .ok (.aload_n 0, 1) := dk_42 (dk_at dksX1_count_2 16 rfl rfl)
theorem dX1_count_53 : decode cX1_count 53 = .ok (.getfield 152, 3) := dk_180 0 152 (dk_at dksX1_count_2 17 rfl rfl)
theorem dX1_count_56 : decode cX1_count 56 = .ok (.ireturn, 1) := dk_172 (dk_at dksX1_count_2 20 rfl rfl)
theorem dX1_count_57 : decode cX1_count 57 = .ok (.aload_n 0, 1) := dk_42 (dk_at dksX1_count_2 21 rfl rfl)
theorem dX1_count_58 : decode cX1_count 58 = .ok (.getfield 40, 3) := dk_180 0 40 (dk_at dksX1_count_3 0 rfl rfl)
theorem dX1_count_61 : decode cX1_count 61 = .ok (.ireturn, 1) := dk_172 (dk_at dksX1_count_3 3 rfl rfl)
theorem dX1_count_62 : decode cX1_count 62 = .ok (.aload_n 0, 1) := dk_42 (dk_at dksX1_count_3 4 rfl rfl)
theorem dX1_count_63 : decode cX1_count 63 = .ok (.invokevirtual 243, 3) := dk_182 0 243 (dk_at dksX1_count_3 5 rfl rfl)
theorem dX1_count_66 : decode cX1_count 66 = .ok (.ifCond .eq 16, 3) := dk_153 0 16 (dk_at dksX1_count_3 8 rfl rfl)
theorem dX1_count_69 : decode cX1_count 69 = .ok (.aload_n 0, 1) := dk_42 (dk_at dksX1_count_3 11 rfl rfl)
theorem dX1_count_70 : decode cX1_count 70 = .ok (.getfield 178, 3) := dk_180 0 178 (dk_at dksX1_count_3 12 rfl rfl)
theorem dX1_count_73 : decode cX1_count 73 = .ok (.getfield 458, 3) := dk_180 1 202 (dk_at dksX1_count_3 15 rfl rfl)
theorem dX1_count_76 : decode cX1_count 76 = .ok (.getfield 22, 3) := dk_180 0 22 (dk_at dksX1_count_3 18 rfl rfl)
theorem dX1_count_79 : decode cX1_count 79 = .ok (.goto 4, 3) := dk_167 0 4 (dk_at dksX1_count_3 21 rfl rfl)
theorem dX1_count_82 : decode cX1_count 82 = .ok (.iconst 0, 1) := dk_3 (dk_at dksX1_count_4 0 rfl rfl)
theorem dX1_count_83 : decode cX1_count 83 = .ok (.ireturn, 1) := dk_172 (dk_at dksX1_count_4 1 rfl rfl)
theorem dX1_count_84 : decode cX1_count 84 = .ok (.aload_n 0, 1) := dk_42 (dk_at dksX1_count_4 2 rfl rfl)
theorem dX1_count_85 : decode cX1_count 85 = .ok (.getfield 210, 3) := dk_180 0 210 (dk_at dksX1_count_4 3 rfl rfl)
theorem dX1_count_88 : decode cX1_count 88 = .ok (.getfield 214, 3) := dk_180 0 214 (dk_at dksX1_count_4 6 rfl rfl)
theorem dX1_count_91 : decode cX1_count 91 = .ok (.getfield 22, 3) := dk_180 0 22 (dk_at dksX1_count_4 9 rfl rfl)
theorem dX1_count_94 : decode cX1_count 94 = .ok (.ireturn, 1) := dk_172 (dk_at dksX1_count_4 12 rfl rfl)
theorem dX1_count_95 : decode cX1_count 95 = .ok (.ldc_w 497, 3) := dk_19 1 241 (dk_at dksX1_count_4 13 rfl rfl)
theorem dX1_count_98 : decode cX1_count 98 = .ok (.ireturn, 1) := dk_172 (dk_at dksX1_count_4 16 rfl rfl)
abbrev cX1_read : ByteArray := prog_1_method_95_code
def yX1_read : MethodName := ⟨RX1, "read", "(I)I"⟩
def dkwX1_read_0 : List UInt8 := [42, 27, 182, 1, 157, 154, 0, 11, 187, 1, 254, 89, 183, 2, 0, 191, 42, 27, 182, 1, 68, 172]
abbrev dktX1_read_0 : List UInt8 := dkwX1_read_0 ++ []
theorem dksX1_read_0 : cX1_read.data.toList.drop 0 = dktX1_read_0 := by decide +kernel
theorem dX1_read_0 : decode cX1_read 0 = .ok (.aload_n 0, 1) := dk_42 (dk_at dksX1_read_0 0 rfl rfl)
theorem dX1_read_1 : decode cX1_read 1 = .ok (.iload_n 1, 1) := dk_27 (dk_at dksX1_read_0 1 rfl rfl)
theorem dX1_read_2 : decode cX1_read 2 = .ok (.invokevirtual 413, 3) := dk_182 1 157 (dk_at dksX1_read_0 2 rfl rfl)
theorem dX1_read_5 : decode cX1_read 5 = .ok (.ifCond .ne 11, 3) := dk_154 0 11 (dk_at dksX1_read_0 5 rfl rfl)
theorem dX1_read_8 : decode cX1_read 8 = .ok (.new 510, 3) := dk_187 1 254 (dk_at dksX1_read_0 8 rfl rfl)
theorem dX1_read_11 : decode cX1_read 11 = .ok (.dup, 1) := dk_89 (dk_at dksX1_read_0 11 rfl rfl)
theorem dX1_read_12 : decode cX1_read 12 = .ok (.invokespecial 512, 3) := dk_183 2 0 (dk_at dksX1_read_0 12 rfl rfl)
theorem dX1_read_15 : decode cX1_read 15 = .ok (.athrow, 1) := dk_191 (dk_at dksX1_read_0 15 rfl rfl)
theorem dX1_read_16 : decode cX1_read 16 = .ok (.aload_n 0, 1) := dk_42 (dk_at dksX1_read_0 16 rfl rfl)
theorem dX1_read_17 : decode cX1_read 17 = .ok (.iload_n 1, 1) := dk_27 (dk_at dksX1_read_0 17 rfl rfl)
theorem dX1_read_18 : decode cX1_read 18 = .ok (.invokevirtual 324, 3) := dk_182 1 68 (dk_at dksX1_read_0 18 rfl rfl)
theorem dX1_read_21 : decode cX1_read 21 = .ok (.ireturn, 1) := dk_172 (dk_at dksX1_read_0 21 rfl rfl)
theorem q132 : (Jvm.Cond.initialized "StripeShelf") ∈ lw_all := lw_g (lw_at lw_m1 1 rfl) rfl
theorem q156 : (Jvm.Cond.instanceMethod ({ cls := "StripeShelf", name := "feed", desc := "(IIIII)I" } : Jvm.MethodName)) ∈ lw_all := lw_g (lw_at lw_m1 25 rfl) rfl
theorem q157 : (Jvm.Cond.selects "StripeShelf" ({ cls := "StripeShelf", name := "feed", desc := "(IIIII)I" } : Jvm.MethodName) ({ cls := "StripeShelf", name := "feed", desc := "(IIIII)I" } : Jvm.MethodName)) ∈ lw_all := lw_g (lw_at lw_m1 26 rfl) rfl
theorem q158 : (Jvm.Cond.code ({ cls := "StripeShelf", name := "feed", desc := "(IIIII)I" } : Jvm.MethodName) prog_1_method_6_code (9 : Nat) (Option.some Jvm.ClassFile.FieldType.int)) ∈ lw_all := lw_g (lw_at lw_m1 27 rfl) rfl
theorem q159 : (Jvm.Cond.methodLink "StripeShelf" (34 : Nat) ({ cls := "StripeShelf", name := "byteOf", desc := "(IIIIII)I" } : Jvm.MethodName)) ∈ lw_all := lw_g (lw_at lw_m1 28 rfl) rfl
theorem q160 : (Jvm.Cond.static ({ cls := "StripeShelf", name := "byteOf", desc := "(IIIIII)I" } : Jvm.MethodName)) ∈ lw_all := lw_g (lw_at lw_m1 29 rfl) rfl
theorem q161 : (Jvm.Cond.code ({ cls := "StripeShelf", name := "byteOf", desc := "(IIIIII)I" } : Jvm.MethodName) prog_1_method_5_code (7 : Nat) (Option.some Jvm.ClassFile.FieldType.int)) ∈ lw_all := lw_g (lw_at lw_m1 30 rfl) rfl
theorem q163 : (Jvm.Cond.instanceMethod ({ cls := "StripeShelf", name := "end", desc := "(I)Z" } : Jvm.MethodName)) ∈ lw_all := lw_g (lw_at lw_m1 32 rfl) rfl
theorem q164 : (Jvm.Cond.selects "StripeShelf" ({ cls := "StripeShelf", name := "end", desc := "(I)Z" } : Jvm.MethodName) ({ cls := "StripeShelf", name := "end", desc := "(I)Z" } : Jvm.MethodName)) ∈ lw_all := lw_g (lw_at lw_m1 33 rfl) rfl
theorem q165 : (Jvm.Cond.code ({ cls := "StripeShelf", name := "end", desc := "(I)Z" } : Jvm.MethodName) prog_1_method_7_code (2 : Nat) (Option.some Jvm.ClassFile.FieldType.boolean)) ∈ lw_all := lw_g (lw_at lw_m1 34 rfl) rfl
theorem q166 : (Jvm.Cond.methodLink "StripeShelf" (47 : Nat) ({ cls := "StripeShelf", name := "in", desc := "(III)Z" } : Jvm.MethodName)) ∈ lw_all := lw_g (lw_at lw_m1 35 rfl) rfl
theorem q167 : (Jvm.Cond.static ({ cls := "StripeShelf", name := "in", desc := "(III)Z" } : Jvm.MethodName)) ∈ lw_all := lw_g (lw_at lw_m1 36 rfl) rfl
theorem q168 : (Jvm.Cond.code ({ cls := "StripeShelf", name := "in", desc := "(III)Z" } : Jvm.MethodName) prog_1_method_1_code (3 : Nat) (Option.some Jvm.ClassFile.FieldType.boolean)) ∈ lw_all := lw_g (lw_at lw_m1 37 rfl) rfl
theorem q170 : (Jvm.Cond.instanceMethod ({ cls := "StripeShelf", name := "fault", desc := "(I)I" } : Jvm.MethodName)) ∈ lw_all := lw_g (lw_at lw_m1 39 rfl) rfl
theorem q171 : (Jvm.Cond.selects "StripeShelf" ({ cls := "StripeShelf", name := "fault", desc := "(I)I" } : Jvm.MethodName) ({ cls := "StripeShelf", name := "fault", desc := "(I)I" } : Jvm.MethodName)) ∈ lw_all := lw_g (lw_at lw_m1 40 rfl) rfl
theorem q172 : (Jvm.Cond.codeWith ({ cls := "StripeShelf", name := "fault", desc := "(I)I" } : Jvm.MethodName) prog_1_method_18_code (3 : Nat) (Option.some Jvm.ClassFile.FieldType.int) [((12 : Nat), (29 : Nat), (30 : Nat), (150 : Nat))]) ∈ lw_all := lw_g (lw_at lw_m1 41 rfl) rfl
theorem q173 : (Jvm.Cond.classLink "StripeShelf" (150 : Nat) "StripeShelf$Fault") ∈ lw_all := lw_g (lw_at lw_m1 42 rfl) rfl
theorem q174 : (Jvm.Cond.methodLink "StripeShelf" (144 : Nat) ({ cls := "StripeShelf", name := "wholeShelf", desc := "()V" } : Jvm.MethodName)) ∈ lw_all := lw_g (lw_at lw_m1 43 rfl) rfl
theorem q175 : (Jvm.Cond.privateMethod ({ cls := "StripeShelf", name := "wholeShelf", desc := "()V" } : Jvm.MethodName)) ∈ lw_tbl := lw_at lw_m1 44 rfl
theorem q176 : (Jvm.Cond.instanceMethod ({ cls := "StripeShelf", name := "wholeShelf", desc := "()V" } : Jvm.MethodName)) ∈ lw_all := lw_g (lw_at lw_m1 45 rfl) rfl
theorem q177 : (Jvm.Cond.instantiable "StripeShelf" (32 : Nat)) ∈ lw_all := lw_g (lw_at lw_m1 46 rfl) rfl
theorem q178 : (Jvm.Cond.code ({ cls := "StripeShelf", name := "wholeShelf", desc := "()V" } : Jvm.MethodName) prog_1_method_15_code (4 : Nat) (Option.none : Option Jvm.ClassFile.FieldType)) ∈ lw_all := lw_g (lw_at lw_m1 47 rfl) rfl
theorem q179 : (Jvm.Cond.methodLink "StripeShelf" (62 : Nat) ({ cls := "StripeShelf", name := "ahead", desc := "()I" } : Jvm.MethodName)) ∈ lw_all := lw_g (lw_at lw_m1 48 rfl) rfl
theorem q180 : (Jvm.Cond.privateMethod ({ cls := "StripeShelf", name := "ahead", desc := "()I" } : Jvm.MethodName)) ∈ lw_tbl := lw_at lw_m1 49 rfl
theorem q181 : (Jvm.Cond.instanceMethod ({ cls := "StripeShelf", name := "ahead", desc := "()I" } : Jvm.MethodName)) ∈ lw_all := lw_g (lw_at lw_m1 50 rfl) rfl
theorem q182 : (Jvm.Cond.code ({ cls := "StripeShelf", name := "ahead", desc := "()I" } : Jvm.MethodName) prog_1_method_9_code (1 : Nat) (Option.some Jvm.ClassFile.FieldType.int)) ∈ lw_all := lw_g (lw_at lw_m1 51 rfl) rfl
theorem q183 : (Jvm.Cond.methodLink "StripeShelf" (54 : Nat) ({ cls := "StripeShelf", name := "here", desc := "()I" } : Jvm.MethodName)) ∈ lw_all := lw_g (lw_at lw_m1 52 rfl) rfl
theorem q184 : (Jvm.Cond.privateMethod ({ cls := "StripeShelf", name := "here", desc := "()I" } : Jvm.MethodName)) ∈ lw_tbl := lw_at lw_m1 53 rfl
theorem q185 : (Jvm.Cond.instanceMethod ({ cls := "StripeShelf", name := "here", desc := "()I" } : Jvm.MethodName)) ∈ lw_all := lw_g (lw_at lw_m1 54 rfl) rfl
theorem q186 : (Jvm.Cond.code ({ cls := "StripeShelf", name := "here", desc := "()I" } : Jvm.MethodName) prog_1_method_8_code (1 : Nat) (Option.some Jvm.ClassFile.FieldType.int)) ∈ lw_all := lw_g (lw_at lw_m1 55 rfl) rfl
theorem q187 : (Jvm.Cond.methodLink "StripeShelf" (65 : Nat) ({ cls := "StripeShelf", name := "must", desc := "(Z)V" } : Jvm.MethodName)) ∈ lw_all := lw_g (lw_at lw_m1 56 rfl) rfl
theorem q188 : (Jvm.Cond.privateMethod ({ cls := "StripeShelf", name := "must", desc := "(Z)V" } : Jvm.MethodName)) ∈ lw_tbl := lw_at lw_m1 57 rfl
theorem q189 : (Jvm.Cond.instanceMethod ({ cls := "StripeShelf", name := "must", desc := "(Z)V" } : Jvm.MethodName)) ∈ lw_all := lw_g (lw_at lw_m1 58 rfl) rfl
theorem q190 : (Jvm.Cond.code ({ cls := "StripeShelf", name := "must", desc := "(Z)V" } : Jvm.MethodName) prog_1_method_10_code (2 : Nat) (Option.none : Option Jvm.ClassFile.FieldType)) ∈ lw_all := lw_g (lw_at lw_m1 59 rfl) rfl
theorem q191 : (Jvm.Cond.stringRef "StripeShelf" (100 : Nat) "dtcfk") ∈ lw_tbl := lw_at lw_m1 60 rfl
theorem q192 : (Jvm.Cond.methodLink "StripeShelf" (108 : Nat) ({ cls := "StripeShelf", name := "items", desc := "(Ljava/lang/String;[I[I[I[II)V" } : Jvm.MethodName)) ∈ lw_all := lw_g (lw_at lw_m1 61 rfl) rfl
theorem q193 : (Jvm.Cond.privateMethod ({ cls := "StripeShelf", name := "items", desc := "(Ljava/lang/String;[I[I[I[II)V" } : Jvm.MethodName)) ∈ lw_tbl := lw_at lw_m1 62 rfl
theorem q194 : (Jvm.Cond.instanceMethod ({ cls := "StripeShelf", name := "items", desc := "(Ljava/lang/String;[I[I[I[II)V" } : Jvm.MethodName)) ∈ lw_all := lw_g (lw_at lw_m1 63 rfl) rfl
theorem q195 : (Jvm.Cond.code ({ cls := "StripeShelf", name := "items", desc := "(Ljava/lang/String;[I[I[I[II)V" } : Jvm.MethodName) prog_1_method_14_code (9 : Nat) (Option.none : Option Jvm.ClassFile.FieldType)) ∈ lw_all := lw_g (lw_at lw_m1 64 rfl) rfl
theorem q196 : (Jvm.Cond.methodLink "StripeShelf" (73 : Nat) ({ cls := "java/lang/String", name := "length", desc := "()I" } : Jvm.MethodName)) ∈ lw_all := lw_g (lw_at lw_m1 65 rfl) rfl
theorem q206 : (Jvm.Cond.methodLink "StripeShelf" (78 : Nat) ({ cls := "java/lang/String", name := "indexOf", desc := "(I)I" } : Jvm.MethodName)) ∈ lw_all := lw_g (lw_at lw_m1 75 rfl) rfl
theorem q283 : (Jvm.Cond.methodLink "StripeShelf" (82 : Nat) ({ cls := "StripeShelf", name := "has", desc := "(II)Z" } : Jvm.MethodName)) ∈ lw_all := lw_g (lw_at lw_m1 152 rfl) rfl
theorem q284 : (Jvm.Cond.static ({ cls := "StripeShelf", name := "has", desc := "(II)Z" } : Jvm.MethodName)) ∈ lw_all := lw_g (lw_at lw_m1 153 rfl) rfl
theorem q285 : (Jvm.Cond.code ({ cls := "StripeShelf", name := "has", desc := "(II)Z" } : Jvm.MethodName) prog_1_method_2_code (2 : Nat) (Option.some Jvm.ClassFile.FieldType.boolean)) ∈ lw_all := lw_g (lw_at lw_m1 154 rfl) rfl
theorem q286 : (Jvm.Cond.methodLink "StripeShelf" (86 : Nat) ({ cls := "StripeShelf", name := "number", desc := "(II)I" } : Jvm.MethodName)) ∈ lw_all := lw_g (lw_at lw_m1 155 rfl) rfl
theorem q287 : (Jvm.Cond.privateMethod ({ cls := "StripeShelf", name := "number", desc := "(II)I" } : Jvm.MethodName)) ∈ lw_tbl := lw_at lw_m1 156 rfl
theorem q288 : (Jvm.Cond.instanceMethod ({ cls := "StripeShelf", name := "number", desc := "(II)I" } : Jvm.MethodName)) ∈ lw_all := lw_g (lw_at lw_m1 157 rfl) rfl
theorem q289 : (Jvm.Cond.code ({ cls := "StripeShelf", name := "number", desc := "(II)I" } : Jvm.MethodName) prog_1_method_13_code (5 : Nat) (Option.some Jvm.ClassFile.FieldType.int)) ∈ lw_all := lw_g (lw_at lw_m1 158 rfl) rfl
theorem q290 : (Jvm.Cond.methodLink "StripeShelf" (69 : Nat) ({ cls := "StripeShelf", name := "isDigit", desc := "(I)Z" } : Jvm.MethodName)) ∈ lw_all := lw_g (lw_at lw_m1 159 rfl) rfl
theorem q291 : (Jvm.Cond.static ({ cls := "StripeShelf", name := "isDigit", desc := "(I)Z" } : Jvm.MethodName)) ∈ lw_all := lw_g (lw_at lw_m1 160 rfl) rfl
theorem q292 : (Jvm.Cond.code ({ cls := "StripeShelf", name := "isDigit", desc := "(I)Z" } : Jvm.MethodName) prog_1_method_12_code (1 : Nat) (Option.some Jvm.ClassFile.FieldType.boolean)) ∈ lw_all := lw_g (lw_at lw_m1 161 rfl) rfl
theorem q293 : (Jvm.Cond.stringRef "StripeShelf" (112 : Nat) "ax") ∈ lw_tbl := lw_at lw_m1 162 rfl
theorem q294 : (Jvm.Cond.methodLink "StripeShelf" (147 : Nat) ({ cls := "StripeShelf", name := "wholeScript", desc := "(I)V" } : Jvm.MethodName)) ∈ lw_all := lw_g (lw_at lw_m1 163 rfl) rfl
theorem q295 : (Jvm.Cond.privateMethod ({ cls := "StripeShelf", name := "wholeScript", desc := "(I)V" } : Jvm.MethodName)) ∈ lw_tbl := lw_at lw_m1 164 rfl
theorem q296 : (Jvm.Cond.instanceMethod ({ cls := "StripeShelf", name := "wholeScript", desc := "(I)V" } : Jvm.MethodName)) ∈ lw_all := lw_g (lw_at lw_m1 165 rfl) rfl
theorem q297 : (Jvm.Cond.code ({ cls := "StripeShelf", name := "wholeScript", desc := "(I)V" } : Jvm.MethodName) prog_1_method_17_code (3 : Nat) (Option.none : Option Jvm.ClassFile.FieldType)) ∈ lw_all := lw_g (lw_at lw_m1 166 rfl) rfl
theorem q298 : (Jvm.Cond.methodLink "StripeShelf" (141 : Nat) ({ cls := "StripeShelf", name := "stepRead", desc := "(I)V" } : Jvm.MethodName)) ∈ lw_all := lw_g (lw_at lw_m1 167 rfl) rfl
theorem q299 : (Jvm.Cond.privateMethod ({ cls := "StripeShelf", name := "stepRead", desc := "(I)V" } : Jvm.MethodName)) ∈ lw_tbl := lw_at lw_m1 168 rfl
theorem q300 : (Jvm.Cond.instanceMethod ({ cls := "StripeShelf", name := "stepRead", desc := "(I)V" } : Jvm.MethodName)) ∈ lw_all := lw_g (lw_at lw_m1 169 rfl) rfl
theorem q301 : (Jvm.Cond.code ({ cls := "StripeShelf", name := "stepRead", desc := "(I)V" } : Jvm.MethodName) prog_1_method_16_code (4 : Nat) (Option.none : Option Jvm.ClassFile.FieldType)) ∈ lw_all := lw_g (lw_at lw_m1 170 rfl) rfl
theorem q302 : (Jvm.Cond.stringRef "StripeShelf" (126 : Nat) "wlnrspzyf") ∈ lw_tbl := lw_at lw_m1 171 rfl
theorem q303 : (Jvm.Cond.methodLink "StripeShelf" (134 : Nat) ({ cls := "StripeShelf", name := "sign", desc := "(I)V" } : Jvm.MethodName)) ∈ lw_all := lw_g (lw_at lw_m1 172 rfl) rfl
theorem q304 : (Jvm.Cond.privateMethod ({ cls := "StripeShelf", name := "sign", desc := "(I)V" } : Jvm.MethodName)) ∈ lw_tbl := lw_at lw_m1 173 rfl
theorem q305 : (Jvm.Cond.instanceMethod ({ cls := "StripeShelf", name := "sign", desc := "(I)V" } : Jvm.MethodName)) ∈ lw_all := lw_g (lw_at lw_m1 174 rfl) rfl
theorem q306 : (Jvm.Cond.code ({ cls := "StripeShelf", name := "sign", desc := "(I)V" } : Jvm.MethodName) prog_1_method_11_code (2 : Nat) (Option.none : Option Jvm.ClassFile.FieldType)) ∈ lw_all := lw_g (lw_at lw_m1 175 rfl) rfl
theorem q309 : (Jvm.Cond.instanceMethod ({ cls := "StripeShelf", name := "text", desc := "(I)I" } : Jvm.MethodName)) ∈ lw_all := lw_g (lw_at lw_m1 178 rfl) rfl
theorem q310 : (Jvm.Cond.selects "StripeShelf" ({ cls := "StripeShelf", name := "text", desc := "(I)I" } : Jvm.MethodName) ({ cls := "StripeShelf", name := "text", desc := "(I)I" } : Jvm.MethodName)) ∈ lw_all := lw_g (lw_at lw_m1 179 rfl) rfl
theorem q311 : (Jvm.Cond.code ({ cls := "StripeShelf", name := "text", desc := "(I)I" } : Jvm.MethodName) prog_1_method_21_code (2 : Nat) (Option.some Jvm.ClassFile.FieldType.int)) ∈ lw_all := lw_g (lw_at lw_m1 180 rfl) rfl
theorem q312 : (Jvm.Cond.methodLink "StripeShelf" (226 : Nat) ({ cls := "StripeShelf", name := "fault", desc := "(I)I" } : Jvm.MethodName)) ∈ lw_all := lw_g (lw_at lw_m1 181 rfl) rfl
theorem q313 : (Jvm.Cond.methodLink "StripeShelf" (228 : Nat) ({ cls := "StripeShelf", name := "takeShelf", desc := "()I" } : Jvm.MethodName)) ∈ lw_all := lw_g (lw_at lw_m1 182 rfl) rfl
theorem q314 : (Jvm.Cond.privateMethod ({ cls := "StripeShelf", name := "takeShelf", desc := "()I" } : Jvm.MethodName)) ∈ lw_tbl := lw_at lw_m1 183 rfl
theorem q315 : (Jvm.Cond.instanceMethod ({ cls := "StripeShelf", name := "takeShelf", desc := "()I" } : Jvm.MethodName)) ∈ lw_all := lw_g (lw_at lw_m1 184 rfl) rfl
theorem q316 : (Jvm.Cond.code ({ cls := "StripeShelf", name := "takeShelf", desc := "()I" } : Jvm.MethodName) prog_1_method_20_code (2 : Nat) (Option.some Jvm.ClassFile.FieldType.int)) ∈ lw_all := lw_g (lw_at lw_m1 185 rfl) rfl
theorem q317 : (Jvm.Cond.methodLink "StripeShelf" (158 : Nat) ({ cls := "java/lang/System", name := "arraycopy", desc := "(Ljava/lang/Object;ILjava/lang/Object;II)V" } : Jvm.MethodName)) ∈ lw_all := lw_g (lw_at lw_m1 186 rfl) rfl
theorem q320 : (Jvm.Cond.methodLink "StripeShelf" (168 : Nat) ({ cls := "StripeShelf$Field", name := "becomes", desc := "(I)V" } : Jvm.MethodName)) ∈ lw_all := lw_g (lw_at lw_m1 189 rfl) rfl
theorem q324 : (Jvm.Cond.classLink "StripeShelf" (173 : Nat) "StripeShelf$State") ∈ lw_all := lw_g (lw_at lw_m1 193 rfl) rfl
theorem q326 : (Jvm.Cond.methodLinkNest "StripeShelf" (175 : Nat) ({ cls := "StripeShelf$State", name := "<init>", desc := "()V" } : Jvm.MethodName) "StripeShelf") ∈ lw_tbl := lw_at lw_m1 195 rfl
theorem q339 : (Jvm.Cond.fieldLinkNest "StripeShelf" (1 : Nat) "StripeShelf$Row" "first" "LStripeShelf$Link;" "StripeShelf") ∈ lw_tbl := lw_at lw_m1 208 rfl
theorem q343 : (Jvm.Cond.fieldLinkNest "StripeShelf" (22 : Nat) "StripeShelf$Row" "size" "I" "StripeShelf") ∈ lw_tbl := lw_at lw_m1 212 rfl
theorem q353 : (Jvm.Cond.fieldLinkNest "StripeShelf" (191 : Nat) "StripeShelf$State" "cells" "[I" "StripeShelf") ∈ lw_tbl := lw_at lw_m1 222 rfl
theorem q355 : (Jvm.Cond.fieldLinkNest "StripeShelf" (344 : Nat) "StripeShelf$State" "kind" "[I" "StripeShelf") ∈ lw_tbl := lw_at lw_m1 224 rfl
theorem q357 : (Jvm.Cond.fieldLinkNest "StripeShelf" (347 : Nat) "StripeShelf$State" "done" "[I" "StripeShelf") ∈ lw_tbl := lw_at lw_m1 226 rfl
theorem q359 : (Jvm.Cond.fieldLinkNest "StripeShelf" (516 : Nat) "StripeShelf$State" "reads" "[I" "StripeShelf") ∈ lw_tbl := lw_at lw_m1 228 rfl
theorem q361 : (Jvm.Cond.fieldLinkNest "StripeShelf" (519 : Nat) "StripeShelf$State" "writes" "[I" "StripeShelf") ∈ lw_tbl := lw_at lw_m1 230 rfl
theorem q363 : (Jvm.Cond.fieldLinkNest "StripeShelf" (380 : Nat) "StripeShelf$State" "mended" "[I" "StripeShelf") ∈ lw_tbl := lw_at lw_m1 232 rfl
theorem q365 : (Jvm.Cond.fieldLinkNest "StripeShelf" (362 : Nat) "StripeShelf$State" "dirty" "I" "StripeShelf") ∈ lw_tbl := lw_at lw_m1 234 rfl
theorem q367 : (Jvm.Cond.fieldLinkNest "StripeShelf" (182 : Nat) "StripeShelf$State" "spares" "I" "StripeShelf") ∈ lw_tbl := lw_at lw_m1 236 rfl
theorem q369 : (Jvm.Cond.fieldLinkNest "StripeShelf" (392 : Nat) "StripeShelf$State" "cursor" "I" "StripeShelf") ∈ lw_tbl := lw_at lw_m1 238 rfl
theorem q371 : (Jvm.Cond.fieldLinkNest "StripeShelf" (377 : Nat) "StripeShelf$State" "open" "I" "StripeShelf") ∈ lw_tbl := lw_at lw_m2 0 rfl
theorem q373 : (Jvm.Cond.fieldLinkNest "StripeShelf" (398 : Nat) "StripeShelf$State" "passed" "I" "StripeShelf") ∈ lw_tbl := lw_at lw_m2 2 rfl
theorem q375 : (Jvm.Cond.fieldLinkNest "StripeShelf" (383 : Nat) "StripeShelf$State" "wrongDisk" "I" "StripeShelf") ∈ lw_tbl := lw_at lw_m2 4 rfl
theorem q377 : (Jvm.Cond.fieldLinkNest "StripeShelf" (386 : Nat) "StripeShelf$State" "wrongStripe" "I" "StripeShelf") ∈ lw_tbl := lw_at lw_m2 6 rfl
theorem q379 : (Jvm.Cond.fieldLinkNest "StripeShelf" (389 : Nat) "StripeShelf$State" "wrongByte" "I" "StripeShelf") ∈ lw_tbl := lw_at lw_m2 8 rfl
theorem q381 : (Jvm.Cond.fieldLinkNest "StripeShelf" (458 : Nat) "StripeShelf$State" "log" "LStripeShelf$Row;" "StripeShelf") ∈ lw_tbl := lw_at lw_m2 10 rfl
theorem q413 : (Jvm.Cond.methodLink "StripeShelf" (185 : Nat) ({ cls := "StripeShelf", name := "addresses", desc := "()I" } : Jvm.MethodName)) ∈ lw_all := lw_g (lw_at lw_m2 42 rfl) rfl
theorem q414 : (Jvm.Cond.privateMethod ({ cls := "StripeShelf", name := "addresses", desc := "()I" } : Jvm.MethodName)) ∈ lw_tbl := lw_at lw_m2 43 rfl
theorem q415 : (Jvm.Cond.instanceMethod ({ cls := "StripeShelf", name := "addresses", desc := "()I" } : Jvm.MethodName)) ∈ lw_all := lw_g (lw_at lw_m2 44 rfl) rfl
theorem q416 : (Jvm.Cond.code ({ cls := "StripeShelf", name := "addresses", desc := "()I" } : Jvm.MethodName) prog_1_method_27_code (1 : Nat) (Option.some Jvm.ClassFile.FieldType.int)) ∈ lw_all := lw_g (lw_at lw_m2 45 rfl) rfl
theorem q417 : (Jvm.Cond.methodLink "StripeShelf" (234 : Nat) ({ cls := "StripeShelf", name := "data", desc := "()I" } : Jvm.MethodName)) ∈ lw_all := lw_g (lw_at lw_m2 46 rfl) rfl
theorem q418 : (Jvm.Cond.privateMethod ({ cls := "StripeShelf", name := "data", desc := "()I" } : Jvm.MethodName)) ∈ lw_tbl := lw_at lw_m2 47 rfl
theorem q419 : (Jvm.Cond.instanceMethod ({ cls := "StripeShelf", name := "data", desc := "()I" } : Jvm.MethodName)) ∈ lw_all := lw_g (lw_at lw_m2 48 rfl) rfl
theorem q420 : (Jvm.Cond.code ({ cls := "StripeShelf", name := "data", desc := "()I" } : Jvm.MethodName) prog_1_method_23_code (1 : Nat) (Option.some Jvm.ClassFile.FieldType.int)) ∈ lw_all := lw_g (lw_at lw_m2 49 rfl) rfl
theorem q421 : (Jvm.Cond.methodLink "StripeShelf" (237 : Nat) ({ cls := "StripeShelf", name := "stripes", desc := "()I" } : Jvm.MethodName)) ∈ lw_all := lw_g (lw_at lw_m2 50 rfl) rfl
theorem q422 : (Jvm.Cond.privateMethod ({ cls := "StripeShelf", name := "stripes", desc := "()I" } : Jvm.MethodName)) ∈ lw_tbl := lw_at lw_m2 51 rfl
theorem q423 : (Jvm.Cond.instanceMethod ({ cls := "StripeShelf", name := "stripes", desc := "()I" } : Jvm.MethodName)) ∈ lw_all := lw_g (lw_at lw_m2 52 rfl) rfl
theorem q424 : (Jvm.Cond.code ({ cls := "StripeShelf", name := "stripes", desc := "()I" } : Jvm.MethodName) prog_1_method_25_code (1 : Nat) (Option.some Jvm.ClassFile.FieldType.int)) ∈ lw_all := lw_g (lw_at lw_m2 53 rfl) rfl
theorem q425 : (Jvm.Cond.methodLink "StripeShelf" (240 : Nat) ({ cls := "StripeShelf", name := "chunk", desc := "()I" } : Jvm.MethodName)) ∈ lw_all := lw_g (lw_at lw_m2 54 rfl) rfl
theorem q426 : (Jvm.Cond.privateMethod ({ cls := "StripeShelf", name := "chunk", desc := "()I" } : Jvm.MethodName)) ∈ lw_tbl := lw_at lw_m2 55 rfl
theorem q427 : (Jvm.Cond.instanceMethod ({ cls := "StripeShelf", name := "chunk", desc := "()I" } : Jvm.MethodName)) ∈ lw_all := lw_g (lw_at lw_m2 56 rfl) rfl
theorem q428 : (Jvm.Cond.code ({ cls := "StripeShelf", name := "chunk", desc := "()I" } : Jvm.MethodName) prog_1_method_26_code (1 : Nat) (Option.some Jvm.ClassFile.FieldType.int)) ∈ lw_all := lw_g (lw_at lw_m2 57 rfl) rfl
theorem q429 : (Jvm.Cond.methodLink "StripeShelf" (188 : Nat) ({ cls := "StripeShelf", name := "lays", desc := "(I)V" } : Jvm.MethodName)) ∈ lw_all := lw_g (lw_at lw_m2 58 rfl) rfl
theorem q430 : (Jvm.Cond.privateMethod ({ cls := "StripeShelf", name := "lays", desc := "(I)V" } : Jvm.MethodName)) ∈ lw_tbl := lw_at lw_m2 59 rfl
theorem q431 : (Jvm.Cond.instanceMethod ({ cls := "StripeShelf", name := "lays", desc := "(I)V" } : Jvm.MethodName)) ∈ lw_all := lw_g (lw_at lw_m2 60 rfl) rfl
theorem q432 : (Jvm.Cond.code ({ cls := "StripeShelf", name := "lays", desc := "(I)V" } : Jvm.MethodName) prog_1_method_34_code (2 : Nat) (Option.none : Option Jvm.ClassFile.FieldType)) ∈ lw_all := lw_g (lw_at lw_m2 61 rfl) rfl
theorem q433 : (Jvm.Cond.methodLink "StripeShelf" (250 : Nat) ({ cls := "StripeShelf", name := "diskOf", desc := "(II)I" } : Jvm.MethodName)) ∈ lw_all := lw_g (lw_at lw_m2 62 rfl) rfl
theorem q434 : (Jvm.Cond.privateMethod ({ cls := "StripeShelf", name := "diskOf", desc := "(II)I" } : Jvm.MethodName)) ∈ lw_tbl := lw_at lw_m2 63 rfl
theorem q435 : (Jvm.Cond.instanceMethod ({ cls := "StripeShelf", name := "diskOf", desc := "(II)I" } : Jvm.MethodName)) ∈ lw_all := lw_g (lw_at lw_m2 64 rfl) rfl
theorem q436 : (Jvm.Cond.code ({ cls := "StripeShelf", name := "diskOf", desc := "(II)I" } : Jvm.MethodName) prog_1_method_32_code (5 : Nat) (Option.some Jvm.ClassFile.FieldType.int)) ∈ lw_all := lw_g (lw_at lw_m2 65 rfl) rfl
theorem q437 : (Jvm.Cond.methodLink "StripeShelf" (247 : Nat) ({ cls := "StripeShelf", name := "disks", desc := "()I" } : Jvm.MethodName)) ∈ lw_all := lw_g (lw_at lw_m2 66 rfl) rfl
theorem q438 : (Jvm.Cond.privateMethod ({ cls := "StripeShelf", name := "disks", desc := "()I" } : Jvm.MethodName)) ∈ lw_tbl := lw_at lw_m2 67 rfl
theorem q439 : (Jvm.Cond.instanceMethod ({ cls := "StripeShelf", name := "disks", desc := "()I" } : Jvm.MethodName)) ∈ lw_all := lw_g (lw_at lw_m2 68 rfl) rfl
theorem q440 : (Jvm.Cond.code ({ cls := "StripeShelf", name := "disks", desc := "()I" } : Jvm.MethodName) prog_1_method_24_code (1 : Nat) (Option.some Jvm.ClassFile.FieldType.int)) ∈ lw_all := lw_g (lw_at lw_m2 69 rfl) rfl
theorem q441 : (Jvm.Cond.methodLink "StripeShelf" (203 : Nat) ({ cls := "StripeShelf", name := "cellOf", desc := "(III)I" } : Jvm.MethodName)) ∈ lw_all := lw_g (lw_at lw_m2 70 rfl) rfl
theorem q442 : (Jvm.Cond.static ({ cls := "StripeShelf", name := "cellOf", desc := "(III)I" } : Jvm.MethodName)) ∈ lw_all := lw_g (lw_at lw_m2 71 rfl) rfl
theorem q443 : (Jvm.Cond.code ({ cls := "StripeShelf", name := "cellOf", desc := "(III)I" } : Jvm.MethodName) prog_1_method_31_code (3 : Nat) (Option.some Jvm.ClassFile.FieldType.int)) ∈ lw_all := lw_g (lw_at lw_m2 72 rfl) rfl
theorem q444 : (Jvm.Cond.methodLink "StripeShelf" (207 : Nat) ({ cls := "StripeShelf", name := "changesBy", desc := "(I)V" } : Jvm.MethodName)) ∈ lw_all := lw_g (lw_at lw_m2 73 rfl) rfl
theorem q445 : (Jvm.Cond.privateMethod ({ cls := "StripeShelf", name := "changesBy", desc := "(I)V" } : Jvm.MethodName)) ∈ lw_tbl := lw_at lw_m2 74 rfl
theorem q446 : (Jvm.Cond.instanceMethod ({ cls := "StripeShelf", name := "changesBy", desc := "(I)V" } : Jvm.MethodName)) ∈ lw_all := lw_g (lw_at lw_m2 75 rfl) rfl
theorem q447 : (Jvm.Cond.code ({ cls := "StripeShelf", name := "changesBy", desc := "(I)V" } : Jvm.MethodName) prog_1_method_46_code (2 : Nat) (Option.none : Option Jvm.ClassFile.FieldType)) ∈ lw_all := lw_g (lw_at lw_m2 76 rfl) rfl
theorem q448 : (Jvm.Cond.methodLink "StripeShelf" (268 : Nat) ({ cls := "StripeShelf", name := "get", desc := "(III)I" } : Jvm.MethodName)) ∈ lw_all := lw_g (lw_at lw_m2 77 rfl) rfl
theorem q449 : (Jvm.Cond.privateMethod ({ cls := "StripeShelf", name := "get", desc := "(III)I" } : Jvm.MethodName)) ∈ lw_tbl := lw_at lw_m2 78 rfl
theorem q450 : (Jvm.Cond.instanceMethod ({ cls := "StripeShelf", name := "get", desc := "(III)I" } : Jvm.MethodName)) ∈ lw_all := lw_g (lw_at lw_m2 79 rfl) rfl
theorem q451 : (Jvm.Cond.code ({ cls := "StripeShelf", name := "get", desc := "(III)I" } : Jvm.MethodName) prog_1_method_36_code (4 : Nat) (Option.some Jvm.ClassFile.FieldType.int)) ∈ lw_all := lw_g (lw_at lw_m2 80 rfl) rfl
theorem q452 : (Jvm.Cond.methodLink "StripeShelf" (310 : Nat) ({ cls := "StripeShelf", name := "put", desc := "(IIII)V" } : Jvm.MethodName)) ∈ lw_all := lw_g (lw_at lw_m2 81 rfl) rfl
theorem q453 : (Jvm.Cond.privateMethod ({ cls := "StripeShelf", name := "put", desc := "(IIII)V" } : Jvm.MethodName)) ∈ lw_tbl := lw_at lw_m2 82 rfl
theorem q454 : (Jvm.Cond.instanceMethod ({ cls := "StripeShelf", name := "put", desc := "(IIII)V" } : Jvm.MethodName)) ∈ lw_all := lw_g (lw_at lw_m2 83 rfl) rfl
theorem q455 : (Jvm.Cond.code ({ cls := "StripeShelf", name := "put", desc := "(IIII)V" } : Jvm.MethodName) prog_1_method_37_code (5 : Nat) (Option.none : Option Jvm.ClassFile.FieldType)) ∈ lw_all := lw_g (lw_at lw_m2 84 rfl) rfl
theorem q456 : (Jvm.Cond.methodLink "StripeShelf" (288 : Nat) ({ cls := "StripeShelf", name := "isThere", desc := "(II)Z" } : Jvm.MethodName)) ∈ lw_all := lw_g (lw_at lw_m2 85 rfl) rfl
theorem q457 : (Jvm.Cond.privateMethod ({ cls := "StripeShelf", name := "isThere", desc := "(II)Z" } : Jvm.MethodName)) ∈ lw_tbl := lw_at lw_m2 86 rfl
theorem q458 : (Jvm.Cond.instanceMethod ({ cls := "StripeShelf", name := "isThere", desc := "(II)Z" } : Jvm.MethodName)) ∈ lw_all := lw_g (lw_at lw_m2 87 rfl) rfl
theorem q459 : (Jvm.Cond.code ({ cls := "StripeShelf", name := "isThere", desc := "(II)Z" } : Jvm.MethodName) prog_1_method_35_code (3 : Nat) (Option.some Jvm.ClassFile.FieldType.boolean)) ∈ lw_all := lw_g (lw_at lw_m2 88 rfl) rfl
theorem q460 : (Jvm.Cond.methodLink "StripeShelf" (256 : Nat) ({ cls := "StripeShelf$State", name := "isThere", desc := "(II)Z" } : Jvm.MethodName)) ∈ lw_all := lw_g (lw_at lw_m2 89 rfl) rfl
theorem q464 : (Jvm.Cond.methodLink "StripeShelf" (314 : Nat) ({ cls := "StripeShelf", name := "changesSums", desc := "(IZZ)V" } : Jvm.MethodName)) ∈ lw_all := lw_g (lw_at lw_m2 93 rfl) rfl
theorem q465 : (Jvm.Cond.privateMethod ({ cls := "StripeShelf", name := "changesSums", desc := "(IZZ)V" } : Jvm.MethodName)) ∈ lw_tbl := lw_at lw_m2 94 rfl
theorem q466 : (Jvm.Cond.instanceMethod ({ cls := "StripeShelf", name := "changesSums", desc := "(IZZ)V" } : Jvm.MethodName)) ∈ lw_all := lw_g (lw_at lw_m2 95 rfl) rfl
theorem q467 : (Jvm.Cond.code ({ cls := "StripeShelf", name := "changesSums", desc := "(IZZ)V" } : Jvm.MethodName) prog_1_method_45_code (5 : Nat) (Option.none : Option Jvm.ClassFile.FieldType)) ∈ lw_all := lw_g (lw_at lw_m2 96 rfl) rfl
theorem q468 : (Jvm.Cond.methodLink "StripeShelf" (262 : Nat) ({ cls := "StripeShelf$Field", name := "power", desc := "(I)I" } : Jvm.MethodName)) ∈ lw_all := lw_g (lw_at lw_m2 97 rfl) rfl
theorem q472 : (Jvm.Cond.methodLink "StripeShelf" (265 : Nat) ({ cls := "StripeShelf$Field", name := "times", desc := "(II)I" } : Jvm.MethodName)) ∈ lw_all := lw_g (lw_at lw_m2 101 rfl) rfl
theorem q476 : (Jvm.Cond.methodLink "StripeShelf" (220 : Nat) ({ cls := "StripeShelf$Row", name := "empties", desc := "()V" } : Jvm.MethodName)) ∈ lw_all := lw_g (lw_at lw_m2 105 rfl) rfl
theorem q480 : (Jvm.Cond.methodLink "StripeShelf" (231 : Nat) ({ cls := "StripeShelf", name := "takeScript", desc := "()I" } : Jvm.MethodName)) ∈ lw_all := lw_g (lw_at lw_m2 109 rfl) rfl
theorem q481 : (Jvm.Cond.privateMethod ({ cls := "StripeShelf", name := "takeScript", desc := "()I" } : Jvm.MethodName)) ∈ lw_tbl := lw_at lw_m2 110 rfl
theorem q482 : (Jvm.Cond.instanceMethod ({ cls := "StripeShelf", name := "takeScript", desc := "()I" } : Jvm.MethodName)) ∈ lw_all := lw_g (lw_at lw_m2 111 rfl) rfl
theorem q483 : (Jvm.Cond.code ({ cls := "StripeShelf", name := "takeScript", desc := "()I" } : Jvm.MethodName) prog_1_method_19_code (2 : Nat) (Option.some Jvm.ClassFile.FieldType.int)) ∈ lw_all := lw_g (lw_at lw_m2 112 rfl) rfl
theorem q485 : (Jvm.Cond.instanceMethod ({ cls := "StripeShelf", name := "write", desc := "(II)I" } : Jvm.MethodName)) ∈ lw_all := lw_g (lw_at lw_m2 114 rfl) rfl
theorem q486 : (Jvm.Cond.selects "StripeShelf" ({ cls := "StripeShelf", name := "write", desc := "(II)I" } : Jvm.MethodName) ({ cls := "StripeShelf", name := "write", desc := "(II)I" } : Jvm.MethodName)) ∈ lw_all := lw_g (lw_at lw_m2 115 rfl) rfl
theorem q487 : (Jvm.Cond.code ({ cls := "StripeShelf", name := "write", desc := "(II)I" } : Jvm.MethodName) prog_1_method_71_code (3 : Nat) (Option.some Jvm.ClassFile.FieldType.int)) ∈ lw_all := lw_g (lw_at lw_m2 116 rfl) rfl
theorem q488 : (Jvm.Cond.methodLink "StripeShelf" (472 : Nat) ({ cls := "StripeShelf", name := "hand", desc := "(IIIII)I" } : Jvm.MethodName)) ∈ lw_all := lw_g (lw_at lw_m2 117 rfl) rfl
theorem q489 : (Jvm.Cond.privateMethod ({ cls := "StripeShelf", name := "hand", desc := "(IIIII)I" } : Jvm.MethodName)) ∈ lw_tbl := lw_at lw_m2 118 rfl
theorem q490 : (Jvm.Cond.instanceMethod ({ cls := "StripeShelf", name := "hand", desc := "(IIIII)I" } : Jvm.MethodName)) ∈ lw_all := lw_g (lw_at lw_m2 119 rfl) rfl
theorem q491 : (Jvm.Cond.code ({ cls := "StripeShelf", name := "hand", desc := "(IIIII)I" } : Jvm.MethodName) prog_1_method_70_code (7 : Nat) (Option.some Jvm.ClassFile.FieldType.int)) ∈ lw_all := lw_g (lw_at lw_m2 120 rfl) rfl
theorem q492 : (Jvm.Cond.methodLink "StripeShelf" (463 : Nat) ({ cls := "StripeShelf", name := "whyNot", desc := "(IIIII)I" } : Jvm.MethodName)) ∈ lw_all := lw_g (lw_at lw_m2 121 rfl) rfl
theorem q493 : (Jvm.Cond.privateMethod ({ cls := "StripeShelf", name := "whyNot", desc := "(IIIII)I" } : Jvm.MethodName)) ∈ lw_tbl := lw_at lw_m2 122 rfl
theorem q494 : (Jvm.Cond.instanceMethod ({ cls := "StripeShelf", name := "whyNot", desc := "(IIIII)I" } : Jvm.MethodName)) ∈ lw_all := lw_g (lw_at lw_m2 123 rfl) rfl
theorem q495 : (Jvm.Cond.code ({ cls := "StripeShelf", name := "whyNot", desc := "(IIIII)I" } : Jvm.MethodName) prog_1_method_67_code (6 : Nat) (Option.some Jvm.ClassFile.FieldType.int)) ∈ lw_all := lw_g (lw_at lw_m2 124 rfl) rfl
theorem q496 : (Jvm.Cond.methodLink "StripeShelf" (413 : Nat) ({ cls := "StripeShelf", name := "isAddress", desc := "(I)Z" } : Jvm.MethodName)) ∈ lw_all := lw_g (lw_at lw_m2 125 rfl) rfl
theorem q497 : (Jvm.Cond.privateMethod ({ cls := "StripeShelf", name := "isAddress", desc := "(I)Z" } : Jvm.MethodName)) ∈ lw_tbl := lw_at lw_m2 126 rfl
theorem q498 : (Jvm.Cond.instanceMethod ({ cls := "StripeShelf", name := "isAddress", desc := "(I)Z" } : Jvm.MethodName)) ∈ lw_all := lw_g (lw_at lw_m2 127 rfl) rfl
theorem q499 : (Jvm.Cond.code ({ cls := "StripeShelf", name := "isAddress", desc := "(I)Z" } : Jvm.MethodName) prog_1_method_30_code (2 : Nat) (Option.some Jvm.ClassFile.FieldType.boolean)) ∈ lw_all := lw_g (lw_at lw_m2 128 rfl) rfl
theorem q500 : (Jvm.Cond.methodLink "StripeShelf" (243 : Nat) ({ cls := "StripeShelf", name := "isShelf", desc := "()Z" } : Jvm.MethodName)) ∈ lw_all := lw_g (lw_at lw_m2 129 rfl) rfl
theorem q501 : (Jvm.Cond.privateMethod ({ cls := "StripeShelf", name := "isShelf", desc := "()Z" } : Jvm.MethodName)) ∈ lw_tbl := lw_at lw_m2 130 rfl
theorem q502 : (Jvm.Cond.instanceMethod ({ cls := "StripeShelf", name := "isShelf", desc := "()Z" } : Jvm.MethodName)) ∈ lw_all := lw_g (lw_at lw_m2 131 rfl) rfl
theorem q503 : (Jvm.Cond.code ({ cls := "StripeShelf", name := "isShelf", desc := "()Z" } : Jvm.MethodName) prog_1_method_22_code (1 : Nat) (Option.some Jvm.ClassFile.FieldType.boolean)) ∈ lw_all := lw_g (lw_at lw_m2 132 rfl) rfl
theorem q504 : (Jvm.Cond.methodLink "StripeShelf" (407 : Nat) ({ cls := "StripeShelf", name := "isDisk", desc := "(I)Z" } : Jvm.MethodName)) ∈ lw_all := lw_g (lw_at lw_m2 133 rfl) rfl
theorem q505 : (Jvm.Cond.privateMethod ({ cls := "StripeShelf", name := "isDisk", desc := "(I)Z" } : Jvm.MethodName)) ∈ lw_tbl := lw_at lw_m2 134 rfl
theorem q506 : (Jvm.Cond.instanceMethod ({ cls := "StripeShelf", name := "isDisk", desc := "(I)Z" } : Jvm.MethodName)) ∈ lw_all := lw_g (lw_at lw_m2 135 rfl) rfl
theorem q507 : (Jvm.Cond.code ({ cls := "StripeShelf", name := "isDisk", desc := "(I)Z" } : Jvm.MethodName) prog_1_method_28_code (2 : Nat) (Option.some Jvm.ClassFile.FieldType.boolean)) ∈ lw_all := lw_g (lw_at lw_m2 136 rfl) rfl
theorem q508 : (Jvm.Cond.methodLink "StripeShelf" (350 : Nat) ({ cls := "StripeShelf", name := "lostMany", desc := "()I" } : Jvm.MethodName)) ∈ lw_all := lw_g (lw_at lw_m2 137 rfl) rfl
theorem q509 : (Jvm.Cond.privateMethod ({ cls := "StripeShelf", name := "lostMany", desc := "()I" } : Jvm.MethodName)) ∈ lw_tbl := lw_at lw_m2 138 rfl
theorem q510 : (Jvm.Cond.instanceMethod ({ cls := "StripeShelf", name := "lostMany", desc := "()I" } : Jvm.MethodName)) ∈ lw_all := lw_g (lw_at lw_m2 139 rfl) rfl
theorem q511 : (Jvm.Cond.code ({ cls := "StripeShelf", name := "lostMany", desc := "()I" } : Jvm.MethodName) prog_1_method_51_code (3 : Nat) (Option.some Jvm.ClassFile.FieldType.int)) ∈ lw_all := lw_g (lw_at lw_m2 140 rfl) rfl
theorem q512 : (Jvm.Cond.methodLink "StripeShelf" (416 : Nat) ({ cls := "StripeShelf", name := "whyNotSpoilt", desc := "(IIII)I" } : Jvm.MethodName)) ∈ lw_all := lw_g (lw_at lw_m2 141 rfl) rfl
theorem q513 : (Jvm.Cond.privateMethod ({ cls := "StripeShelf", name := "whyNotSpoilt", desc := "(IIII)I" } : Jvm.MethodName)) ∈ lw_tbl := lw_at lw_m2 142 rfl
theorem q514 : (Jvm.Cond.instanceMethod ({ cls := "StripeShelf", name := "whyNotSpoilt", desc := "(IIII)I" } : Jvm.MethodName)) ∈ lw_all := lw_g (lw_at lw_m2 143 rfl) rfl
theorem q515 : (Jvm.Cond.code ({ cls := "StripeShelf", name := "whyNotSpoilt", desc := "(IIII)I" } : Jvm.MethodName) prog_1_method_66_code (5 : Nat) (Option.some Jvm.ClassFile.FieldType.int)) ∈ lw_all := lw_g (lw_at lw_m2 144 rfl) rfl
theorem q516 : (Jvm.Cond.methodLink "StripeShelf" (410 : Nat) ({ cls := "StripeShelf", name := "isStripe", desc := "(I)Z" } : Jvm.MethodName)) ∈ lw_all := lw_g (lw_at lw_m2 145 rfl) rfl
theorem q517 : (Jvm.Cond.privateMethod ({ cls := "StripeShelf", name := "isStripe", desc := "(I)Z" } : Jvm.MethodName)) ∈ lw_tbl := lw_at lw_m2 146 rfl
theorem q518 : (Jvm.Cond.instanceMethod ({ cls := "StripeShelf", name := "isStripe", desc := "(I)Z" } : Jvm.MethodName)) ∈ lw_all := lw_g (lw_at lw_m2 147 rfl) rfl
theorem q519 : (Jvm.Cond.code ({ cls := "StripeShelf", name := "isStripe", desc := "(I)Z" } : Jvm.MethodName) prog_1_method_29_code (2 : Nat) (Option.some Jvm.ClassFile.FieldType.boolean)) ∈ lw_all := lw_g (lw_at lw_m2 148 rfl) rfl
theorem q520 : (Jvm.Cond.methodLink "StripeShelf" (420 : Nat) ({ cls := "StripeShelf", name := "isAllThere", desc := "(I)Z" } : Jvm.MethodName)) ∈ lw_all := lw_g (lw_at lw_m2 149 rfl) rfl
theorem q521 : (Jvm.Cond.privateMethod ({ cls := "StripeShelf", name := "isAllThere", desc := "(I)Z" } : Jvm.MethodName)) ∈ lw_tbl := lw_at lw_m2 150 rfl
theorem q522 : (Jvm.Cond.instanceMethod ({ cls := "StripeShelf", name := "isAllThere", desc := "(I)Z" } : Jvm.MethodName)) ∈ lw_all := lw_g (lw_at lw_m2 151 rfl) rfl
theorem q523 : (Jvm.Cond.code ({ cls := "StripeShelf", name := "isAllThere", desc := "(I)Z" } : Jvm.MethodName) prog_1_method_65_code (2 : Nat) (Option.some Jvm.ClassFile.FieldType.boolean)) ∈ lw_all := lw_g (lw_at lw_m2 152 rfl) rfl
theorem q524 : (Jvm.Cond.methodLink "StripeShelf" (404 : Nat) ({ cls := "StripeShelf", name := "cleanable", desc := "()I" } : Jvm.MethodName)) ∈ lw_all := lw_g (lw_at lw_m2 153 rfl) rfl
theorem q525 : (Jvm.Cond.privateMethod ({ cls := "StripeShelf", name := "cleanable", desc := "()I" } : Jvm.MethodName)) ∈ lw_tbl := lw_at lw_m2 154 rfl
theorem q526 : (Jvm.Cond.instanceMethod ({ cls := "StripeShelf", name := "cleanable", desc := "()I" } : Jvm.MethodName)) ∈ lw_all := lw_g (lw_at lw_m2 155 rfl) rfl
theorem q527 : (Jvm.Cond.code ({ cls := "StripeShelf", name := "cleanable", desc := "()I" } : Jvm.MethodName) prog_1_method_62_code (3 : Nat) (Option.some Jvm.ClassFile.FieldType.int)) ∈ lw_all := lw_g (lw_at lw_m2 156 rfl) rfl
theorem q528 : (Jvm.Cond.methodLink "StripeShelf" (289 : Nat) ({ cls := "StripeShelf", name := "absent", desc := "(I)I" } : Jvm.MethodName)) ∈ lw_all := lw_g (lw_at lw_m2 157 rfl) rfl
theorem q529 : (Jvm.Cond.privateMethod ({ cls := "StripeShelf", name := "absent", desc := "(I)I" } : Jvm.MethodName)) ∈ lw_tbl := lw_at lw_m2 158 rfl
theorem q530 : (Jvm.Cond.instanceMethod ({ cls := "StripeShelf", name := "absent", desc := "(I)I" } : Jvm.MethodName)) ∈ lw_all := lw_g (lw_at lw_m2 159 rfl) rfl
theorem q531 : (Jvm.Cond.code ({ cls := "StripeShelf", name := "absent", desc := "(I)I" } : Jvm.MethodName) prog_1_method_41_code (4 : Nat) (Option.some Jvm.ClassFile.FieldType.int)) ∈ lw_all := lw_g (lw_at lw_m2 160 rfl) rfl
theorem q532 : (Jvm.Cond.methodLink "StripeShelf" (466 : Nat) ({ cls := "StripeShelf", name := "act", desc := "(IIIII)I" } : Jvm.MethodName)) ∈ lw_all := lw_g (lw_at lw_m2 161 rfl) rfl
theorem q533 : (Jvm.Cond.privateMethod ({ cls := "StripeShelf", name := "act", desc := "(IIIII)I" } : Jvm.MethodName)) ∈ lw_tbl := lw_at lw_m2 162 rfl
theorem q534 : (Jvm.Cond.instanceMethod ({ cls := "StripeShelf", name := "act", desc := "(IIIII)I" } : Jvm.MethodName)) ∈ lw_all := lw_g (lw_at lw_m2 163 rfl) rfl
theorem q535 : (Jvm.Cond.code ({ cls := "StripeShelf", name := "act", desc := "(IIIII)I" } : Jvm.MethodName) prog_1_method_69_code (8 : Nat) (Option.some Jvm.ClassFile.FieldType.int)) ∈ lw_all := lw_g (lw_at lw_m2 164 rfl) rfl
theorem q536 : (Jvm.Cond.methodLink "StripeShelf" (447 : Nat) ({ cls := "StripeShelf$Past", name := "keeps", desc := "(LStripeShelf$Copied;)V" } : Jvm.MethodName)) ∈ lw_all := lw_g (lw_at lw_m2 165 rfl) rfl
theorem q567 : (Jvm.Cond.static ({ cls := "StripeShelf", name := "pours", desc := "(LStripeShelf$Row;LStripeShelf$Row;I)V" } : Jvm.MethodName)) ∈ lw_all := lw_g (lw_at lw_m2 196 rfl) rfl
theorem q568 : (Jvm.Cond.code ({ cls := "StripeShelf", name := "pours", desc := "(LStripeShelf$Row;LStripeShelf$Row;I)V" } : Jvm.MethodName) prog_1_method_4_code (4 : Nat) (Option.none : Option Jvm.ClassFile.FieldType)) ∈ lw_all := lw_g (lw_at lw_m2 197 rfl) rfl
theorem q569 : (Jvm.Cond.methodLink "StripeShelf" (26 : Nat) ({ cls := "StripeShelf$Row", name := "dropsFirst", desc := "()V" } : Jvm.MethodName)) ∈ lw_all := lw_g (lw_at lw_m2 198 rfl) rfl
theorem q570 : (Jvm.Cond.methodLink "StripeShelf" (30 : Nat) ({ cls := "StripeShelf$Row", name := "adds", desc := "(Ljava/lang/Object;)V" } : Jvm.MethodName)) ∈ lw_all := lw_g (lw_at lw_m2 199 rfl) rfl
theorem q581 : (Jvm.Cond.fieldLinkNest "StripeShelf" (7 : Nat) "StripeShelf$Link" "its" "Ljava/lang/Object;" "StripeShelf") ∈ lw_tbl := lw_at lw_m2 210 rfl
theorem q585 : (Jvm.Cond.fieldLinkNest "StripeShelf" (19 : Nat) "StripeShelf$Link" "behind" "LStripeShelf$Link;" "StripeShelf") ∈ lw_tbl := lw_at lw_m2 214 rfl
theorem q595 : (Jvm.Cond.methodLink "StripeShelf" (451 : Nat) ({ cls := "StripeShelf$State", name := "cost", desc := "()I" } : Jvm.MethodName)) ∈ lw_all := lw_g (lw_at lw_m2 224 rfl) rfl
theorem q603 : (Jvm.Cond.methodLink "StripeShelf" (454 : Nat) ({ cls := "StripeShelf", name := "doNow", desc := "(IIIII)I" } : Jvm.MethodName)) ∈ lw_all := lw_g (lw_at lw_m2 232 rfl) rfl
theorem q604 : (Jvm.Cond.privateMethod ({ cls := "StripeShelf", name := "doNow", desc := "(IIIII)I" } : Jvm.MethodName)) ∈ lw_tbl := lw_at lw_m2 233 rfl
theorem q605 : (Jvm.Cond.instanceMethod ({ cls := "StripeShelf", name := "doNow", desc := "(IIIII)I" } : Jvm.MethodName)) ∈ lw_all := lw_g (lw_at lw_m2 234 rfl) rfl
theorem q606 : (Jvm.Cond.code ({ cls := "StripeShelf", name := "doNow", desc := "(IIIII)I" } : Jvm.MethodName) prog_1_method_68_code (6 : Nat) (Option.some Jvm.ClassFile.FieldType.int)) ∈ lw_all := lw_g (lw_at lw_m2 235 rfl) rfl
theorem q607 : (Jvm.Cond.methodLink "StripeShelf" (423 : Nat) ({ cls := "StripeShelf", name := "writesNow", desc := "(II)I" } : Jvm.MethodName)) ∈ lw_all := lw_g (lw_at lw_m2 236 rfl) rfl
theorem q608 : (Jvm.Cond.privateMethod ({ cls := "StripeShelf", name := "writesNow", desc := "(II)I" } : Jvm.MethodName)) ∈ lw_tbl := lw_at lw_m2 237 rfl
theorem q609 : (Jvm.Cond.instanceMethod ({ cls := "StripeShelf", name := "writesNow", desc := "(II)I" } : Jvm.MethodName)) ∈ lw_all := lw_g (lw_at lw_m2 238 rfl) rfl
theorem q610 : (Jvm.Cond.code ({ cls := "StripeShelf", name := "writesNow", desc := "(II)I" } : Jvm.MethodName) prog_1_method_50_code (8 : Nat) (Option.some Jvm.ClassFile.FieldType.int)) ∈ lw_all := lw_g (lw_at lw_m2 239 rfl) rfl
theorem q611 : (Jvm.Cond.methodLink "StripeShelf" (324 : Nat) ({ cls := "StripeShelf", name := "readAt", desc := "(I)I" } : Jvm.MethodName)) ∈ lw_all := lw_g (lw_at lw_m3 0 rfl) rfl
theorem q612 : (Jvm.Cond.privateMethod ({ cls := "StripeShelf", name := "readAt", desc := "(I)I" } : Jvm.MethodName)) ∈ lw_tbl := lw_at lw_m3 1 rfl
theorem q613 : (Jvm.Cond.instanceMethod ({ cls := "StripeShelf", name := "readAt", desc := "(I)I" } : Jvm.MethodName)) ∈ lw_all := lw_g (lw_at lw_m3 2 rfl) rfl
theorem q614 : (Jvm.Cond.code ({ cls := "StripeShelf", name := "readAt", desc := "(I)I" } : Jvm.MethodName) prog_1_method_42_code (2 : Nat) (Option.some Jvm.ClassFile.FieldType.int)) ∈ lw_all := lw_g (lw_at lw_m3 3 rfl) rfl
theorem q615 : (Jvm.Cond.methodLink "StripeShelf" (292 : Nat) ({ cls := "StripeShelf", name := "solves", desc := "(III)V" } : Jvm.MethodName)) ∈ lw_all := lw_g (lw_at lw_m3 4 rfl) rfl
theorem q616 : (Jvm.Cond.privateMethod ({ cls := "StripeShelf", name := "solves", desc := "(III)V" } : Jvm.MethodName)) ∈ lw_tbl := lw_at lw_m3 5 rfl
theorem q617 : (Jvm.Cond.instanceMethod ({ cls := "StripeShelf", name := "solves", desc := "(III)V" } : Jvm.MethodName)) ∈ lw_all := lw_g (lw_at lw_m3 6 rfl) rfl
theorem q618 : (Jvm.Cond.code ({ cls := "StripeShelf", name := "solves", desc := "(III)V" } : Jvm.MethodName) prog_1_method_40_code (10 : Nat) (Option.none : Option Jvm.ClassFile.FieldType)) ∈ lw_all := lw_g (lw_at lw_m3 7 rfl) rfl
theorem q619 : (Jvm.Cond.methodLink "StripeShelf" (271 : Nat) ({ cls := "java/lang/Integer", name := "numberOfTrailingZeros", desc := "(I)I" } : Jvm.MethodName)) ∈ lw_all := lw_g (lw_at lw_m3 8 rfl) rfl
theorem q623 : (Jvm.Cond.methodLink "StripeShelf" (276 : Nat) ({ cls := "java/lang/Integer", name := "bitCount", desc := "(I)I" } : Jvm.MethodName)) ∈ lw_all := lw_g (lw_at lw_m3 12 rfl) rfl
theorem q629 : (Jvm.Cond.methodLink "StripeShelf" (279 : Nat) ({ cls := "StripeShelf", name := "weighedWithout", desc := "(I)I" } : Jvm.MethodName)) ∈ lw_all := lw_g (lw_at lw_m3 18 rfl) rfl
theorem q630 : (Jvm.Cond.privateMethod ({ cls := "StripeShelf", name := "weighedWithout", desc := "(I)I" } : Jvm.MethodName)) ∈ lw_tbl := lw_at lw_m3 19 rfl
theorem q631 : (Jvm.Cond.instanceMethod ({ cls := "StripeShelf", name := "weighedWithout", desc := "(I)I" } : Jvm.MethodName)) ∈ lw_all := lw_g (lw_at lw_m3 20 rfl) rfl
theorem q632 : (Jvm.Cond.code ({ cls := "StripeShelf", name := "weighedWithout", desc := "(I)I" } : Jvm.MethodName) prog_1_method_39_code (4 : Nat) (Option.some Jvm.ClassFile.FieldType.int)) ∈ lw_all := lw_g (lw_at lw_m3 21 rfl) rfl
theorem q633 : (Jvm.Cond.methodLink "StripeShelf" (282 : Nat) ({ cls := "StripeShelf$Field", name := "over", desc := "(II)I" } : Jvm.MethodName)) ∈ lw_all := lw_g (lw_at lw_m3 22 rfl) rfl
theorem q637 : (Jvm.Cond.methodLink "StripeShelf" (285 : Nat) ({ cls := "StripeShelf", name := "sumWithout", desc := "(I)I" } : Jvm.MethodName)) ∈ lw_all := lw_g (lw_at lw_m3 26 rfl) rfl
theorem q638 : (Jvm.Cond.privateMethod ({ cls := "StripeShelf", name := "sumWithout", desc := "(I)I" } : Jvm.MethodName)) ∈ lw_tbl := lw_at lw_m3 27 rfl
theorem q639 : (Jvm.Cond.instanceMethod ({ cls := "StripeShelf", name := "sumWithout", desc := "(I)I" } : Jvm.MethodName)) ∈ lw_all := lw_g (lw_at lw_m3 28 rfl) rfl
theorem q640 : (Jvm.Cond.code ({ cls := "StripeShelf", name := "sumWithout", desc := "(I)I" } : Jvm.MethodName) prog_1_method_38_code (4 : Nat) (Option.some Jvm.ClassFile.FieldType.int)) ∈ lw_all := lw_g (lw_at lw_m3 29 rfl) rfl
theorem q641 : (Jvm.Cond.methodLink "StripeShelf" (327 : Nat) ({ cls := "StripeShelf", name := "way", desc := "()LStripeShelf$Way;" } : Jvm.MethodName)) ∈ lw_all := lw_g (lw_at lw_m3 30 rfl) rfl
theorem q642 : (Jvm.Cond.privateMethod ({ cls := "StripeShelf", name := "way", desc := "()LStripeShelf$Way;" } : Jvm.MethodName)) ∈ lw_tbl := lw_at lw_m3 31 rfl
theorem q643 : (Jvm.Cond.instanceMethod ({ cls := "StripeShelf", name := "way", desc := "()LStripeShelf$Way;" } : Jvm.MethodName)) ∈ lw_all := lw_g (lw_at lw_m3 32 rfl) rfl
theorem q644 : (Jvm.Cond.code ({ cls := "StripeShelf", name := "way", desc := "()LStripeShelf$Way;" } : Jvm.MethodName) prog_1_method_44_code (6 : Nat) (Option.some (Jvm.ClassFile.FieldType.object "StripeShelf$Way"))) ∈ lw_all := lw_g (lw_at lw_m3 33 rfl) rfl
theorem q645 : (Jvm.Cond.methodLink "StripeShelf" (296 : Nat) ({ cls := "StripeShelf", name := "thereOf", desc := "(II)I" } : Jvm.MethodName)) ∈ lw_all := lw_g (lw_at lw_m3 34 rfl) rfl
theorem q646 : (Jvm.Cond.privateMethod ({ cls := "StripeShelf", name := "thereOf", desc := "(II)I" } : Jvm.MethodName)) ∈ lw_tbl := lw_at lw_m3 35 rfl
theorem q647 : (Jvm.Cond.instanceMethod ({ cls := "StripeShelf", name := "thereOf", desc := "(II)I" } : Jvm.MethodName)) ∈ lw_all := lw_g (lw_at lw_m3 36 rfl) rfl
theorem q648 : (Jvm.Cond.code ({ cls := "StripeShelf", name := "thereOf", desc := "(II)I" } : Jvm.MethodName) prog_1_method_43_code (3 : Nat) (Option.some Jvm.ClassFile.FieldType.int)) ∈ lw_all := lw_g (lw_at lw_m3 37 rfl) rfl
theorem q649 : (Jvm.Cond.classLink "StripeShelf" (302 : Nat) "StripeShelf$Way") ∈ lw_all := lw_g (lw_at lw_m3 38 rfl) rfl
theorem q651 : (Jvm.Cond.methodLink "StripeShelf" (304 : Nat) ({ cls := "StripeShelf$Way", name := "<init>", desc := "(III)V" } : Jvm.MethodName)) ∈ lw_all := lw_g (lw_at lw_m3 40 rfl) rfl
theorem q656 : (Jvm.Cond.fieldLinkNest "StripeShelf" (331 : Nat) "StripeShelf$Way" "sort" "I" "StripeShelf") ∈ lw_tbl := lw_at lw_m3 45 rfl
theorem q658 : (Jvm.Cond.fieldLinkNest "StripeShelf" (522 : Nat) "StripeShelf$Way" "reads" "I" "StripeShelf") ∈ lw_tbl := lw_at lw_m3 47 rfl
theorem q660 : (Jvm.Cond.fieldLinkNest "StripeShelf" (524 : Nat) "StripeShelf$Way" "writes" "I" "StripeShelf") ∈ lw_tbl := lw_at lw_m3 49 rfl
theorem q668 : (Jvm.Cond.methodLink "StripeShelf" (306 : Nat) ({ cls := "StripeShelf", name := "least", desc := "(LStripeShelf$Row;)Ljava/lang/Comparable;" } : Jvm.MethodName)) ∈ lw_all := lw_g (lw_at lw_m3 57 rfl) rfl
theorem q669 : (Jvm.Cond.static ({ cls := "StripeShelf", name := "least", desc := "(LStripeShelf$Row;)Ljava/lang/Comparable;" } : Jvm.MethodName)) ∈ lw_all := lw_g (lw_at lw_m3 58 rfl) rfl
theorem q670 : (Jvm.Cond.code ({ cls := "StripeShelf", name := "least", desc := "(LStripeShelf$Row;)Ljava/lang/Comparable;" } : Jvm.MethodName) prog_1_method_3_code (3 : Nat) (Option.some (Jvm.ClassFile.FieldType.object "java/lang/Comparable"))) ∈ lw_all := lw_g (lw_at lw_m3 59 rfl) rfl
theorem q671 : (Jvm.Cond.classLink "StripeShelf" (13 : Nat) "java/lang/Comparable") ∈ lw_all := lw_g (lw_at lw_m3 60 rfl) rfl
theorem q672 : (Jvm.Cond.interfaceEntry "StripeShelf" (15 : Nat)) ∈ lw_tbl := lw_at lw_m3 61 rfl
theorem q673 : (Jvm.Cond.methodLink "StripeShelf" (15 : Nat) ({ cls := "java/lang/Comparable", name := "compareTo", desc := "(Ljava/lang/Object;)I" } : Jvm.MethodName)) ∈ lw_all := lw_g (lw_at lw_m3 62 rfl) rfl
theorem q687 : (Jvm.Cond.methodLink "StripeShelf" (334 : Nat) ({ cls := "StripeShelf", name := "readOf", desc := "(II)I" } : Jvm.MethodName)) ∈ lw_all := lw_g (lw_at lw_m3 76 rfl) rfl
theorem q688 : (Jvm.Cond.privateMethod ({ cls := "StripeShelf", name := "readOf", desc := "(II)I" } : Jvm.MethodName)) ∈ lw_tbl := lw_at lw_m3 77 rfl
theorem q689 : (Jvm.Cond.instanceMethod ({ cls := "StripeShelf", name := "readOf", desc := "(II)I" } : Jvm.MethodName)) ∈ lw_all := lw_g (lw_at lw_m3 78 rfl) rfl
theorem q690 : (Jvm.Cond.code ({ cls := "StripeShelf", name := "readOf", desc := "(II)I" } : Jvm.MethodName) prog_1_method_47_code (3 : Nat) (Option.some Jvm.ClassFile.FieldType.int)) ∈ lw_all := lw_g (lw_at lw_m3 79 rfl) rfl
theorem q691 : (Jvm.Cond.methodLink "StripeShelf" (318 : Nat) ({ cls := "StripeShelf$State", name := "read", desc := "(II)I" } : Jvm.MethodName)) ∈ lw_all := lw_g (lw_at lw_m3 80 rfl) rfl
theorem q695 : (Jvm.Cond.methodLink "StripeShelf" (337 : Nat) ({ cls := "StripeShelf", name := "writeOf", desc := "(II)I" } : Jvm.MethodName)) ∈ lw_all := lw_g (lw_at lw_m3 84 rfl) rfl
theorem q696 : (Jvm.Cond.privateMethod ({ cls := "StripeShelf", name := "writeOf", desc := "(II)I" } : Jvm.MethodName)) ∈ lw_tbl := lw_at lw_m3 85 rfl
theorem q697 : (Jvm.Cond.instanceMethod ({ cls := "StripeShelf", name := "writeOf", desc := "(II)I" } : Jvm.MethodName)) ∈ lw_all := lw_g (lw_at lw_m3 86 rfl) rfl
theorem q698 : (Jvm.Cond.code ({ cls := "StripeShelf", name := "writeOf", desc := "(II)I" } : Jvm.MethodName) prog_1_method_48_code (3 : Nat) (Option.some Jvm.ClassFile.FieldType.int)) ∈ lw_all := lw_g (lw_at lw_m3 87 rfl) rfl
theorem q699 : (Jvm.Cond.methodLink "StripeShelf" (321 : Nat) ({ cls := "StripeShelf$State", name := "written", desc := "(II)I" } : Jvm.MethodName)) ∈ lw_all := lw_g (lw_at lw_m3 88 rfl) rfl
theorem q703 : (Jvm.Cond.methodLink "StripeShelf" (340 : Nat) ({ cls := "StripeShelf", name := "reckonsSums", desc := "(II)V" } : Jvm.MethodName)) ∈ lw_all := lw_g (lw_at lw_m3 92 rfl) rfl
theorem q704 : (Jvm.Cond.privateMethod ({ cls := "StripeShelf", name := "reckonsSums", desc := "(II)V" } : Jvm.MethodName)) ∈ lw_tbl := lw_at lw_m3 93 rfl
theorem q705 : (Jvm.Cond.instanceMethod ({ cls := "StripeShelf", name := "reckonsSums", desc := "(II)V" } : Jvm.MethodName)) ∈ lw_all := lw_g (lw_at lw_m3 94 rfl) rfl
theorem q706 : (Jvm.Cond.code ({ cls := "StripeShelf", name := "reckonsSums", desc := "(II)V" } : Jvm.MethodName) prog_1_method_49_code (4 : Nat) (Option.none : Option Jvm.ClassFile.FieldType)) ∈ lw_all := lw_g (lw_at lw_m3 95 rfl) rfl
theorem q707 : (Jvm.Cond.methodLink "StripeShelf" (426 : Nat) ({ cls := "StripeShelf", name := "losesNow", desc := "(I)I" } : Jvm.MethodName)) ∈ lw_all := lw_g (lw_at lw_m3 96 rfl) rfl
theorem q708 : (Jvm.Cond.privateMethod ({ cls := "StripeShelf", name := "losesNow", desc := "(I)I" } : Jvm.MethodName)) ∈ lw_tbl := lw_at lw_m3 97 rfl
theorem q709 : (Jvm.Cond.instanceMethod ({ cls := "StripeShelf", name := "losesNow", desc := "(I)I" } : Jvm.MethodName)) ∈ lw_all := lw_g (lw_at lw_m3 98 rfl) rfl
theorem q710 : (Jvm.Cond.code ({ cls := "StripeShelf", name := "losesNow", desc := "(I)I" } : Jvm.MethodName) prog_1_method_52_code (3 : Nat) (Option.some Jvm.ClassFile.FieldType.int)) ∈ lw_all := lw_g (lw_at lw_m3 99 rfl) rfl
theorem q711 : (Jvm.Cond.methodLink "StripeShelf" (429 : Nat) ({ cls := "StripeShelf", name := "replacesNow", desc := "(I)I" } : Jvm.MethodName)) ∈ lw_all := lw_g (lw_at lw_m3 100 rfl) rfl
theorem q712 : (Jvm.Cond.privateMethod ({ cls := "StripeShelf", name := "replacesNow", desc := "(I)I" } : Jvm.MethodName)) ∈ lw_tbl := lw_at lw_m3 101 rfl
theorem q713 : (Jvm.Cond.instanceMethod ({ cls := "StripeShelf", name := "replacesNow", desc := "(I)I" } : Jvm.MethodName)) ∈ lw_all := lw_g (lw_at lw_m3 102 rfl) rfl
theorem q714 : (Jvm.Cond.code ({ cls := "StripeShelf", name := "replacesNow", desc := "(I)I" } : Jvm.MethodName) prog_1_method_53_code (2 : Nat) (Option.some Jvm.ClassFile.FieldType.int)) ∈ lw_all := lw_g (lw_at lw_m3 103 rfl) rfl
theorem q715 : (Jvm.Cond.methodLink "StripeShelf" (432 : Nat) ({ cls := "StripeShelf", name := "rebuildsNow", desc := "(II)I" } : Jvm.MethodName)) ∈ lw_all := lw_g (lw_at lw_m3 104 rfl) rfl
theorem q716 : (Jvm.Cond.privateMethod ({ cls := "StripeShelf", name := "rebuildsNow", desc := "(II)I" } : Jvm.MethodName)) ∈ lw_tbl := lw_at lw_m3 105 rfl
theorem q717 : (Jvm.Cond.instanceMethod ({ cls := "StripeShelf", name := "rebuildsNow", desc := "(II)I" } : Jvm.MethodName)) ∈ lw_all := lw_g (lw_at lw_m3 106 rfl) rfl
theorem q718 : (Jvm.Cond.code ({ cls := "StripeShelf", name := "rebuildsNow", desc := "(II)I" } : Jvm.MethodName) prog_1_method_56_code (4 : Nat) (Option.some Jvm.ClassFile.FieldType.int)) ∈ lw_all := lw_g (lw_at lw_m3 107 rfl) rfl
theorem q719 : (Jvm.Cond.methodLink "StripeShelf" (356 : Nat) ({ cls := "StripeShelf", name := "solvesStripe", desc := "(I)V" } : Jvm.MethodName)) ∈ lw_all := lw_g (lw_at lw_m3 108 rfl) rfl
theorem q720 : (Jvm.Cond.privateMethod ({ cls := "StripeShelf", name := "solvesStripe", desc := "(I)V" } : Jvm.MethodName)) ∈ lw_tbl := lw_at lw_m3 109 rfl
theorem q721 : (Jvm.Cond.instanceMethod ({ cls := "StripeShelf", name := "solvesStripe", desc := "(I)V" } : Jvm.MethodName)) ∈ lw_all := lw_g (lw_at lw_m3 110 rfl) rfl
theorem q722 : (Jvm.Cond.code ({ cls := "StripeShelf", name := "solvesStripe", desc := "(I)V" } : Jvm.MethodName) prog_1_method_54_code (6 : Nat) (Option.none : Option Jvm.ClassFile.FieldType)) ∈ lw_all := lw_g (lw_at lw_m3 111 rfl) rfl
theorem q723 : (Jvm.Cond.methodLink "StripeShelf" (353 : Nat) ({ cls := "StripeShelf", name := "partOf", desc := "(II)I" } : Jvm.MethodName)) ∈ lw_all := lw_g (lw_at lw_m3 112 rfl) rfl
theorem q724 : (Jvm.Cond.privateMethod ({ cls := "StripeShelf", name := "partOf", desc := "(II)I" } : Jvm.MethodName)) ∈ lw_tbl := lw_at lw_m3 113 rfl
theorem q725 : (Jvm.Cond.instanceMethod ({ cls := "StripeShelf", name := "partOf", desc := "(II)I" } : Jvm.MethodName)) ∈ lw_all := lw_g (lw_at lw_m3 114 rfl) rfl
theorem q726 : (Jvm.Cond.code ({ cls := "StripeShelf", name := "partOf", desc := "(II)I" } : Jvm.MethodName) prog_1_method_33_code (4 : Nat) (Option.some Jvm.ClassFile.FieldType.int)) ∈ lw_all := lw_g (lw_at lw_m3 115 rfl) rfl
theorem q727 : (Jvm.Cond.methodLink "StripeShelf" (359 : Nat) ({ cls := "StripeShelf", name := "doneOf", desc := "(I)I" } : Jvm.MethodName)) ∈ lw_all := lw_g (lw_at lw_m3 116 rfl) rfl
theorem q728 : (Jvm.Cond.privateMethod ({ cls := "StripeShelf", name := "doneOf", desc := "(I)I" } : Jvm.MethodName)) ∈ lw_tbl := lw_at lw_m3 117 rfl
theorem q729 : (Jvm.Cond.instanceMethod ({ cls := "StripeShelf", name := "doneOf", desc := "(I)I" } : Jvm.MethodName)) ∈ lw_all := lw_g (lw_at lw_m3 118 rfl) rfl
theorem q730 : (Jvm.Cond.code ({ cls := "StripeShelf", name := "doneOf", desc := "(I)I" } : Jvm.MethodName) prog_1_method_55_code (2 : Nat) (Option.some Jvm.ClassFile.FieldType.int)) ∈ lw_all := lw_g (lw_at lw_m3 119 rfl) rfl
theorem q731 : (Jvm.Cond.methodLink "StripeShelf" (435 : Nat) ({ cls := "StripeShelf", name := "scrubsNow", desc := "(I)I" } : Jvm.MethodName)) ∈ lw_all := lw_g (lw_at lw_m3 120 rfl) rfl
theorem q732 : (Jvm.Cond.privateMethod ({ cls := "StripeShelf", name := "scrubsNow", desc := "(I)I" } : Jvm.MethodName)) ∈ lw_tbl := lw_at lw_m3 121 rfl
theorem q733 : (Jvm.Cond.instanceMethod ({ cls := "StripeShelf", name := "scrubsNow", desc := "(I)I" } : Jvm.MethodName)) ∈ lw_all := lw_g (lw_at lw_m3 122 rfl) rfl
theorem q734 : (Jvm.Cond.code ({ cls := "StripeShelf", name := "scrubsNow", desc := "(I)I" } : Jvm.MethodName) prog_1_method_60_code (6 : Nat) (Option.some Jvm.ClassFile.FieldType.int)) ∈ lw_all := lw_g (lw_at lw_m3 123 rfl) rfl
theorem q735 : (Jvm.Cond.methodLink "StripeShelf" (395 : Nat) ({ cls := "StripeShelf", name := "isClear", desc := "(I)Z" } : Jvm.MethodName)) ∈ lw_all := lw_g (lw_at lw_m3 124 rfl) rfl
theorem q736 : (Jvm.Cond.privateMethod ({ cls := "StripeShelf", name := "isClear", desc := "(I)Z" } : Jvm.MethodName)) ∈ lw_tbl := lw_at lw_m3 125 rfl
theorem q737 : (Jvm.Cond.instanceMethod ({ cls := "StripeShelf", name := "isClear", desc := "(I)Z" } : Jvm.MethodName)) ∈ lw_all := lw_g (lw_at lw_m3 126 rfl) rfl
theorem q738 : (Jvm.Cond.code ({ cls := "StripeShelf", name := "isClear", desc := "(I)Z" } : Jvm.MethodName) prog_1_method_57_code (2 : Nat) (Option.some Jvm.ClassFile.FieldType.boolean)) ∈ lw_all := lw_g (lw_at lw_m3 127 rfl) rfl
theorem q739 : (Jvm.Cond.methodLink "StripeShelf" (401 : Nat) ({ cls := "StripeShelf", name := "mends", desc := "(II)I" } : Jvm.MethodName)) ∈ lw_all := lw_g (lw_at lw_m3 128 rfl) rfl
theorem q740 : (Jvm.Cond.privateMethod ({ cls := "StripeShelf", name := "mends", desc := "(II)I" } : Jvm.MethodName)) ∈ lw_tbl := lw_at lw_m3 129 rfl
theorem q741 : (Jvm.Cond.instanceMethod ({ cls := "StripeShelf", name := "mends", desc := "(II)I" } : Jvm.MethodName)) ∈ lw_all := lw_g (lw_at lw_m3 130 rfl) rfl
theorem q742 : (Jvm.Cond.code ({ cls := "StripeShelf", name := "mends", desc := "(II)I" } : Jvm.MethodName) prog_1_method_59_code (5 : Nat) (Option.some Jvm.ClassFile.FieldType.int)) ∈ lw_all := lw_g (lw_at lw_m3 131 rfl) rfl
theorem q743 : (Jvm.Cond.methodLink "StripeShelf" (374 : Nat) ({ cls := "StripeShelf", name := "wrongPart", desc := "(II)I" } : Jvm.MethodName)) ∈ lw_all := lw_g (lw_at lw_m3 132 rfl) rfl
theorem q744 : (Jvm.Cond.privateMethod ({ cls := "StripeShelf", name := "wrongPart", desc := "(II)I" } : Jvm.MethodName)) ∈ lw_tbl := lw_at lw_m3 133 rfl
theorem q745 : (Jvm.Cond.instanceMethod ({ cls := "StripeShelf", name := "wrongPart", desc := "(II)I" } : Jvm.MethodName)) ∈ lw_all := lw_g (lw_at lw_m3 134 rfl) rfl
theorem q746 : (Jvm.Cond.code ({ cls := "StripeShelf", name := "wrongPart", desc := "(II)I" } : Jvm.MethodName) prog_1_method_58_code (5 : Nat) (Option.some Jvm.ClassFile.FieldType.int)) ∈ lw_all := lw_g (lw_at lw_m3 135 rfl) rfl
theorem q747 : (Jvm.Cond.methodLink "StripeShelf" (438 : Nat) ({ cls := "StripeShelf", name := "tearsNow", desc := "(III)I" } : Jvm.MethodName)) ∈ lw_all := lw_g (lw_at lw_m3 136 rfl) rfl
theorem q748 : (Jvm.Cond.privateMethod ({ cls := "StripeShelf", name := "tearsNow", desc := "(III)I" } : Jvm.MethodName)) ∈ lw_tbl := lw_at lw_m3 137 rfl
theorem q749 : (Jvm.Cond.instanceMethod ({ cls := "StripeShelf", name := "tearsNow", desc := "(III)I" } : Jvm.MethodName)) ∈ lw_all := lw_g (lw_at lw_m3 138 rfl) rfl
theorem q750 : (Jvm.Cond.code ({ cls := "StripeShelf", name := "tearsNow", desc := "(III)I" } : Jvm.MethodName) prog_1_method_61_code (7 : Nat) (Option.some Jvm.ClassFile.FieldType.int)) ∈ lw_all := lw_g (lw_at lw_m3 139 rfl) rfl
theorem q751 : (Jvm.Cond.methodLink "StripeShelf" (441 : Nat) ({ cls := "StripeShelf", name := "cleansNow", desc := "()I" } : Jvm.MethodName)) ∈ lw_all := lw_g (lw_at lw_m3 140 rfl) rfl
theorem q752 : (Jvm.Cond.privateMethod ({ cls := "StripeShelf", name := "cleansNow", desc := "()I" } : Jvm.MethodName)) ∈ lw_tbl := lw_at lw_m3 141 rfl
theorem q753 : (Jvm.Cond.instanceMethod ({ cls := "StripeShelf", name := "cleansNow", desc := "()I" } : Jvm.MethodName)) ∈ lw_all := lw_g (lw_at lw_m3 142 rfl) rfl
theorem q754 : (Jvm.Cond.code ({ cls := "StripeShelf", name := "cleansNow", desc := "()I" } : Jvm.MethodName) prog_1_method_63_code (4 : Nat) (Option.some Jvm.ClassFile.FieldType.int)) ∈ lw_all := lw_g (lw_at lw_m3 143 rfl) rfl
theorem q755 : (Jvm.Cond.methodLink "StripeShelf" (444 : Nat) ({ cls := "StripeShelf", name := "fullNow", desc := "(IIII)I" } : Jvm.MethodName)) ∈ lw_all := lw_g (lw_at lw_m3 144 rfl) rfl
theorem q756 : (Jvm.Cond.privateMethod ({ cls := "StripeShelf", name := "fullNow", desc := "(IIII)I" } : Jvm.MethodName)) ∈ lw_tbl := lw_at lw_m3 145 rfl
theorem q757 : (Jvm.Cond.instanceMethod ({ cls := "StripeShelf", name := "fullNow", desc := "(IIII)I" } : Jvm.MethodName)) ∈ lw_all := lw_g (lw_at lw_m3 146 rfl) rfl
theorem q758 : (Jvm.Cond.code ({ cls := "StripeShelf", name := "fullNow", desc := "(IIII)I" } : Jvm.MethodName) prog_1_method_64_code (7 : Nat) (Option.some Jvm.ClassFile.FieldType.int)) ∈ lw_all := lw_g (lw_at lw_m3 147 rfl) rfl
theorem q759 : (Jvm.Cond.classLink "StripeShelf" (460 : Nat) "StripeShelf$Note") ∈ lw_all := lw_g (lw_at lw_m3 148 rfl) rfl
theorem q761 : (Jvm.Cond.methodLink "StripeShelf" (462 : Nat) ({ cls := "StripeShelf$Note", name := "<init>", desc := "(III)V" } : Jvm.MethodName)) ∈ lw_all := lw_g (lw_at lw_m3 150 rfl) rfl
theorem q766 : (Jvm.Cond.fieldLinkNest "StripeShelf" (502 : Nat) "StripeShelf$Note" "sort" "I" "StripeShelf") ∈ lw_tbl := lw_at lw_m3 155 rfl
theorem q768 : (Jvm.Cond.fieldLinkNest "StripeShelf" (503 : Nat) "StripeShelf$Note" "number" "I" "StripeShelf") ∈ lw_tbl := lw_at lw_m3 157 rfl
theorem q770 : (Jvm.Cond.fieldLinkNest "StripeShelf" (505 : Nat) "StripeShelf$Note" "cost" "I" "StripeShelf") ∈ lw_tbl := lw_at lw_m3 159 rfl
theorem q779 : (Jvm.Cond.instanceMethod ({ cls := "StripeShelf", name := "lose", desc := "(I)I" } : Jvm.MethodName)) ∈ lw_all := lw_g (lw_at lw_m3 168 rfl) rfl
theorem q780 : (Jvm.Cond.selects "StripeShelf" ({ cls := "StripeShelf", name := "lose", desc := "(I)I" } : Jvm.MethodName) ({ cls := "StripeShelf", name := "lose", desc := "(I)I" } : Jvm.MethodName)) ∈ lw_all := lw_g (lw_at lw_m3 169 rfl) rfl
theorem q781 : (Jvm.Cond.code ({ cls := "StripeShelf", name := "lose", desc := "(I)I" } : Jvm.MethodName) prog_1_method_72_code (2 : Nat) (Option.some Jvm.ClassFile.FieldType.int)) ∈ lw_all := lw_g (lw_at lw_m3 170 rfl) rfl
theorem q783 : (Jvm.Cond.instanceMethod ({ cls := "StripeShelf", name := "replace", desc := "(I)I" } : Jvm.MethodName)) ∈ lw_all := lw_g (lw_at lw_m3 172 rfl) rfl
theorem q784 : (Jvm.Cond.selects "StripeShelf" ({ cls := "StripeShelf", name := "replace", desc := "(I)I" } : Jvm.MethodName) ({ cls := "StripeShelf", name := "replace", desc := "(I)I" } : Jvm.MethodName)) ∈ lw_all := lw_g (lw_at lw_m3 173 rfl) rfl
theorem q785 : (Jvm.Cond.code ({ cls := "StripeShelf", name := "replace", desc := "(I)I" } : Jvm.MethodName) prog_1_method_73_code (2 : Nat) (Option.some Jvm.ClassFile.FieldType.int)) ∈ lw_all := lw_g (lw_at lw_m3 174 rfl) rfl
theorem q787 : (Jvm.Cond.instanceMethod ({ cls := "StripeShelf", name := "rebuild", desc := "(II)I" } : Jvm.MethodName)) ∈ lw_all := lw_g (lw_at lw_m3 176 rfl) rfl
theorem q788 : (Jvm.Cond.selects "StripeShelf" ({ cls := "StripeShelf", name := "rebuild", desc := "(II)I" } : Jvm.MethodName) ({ cls := "StripeShelf", name := "rebuild", desc := "(II)I" } : Jvm.MethodName)) ∈ lw_all := lw_g (lw_at lw_m3 177 rfl) rfl
theorem q789 : (Jvm.Cond.code ({ cls := "StripeShelf", name := "rebuild", desc := "(II)I" } : Jvm.MethodName) prog_1_method_74_code (3 : Nat) (Option.some Jvm.ClassFile.FieldType.int)) ∈ lw_all := lw_g (lw_at lw_m3 178 rfl) rfl
theorem q791 : (Jvm.Cond.instanceMethod ({ cls := "StripeShelf", name := "scrub", desc := "(I)I" } : Jvm.MethodName)) ∈ lw_all := lw_g (lw_at lw_m3 180 rfl) rfl
theorem q792 : (Jvm.Cond.selects "StripeShelf" ({ cls := "StripeShelf", name := "scrub", desc := "(I)I" } : Jvm.MethodName) ({ cls := "StripeShelf", name := "scrub", desc := "(I)I" } : Jvm.MethodName)) ∈ lw_all := lw_g (lw_at lw_m3 181 rfl) rfl
theorem q793 : (Jvm.Cond.code ({ cls := "StripeShelf", name := "scrub", desc := "(I)I" } : Jvm.MethodName) prog_1_method_75_code (2 : Nat) (Option.some Jvm.ClassFile.FieldType.int)) ∈ lw_all := lw_g (lw_at lw_m3 182 rfl) rfl
theorem q795 : (Jvm.Cond.instanceMethod ({ cls := "StripeShelf", name := "spoil", desc := "(IIII)I" } : Jvm.MethodName)) ∈ lw_all := lw_g (lw_at lw_m3 184 rfl) rfl
theorem q796 : (Jvm.Cond.selects "StripeShelf" ({ cls := "StripeShelf", name := "spoil", desc := "(IIII)I" } : Jvm.MethodName) ({ cls := "StripeShelf", name := "spoil", desc := "(IIII)I" } : Jvm.MethodName)) ∈ lw_all := lw_g (lw_at lw_m3 185 rfl) rfl
theorem q797 : (Jvm.Cond.code ({ cls := "StripeShelf", name := "spoil", desc := "(IIII)I" } : Jvm.MethodName) prog_1_method_76_code (5 : Nat) (Option.some Jvm.ClassFile.FieldType.int)) ∈ lw_all := lw_g (lw_at lw_m3 186 rfl) rfl
theorem q799 : (Jvm.Cond.instanceMethod ({ cls := "StripeShelf", name := "tear", desc := "(III)I" } : Jvm.MethodName)) ∈ lw_all := lw_g (lw_at lw_m3 188 rfl) rfl
theorem q800 : (Jvm.Cond.selects "StripeShelf" ({ cls := "StripeShelf", name := "tear", desc := "(III)I" } : Jvm.MethodName) ({ cls := "StripeShelf", name := "tear", desc := "(III)I" } : Jvm.MethodName)) ∈ lw_all := lw_g (lw_at lw_m3 189 rfl) rfl
theorem q801 : (Jvm.Cond.code ({ cls := "StripeShelf", name := "tear", desc := "(III)I" } : Jvm.MethodName) prog_1_method_77_code (4 : Nat) (Option.some Jvm.ClassFile.FieldType.int)) ∈ lw_all := lw_g (lw_at lw_m3 190 rfl) rfl
theorem q803 : (Jvm.Cond.instanceMethod ({ cls := "StripeShelf", name := "clean", desc := "()I" } : Jvm.MethodName)) ∈ lw_all := lw_g (lw_at lw_m3 192 rfl) rfl
theorem q804 : (Jvm.Cond.selects "StripeShelf" ({ cls := "StripeShelf", name := "clean", desc := "()I" } : Jvm.MethodName) ({ cls := "StripeShelf", name := "clean", desc := "()I" } : Jvm.MethodName)) ∈ lw_all := lw_g (lw_at lw_m3 193 rfl) rfl
theorem q805 : (Jvm.Cond.code ({ cls := "StripeShelf", name := "clean", desc := "()I" } : Jvm.MethodName) prog_1_method_78_code (1 : Nat) (Option.some Jvm.ClassFile.FieldType.int)) ∈ lw_all := lw_g (lw_at lw_m3 194 rfl) rfl
theorem q807 : (Jvm.Cond.instanceMethod ({ cls := "StripeShelf", name := "full", desc := "(IIII)I" } : Jvm.MethodName)) ∈ lw_all := lw_g (lw_at lw_m3 196 rfl) rfl
theorem q808 : (Jvm.Cond.selects "StripeShelf" ({ cls := "StripeShelf", name := "full", desc := "(IIII)I" } : Jvm.MethodName) ({ cls := "StripeShelf", name := "full", desc := "(IIII)I" } : Jvm.MethodName)) ∈ lw_all := lw_g (lw_at lw_m3 197 rfl) rfl
theorem q809 : (Jvm.Cond.code ({ cls := "StripeShelf", name := "full", desc := "(IIII)I" } : Jvm.MethodName) prog_1_method_79_code (5 : Nat) (Option.some Jvm.ClassFile.FieldType.int)) ∈ lw_all := lw_g (lw_at lw_m3 198 rfl) rfl
theorem q811 : (Jvm.Cond.instanceMethod ({ cls := "StripeShelf", name := "years", desc := "(IJ)I" } : Jvm.MethodName)) ∈ lw_all := lw_g (lw_at lw_m3 200 rfl) rfl
theorem q812 : (Jvm.Cond.selects "StripeShelf" ({ cls := "StripeShelf", name := "years", desc := "(IJ)I" } : Jvm.MethodName) ({ cls := "StripeShelf", name := "years", desc := "(IJ)I" } : Jvm.MethodName)) ∈ lw_all := lw_g (lw_at lw_m3 201 rfl) rfl
theorem q813 : (Jvm.Cond.code ({ cls := "StripeShelf", name := "years", desc := "(IJ)I" } : Jvm.MethodName) prog_1_method_83_code (5 : Nat) (Option.some Jvm.ClassFile.FieldType.int)) ∈ lw_all := lw_g (lw_at lw_m3 202 rfl) rfl
theorem q814 : (Jvm.Cond.methodLink "StripeShelf" (490 : Nat) ({ cls := "StripeShelf", name := "drawYear", desc := "()V" } : Jvm.MethodName)) ∈ lw_all := lw_g (lw_at lw_m3 203 rfl) rfl
theorem q815 : (Jvm.Cond.privateMethod ({ cls := "StripeShelf", name := "drawYear", desc := "()V" } : Jvm.MethodName)) ∈ lw_tbl := lw_at lw_m3 204 rfl
theorem q816 : (Jvm.Cond.instanceMethod ({ cls := "StripeShelf", name := "drawYear", desc := "()V" } : Jvm.MethodName)) ∈ lw_all := lw_g (lw_at lw_m3 205 rfl) rfl
theorem q817 : (Jvm.Cond.code ({ cls := "StripeShelf", name := "drawYear", desc := "()V" } : Jvm.MethodName) prog_1_method_82_code (5 : Nat) (Option.none : Option Jvm.ClassFile.FieldType)) ∈ lw_all := lw_g (lw_at lw_m3 206 rfl) rfl
theorem q818 : (Jvm.Cond.methodLink "StripeShelf" (483 : Nat) ({ cls := "StripeShelf", name := "draw", desc := "(I)I" } : Jvm.MethodName)) ∈ lw_all := lw_g (lw_at lw_m3 207 rfl) rfl
theorem q819 : (Jvm.Cond.privateMethod ({ cls := "StripeShelf", name := "draw", desc := "(I)I" } : Jvm.MethodName)) ∈ lw_tbl := lw_at lw_m3 208 rfl
theorem q820 : (Jvm.Cond.instanceMethod ({ cls := "StripeShelf", name := "draw", desc := "(I)I" } : Jvm.MethodName)) ∈ lw_all := lw_g (lw_at lw_m3 209 rfl) rfl
theorem q821 : (Jvm.Cond.code ({ cls := "StripeShelf", name := "draw", desc := "(I)I" } : Jvm.MethodName) prog_1_method_80_code (2 : Nat) (Option.some Jvm.ClassFile.FieldType.int)) ∈ lw_all := lw_g (lw_at lw_m3 210 rfl) rfl
theorem q822 : (Jvm.Cond.constantLong "StripeShelf" (479 : Nat) (6364136223846793005 : Int64)) ∈ lw_all := lw_g (lw_at lw_m3 211 rfl) rfl
theorem q823 : (Jvm.Cond.constantLong "StripeShelf" (481 : Nat) (1442695040888963407 : Int64)) ∈ lw_all := lw_g (lw_at lw_m3 212 rfl) rfl
theorem q824 : (Jvm.Cond.methodLink "StripeShelf" (486 : Nat) ({ cls := "StripeShelf", name := "tryOne", desc := "(IIIII)V" } : Jvm.MethodName)) ∈ lw_all := lw_g (lw_at lw_m3 213 rfl) rfl
theorem q825 : (Jvm.Cond.privateMethod ({ cls := "StripeShelf", name := "tryOne", desc := "(IIIII)V" } : Jvm.MethodName)) ∈ lw_tbl := lw_at lw_m3 214 rfl
theorem q826 : (Jvm.Cond.instanceMethod ({ cls := "StripeShelf", name := "tryOne", desc := "(IIIII)V" } : Jvm.MethodName)) ∈ lw_all := lw_g (lw_at lw_m3 215 rfl) rfl
theorem q827 : (Jvm.Cond.code ({ cls := "StripeShelf", name := "tryOne", desc := "(IIIII)V" } : Jvm.MethodName) prog_1_method_81_code (6 : Nat) (Option.none : Option Jvm.ClassFile.FieldType)) ∈ lw_all := lw_g (lw_at lw_m3 216 rfl) rfl
theorem q829 : (Jvm.Cond.instanceMethod ({ cls := "StripeShelf", name := "status", desc := "(I)I" } : Jvm.MethodName)) ∈ lw_all := lw_g (lw_at lw_m3 218 rfl) rfl
theorem q830 : (Jvm.Cond.selects "StripeShelf" ({ cls := "StripeShelf", name := "status", desc := "(I)I" } : Jvm.MethodName) ({ cls := "StripeShelf", name := "status", desc := "(I)I" } : Jvm.MethodName)) ∈ lw_all := lw_g (lw_at lw_m3 219 rfl) rfl
theorem q831 : (Jvm.Cond.code ({ cls := "StripeShelf", name := "status", desc := "(I)I" } : Jvm.MethodName) prog_1_method_84_code (2 : Nat) (Option.some Jvm.ClassFile.FieldType.int)) ∈ lw_all := lw_g (lw_at lw_m3 220 rfl) rfl
theorem q833 : (Jvm.Cond.instanceMethod ({ cls := "StripeShelf", name := "undo", desc := "()I" } : Jvm.MethodName)) ∈ lw_all := lw_g (lw_at lw_m3 222 rfl) rfl
theorem q834 : (Jvm.Cond.selects "StripeShelf" ({ cls := "StripeShelf", name := "undo", desc := "()I" } : Jvm.MethodName) ({ cls := "StripeShelf", name := "undo", desc := "()I" } : Jvm.MethodName)) ∈ lw_all := lw_g (lw_at lw_m3 223 rfl) rfl
theorem q835 : (Jvm.Cond.code ({ cls := "StripeShelf", name := "undo", desc := "()I" } : Jvm.MethodName) prog_1_method_85_code (1 : Nat) (Option.some Jvm.ClassFile.FieldType.int)) ∈ lw_all := lw_g (lw_at lw_m3 224 rfl) rfl
theorem q836 : (Jvm.Cond.methodLink "StripeShelf" (493 : Nat) ({ cls := "StripeShelf$Row", name := "takesLast", desc := "()Ljava/lang/Object;" } : Jvm.MethodName)) ∈ lw_all := lw_g (lw_at lw_m3 225 rfl) rfl
theorem q841 : (Jvm.Cond.instanceMethod ({ cls := "StripeShelf", name := "log", desc := "(II)I" } : Jvm.MethodName)) ∈ lw_all := lw_g (lw_at lw_m3 230 rfl) rfl
theorem q842 : (Jvm.Cond.selects "StripeShelf" ({ cls := "StripeShelf", name := "log", desc := "(II)I" } : Jvm.MethodName) ({ cls := "StripeShelf", name := "log", desc := "(II)I" } : Jvm.MethodName)) ∈ lw_all := lw_g (lw_at lw_m3 231 rfl) rfl
theorem q843 : (Jvm.Cond.code ({ cls := "StripeShelf", name := "log", desc := "(II)I" } : Jvm.MethodName) prog_1_method_86_code (4 : Nat) (Option.some Jvm.ClassFile.FieldType.int)) ∈ lw_all := lw_g (lw_at lw_m3 232 rfl) rfl
theorem q844 : (Jvm.Cond.constant "StripeShelf" (497 : Nat) (-1000000 : Int32)) ∈ lw_all := lw_g (lw_at lw_m3 233 rfl) rfl
theorem q845 : (Jvm.Cond.methodLink "StripeShelf" (498 : Nat) ({ cls := "StripeShelf$Row", name := "fromLast", desc := "(I)Ljava/lang/Object;" } : Jvm.MethodName)) ∈ lw_all := lw_g (lw_at lw_m3 234 rfl) rfl
theorem q850 : (Jvm.Cond.instanceMethod ({ cls := "StripeShelf", name := "rule", desc := "(I)I" } : Jvm.MethodName)) ∈ lw_all := lw_g (lw_at lw_m3 239 rfl) rfl
theorem q851 : (Jvm.Cond.selects "StripeShelf" ({ cls := "StripeShelf", name := "rule", desc := "(I)I" } : Jvm.MethodName) ({ cls := "StripeShelf", name := "rule", desc := "(I)I" } : Jvm.MethodName)) ∈ lw_all := lw_g (lw_at lw_m4 0 rfl) rfl
theorem q852 : (Jvm.Cond.code ({ cls := "StripeShelf", name := "rule", desc := "(I)I" } : Jvm.MethodName) prog_1_method_87_code (2 : Nat) (Option.some Jvm.ClassFile.FieldType.int)) ∈ lw_all := lw_g (lw_at lw_m4 1 rfl) rfl
theorem q854 : (Jvm.Cond.instanceMethod ({ cls := "StripeShelf", name := "times", desc := "(II)I" } : Jvm.MethodName)) ∈ lw_all := lw_g (lw_at lw_m4 3 rfl) rfl
theorem q855 : (Jvm.Cond.selects "StripeShelf" ({ cls := "StripeShelf", name := "times", desc := "(II)I" } : Jvm.MethodName) ({ cls := "StripeShelf", name := "times", desc := "(II)I" } : Jvm.MethodName)) ∈ lw_all := lw_g (lw_at lw_m4 4 rfl) rfl
theorem q856 : (Jvm.Cond.code ({ cls := "StripeShelf", name := "times", desc := "(II)I" } : Jvm.MethodName) prog_1_method_89_code (3 : Nat) (Option.some Jvm.ClassFile.FieldType.int)) ∈ lw_all := lw_g (lw_at lw_m4 5 rfl) rfl
theorem q857 : (Jvm.Cond.methodLink "StripeShelf" (507 : Nat) ({ cls := "StripeShelf", name := "areBytes", desc := "(II)Z" } : Jvm.MethodName)) ∈ lw_all := lw_g (lw_at lw_m4 6 rfl) rfl
theorem q858 : (Jvm.Cond.privateMethod ({ cls := "StripeShelf", name := "areBytes", desc := "(II)Z" } : Jvm.MethodName)) ∈ lw_tbl := lw_at lw_m4 7 rfl
theorem q859 : (Jvm.Cond.instanceMethod ({ cls := "StripeShelf", name := "areBytes", desc := "(II)Z" } : Jvm.MethodName)) ∈ lw_all := lw_g (lw_at lw_m4 8 rfl) rfl
theorem q860 : (Jvm.Cond.code ({ cls := "StripeShelf", name := "areBytes", desc := "(II)Z" } : Jvm.MethodName) prog_1_method_88_code (3 : Nat) (Option.some Jvm.ClassFile.FieldType.boolean)) ∈ lw_all := lw_g (lw_at lw_m4 9 rfl) rfl
theorem q862 : (Jvm.Cond.instanceMethod ({ cls := "StripeShelf", name := "over", desc := "(II)I" } : Jvm.MethodName)) ∈ lw_all := lw_g (lw_at lw_m4 11 rfl) rfl
theorem q863 : (Jvm.Cond.selects "StripeShelf" ({ cls := "StripeShelf", name := "over", desc := "(II)I" } : Jvm.MethodName) ({ cls := "StripeShelf", name := "over", desc := "(II)I" } : Jvm.MethodName)) ∈ lw_all := lw_g (lw_at lw_m4 12 rfl) rfl
theorem q864 : (Jvm.Cond.code ({ cls := "StripeShelf", name := "over", desc := "(II)I" } : Jvm.MethodName) prog_1_method_90_code (3 : Nat) (Option.some Jvm.ClassFile.FieldType.int)) ∈ lw_all := lw_g (lw_at lw_m4 13 rfl) rfl
theorem q866 : (Jvm.Cond.instanceMethod ({ cls := "StripeShelf", name := "power", desc := "(I)I" } : Jvm.MethodName)) ∈ lw_all := lw_g (lw_at lw_m4 15 rfl) rfl
theorem q867 : (Jvm.Cond.selects "StripeShelf" ({ cls := "StripeShelf", name := "power", desc := "(I)I" } : Jvm.MethodName) ({ cls := "StripeShelf", name := "power", desc := "(I)I" } : Jvm.MethodName)) ∈ lw_all := lw_g (lw_at lw_m4 16 rfl) rfl
theorem q868 : (Jvm.Cond.code ({ cls := "StripeShelf", name := "power", desc := "(I)I" } : Jvm.MethodName) prog_1_method_91_code (2 : Nat) (Option.some Jvm.ClassFile.FieldType.int)) ∈ lw_all := lw_g (lw_at lw_m4 17 rfl) rfl
theorem q870 : (Jvm.Cond.instanceMethod ({ cls := "StripeShelf", name := "logOf", desc := "(I)I" } : Jvm.MethodName)) ∈ lw_all := lw_g (lw_at lw_m4 19 rfl) rfl
theorem q871 : (Jvm.Cond.selects "StripeShelf" ({ cls := "StripeShelf", name := "logOf", desc := "(I)I" } : Jvm.MethodName) ({ cls := "StripeShelf", name := "logOf", desc := "(I)I" } : Jvm.MethodName)) ∈ lw_all := lw_g (lw_at lw_m4 20 rfl) rfl
theorem q872 : (Jvm.Cond.code ({ cls := "StripeShelf", name := "logOf", desc := "(I)I" } : Jvm.MethodName) prog_1_method_92_code (2 : Nat) (Option.some Jvm.ClassFile.FieldType.int)) ∈ lw_all := lw_g (lw_at lw_m4 21 rfl) rfl
theorem q874 : (Jvm.Cond.instanceMethod ({ cls := "StripeShelf", name := "place", desc := "(II)I" } : Jvm.MethodName)) ∈ lw_all := lw_g (lw_at lw_m4 23 rfl) rfl
theorem q875 : (Jvm.Cond.selects "StripeShelf" ({ cls := "StripeShelf", name := "place", desc := "(II)I" } : Jvm.MethodName) ({ cls := "StripeShelf", name := "place", desc := "(II)I" } : Jvm.MethodName)) ∈ lw_all := lw_g (lw_at lw_m4 24 rfl) rfl
theorem q876 : (Jvm.Cond.code ({ cls := "StripeShelf", name := "place", desc := "(II)I" } : Jvm.MethodName) prog_1_method_93_code (3 : Nat) (Option.some Jvm.ClassFile.FieldType.int)) ∈ lw_all := lw_g (lw_at lw_m4 25 rfl) rfl
theorem q878 : (Jvm.Cond.instanceMethod ({ cls := "StripeShelf", name := "part", desc := "(II)I" } : Jvm.MethodName)) ∈ lw_all := lw_g (lw_at lw_m4 27 rfl) rfl
theorem q879 : (Jvm.Cond.selects "StripeShelf" ({ cls := "StripeShelf", name := "part", desc := "(II)I" } : Jvm.MethodName) ({ cls := "StripeShelf", name := "part", desc := "(II)I" } : Jvm.MethodName)) ∈ lw_all := lw_g (lw_at lw_m4 28 rfl) rfl
theorem q880 : (Jvm.Cond.code ({ cls := "StripeShelf", name := "part", desc := "(II)I" } : Jvm.MethodName) prog_1_method_94_code (3 : Nat) (Option.some Jvm.ClassFile.FieldType.int)) ∈ lw_all := lw_g (lw_at lw_m4 29 rfl) rfl
theorem q882 : (Jvm.Cond.instanceMethod ({ cls := "StripeShelf", name := "cell", desc := "(III)I" } : Jvm.MethodName)) ∈ lw_all := lw_g (lw_at lw_m4 31 rfl) rfl
theorem q883 : (Jvm.Cond.selects "StripeShelf" ({ cls := "StripeShelf", name := "cell", desc := "(III)I" } : Jvm.MethodName) ({ cls := "StripeShelf", name := "cell", desc := "(III)I" } : Jvm.MethodName)) ∈ lw_all := lw_g (lw_at lw_m4 32 rfl) rfl
theorem q884 : (Jvm.Cond.code ({ cls := "StripeShelf", name := "cell", desc := "(III)I" } : Jvm.MethodName) prog_1_method_97_code (4 : Nat) (Option.some Jvm.ClassFile.FieldType.int)) ∈ lw_all := lw_g (lw_at lw_m4 33 rfl) rfl
theorem q885 : (Jvm.Cond.methodLink "StripeShelf" (513 : Nat) ({ cls := "StripeShelf", name := "isCell", desc := "(III)Z" } : Jvm.MethodName)) ∈ lw_all := lw_g (lw_at lw_m4 34 rfl) rfl
theorem q886 : (Jvm.Cond.privateMethod ({ cls := "StripeShelf", name := "isCell", desc := "(III)Z" } : Jvm.MethodName)) ∈ lw_tbl := lw_at lw_m4 35 rfl
theorem q887 : (Jvm.Cond.instanceMethod ({ cls := "StripeShelf", name := "isCell", desc := "(III)Z" } : Jvm.MethodName)) ∈ lw_all := lw_g (lw_at lw_m4 36 rfl) rfl
theorem q888 : (Jvm.Cond.code ({ cls := "StripeShelf", name := "isCell", desc := "(III)Z" } : Jvm.MethodName) prog_1_method_96_code (4 : Nat) (Option.some Jvm.ClassFile.FieldType.boolean)) ∈ lw_all := lw_g (lw_at lw_m4 37 rfl) rfl
theorem q890 : (Jvm.Cond.instanceMethod ({ cls := "StripeShelf", name := "disk", desc := "(II)I" } : Jvm.MethodName)) ∈ lw_all := lw_g (lw_at lw_m4 39 rfl) rfl
theorem q891 : (Jvm.Cond.selects "StripeShelf" ({ cls := "StripeShelf", name := "disk", desc := "(II)I" } : Jvm.MethodName) ({ cls := "StripeShelf", name := "disk", desc := "(II)I" } : Jvm.MethodName)) ∈ lw_all := lw_g (lw_at lw_m4 40 rfl) rfl
theorem q892 : (Jvm.Cond.code ({ cls := "StripeShelf", name := "disk", desc := "(II)I" } : Jvm.MethodName) prog_1_method_98_code (3 : Nat) (Option.some Jvm.ClassFile.FieldType.int)) ∈ lw_all := lw_g (lw_at lw_m4 41 rfl) rfl
theorem q894 : (Jvm.Cond.instanceMethod ({ cls := "StripeShelf", name := "cost", desc := "(II)I" } : Jvm.MethodName)) ∈ lw_all := lw_g (lw_at lw_m4 43 rfl) rfl
theorem q895 : (Jvm.Cond.selects "StripeShelf" ({ cls := "StripeShelf", name := "cost", desc := "(II)I" } : Jvm.MethodName) ({ cls := "StripeShelf", name := "cost", desc := "(II)I" } : Jvm.MethodName)) ∈ lw_all := lw_g (lw_at lw_m4 44 rfl) rfl
theorem q896 : (Jvm.Cond.code ({ cls := "StripeShelf", name := "cost", desc := "(II)I" } : Jvm.MethodName) prog_1_method_99_code (4 : Nat) (Option.some Jvm.ClassFile.FieldType.int)) ∈ lw_all := lw_g (lw_at lw_m4 45 rfl) rfl
theorem q898 : (Jvm.Cond.instanceMethod ({ cls := "StripeShelf", name := "told", desc := "(IIIII)I" } : Jvm.MethodName)) ∈ lw_all := lw_g (lw_at lw_m4 47 rfl) rfl
theorem q899 : (Jvm.Cond.selects "StripeShelf" ({ cls := "StripeShelf", name := "told", desc := "(IIIII)I" } : Jvm.MethodName) ({ cls := "StripeShelf", name := "told", desc := "(IIIII)I" } : Jvm.MethodName)) ∈ lw_all := lw_g (lw_at lw_m4 48 rfl) rfl
theorem q900 : (Jvm.Cond.code ({ cls := "StripeShelf", name := "told", desc := "(IIIII)I" } : Jvm.MethodName) prog_1_method_100_code (7 : Nat) (Option.some Jvm.ClassFile.FieldType.int)) ∈ lw_all := lw_g (lw_at lw_m4 49 rfl) rfl
theorem q902 : (Jvm.Cond.instanceMethod ({ cls := "StripeShelf", name := "who", desc := "(II)I" } : Jvm.MethodName)) ∈ lw_all := lw_g (lw_at lw_m4 51 rfl) rfl
theorem q903 : (Jvm.Cond.selects "StripeShelf" ({ cls := "StripeShelf", name := "who", desc := "(II)I" } : Jvm.MethodName) ({ cls := "StripeShelf", name := "who", desc := "(II)I" } : Jvm.MethodName)) ∈ lw_all := lw_g (lw_at lw_m4 52 rfl) rfl
theorem q904 : (Jvm.Cond.code ({ cls := "StripeShelf", name := "who", desc := "(II)I" } : Jvm.MethodName) prog_1_method_101_code (4 : Nat) (Option.some Jvm.ClassFile.FieldType.int)) ∈ lw_all := lw_g (lw_at lw_m4 53 rfl) rfl
theorem q906 : (Jvm.Cond.instanceMethod ({ cls := "StripeShelf", name := "more", desc := "()I" } : Jvm.MethodName)) ∈ lw_all := lw_g (lw_at lw_m4 55 rfl) rfl
theorem q907 : (Jvm.Cond.selects "StripeShelf" ({ cls := "StripeShelf", name := "more", desc := "()I" } : Jvm.MethodName) ({ cls := "StripeShelf", name := "more", desc := "()I" } : Jvm.MethodName)) ∈ lw_all := lw_g (lw_at lw_m4 56 rfl) rfl
theorem q908 : (Jvm.Cond.code ({ cls := "StripeShelf", name := "more", desc := "()I" } : Jvm.MethodName) prog_1_method_102_code (3 : Nat) (Option.some Jvm.ClassFile.FieldType.int)) ∈ lw_all := lw_g (lw_at lw_m4 57 rfl) rfl
theorem q910 : (Jvm.Cond.instanceMethod ({ cls := "StripeShelf", name := "left", desc := "(I)I" } : Jvm.MethodName)) ∈ lw_all := lw_g (lw_at lw_m4 59 rfl) rfl
theorem q911 : (Jvm.Cond.selects "StripeShelf" ({ cls := "StripeShelf", name := "left", desc := "(I)I" } : Jvm.MethodName) ({ cls := "StripeShelf", name := "left", desc := "(I)I" } : Jvm.MethodName)) ∈ lw_all := lw_g (lw_at lw_m4 60 rfl) rfl
theorem q912 : (Jvm.Cond.code ({ cls := "StripeShelf", name := "left", desc := "(I)I" } : Jvm.MethodName) prog_1_method_103_code (6 : Nat) (Option.some Jvm.ClassFile.FieldType.int)) ∈ lw_all := lw_g (lw_at lw_m4 61 rfl) rfl
theorem q913 : (Jvm.Cond.methodLink "StripeShelf" (526 : Nat) ({ cls := "StripeShelf$State", name := "copied", desc := "()LStripeShelf$State;" } : Jvm.MethodName)) ∈ lw_all := lw_g (lw_at lw_m4 62 rfl) rfl
theorem q914 : (Jvm.Cond.methodLink "StripeShelf" (530 : Nat) ({ cls := "StripeShelf$State", name := "sum", desc := "([I)I" } : Jvm.MethodName)) ∈ lw_all := lw_g (lw_at lw_m4 63 rfl) rfl
theorem q916 : (Jvm.Cond.instanceMethod ({ cls := "StripeShelf", name := "fit", desc := "()I" } : Jvm.MethodName)) ∈ lw_all := lw_g (lw_at lw_m4 65 rfl) rfl
theorem q917 : (Jvm.Cond.selects "StripeShelf" ({ cls := "StripeShelf", name := "fit", desc := "()I" } : Jvm.MethodName) ({ cls := "StripeShelf", name := "fit", desc := "()I" } : Jvm.MethodName)) ∈ lw_all := lw_g (lw_at lw_m4 66 rfl) rfl
theorem q918 : (Jvm.Cond.code ({ cls := "StripeShelf", name := "fit", desc := "()I" } : Jvm.MethodName) prog_1_method_104_code (5 : Nat) (Option.some Jvm.ClassFile.FieldType.int)) ∈ lw_all := lw_g (lw_at lw_m4 67 rfl) rfl
theorem q920 : (Jvm.Cond.instanceMethod ({ cls := "StripeShelf", name := "checked", desc := "(I)I" } : Jvm.MethodName)) ∈ lw_all := lw_g (lw_at lw_m4 69 rfl) rfl
theorem q921 : (Jvm.Cond.selects "StripeShelf" ({ cls := "StripeShelf", name := "checked", desc := "(I)I" } : Jvm.MethodName) ({ cls := "StripeShelf", name := "checked", desc := "(I)I" } : Jvm.MethodName)) ∈ lw_all := lw_g (lw_at lw_m4 70 rfl) rfl
theorem q922 : (Jvm.Cond.code ({ cls := "StripeShelf", name := "checked", desc := "(I)I" } : Jvm.MethodName) prog_1_method_105_code (3 : Nat) (Option.some Jvm.ClassFile.FieldType.int)) ∈ lw_all := lw_g (lw_at lw_m4 71 rfl) rfl
theorem q924 : (Jvm.Cond.instanceMethod ({ cls := "StripeShelf", name := "equal", desc := "()I" } : Jvm.MethodName)) ∈ lw_all := lw_g (lw_at lw_m4 73 rfl) rfl
theorem q925 : (Jvm.Cond.selects "StripeShelf" ({ cls := "StripeShelf", name := "equal", desc := "()I" } : Jvm.MethodName) ({ cls := "StripeShelf", name := "equal", desc := "()I" } : Jvm.MethodName)) ∈ lw_all := lw_g (lw_at lw_m4 74 rfl) rfl
theorem q926 : (Jvm.Cond.code ({ cls := "StripeShelf", name := "equal", desc := "()I" } : Jvm.MethodName) prog_1_method_106_code (5 : Nat) (Option.some Jvm.ClassFile.FieldType.int)) ∈ lw_all := lw_g (lw_at lw_m4 75 rfl) rfl
theorem q928 : (Jvm.Cond.instanceMethod ({ cls := "StripeShelf", name := "risk", desc := "()I" } : Jvm.MethodName)) ∈ lw_all := lw_g (lw_at lw_m4 77 rfl) rfl
theorem q929 : (Jvm.Cond.selects "StripeShelf" ({ cls := "StripeShelf", name := "risk", desc := "()I" } : Jvm.MethodName) ({ cls := "StripeShelf", name := "risk", desc := "()I" } : Jvm.MethodName)) ∈ lw_all := lw_g (lw_at lw_m4 78 rfl) rfl
theorem q930 : (Jvm.Cond.code ({ cls := "StripeShelf", name := "risk", desc := "()I" } : Jvm.MethodName) prog_1_method_107_code (4 : Nat) (Option.some Jvm.ClassFile.FieldType.int)) ∈ lw_all := lw_g (lw_at lw_m4 79 rfl) rfl
theorem q932 : (Jvm.Cond.instanceMethod ({ cls := "StripeShelf", name := "first", desc := "(I)I" } : Jvm.MethodName)) ∈ lw_all := lw_g (lw_at lw_m4 81 rfl) rfl
theorem q933 : (Jvm.Cond.selects "StripeShelf" ({ cls := "StripeShelf", name := "first", desc := "(I)I" } : Jvm.MethodName) ({ cls := "StripeShelf", name := "first", desc := "(I)I" } : Jvm.MethodName)) ∈ lw_all := lw_g (lw_at lw_m4 82 rfl) rfl
theorem q934 : (Jvm.Cond.code ({ cls := "StripeShelf", name := "first", desc := "(I)I" } : Jvm.MethodName) prog_1_method_109_code (4 : Nat) (Option.some Jvm.ClassFile.FieldType.int)) ∈ lw_all := lw_g (lw_at lw_m4 83 rfl) rfl
theorem q935 : (Jvm.Cond.methodLink "StripeShelf" (534 : Nat) ({ cls := "StripeShelf", name := "readsTillWhole", desc := "(I)I" } : Jvm.MethodName)) ∈ lw_all := lw_g (lw_at lw_m4 84 rfl) rfl
theorem q936 : (Jvm.Cond.privateMethod ({ cls := "StripeShelf", name := "readsTillWhole", desc := "(I)I" } : Jvm.MethodName)) ∈ lw_tbl := lw_at lw_m4 85 rfl
theorem q937 : (Jvm.Cond.instanceMethod ({ cls := "StripeShelf", name := "readsTillWhole", desc := "(I)I" } : Jvm.MethodName)) ∈ lw_all := lw_g (lw_at lw_m4 86 rfl) rfl
theorem q938 : (Jvm.Cond.code ({ cls := "StripeShelf", name := "readsTillWhole", desc := "(I)I" } : Jvm.MethodName) prog_1_method_108_code (4 : Nat) (Option.some Jvm.ClassFile.FieldType.int)) ∈ lw_all := lw_g (lw_at lw_m4 87 rfl) rfl
theorem q940 : (Jvm.Cond.instanceMethod ({ cls := "StripeShelf", name := "votes", desc := "(II)I" } : Jvm.MethodName)) ∈ lw_all := lw_g (lw_at lw_m4 89 rfl) rfl
theorem q941 : (Jvm.Cond.selects "StripeShelf" ({ cls := "StripeShelf", name := "votes", desc := "(II)I" } : Jvm.MethodName) ({ cls := "StripeShelf", name := "votes", desc := "(II)I" } : Jvm.MethodName)) ∈ lw_all := lw_g (lw_at lw_m4 90 rfl) rfl
theorem q942 : (Jvm.Cond.code ({ cls := "StripeShelf", name := "votes", desc := "(II)I" } : Jvm.MethodName) prog_1_method_110_code (8 : Nat) (Option.some Jvm.ClassFile.FieldType.int)) ∈ lw_all := lw_g (lw_at lw_m4 91 rfl) rfl
theorem q944 : (Jvm.Cond.instanceMethod ({ cls := "StripeShelf", name := "span", desc := "(I)I" } : Jvm.MethodName)) ∈ lw_all := lw_g (lw_at lw_m4 93 rfl) rfl
theorem q945 : (Jvm.Cond.selects "StripeShelf" ({ cls := "StripeShelf", name := "span", desc := "(I)I" } : Jvm.MethodName) ({ cls := "StripeShelf", name := "span", desc := "(I)I" } : Jvm.MethodName)) ∈ lw_all := lw_g (lw_at lw_m4 94 rfl) rfl
theorem q946 : (Jvm.Cond.code ({ cls := "StripeShelf", name := "span", desc := "(I)I" } : Jvm.MethodName) prog_1_method_111_code (6 : Nat) (Option.some Jvm.ClassFile.FieldType.int)) ∈ lw_all := lw_g (lw_at lw_m4 95 rfl) rfl
theorem q948 : (Jvm.Cond.instanceMethod ({ cls := "StripeShelf", name := "step", desc := "(III)I" } : Jvm.MethodName)) ∈ lw_all := lw_g (lw_at lw_m4 97 rfl) rfl
theorem q949 : (Jvm.Cond.selects "StripeShelf" ({ cls := "StripeShelf", name := "step", desc := "(III)I" } : Jvm.MethodName) ({ cls := "StripeShelf", name := "step", desc := "(III)I" } : Jvm.MethodName)) ∈ lw_all := lw_g (lw_at lw_m4 98 rfl) rfl
theorem q950 : (Jvm.Cond.code ({ cls := "StripeShelf", name := "step", desc := "(III)I" } : Jvm.MethodName) prog_1_method_113_code (4 : Nat) (Option.some Jvm.ClassFile.FieldType.int)) ∈ lw_all := lw_g (lw_at lw_m4 99 rfl) rfl
theorem q951 : (Jvm.Cond.methodLink "StripeShelf" (537 : Nat) ({ cls := "StripeShelf", name := "isScript", desc := "(I)Z" } : Jvm.MethodName)) ∈ lw_all := lw_g (lw_at lw_m4 100 rfl) rfl
theorem q952 : (Jvm.Cond.privateMethod ({ cls := "StripeShelf", name := "isScript", desc := "(I)Z" } : Jvm.MethodName)) ∈ lw_tbl := lw_at lw_m4 101 rfl
theorem q953 : (Jvm.Cond.instanceMethod ({ cls := "StripeShelf", name := "isScript", desc := "(I)Z" } : Jvm.MethodName)) ∈ lw_all := lw_g (lw_at lw_m4 102 rfl) rfl
theorem q954 : (Jvm.Cond.code ({ cls := "StripeShelf", name := "isScript", desc := "(I)Z" } : Jvm.MethodName) prog_1_method_112_code (2 : Nat) (Option.some Jvm.ClassFile.FieldType.boolean)) ∈ lw_all := lw_g (lw_at lw_m4 103 rfl) rfl
theorem q956 : (Jvm.Cond.instanceMethod ({ cls := "StripeShelf", name := "run", desc := "(II)I" } : Jvm.MethodName)) ∈ lw_all := lw_g (lw_at lw_m4 105 rfl) rfl
theorem q957 : (Jvm.Cond.selects "StripeShelf" ({ cls := "StripeShelf", name := "run", desc := "(II)I" } : Jvm.MethodName) ({ cls := "StripeShelf", name := "run", desc := "(II)I" } : Jvm.MethodName)) ∈ lw_all := lw_g (lw_at lw_m4 106 rfl) rfl
theorem q958 : (Jvm.Cond.code ({ cls := "StripeShelf", name := "run", desc := "(II)I" } : Jvm.MethodName) prog_1_method_115_code (6 : Nat) (Option.some Jvm.ClassFile.FieldType.int)) ∈ lw_all := lw_g (lw_at lw_m4 107 rfl) rfl
theorem q959 : (Jvm.Cond.methodLink "StripeShelf" (540 : Nat) ({ cls := "StripeShelf", name := "goSteps", desc := "(IZ)I" } : Jvm.MethodName)) ∈ lw_all := lw_g (lw_at lw_m4 108 rfl) rfl
theorem q960 : (Jvm.Cond.privateMethod ({ cls := "StripeShelf", name := "goSteps", desc := "(IZ)I" } : Jvm.MethodName)) ∈ lw_tbl := lw_at lw_m4 109 rfl
theorem q961 : (Jvm.Cond.instanceMethod ({ cls := "StripeShelf", name := "goSteps", desc := "(IZ)I" } : Jvm.MethodName)) ∈ lw_all := lw_g (lw_at lw_m4 110 rfl) rfl
theorem q962 : (Jvm.Cond.code ({ cls := "StripeShelf", name := "goSteps", desc := "(IZ)I" } : Jvm.MethodName) prog_1_method_114_code (5 : Nat) (Option.some Jvm.ClassFile.FieldType.int)) ∈ lw_all := lw_g (lw_at lw_m4 111 rfl) rfl
theorem q964 : (Jvm.Cond.instanceMethod ({ cls := "StripeShelf", name := "perform", desc := "(I)I" } : Jvm.MethodName)) ∈ lw_all := lw_g (lw_at lw_m4 113 rfl) rfl
theorem q965 : (Jvm.Cond.selects "StripeShelf" ({ cls := "StripeShelf", name := "perform", desc := "(I)I" } : Jvm.MethodName) ({ cls := "StripeShelf", name := "perform", desc := "(I)I" } : Jvm.MethodName)) ∈ lw_all := lw_g (lw_at lw_m4 114 rfl) rfl
theorem q966 : (Jvm.Cond.code ({ cls := "StripeShelf", name := "perform", desc := "(I)I" } : Jvm.MethodName) prog_1_method_116_code (2 : Nat) (Option.some Jvm.ClassFile.FieldType.int)) ∈ lw_all := lw_g (lw_at lw_m4 115 rfl) rfl
theorem q968 : (Jvm.Cond.instanceMethod ({ cls := "StripeShelf", name := "most", desc := "(I)I" } : Jvm.MethodName)) ∈ lw_all := lw_g (lw_at lw_m4 117 rfl) rfl
theorem q969 : (Jvm.Cond.selects "StripeShelf" ({ cls := "StripeShelf", name := "most", desc := "(I)I" } : Jvm.MethodName) ({ cls := "StripeShelf", name := "most", desc := "(I)I" } : Jvm.MethodName)) ∈ lw_all := lw_g (lw_at lw_m4 118 rfl) rfl
theorem q970 : (Jvm.Cond.code ({ cls := "StripeShelf", name := "most", desc := "(I)I" } : Jvm.MethodName) prog_1_method_118_code (2 : Nat) (Option.some Jvm.ClassFile.FieldType.int)) ∈ lw_all := lw_g (lw_at lw_m4 119 rfl) rfl
theorem q971 : (Jvm.Cond.methodLink "StripeShelf" (544 : Nat) ({ cls := "StripeShelf", name := "notWhole", desc := "()I" } : Jvm.MethodName)) ∈ lw_all := lw_g (lw_at lw_m4 120 rfl) rfl
theorem q972 : (Jvm.Cond.privateMethod ({ cls := "StripeShelf", name := "notWhole", desc := "()I" } : Jvm.MethodName)) ∈ lw_tbl := lw_at lw_m4 121 rfl
theorem q973 : (Jvm.Cond.instanceMethod ({ cls := "StripeShelf", name := "notWhole", desc := "()I" } : Jvm.MethodName)) ∈ lw_all := lw_g (lw_at lw_m4 122 rfl) rfl
theorem q974 : (Jvm.Cond.code ({ cls := "StripeShelf", name := "notWhole", desc := "()I" } : Jvm.MethodName) prog_1_method_117_code (3 : Nat) (Option.some Jvm.ClassFile.FieldType.int)) ∈ lw_all := lw_g (lw_at lw_m4 123 rfl) rfl
theorem q977 : (Jvm.Cond.instanceMethod ({ cls := "StripeShelf", name := "<init>", desc := "()V" } : Jvm.MethodName)) ∈ lw_all := lw_g (lw_at lw_m4 126 rfl) rfl
theorem q978 : (Jvm.Cond.code ({ cls := "StripeShelf", name := "<init>", desc := "()V" } : Jvm.MethodName) prog_1_method_119_code (1 : Nat) (Option.none : Option Jvm.ClassFile.FieldType)) ∈ lw_all := lw_g (lw_at lw_m4 127 rfl) rfl
theorem q979 : (Jvm.Cond.methodLink "StripeShelf" (547 : Nat) ({ cls := "java/lang/Object", name := "<init>", desc := "()V" } : Jvm.MethodName)) ∈ lw_all := lw_g (lw_at lw_m4 128 rfl) rfl
theorem q1017 : (Jvm.Cond.methodLinkNest "StripeShelf" (550 : Nat) ({ cls := "StripeShelf$Fault", name := "<init>", desc := "()V" } : Jvm.MethodName) "StripeShelf") ∈ lw_tbl := lw_at lw_m4 166 rfl
theorem q1036 : (Jvm.Cond.classLink "StripeShelf" (169 : Nat) "StripeShelf$Field") ∈ lw_all := lw_g (lw_at lw_m4 185 rfl) rfl
theorem q1038 : (Jvm.Cond.methodLinkNest "StripeShelf" (551 : Nat) ({ cls := "StripeShelf$Field", name := "<init>", desc := "(LStripeShelf;)V" } : Jvm.MethodName) "StripeShelf") ∈ lw_tbl := lw_at lw_m4 187 rfl
theorem q1044 : (Jvm.Cond.fieldLinkNest "StripeShelf" (371 : Nat) "StripeShelf$Field" "log" "[I" "StripeShelf") ∈ lw_tbl := lw_at lw_m4 193 rfl
theorem q1056 : (Jvm.Cond.classLink "StripeShelf" (215 : Nat) "StripeShelf$Past") ∈ lw_all := lw_g (lw_at lw_m4 205 rfl) rfl
theorem q1058 : (Jvm.Cond.methodLink "StripeShelf" (554 : Nat) ({ cls := "StripeShelf$Past", name := "<init>", desc := "(I)V" } : Jvm.MethodName)) ∈ lw_all := lw_g (lw_at lw_m4 207 rfl) rfl
theorem q1065 : (Jvm.Cond.fieldLinkNest "StripeShelf" (214 : Nat) "StripeShelf$Past" "row" "LStripeShelf$Row;" "StripeShelf") ∈ lw_tbl := lw_at lw_m4 214 rfl
theorem q1072 : (Jvm.Cond.classLink "StripeShelf" (2 : Nat) "StripeShelf$Row") ∈ lw_all := lw_g (lw_at lw_m4 221 rfl) rfl
theorem q1073 : (Jvm.Cond.methodLinkNest "StripeShelf" (556 : Nat) ({ cls := "StripeShelf$Row", name := "<init>", desc := "()V" } : Jvm.MethodName) "StripeShelf") ∈ lw_tbl := lw_at lw_m4 222 rfl
theorem q1074 : (Jvm.Cond.fieldLink "StripeShelf" (58 : Nat) "StripeShelf" "fault" "LStripeShelf$Fault;") ∈ lw_all := lw_g (lw_at lw_m4 223 rfl) rfl
theorem q1075 : (Jvm.Cond.fieldLink "StripeShelf" (43 : Nat) "StripeShelf" "tape" "[B") ∈ lw_all := lw_g (lw_at lw_m4 224 rfl) rfl
theorem q1076 : (Jvm.Cond.fieldLink "StripeShelf" (40 : Nat) "StripeShelf" "taped" "I") ∈ lw_all := lw_g (lw_at lw_m4 225 rfl) rfl
theorem q1077 : (Jvm.Cond.fieldLink "StripeShelf" (51 : Nat) "StripeShelf" "place" "I") ∈ lw_all := lw_g (lw_at lw_m4 226 rfl) rfl
theorem q1078 : (Jvm.Cond.fieldLink "StripeShelf" (90 : Nat) "StripeShelf" "toldMany" "I") ∈ lw_all := lw_g (lw_at lw_m4 227 rfl) rfl
theorem q1079 : (Jvm.Cond.fieldLink "StripeShelf" (93 : Nat) "StripeShelf" "readRule" "[I") ∈ lw_all := lw_g (lw_at lw_m4 228 rfl) rfl
theorem q1080 : (Jvm.Cond.fieldLink "StripeShelf" (155 : Nat) "StripeShelf" "rules" "[I") ∈ lw_all := lw_g (lw_at lw_m4 229 rfl) rfl
theorem q1081 : (Jvm.Cond.fieldLink "StripeShelf" (123 : Nat) "StripeShelf" "readByte" "[I") ∈ lw_all := lw_g (lw_at lw_m4 230 rfl) rfl
theorem q1082 : (Jvm.Cond.fieldLink "StripeShelf" (102 : Nat) "StripeShelf" "ruleLow" "[I") ∈ lw_all := lw_g (lw_at lw_m4 231 rfl) rfl
theorem q1083 : (Jvm.Cond.fieldLink "StripeShelf" (105 : Nat) "StripeShelf" "ruleHigh" "[I") ∈ lw_all := lw_g (lw_at lw_m4 232 rfl) rfl
theorem q1084 : (Jvm.Cond.fieldLink "StripeShelf" (97 : Nat) "StripeShelf" "ruleUsual" "[I") ∈ lw_all := lw_g (lw_at lw_m4 233 rfl) rfl
theorem q1085 : (Jvm.Cond.fieldLink "StripeShelf" (114 : Nat) "StripeShelf" "byteLow" "[I") ∈ lw_all := lw_g (lw_at lw_m4 234 rfl) rfl
theorem q1086 : (Jvm.Cond.fieldLink "StripeShelf" (117 : Nat) "StripeShelf" "byteHigh" "[I") ∈ lw_all := lw_g (lw_at lw_m4 235 rfl) rfl
theorem q1087 : (Jvm.Cond.fieldLink "StripeShelf" (120 : Nat) "StripeShelf" "byteUsual" "[I") ∈ lw_all := lw_g (lw_at lw_m4 236 rfl) rfl
theorem q1088 : (Jvm.Cond.fieldLink "StripeShelf" (128 : Nat) "StripeShelf" "scripts" "[I") ∈ lw_all := lw_g (lw_at lw_m4 237 rfl) rfl
theorem q1089 : (Jvm.Cond.fieldLink "StripeShelf" (138 : Nat) "StripeShelf" "scriptLong" "[I") ∈ lw_all := lw_g (lw_at lw_m4 238 rfl) rfl
theorem q1090 : (Jvm.Cond.fieldLink "StripeShelf" (131 : Nat) "StripeShelf" "numbers" "[I") ∈ lw_all := lw_g (lw_at lw_m4 239 rfl) rfl
theorem q1091 : (Jvm.Cond.fieldLink "StripeShelf" (152 : Nat) "StripeShelf" "scriptMany" "I") ∈ lw_all := lw_g (lw_at lw_m5 0 rfl) rfl
theorem q1092 : (Jvm.Cond.fieldLink "StripeShelf" (164 : Nat) "StripeShelf" "field" "LStripeShelf$Field;") ∈ lw_all := lw_g (lw_at lw_m5 1 rfl) rfl
theorem q1093 : (Jvm.Cond.fieldLink "StripeShelf" (178 : Nat) "StripeShelf" "now" "LStripeShelf$State;") ∈ lw_all := lw_g (lw_at lw_m5 2 rfl) rfl
theorem q1094 : (Jvm.Cond.fieldLink "StripeShelf" (223 : Nat) "StripeShelf" "image" "LStripeShelf$State;") ∈ lw_all := lw_g (lw_at lw_m5 3 rfl) rfl
theorem q1095 : (Jvm.Cond.fieldLink "StripeShelf" (210 : Nat) "StripeShelf" "past" "LStripeShelf$Past;") ∈ lw_all := lw_g (lw_at lw_m5 4 rfl) rfl
theorem q1096 : (Jvm.Cond.fieldLink "StripeShelf" (469 : Nat) "StripeShelf" "refused" "[I") ∈ lw_all := lw_g (lw_at lw_m5 5 rfl) rfl
theorem q1097 : (Jvm.Cond.fieldLink "StripeShelf" (194 : Nat) "StripeShelf" "spotDisk" "I") ∈ lw_all := lw_g (lw_at lw_m5 6 rfl) rfl
theorem q1098 : (Jvm.Cond.fieldLink "StripeShelf" (197 : Nat) "StripeShelf" "spotStripe" "I") ∈ lw_all := lw_g (lw_at lw_m5 7 rfl) rfl
theorem q1099 : (Jvm.Cond.fieldLink "StripeShelf" (200 : Nat) "StripeShelf" "spotByte" "I") ∈ lw_all := lw_g (lw_at lw_m5 8 rfl) rfl
theorem q1100 : (Jvm.Cond.fieldLink "StripeShelf" (253 : Nat) "StripeShelf" "spotPart" "I") ∈ lw_all := lw_g (lw_at lw_m5 9 rfl) rfl
theorem q1101 : (Jvm.Cond.fieldLink "StripeShelf" (259 : Nat) "StripeShelf" "solved" "[I") ∈ lw_all := lw_g (lw_at lw_m5 10 rfl) rfl
theorem q1102 : (Jvm.Cond.fieldLink "StripeShelf" (299 : Nat) "StripeShelf" "ways" "LStripeShelf$Row;") ∈ lw_all := lw_g (lw_at lw_m5 11 rfl) rfl
theorem q1103 : (Jvm.Cond.fieldLink "StripeShelf" (365 : Nat) "StripeShelf" "off" "I") ∈ lw_all := lw_g (lw_at lw_m5 12 rfl) rfl
theorem q1104 : (Jvm.Cond.fieldLink "StripeShelf" (368 : Nat) "StripeShelf" "weighedOff" "I") ∈ lw_all := lw_g (lw_at lw_m5 13 rfl) rfl
theorem q1105 : (Jvm.Cond.fieldLink "StripeShelf" (475 : Nat) "StripeShelf" "drawn" "J") ∈ lw_all := lw_g (lw_at lw_m5 14 rfl) rfl
theorem q1106 : (Jvm.Cond.laysFinal "StripeShelf" "StripeShelf" "fault" "LStripeShelf$Fault;") ∈ lw_all := lw_g (lw_at lw_m5 15 rfl) rfl
theorem q1107 : (Jvm.Cond.soleField "StripeShelf" "fault") ∈ lw_all := lw_g (lw_at lw_m5 16 rfl) rfl
theorem q1108 : (Jvm.Cond.laysFinal "StripeShelf" "StripeShelf" "tape" "[B") ∈ lw_all := lw_g (lw_at lw_m5 17 rfl) rfl
theorem q1109 : (Jvm.Cond.soleField "StripeShelf" "tape") ∈ lw_all := lw_g (lw_at lw_m5 18 rfl) rfl
theorem q1110 : (Jvm.Cond.lays "StripeShelf" "StripeShelf" "taped" "I") ∈ lw_all := lw_g (lw_at lw_m5 19 rfl) rfl
theorem q1111 : (Jvm.Cond.soleField "StripeShelf" "taped") ∈ lw_all := lw_g (lw_at lw_m5 20 rfl) rfl
theorem q1112 : (Jvm.Cond.lays "StripeShelf" "StripeShelf" "place" "I") ∈ lw_all := lw_g (lw_at lw_m5 21 rfl) rfl
theorem q1113 : (Jvm.Cond.soleField "StripeShelf" "place") ∈ lw_all := lw_g (lw_at lw_m5 22 rfl) rfl
theorem q1114 : (Jvm.Cond.lays "StripeShelf" "StripeShelf" "toldMany" "I") ∈ lw_all := lw_g (lw_at lw_m5 23 rfl) rfl
theorem q1115 : (Jvm.Cond.soleField "StripeShelf" "toldMany") ∈ lw_all := lw_g (lw_at lw_m5 24 rfl) rfl
theorem q1116 : (Jvm.Cond.laysFinal "StripeShelf" "StripeShelf" "readRule" "[I") ∈ lw_all := lw_g (lw_at lw_m5 25 rfl) rfl
theorem q1117 : (Jvm.Cond.soleField "StripeShelf" "readRule") ∈ lw_all := lw_g (lw_at lw_m5 26 rfl) rfl
theorem q1118 : (Jvm.Cond.laysFinal "StripeShelf" "StripeShelf" "rules" "[I") ∈ lw_all := lw_g (lw_at lw_m5 27 rfl) rfl
theorem q1119 : (Jvm.Cond.soleField "StripeShelf" "rules") ∈ lw_all := lw_g (lw_at lw_m5 28 rfl) rfl
theorem q1120 : (Jvm.Cond.laysFinal "StripeShelf" "StripeShelf" "readByte" "[I") ∈ lw_all := lw_g (lw_at lw_m5 29 rfl) rfl
theorem q1121 : (Jvm.Cond.soleField "StripeShelf" "readByte") ∈ lw_all := lw_g (lw_at lw_m5 30 rfl) rfl
theorem q1122 : (Jvm.Cond.laysFinal "StripeShelf" "StripeShelf" "ruleLow" "[I") ∈ lw_all := lw_g (lw_at lw_m5 31 rfl) rfl
theorem q1123 : (Jvm.Cond.soleField "StripeShelf" "ruleLow") ∈ lw_all := lw_g (lw_at lw_m5 32 rfl) rfl
theorem q1124 : (Jvm.Cond.laysFinal "StripeShelf" "StripeShelf" "ruleHigh" "[I") ∈ lw_all := lw_g (lw_at lw_m5 33 rfl) rfl
theorem q1125 : (Jvm.Cond.soleField "StripeShelf" "ruleHigh") ∈ lw_all := lw_g (lw_at lw_m5 34 rfl) rfl
theorem q1126 : (Jvm.Cond.laysFinal "StripeShelf" "StripeShelf" "ruleUsual" "[I") ∈ lw_all := lw_g (lw_at lw_m5 35 rfl) rfl
theorem q1127 : (Jvm.Cond.soleField "StripeShelf" "ruleUsual") ∈ lw_all := lw_g (lw_at lw_m5 36 rfl) rfl
theorem q1128 : (Jvm.Cond.laysFinal "StripeShelf" "StripeShelf" "byteLow" "[I") ∈ lw_all := lw_g (lw_at lw_m5 37 rfl) rfl
theorem q1129 : (Jvm.Cond.soleField "StripeShelf" "byteLow") ∈ lw_all := lw_g (lw_at lw_m5 38 rfl) rfl
theorem q1130 : (Jvm.Cond.laysFinal "StripeShelf" "StripeShelf" "byteHigh" "[I") ∈ lw_all := lw_g (lw_at lw_m5 39 rfl) rfl
theorem q1131 : (Jvm.Cond.soleField "StripeShelf" "byteHigh") ∈ lw_all := lw_g (lw_at lw_m5 40 rfl) rfl
theorem q1132 : (Jvm.Cond.laysFinal "StripeShelf" "StripeShelf" "byteUsual" "[I") ∈ lw_all := lw_g (lw_at lw_m5 41 rfl) rfl
theorem q1133 : (Jvm.Cond.soleField "StripeShelf" "byteUsual") ∈ lw_all := lw_g (lw_at lw_m5 42 rfl) rfl
theorem q1134 : (Jvm.Cond.laysFinal "StripeShelf" "StripeShelf" "scripts" "[I") ∈ lw_all := lw_g (lw_at lw_m5 43 rfl) rfl
theorem q1135 : (Jvm.Cond.soleField "StripeShelf" "scripts") ∈ lw_all := lw_g (lw_at lw_m5 44 rfl) rfl
theorem q1136 : (Jvm.Cond.laysFinal "StripeShelf" "StripeShelf" "scriptLong" "[I") ∈ lw_all := lw_g (lw_at lw_m5 45 rfl) rfl
theorem q1137 : (Jvm.Cond.soleField "StripeShelf" "scriptLong") ∈ lw_all := lw_g (lw_at lw_m5 46 rfl) rfl
theorem q1138 : (Jvm.Cond.laysFinal "StripeShelf" "StripeShelf" "numbers" "[I") ∈ lw_all := lw_g (lw_at lw_m5 47 rfl) rfl
theorem q1139 : (Jvm.Cond.soleField "StripeShelf" "numbers") ∈ lw_all := lw_g (lw_at lw_m5 48 rfl) rfl
theorem q1140 : (Jvm.Cond.lays "StripeShelf" "StripeShelf" "scriptMany" "I") ∈ lw_all := lw_g (lw_at lw_m5 49 rfl) rfl
theorem q1141 : (Jvm.Cond.soleField "StripeShelf" "scriptMany") ∈ lw_all := lw_g (lw_at lw_m5 50 rfl) rfl
theorem q1142 : (Jvm.Cond.laysFinal "StripeShelf" "StripeShelf" "field" "LStripeShelf$Field;") ∈ lw_all := lw_g (lw_at lw_m5 51 rfl) rfl
theorem q1143 : (Jvm.Cond.soleField "StripeShelf" "field") ∈ lw_all := lw_g (lw_at lw_m5 52 rfl) rfl
theorem q1144 : (Jvm.Cond.lays "StripeShelf" "StripeShelf" "now" "LStripeShelf$State;") ∈ lw_all := lw_g (lw_at lw_m5 53 rfl) rfl
theorem q1145 : (Jvm.Cond.soleField "StripeShelf" "now") ∈ lw_all := lw_g (lw_at lw_m5 54 rfl) rfl
theorem q1146 : (Jvm.Cond.lays "StripeShelf" "StripeShelf" "image" "LStripeShelf$State;") ∈ lw_all := lw_g (lw_at lw_m5 55 rfl) rfl
theorem q1147 : (Jvm.Cond.soleField "StripeShelf" "image") ∈ lw_all := lw_g (lw_at lw_m5 56 rfl) rfl
theorem q1148 : (Jvm.Cond.laysFinal "StripeShelf" "StripeShelf" "past" "LStripeShelf$Past;") ∈ lw_all := lw_g (lw_at lw_m5 57 rfl) rfl
theorem q1149 : (Jvm.Cond.soleField "StripeShelf" "past") ∈ lw_all := lw_g (lw_at lw_m5 58 rfl) rfl
theorem q1150 : (Jvm.Cond.laysFinal "StripeShelf" "StripeShelf" "refused" "[I") ∈ lw_all := lw_g (lw_at lw_m5 59 rfl) rfl
theorem q1151 : (Jvm.Cond.soleField "StripeShelf" "refused") ∈ lw_all := lw_g (lw_at lw_m5 60 rfl) rfl
theorem q1152 : (Jvm.Cond.lays "StripeShelf" "StripeShelf" "spotDisk" "I") ∈ lw_all := lw_g (lw_at lw_m5 61 rfl) rfl
theorem q1153 : (Jvm.Cond.soleField "StripeShelf" "spotDisk") ∈ lw_all := lw_g (lw_at lw_m5 62 rfl) rfl
theorem q1154 : (Jvm.Cond.lays "StripeShelf" "StripeShelf" "spotStripe" "I") ∈ lw_all := lw_g (lw_at lw_m5 63 rfl) rfl
theorem q1155 : (Jvm.Cond.soleField "StripeShelf" "spotStripe") ∈ lw_all := lw_g (lw_at lw_m5 64 rfl) rfl
theorem q1156 : (Jvm.Cond.lays "StripeShelf" "StripeShelf" "spotByte" "I") ∈ lw_all := lw_g (lw_at lw_m5 65 rfl) rfl
theorem q1157 : (Jvm.Cond.soleField "StripeShelf" "spotByte") ∈ lw_all := lw_g (lw_at lw_m5 66 rfl) rfl
theorem q1158 : (Jvm.Cond.lays "StripeShelf" "StripeShelf" "spotPart" "I") ∈ lw_all := lw_g (lw_at lw_m5 67 rfl) rfl
theorem q1159 : (Jvm.Cond.soleField "StripeShelf" "spotPart") ∈ lw_all := lw_g (lw_at lw_m5 68 rfl) rfl
theorem q1160 : (Jvm.Cond.laysFinal "StripeShelf" "StripeShelf" "solved" "[I") ∈ lw_all := lw_g (lw_at lw_m5 69 rfl) rfl
theorem q1161 : (Jvm.Cond.soleField "StripeShelf" "solved") ∈ lw_all := lw_g (lw_at lw_m5 70 rfl) rfl
theorem q1162 : (Jvm.Cond.laysFinal "StripeShelf" "StripeShelf" "ways" "LStripeShelf$Row;") ∈ lw_all := lw_g (lw_at lw_m5 71 rfl) rfl
theorem q1163 : (Jvm.Cond.soleField "StripeShelf" "ways") ∈ lw_all := lw_g (lw_at lw_m5 72 rfl) rfl
theorem q1164 : (Jvm.Cond.lays "StripeShelf" "StripeShelf" "off" "I") ∈ lw_all := lw_g (lw_at lw_m5 73 rfl) rfl
theorem q1165 : (Jvm.Cond.soleField "StripeShelf" "off") ∈ lw_all := lw_g (lw_at lw_m5 74 rfl) rfl
theorem q1166 : (Jvm.Cond.lays "StripeShelf" "StripeShelf" "weighedOff" "I") ∈ lw_all := lw_g (lw_at lw_m5 75 rfl) rfl
theorem q1167 : (Jvm.Cond.soleField "StripeShelf" "weighedOff") ∈ lw_all := lw_g (lw_at lw_m5 76 rfl) rfl
theorem q1168 : (Jvm.Cond.lays "StripeShelf" "StripeShelf" "drawn" "J") ∈ lw_all := lw_g (lw_at lw_m5 77 rfl) rfl
theorem q1169 : (Jvm.Cond.soleField "StripeShelf" "drawn") ∈ lw_all := lw_g (lw_at lw_m5 78 rfl) rfl
theorem q1170 : (Jvm.Cond.superclass "StripeShelf" "java/lang/Object") ∈ lw_all := lw_g (lw_at lw_m5 79 rfl) rfl
theorem q1172 : (Jvm.Cond.instanceMethod ({ cls := "StripeShelf", name := "image", desc := "()I" } : Jvm.MethodName)) ∈ lw_all := lw_g (lw_at lw_m5 81 rfl) rfl
theorem q1173 : (Jvm.Cond.selects "StripeShelf" ({ cls := "StripeShelf", name := "image", desc := "()I" } : Jvm.MethodName) ({ cls := "StripeShelf", name := "image", desc := "()I" } : Jvm.MethodName)) ∈ lw_all := lw_g (lw_at lw_m5 82 rfl) rfl
theorem q1174 : (Jvm.Cond.code ({ cls := "StripeShelf", name := "image", desc := "()I" } : Jvm.MethodName) prog_1_method_120_code (1 : Nat) (Option.some Jvm.ClassFile.FieldType.int)) ∈ lw_all := lw_g (lw_at lw_m5 83 rfl) rfl
theorem q1176 : (Jvm.Cond.instanceMethod ({ cls := "StripeShelf", name := "back", desc := "()I" } : Jvm.MethodName)) ∈ lw_all := lw_g (lw_at lw_m5 85 rfl) rfl
theorem q1177 : (Jvm.Cond.selects "StripeShelf" ({ cls := "StripeShelf", name := "back", desc := "()I" } : Jvm.MethodName) ({ cls := "StripeShelf", name := "back", desc := "()I" } : Jvm.MethodName)) ∈ lw_all := lw_g (lw_at lw_m5 86 rfl) rfl
theorem q1178 : (Jvm.Cond.code ({ cls := "StripeShelf", name := "back", desc := "()I" } : Jvm.MethodName) prog_1_method_121_code (1 : Nat) (Option.some Jvm.ClassFile.FieldType.int)) ∈ lw_all := lw_g (lw_at lw_m5 87 rfl) rfl
theorem q1180 : (Jvm.Cond.instanceMethod ({ cls := "StripeShelf", name := "count", desc := "(I)I" } : Jvm.MethodName)) ∈ lw_all := lw_g (lw_at lw_m5 89 rfl) rfl
theorem q1181 : (Jvm.Cond.selects "StripeShelf" ({ cls := "StripeShelf", name := "count", desc := "(I)I" } : Jvm.MethodName) ({ cls := "StripeShelf", name := "count", desc := "(I)I" } : Jvm.MethodName)) ∈ lw_all := lw_g (lw_at lw_m5 90 rfl) rfl
theorem q1182 : (Jvm.Cond.code ({ cls := "StripeShelf", name := "count", desc := "(I)I" } : Jvm.MethodName) prog_1_method_122_code (2 : Nat) (Option.some Jvm.ClassFile.FieldType.int)) ∈ lw_all := lw_g (lw_at lw_m5 91 rfl) rfl
theorem q1188 : (Jvm.Cond.instanceMethod ({ cls := "StripeShelf", name := "read", desc := "(I)I" } : Jvm.MethodName)) ∈ lw_all := lw_g (lw_at lw_m5 97 rfl) rfl
theorem q1189 : (Jvm.Cond.selects "StripeShelf" ({ cls := "StripeShelf", name := "read", desc := "(I)I" } : Jvm.MethodName) ({ cls := "StripeShelf", name := "read", desc := "(I)I" } : Jvm.MethodName)) ∈ lw_all := lw_g (lw_at lw_m5 98 rfl) rfl
theorem q1190 : (Jvm.Cond.code ({ cls := "StripeShelf", name := "read", desc := "(I)I" } : Jvm.MethodName) prog_1_method_95_code (2 : Nat) (Option.some Jvm.ClassFile.FieldType.int)) ∈ lw_all := lw_g (lw_at lw_m5 99 rfl) rfl
theorem q1191 : (Jvm.Cond.classLink "StripeShelf" (510 : Nat) "java/util/NoSuchElementException") ∈ lw_all := lw_g (lw_at lw_m5 100 rfl) rfl
theorem q1202 : (Jvm.Cond.methodLink "StripeShelf" (512 : Nat) ({ cls := "java/util/NoSuchElementException", name := "<init>", desc := "()V" } : Jvm.MethodName)) ∈ lw_all := lw_g (lw_at lw_m5 111 rfl) rfl
theorem q1835 : (Jvm.Cond.castable "StripeShelf" "java/lang/Object") ∈ lw_tbl := lw_at lw_m8 24 rfl
theorem in_X1 : ∀ w ∈ wsX10, w ∈ lw_all := lw_in wsX10 [1106, 1108, 1110, 1112, 1114, 1116, 1118, 1120, 1122, 1124, 1126, 1128, 1130, 1132, 1134, 1136, 1138, 1140, 1142, 1144, 1146, 1148, 1150, 1152, 1154, 1156, 1158, 1160, 1162, 1164, 1166, 1168] (by decide +kernel) (by decide +kernel)
