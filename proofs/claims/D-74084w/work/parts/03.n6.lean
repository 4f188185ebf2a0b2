/-! StripeShelfModel -/
set_option maxRecDepth 100000
def RX6 : String := "StripeShelfModel"
def TX6 : u_T := fun k => match k with
  | 0 => ("StripeShelfModel", "thrown", "I", false)
  | 1 => ("StripeShelfModel", "tape", "[B", true)
  | 2 => ("StripeShelfModel", "length", "I", false)
  | 3 => ("StripeShelfModel", "at", "I", false)
  | 4 => ("StripeShelfModel", "fault", "I", false)
  | 5 => ("StripeShelfModel", "ruleRead", "[I", true)
  | 6 => ("StripeShelfModel", "rule", "[I", true)
  | 7 => ("StripeShelfModel", "valueRead", "[I", true)
  | 8 => ("StripeShelfModel", "status", "[I", true)
  | 9 => ("StripeShelfModel", "script", "[I", true)
  | 10 => ("StripeShelfModel", "stepsOf", "[I", true)
  | 11 => ("StripeShelfModel", "valuesRead", "I", false)
  | 12 => ("StripeShelfModel", "scripts", "I", false)
  | 13 => ("StripeShelfModel", "disks", "I", false)
  | 14 => ("StripeShelfModel", "addresses", "I", false)
  | 15 => ("StripeShelfModel", "powers", "[I", true)
  | 16 => ("StripeShelfModel", "logs", "[I", true)
  | 17 => ("StripeShelfModel", "now", "[I", true)
  | 18 => ("StripeShelfModel", "trial", "[I", true)
  | 19 => ("StripeShelfModel", "image", "[I", true)
  | 20 => ("StripeShelfModel", "kept", "[I", true)
  | 21 => ("StripeShelfModel", "first", "I", false)
  | 22 => ("StripeShelfModel", "acts", "I", false)
  | 23 => ("StripeShelfModel", "hasImage", "Z", false)
  | 24 => ("StripeShelfModel", "value", "[I", true)
  | 25 => ("StripeShelfModel", "is", "[Z", true)
  | 26 => ("StripeShelfModel", "ways", "I", false)
  | 27 => ("StripeShelfModel", "wayReads", "I", false)
  | 28 => ("StripeShelfModel", "wayWrites", "I", false)
  | 29 => ("StripeShelfModel", "came", "I", false)
  | 30 => ("StripeShelfModel", "noted", "I", false)
  | _ => ("StripeShelfModel", "x", "J", false)
def tyX6 : Nat → FieldType := fun k => match k with
  | 0 => .int
  | 1 => .array .byte
  | 2 => .int
  | 3 => .int
  | 4 => .int
  | 5 => .array .int
  | 6 => .array .int
  | 7 => .array .int
  | 8 => .array .int
  | 9 => .array .int
  | 10 => .array .int
  | 11 => .int
  | 12 => .int
  | 13 => .int
  | 14 => .int
  | 15 => .array .int
  | 16 => .array .int
  | 17 => .array .int
  | 18 => .array .int
  | 19 => .array .int
  | 20 => .array .int
  | 21 => .int
  | 22 => .int
  | 23 => .boolean
  | 24 => .array .int
  | 25 => .array .boolean
  | 26 => .int
  | 27 => .int
  | 28 => .int
  | 29 => .int
  | 30 => .int
  | _ => .long
abbrev wsX60 : List Cond := u_ws RX6 TX6 32
set_option maxRecDepth 100000 in
theorem nmX6 : ∀ a, a < 32 → ∀ b, b < 32 → a ≠ b → (TX6 a).2.1 ≠ (TX6 b).2.1 := by decide +kernel
set_option maxRecDepth 100000 in
theorem tyX6_ok : ∀ k, k < 32 → parseFieldDescriptor (TX6 k).2.2.1 = some (tyX6 k) := by decide +kernel
abbrev cX6_init : ByteArray := prog_12_method_1_code
def yX6_init : MethodName := ⟨RX6, "<init>", "()V"⟩
def dkwX6_init_5 : List UInt8 := [181, 0, 50, 42, 16, 8, 188, 4, 181, 0, 53, 177]
abbrev dktX6_init_5 : List UInt8 := dkwX6_init_5 ++ []
def dkwX6_init_4 : List UInt8 := [17, 2, 104, 188, 10, 181, 0, 44, 42, 17, 96, 64, 188, 10, 181, 0, 47, 42, 16, 8, 188, 10]
abbrev dktX6_init_4 : List UInt8 := dkwX6_init_4 ++ dktX6_init_5
def dkwX6_init_3 : List UInt8 := [188, 10, 181, 0, 35, 42, 17, 2, 104, 188, 10, 181, 0, 38, 42, 17, 2, 104, 188, 10, 181, 0, 41, 42]
abbrev dktX6_init_3 : List UInt8 := dkwX6_init_3 ++ dktX6_init_4
def dkwX6_init_2 : List UInt8 := [181, 0, 26, 42, 8, 188, 10, 181, 0, 29, 42, 17, 0, 255, 188, 10, 181, 0, 32, 42, 17, 1, 0]
abbrev dktX6_init_2 : List UInt8 := dkwX6_init_2 ++ dktX6_init_3
def dkwX6_init_1 : List UInt8 := [181, 0, 17, 42, 16, 32, 188, 10, 181, 0, 20, 42, 7, 188, 10, 181, 0, 23, 42, 17, 1, 144, 188, 10]
abbrev dktX6_init_1 : List UInt8 := dkwX6_init_1 ++ dktX6_init_2
def dkwX6_init_0 : List UInt8 := [42, 183, 0, 3, 42, 17, 1, 24, 188, 8, 181, 0, 9, 42, 8, 188, 10, 181, 0, 13, 42, 8, 188, 10]
abbrev dktX6_init_0 : List UInt8 := dkwX6_init_0 ++ dktX6_init_1
theorem dksX6_init_0 : cX6_init.data.toList.drop 0 = dktX6_init_0 := by decide +kernel
theorem dksX6_init_1 : cX6_init.data.toList.drop 24 = dktX6_init_1 := dk_seg dksX6_init_0 24 rfl rfl
theorem dksX6_init_2 : cX6_init.data.toList.drop 48 = dktX6_init_2 := dk_seg dksX6_init_1 24 rfl rfl
theorem dksX6_init_3 : cX6_init.data.toList.drop 71 = dktX6_init_3 := dk_seg dksX6_init_2 23 rfl rfl
theorem dksX6_init_4 : cX6_init.data.toList.drop 95 = dktX6_init_4 := dk_seg dksX6_init_3 24 rfl rfl
theorem dksX6_init_5 : cX6_init.data.toList.drop 117 = dktX6_init_5 := dk_seg dksX6_init_4 22 rfl rfl
theorem dX6_init_0 : decode cX6_init 0 = .ok (.aload_n 0, 1) := dk_42 (dk_at dksX6_init_0 0 rfl rfl)
theorem dX6_init_1 : decode cX6_init 1 = .ok (.invokespecial 3, 3) := dk_183 0 3 (dk_at dksX6_init_0 1 rfl rfl)
theorem dX6_init_4 : decode cX6_init 4 = .ok (.aload_n 0, 1) := dk_42 (dk_at dksX6_init_0 4 rfl rfl)
theorem dX6_init_5 : decode cX6_init 5 = .ok (.sipush 280, 3) := dk_17 1 24 (dk_at dksX6_init_0 5 rfl rfl)
theorem dX6_init_8 : decode cX6_init 8 = .ok (.newarray .byte, 2) := dk_188_8 (dk_at dksX6_init_0 8 rfl rfl)
theorem dX6_init_10 : decode cX6_init 10 = .ok (.putfield 9, 3) := dk_181 0 9 (dk_at dksX6_init_0 10 rfl rfl)
theorem dX6_init_13 : decode cX6_init 13 = .ok (.aload_n 0, 1) := dk_42 (dk_at dksX6_init_0 13 rfl rfl)
theorem dX6_init_14 : decode cX6_init 14 = .ok (.iconst 5, 1) := dk_8 (dk_at dksX6_init_0 14 rfl rfl)
theorem dX6_init_15 : decode cX6_init 15 = .ok (.newarray .int, 2) := dk_188_10 (dk_at dksX6_init_0 15 rfl rfl)
theorem dX6_init_17 : decode cX6_init 17 = .ok (.putfield 13, 3) := dk_181 0 13 (dk_at dksX6_init_0 17 rfl rfl)
theorem dX6_init_20 : decode cX6_init 20 = .ok (.aload_n 0, 1) := dk_42 (dk_at dksX6_init_0 20 rfl rfl)
theorem dX6_init_21 : decode cX6_init 21 = .ok (.iconst 5, 1) := dk_8 (dk_at dksX6_init_0 21 rfl rfl)
theorem dX6_init_22 : decode cX6_init 22 = .ok (.newarray .int, 2) := dk_188_10 (dk_at dksX6_init_0 22 rfl rfl)
theorem dX6_init_24 : decode cX6_init 24 = .ok (.putfield 17, 3) := dk_181 0 17 (dk_at dksX6_init_1 0 rfl rfl)
theorem dX6_init_27 : decode cX6_init 27 = .ok (.aload_n 0, 1) := dk_42 (dk_at dksX6_init_1 3 rfl rfl)
theorem dX6_init_28 : decode cX6_init 28 = .ok (.bipush 32, 2) := dk_16 32 (dk_at dksX6_init_1 4 rfl rfl)
theorem dX6_init_30 : decode cX6_init 30 = .ok (.newarray .int, 2) := dk_188_10 (dk_at dksX6_init_1 6 rfl rfl)
theorem dX6_init_32 : decode cX6_init 32 = .ok (.putfield 20, 3) := dk_181 0 20 (dk_at dksX6_init_1 8 rfl rfl)
theorem dX6_init_35 : decode cX6_init 35 = .ok (.aload_n 0, 1) := dk_42 (dk_at dksX6_init_1 11 rfl rfl)
theorem dX6_init_36 : decode cX6_init 36 = .ok (.iconst 4, 1) := dk_7 (dk_at dksX6_init_1 12 rfl rfl)
theorem dX6_init_37 : decode cX6_init 37 = .ok (.newarray .int, 2) := dk_188_10 (dk_at dksX6_init_1 13 rfl rfl)
theorem dX6_init_39 : decode cX6_init 39 = .ok (.putfield 23, 3) := dk_181 0 23 (dk_at dksX6_init_1 15 rfl rfl)
theorem dX6_init_42 : decode cX6_init 42 = .ok (.aload_n 0, 1) := dk_42 (dk_at dksX6_init_1 18 rfl rfl)
theorem dX6_init_43 : decode cX6_init 43 = .ok (.sipush 400, 3) := dk_17 1 144 (dk_at dksX6_init_1 19 rfl rfl)
theorem dX6_init_46 : decode cX6_init 46 = .ok (.newarray .int, 2) := dk_188_10 (dk_at dksX6_init_1 22 rfl rfl)
theorem dX6_init_48 : decode cX6_init 48 = .ok (.putfield 26, 3) := dk_181 0 26 (dk_at dksX6_init_2 0 rfl rfl)
theorem dX6_init_51 : decode cX6_init 51 = .ok (.aload_n 0, 1) := dk_42 (dk_at dksX6_init_2 3 rfl rfl)
theorem dX6_init_52 : decode cX6_init 52 = .ok (.iconst 5, 1) := dk_8 (dk_at dksX6_init_2 4 rfl rfl)
theorem dX6_init_53 : decode cX6_init 53 = .ok (.newarray .int, 2) := dk_188_10 (dk_at dksX6_init_2 5 rfl rfl)
theorem dX6_init_55 : decode cX6_init 55 = .ok (.putfield 29, 3) := dk_181 0 29 (dk_at dksX6_init_2 7 rfl rfl)
theorem dX6_init_58 : decode cX6_init 58 = .ok (.aload_n 0, 1) := dk_42 (dk_at dksX6_init_2 10 rfl rfl)
theorem dX6_init_59 : decode cX6_init 59 = .ok (.sipush 255, 3) := dk_17 0 255 (dk_at dksX6_init_2 11 rfl rfl)
theorem dX6_init_62 : decode cX6_init 62 = .ok (.newarray .int, 2) := dk_188_10 (dk_at dksX6_init_2 14 rfl rfl)
theorem dX6_init_64 : decode cX6_init 64 = .ok (.putfield 32, 3) := dk_181 0 32 (dk_at dksX6_init_2 16 rfl rfl)
theorem dX6_init_67 : decode cX6_init 67 = .ok (.aload_n 0, 1) := dk_42 (dk_at dksX6_init_2 19 rfl rfl)
theorem dX6_init_68 : decode cX6_init 68 = .ok (.sipush 256, 3) := dk_17 1 0 (dk_at dksX6_init_2 20 rfl rfl)
theorem dX6_init_71 : decode cX6_init 71 = .ok (.newarray .int, 2) := dk_188_10 (dk_at dksX6_init_3 0 rfl rfl)
theorem dX6_init_73 : decode cX6_init 73 = .ok (.putfield 35, 3) := dk_181 0 35 (dk_at dksX6_init_3 2 rfl rfl)
theorem dX6_init_76 : decode cX6_init 76 = .ok (.aload_n 0, 1) := dk_42 (dk_at dksX6_init_3 5 rfl rfl)
theorem dX6_init_77 : decode cX6_init 77 = .ok (.sipush 616, 3) := dk_17 2 104 (dk_at dksX6_init_3 6 rfl rfl)
theorem dX6_init_80 : decode cX6_init 80 = .ok (.newarray .int, 2) := dk_188_10 (dk_at dksX6_init_3 9 rfl rfl)
theorem dX6_init_82 : decode cX6_init 82 = .ok (.putfield 38, 3) := dk_181 0 38 (dk_at dksX6_init_3 11 rfl rfl)
theorem dX6_init_85 : decode cX6_init 85 = .ok (.aload_n 0, 1) := dk_42 (dk_at dksX6_init_3 14 rfl rfl)
theorem dX6_init_86 : decode cX6_init 86 = .ok (.sipush 616, 3) := dk_17 2 104 (dk_at dksX6_init_3 15 rfl rfl)
theorem dX6_init_89 : decode cX6_init 89 = .ok (.newarray .int, 2) := dk_188_10 (dk_at dksX6_init_3 18 rfl rfl)
theorem dX6_init_91 : decode cX6_init 91 = .ok (.putfield 41, 3) := dk_181 0 41 (dk_at dksX6_init_3 20 rfl rfl)
theorem dX6_init_94 : decode cX6_init 94 = .ok (.aload_n 0, 1) := dk_42 (dk_at dksX6_init_3 23 rfl rfl)
theorem dX6_init_95 : decode cX6_init 95 = .ok (.sipush 616, 3) := dk_17 2 104 (dk_at dksX6_init_4 0 rfl rfl)
theorem dX6_init_98 : decode cX6_init 98 = .ok (.newarray .int, 2) := dk_188_10 (dk_at dksX6_init_4 3 rfl rfl)
theorem dX6_init_100 : decode cX6_init 100 = .ok (.putfield 44, 3) := dk_181 0 44 (dk_at dksX6_init_4 5 rfl rfl)
theorem dX6_init_103 : decode cX6_init 103 = .ok (.aload_n 0, 1) := dk_42 (dk_at dksX6_init_4 8 rfl rfl)
theorem dX6_init_104 : decode cX6_init 104 = .ok (.sipush 24640, 3) := dk_17 96 64 (dk_at dksX6_init_4 9 rfl rfl)
theorem dX6_init_107 : decode cX6_init 107 = .ok (.newarray .int, 2) := dk_188_10 (dk_at dksX6_init_4 12 rfl rfl)
theorem dX6_init_109 : decode cX6_init 109 = .ok (.putfield 47, 3) := dk_181 0 47 (dk_at dksX6_init_4 14 rfl rfl)
theorem dX6_init_112 : decode cX6_init 112 = .ok (.aload_n 0, 1) := dk_42 (dk_at dksX6_init_4 17 rfl rfl)
theorem dX6_init_113 : decode cX6_init 113 = .ok (.bipush 8, 2) := dk_16 8 (dk_at dksX6_init_4 18 rfl rfl)
theorem dX6_init_115 : decode cX6_init 115 = .ok (.newarray .int, 2) := dk_188_10 (dk_at dksX6_init_4 20 rfl rfl)
theorem dX6_init_117 : decode cX6_init 117 = .ok (.putfield 50, 3) := dk_181 0 50 (dk_at dksX6_init_5 0 rfl rfl)
theorem dX6_init_120 : decode cX6_init 120 = .ok (.aload_n 0, 1) := dk_42 (dk_at dksX6_init_5 3 rfl rfl)
theorem dX6_init_121 : decode cX6_init 121 = .ok (.bipush 8, 2) := dk_16 8 (dk_at dksX6_init_5 4 rfl rfl)
theorem dX6_init_123 : decode cX6_init 123 = .ok (.newarray .boolean, 2) := dk_188_4 (dk_at dksX6_init_5 6 rfl rfl)
theorem dX6_init_125 : decode cX6_init 125 = .ok (.putfield 53, 3) := dk_181 0 53 (dk_at dksX6_init_5 8 rfl rfl)
theorem dX6_init_128 : decode cX6_init 128 = .ok (.return_, 1) := dk_177 (dk_at dksX6_init_5 11 rfl rfl)
abbrev cX6_thrown : ByteArray := prog_12_method_2_code
def yX6_thrown : MethodName := ⟨RX6, "thrown", "()I"⟩
theorem dX6_thrown_0 : decode cX6_thrown 0 = .ok (.aload_n 0, 1) := by decide +kernel
theorem dX6_thrown_1 : decode cX6_thrown 1 = .ok (.getfield 57, 3) := by decide +kernel
theorem dX6_thrown_4 : decode cX6_thrown 4 = .ok (.ireturn, 1) := by decide +kernel
abbrev cX6_feed : ByteArray := prog_12_method_6_code
def yX6_feed : MethodName := ⟨RX6, "feed", "(IIIII)I"⟩
def dkwX6_feed_3 : List UInt8 := [182, 0, 68, 42, 180, 0, 61, 172]
abbrev dktX6_feed_3 : List UInt8 := dkwX6_feed_3 ++ []
def dkwX6_feed_2 : List UInt8 := [182, 0, 68, 42, 28, 182, 0, 68, 42, 29, 182, 0, 68, 42, 21, 4, 182, 0, 68, 42, 21, 5]
abbrev dktX6_feed_2 : List UInt8 := dkwX6_feed_2 ++ dktX6_feed_3
def dkwX6_feed_1 : List UInt8 := [21, 4, 184, 0, 64, 96, 21, 5, 184, 0, 64, 96, 17, 1, 24, 164, 0, 5, 2, 172, 42, 27]
abbrev dktX6_feed_1 : List UInt8 := dkwX6_feed_1 ++ dktX6_feed_2
def dkwX6_feed_0 : List UInt8 := [42, 3, 181, 0, 57, 42, 180, 0, 61, 27, 184, 0, 64, 96, 28, 184, 0, 64, 96, 29, 184, 0, 64, 96]
abbrev dktX6_feed_0 : List UInt8 := dkwX6_feed_0 ++ dktX6_feed_1
theorem dksX6_feed_0 : cX6_feed.data.toList.drop 0 = dktX6_feed_0 := by decide +kernel
theorem dksX6_feed_1 : cX6_feed.data.toList.drop 24 = dktX6_feed_1 := dk_seg dksX6_feed_0 24 rfl rfl
theorem dksX6_feed_2 : cX6_feed.data.toList.drop 46 = dktX6_feed_2 := dk_seg dksX6_feed_1 22 rfl rfl
theorem dksX6_feed_3 : cX6_feed.data.toList.drop 68 = dktX6_feed_3 := dk_seg dksX6_feed_2 22 rfl rfl
theorem dX6_feed_0 : decode cX6_feed 0 = .ok (.aload_n 0, 1) := dk_42 (dk_at dksX6_feed_0 0 rfl rfl)
theorem dX6_feed_1 : decode cX6_feed 1 = .ok (.iconst 0, 1) := dk_3 (dk_at dksX6_feed_0 1 rfl rfl)
theorem dX6_feed_2 : decode cX6_feed 2 = .ok (.putfield 57, 3) := dk_181 0 57 (dk_at dksX6_feed_0 2 rfl rfl)
theorem dX6_feed_5 : decode cX6_feed 5 = .ok (.aload_n 0, 1) := dk_42 (dk_at dksX6_feed_0 5 rfl rfl)
theorem dX6_feed_6 : decode cX6_feed 6 = .ok (.getfield 61, 3) := dk_180 0 61 (dk_at dksX6_feed_0 6 rfl rfl)
theorem dX6_feed_9 : decode cX6_feed 9 = .ok (.iload_n 1, 1) := dk_27 (dk_at dksX6_feed_0 9 rfl rfl)
theorem dX6_feed_10 : decode cX6_feed 10 = .ok (.invokestatic 64, 3) := dk_184 0 64 (dk_at dksX6_feed_0 10 rfl rfl)
theorem dX6_feed_13 : decode cX6_feed 13 = .ok (.iadd, 1) := dk_96 (dk_at dksX6_feed_0 13 rfl rfl)
theorem dX6_feed_14 : decode cX6_feed 14 = .ok (.iload_n 2, 1) := dk_28 (dk_at dksX6_feed_0 14 rfl rfl)
theorem dX6_feed_15 : decode cX6_feed 15 = .ok (.invokestatic 64, 3) := dk_184 0 64 (dk_at dksX6_feed_0 15 rfl rfl)
theorem dX6_feed_18 : decode cX6_feed 18 = .ok (.iadd, 1) := dk_96 (dk_at dksX6_feed_0 18 rfl rfl)
theorem dX6_feed_19 : decode cX6_feed 19 = .ok (.iload_n 3, 1) := dk_29 (dk_at dksX6_feed_0 19 rfl rfl)
theorem dX6_feed_20 : decode cX6_feed 20 = .ok (.invokestatic 64, 3) := dk_184 0 64 (dk_at dksX6_feed_0 20 rfl rfl)
theorem dX6_feed_23 : decode cX6_feed 23 = .ok (.iadd, 1) := dk_96 (dk_at dksX6_feed_0 23 rfl rfl)
theorem dX6_feed_24 : decode cX6_feed 24 = .ok (.iload 4, 2) := dk_21 4 (dk_at dksX6_feed_1 0 rfl rfl)
theorem dX6_feed_26 : decode cX6_feed 26 = .ok (.invokestatic 64, 3) := dk_184 0 64 (dk_at dksX6_feed_1 2 rfl rfl)
theorem dX6_feed_29 : decode cX6_feed 29 = .ok (.iadd, 1) := dk_96 (dk_at dksX6_feed_1 5 rfl rfl)
theorem dX6_feed_30 : decode cX6_feed 30 = .ok (.iload 5, 2) := dk_21 5 (dk_at dksX6_feed_1 6 rfl rfl)
theorem dX6_feed_32 : decode cX6_feed 32 = .ok (.invokestatic 64, 3) := dk_184 0 64 (dk_at dksX6_feed_1 8 rfl rfl)
theorem dX6_feed_35 : decode cX6_feed 35 = .ok (.iadd, 1) := dk_96 (dk_at dksX6_feed_1 11 rfl rfl)
theorem dX6_feed_36 : decode cX6_feed 36 = .ok (.sipush 280, 3) := dk_17 1 24 (dk_at dksX6_feed_1 12 rfl rfl)
theorem dX6_feed_39 : decode cX6_feed 39 = .ok (.if_icmp .le 5, 3) := dk_164 0 5 (dk_at dksX6_feed_1 15 rfl rfl)
theorem dX6_feed_42 : decode cX6_feed 42 = .ok (.iconst (-1), 1) := dk_2 (dk_at dksX6_feed_1 18 rfl rfl)
theorem dX6_feed_43 : decode cX6_feed 43 = .ok (.ireturn, 1) := dk_172 (dk_at dksX6_feed_1 19 rfl rfl)
theorem dX6_feed_44 : decode cX6_feed 44 = .ok (.aload_n 0, 1) := dk_42 (dk_at dksX6_feed_1 20 rfl rfl)
theorem dX6_feed_45 : decode cX6_feed 45 = .ok (.iload_n 1, 1) := dk_27 (dk_at dksX6_feed_1 21 rfl rfl)
theorem dX6_feed_46 : decode cX6_feed 46 = .ok (.invokevirtual 68, 3) := dk_182 0 68 (dk_at dksX6_feed_2 0 rfl rfl)
theorem dX6_feed_49 : decode cX6_feed 49 = .ok (.aload_n 0, 1) := dk_42 (dk_at dksX6_feed_2 3 rfl rfl)
theorem dX6_feed_50 : decode cX6_feed 50 = .ok (.iload_n 2, 1) := dk_28 (dk_at dksX6_feed_2 4 rfl rfl)
theorem dX6_feed_51 : decode cX6_feed 51 = .ok (.invokevirtual 68, 3) := dk_182 0 68 (dk_at dksX6_feed_2 5 rfl rfl)
theorem dX6_feed_54 : decode cX6_feed 54 = .ok (.aload_n 0, 1) := dk_42 (dk_at dksX6_feed_2 8 rfl rfl)
theorem dX6_feed_55 : decode cX6_feed 55 = .ok (.iload_n 3, 1) := dk_29 (dk_at dksX6_feed_2 9 rfl rfl)
theorem dX6_feed_56 : decode cX6_feed 56 = .ok (.invokevirtual 68, 3) := dk_182 0 68 (dk_at dksX6_feed_2 10 rfl rfl)
theorem dX6_feed_59 : decode cX6_feed 59 = .ok (.aload_n 0, 1) := dk_42 (dk_at dksX6_feed_2 13 rfl rfl)
theorem dX6_feed_60 : decode cX6_feed 60 = .ok (.iload 4, 2) := dk_21 4 (dk_at dksX6_feed_2 14 rfl rfl)
theorem dX6_feed_62 : decode cX6_feed 62 = .ok (.invokevirtual 68, 3) := dk_182 0 68 (dk_at dksX6_feed_2 16 rfl rfl)
theorem dX6_feed_65 : decode cX6_feed 65 = .ok (.aload_n 0, 1) := dk_42 (dk_at dksX6_feed_2 19 rfl rfl)
theorem dX6_feed_66 : decode cX6_feed 66 = .ok (.iload 5, 2) := dk_21 5 (dk_at dksX6_feed_2 20 rfl rfl)
theorem dX6_feed_68 : decode cX6_feed 68 = .ok (.invokevirtual 68, 3) := dk_182 0 68 (dk_at dksX6_feed_3 0 rfl rfl)
theorem dX6_feed_71 : decode cX6_feed 71 = .ok (.aload_n 0, 1) := dk_42 (dk_at dksX6_feed_3 3 rfl rfl)
theorem dX6_feed_72 : decode cX6_feed 72 = .ok (.getfield 61, 3) := dk_180 0 61 (dk_at dksX6_feed_3 4 rfl rfl)
theorem dX6_feed_75 : decode cX6_feed 75 = .ok (.ireturn, 1) := dk_172 (dk_at dksX6_feed_3 7 rfl rfl)
abbrev cX6_bytesOf : ByteArray := prog_12_method_4_code
def yX6_bytesOf : MethodName := ⟨RX6, "bytesOf", "(I)I"⟩
def dkwX6_bytesOf_1 : List UInt8 := [167, 0, 4, 4, 96, 60, 132, 2, 1, 167, 255, 227, 27, 172]
abbrev dktX6_bytesOf_1 : List UInt8 := dkwX6_bytesOf_1 ++ []
def dkwX6_bytesOf_0 : List UInt8 := [3, 60, 3, 61, 28, 7, 162, 0, 30, 27, 26, 16, 8, 28, 104, 122, 17, 0, 255, 126, 154, 0, 7, 3]
abbrev dktX6_bytesOf_0 : List UInt8 := dkwX6_bytesOf_0 ++ dktX6_bytesOf_1
theorem dksX6_bytesOf_0 : cX6_bytesOf.data.toList.drop 0 = dktX6_bytesOf_0 := by decide +kernel
theorem dksX6_bytesOf_1 : cX6_bytesOf.data.toList.drop 24 = dktX6_bytesOf_1 := dk_seg dksX6_bytesOf_0 24 rfl rfl
theorem dX6_bytesOf_0 : decode cX6_bytesOf 0 = .ok (.iconst 0, 1) := dk_3 (dk_at dksX6_bytesOf_0 0 rfl rfl)
theorem dX6_bytesOf_1 : decode cX6_bytesOf 1 = .ok (.istore_n 1, 1) := dk_60 (dk_at dksX6_bytesOf_0 1 rfl rfl)
theorem dX6_bytesOf_2 : decode cX6_bytesOf 2 = .ok (.iconst 0, 1) := dk_3 (dk_at dksX6_bytesOf_0 2 rfl rfl)
theorem dX6_bytesOf_3 : decode cX6_bytesOf 3 = .ok (.istore_n 2, 1) := dk_61 (dk_at dksX6_bytesOf_0 3 rfl rfl)
theorem dX6_bytesOf_4 : decode cX6_bytesOf 4 = .ok (.iload_n 2, 1) := dk_28 (dk_at dksX6_bytesOf_0 4 rfl rfl)
theorem dX6_bytesOf_5 : decode cX6_bytesOf 5 = .ok (.iconst 4, 1) := dk_7 (dk_at dksX6_bytesOf_0 5 rfl rfl)
theorem dX6_bytesOf_6 : decode cX6_bytesOf 6 = .ok (.if_icmp .ge 30, 3) := dk_162 0 30 (dk_at dksX6_bytesOf_0 6 rfl rfl)
theorem dX6_bytesOf_9 : decode cX6_bytesOf 9 = .ok (.iload_n 1, 1) := dk_27 (dk_at dksX6_bytesOf_0 9 rfl rfl)
theorem dX6_bytesOf_10 : decode cX6_bytesOf 10 = .ok (.iload_n 0, 1) := dk_26 (dk_at dksX6_bytesOf_0 10 rfl rfl)
theorem dX6_bytesOf_11 : decode cX6_bytesOf 11 = .ok (.bipush 8, 2) := dk_16 8 (dk_at dksX6_bytesOf_0 11 rfl rfl)
theorem dX6_bytesOf_13 : decode cX6_bytesOf 13 = .ok (.iload_n 2, 1) := dk_28 (dk_at dksX6_bytesOf_0 13 rfl rfl)
theorem dX6_bytesOf_14 : decode cX6_bytesOf 14 = .ok (.imul, 1) := dk_104 (dk_at dksX6_bytesOf_0 14 rfl rfl)
theorem dX6_bytesOf_15 : decode cX6_bytesOf 15 = .ok (.ishr, 1) := dk_122 (dk_at dksX6_bytesOf_0 15 rfl rfl)
theorem dX6_bytesOf_16 : decode cX6_bytesOf 16 = .ok (.sipush 255, 3) := dk_17 0 255 (dk_at dksX6_bytesOf_0 16 rfl rfl)
theorem dX6_bytesOf_19 : decode cX6_bytesOf 19 = .ok (.iand, 1) := dk_126 (dk_at dksX6_bytesOf_0 19 rfl rfl)
theorem dX6_bytesOf_20 : decode cX6_bytesOf 20 = .ok (.ifCond .ne 7, 3) := dk_154 0 7 (dk_at dksX6_bytesOf_0 20 rfl rfl)
theorem dX6_bytesOf_23 : decode cX6_bytesOf 23 = .ok (.iconst 0, 1) := dk_3 (dk_at dksX6_bytesOf_0 23 rfl rfl)
theorem dX6_bytesOf_24 : decode cX6_bytesOf 24 = .ok (.goto 4, 3) := dk_167 0 4 (dk_at dksX6_bytesOf_1 0 rfl rfl)
theorem dX6_bytesOf_27 : decode cX6_bytesOf 27 = .ok (.iconst 1, 1) := dk_4 (dk_at dksX6_bytesOf_1 3 rfl rfl)
theorem dX6_bytesOf_28 : decode cX6_bytesOf 28 = .ok (.iadd, 1) := dk_96 (dk_at dksX6_bytesOf_1 4 rfl rfl)
theorem dX6_bytesOf_29 : decode cX6_bytesOf 29 = .ok (.istore_n 1, 1) := dk_60 (dk_at dksX6_bytesOf_1 5 rfl rfl)
theorem dX6_bytesOf_30 : decode cX6_bytesOf 30 = .ok (.iinc 2 1, 3) := dk_132 2 1 (dk_at dksX6_bytesOf_1 6 rfl rfl)
theorem dX6_bytesOf_33 : decode cX6_bytesOf 33 = .ok (.goto (-29), 3) := dk_167 255 227 (dk_at dksX6_bytesOf_1 9 rfl rfl)
theorem dX6_bytesOf_36 : decode cX6_bytesOf 36 = .ok (.iload_n 1, 1) := dk_27 (dk_at dksX6_bytesOf_1 12 rfl rfl)
theorem dX6_bytesOf_37 : decode cX6_bytesOf 37 = .ok (.ireturn, 1) := dk_172 (dk_at dksX6_bytesOf_1 13 rfl rfl)
abbrev cX6_brings : ByteArray := prog_12_method_5_code
def yX6_brings : MethodName := ⟨RX6, "brings", "(I)V"⟩
def dkwX6_brings_2 : List UInt8 := [167, 255, 213, 177]
abbrev dktX6_brings_2 : List UInt8 := dkwX6_brings_2 ++ []
def dkwX6_brings_1 : List UInt8 := [180, 0, 9, 42, 180, 0, 61, 29, 145, 84, 42, 89, 180, 0, 61, 4, 96, 181, 0, 61, 132, 2, 248]
abbrev dktX6_brings_1 : List UInt8 := dkwX6_brings_1 ++ dktX6_brings_2
def dkwX6_brings_0 : List UInt8 := [16, 24, 61, 28, 155, 0, 45, 27, 28, 122, 17, 0, 255, 126, 62, 29, 154, 0, 6, 167, 0, 24, 42]
abbrev dktX6_brings_0 : List UInt8 := dkwX6_brings_0 ++ dktX6_brings_1
theorem dksX6_brings_0 : cX6_brings.data.toList.drop 0 = dktX6_brings_0 := by decide +kernel
theorem dksX6_brings_1 : cX6_brings.data.toList.drop 23 = dktX6_brings_1 := dk_seg dksX6_brings_0 23 rfl rfl
theorem dksX6_brings_2 : cX6_brings.data.toList.drop 46 = dktX6_brings_2 := dk_seg dksX6_brings_1 23 rfl rfl
theorem dX6_brings_0 : decode cX6_brings 0 = .ok (.bipush 24, 2) := dk_16 24 (dk_at dksX6_brings_0 0 rfl rfl)
theorem dX6_brings_2 : decode cX6_brings 2 = .ok (.istore_n 2, 1) := dk_61 (dk_at dksX6_brings_0 2 rfl rfl)
theorem dX6_brings_3 : decode cX6_brings 3 = .ok (.iload_n 2, 1) := dk_28 (dk_at dksX6_brings_0 3 rfl rfl)
theorem dX6_brings_4 : decode cX6_brings 4 = .ok (.ifCond .lt 45, 3) := dk_155 0 45 (dk_at dksX6_brings_0 4 rfl rfl)
theorem dX6_brings_7 : decode cX6_brings 7 = .ok (.iload_n 1, 1) := dk_27 (dk_at dksX6_brings_0 7 rfl rfl)
theorem dX6_brings_8 : decode cX6_brings 8 = .ok (.iload_n 2, 1) := dk_28 (dk_at dksX6_brings_0 8 rfl rfl)
theorem dX6_brings_9 : decode cX6_brings 9 = .ok (.ishr, 1) := dk_122 (dk_at dksX6_brings_0 9 rfl rfl)
theorem dX6_brings_10 : decode cX6_brings 10 = .ok (.sipush 255, 3) := dk_17 0 255 (dk_at dksX6_brings_0 10 rfl rfl)
theorem dX6_brings_13 : decode cX6_brings 13 = .ok (.iand, 1) := dk_126 (dk_at dksX6_brings_0 13 rfl rfl)
theorem dX6_brings_14 : decode cX6_brings 14 = .ok (.istore_n 3, 1) := dk_62 (dk_at dksX6_brings_0 14 rfl rfl)
theorem dX6_brings_15 : decode cX6_brings 15 = .ok (.iload_n 3, 1) := dk_29 (dk_at dksX6_brings_0 15 rfl rfl)
theorem dX6_brings_16 : decode cX6_brings 16 = .ok (.ifCond .ne 6, 3) := dk_154 0 6 (dk_at dksX6_brings_0 16 rfl rfl)
theorem dX6_brings_19 : decode cX6_brings 19 = .ok (.goto 24, 3) := dk_167 0 24 (dk_at dksX6_brings_0 19 rfl rfl)
theorem dX6_brings_22 : decode cX6_brings 22 = .ok (.aload_n 0, 1) := dk_42 (dk_at dksX6_brings_0 22 rfl rfl)
theorem dX6_brings_23 : decode cX6_brings 23 = .ok (.getfield 9, 3) := dk_180 0 9 (dk_at dksX6_brings_1 0 rfl rfl)
theorem dX6_brings_26 : decode cX6_brings 26 = .ok (.aload_n 0, 1) := dk_42 (dk_at dksX6_brings_1 3 rfl rfl)
theorem dX6_brings_27 : decode cX6_brings 27 = .ok (.getfield 61, 3) := dk_180 0 61 (dk_at dksX6_brings_1 4 rfl rfl)
theorem dX6_brings_30 : decode cX6_brings 30 = .ok (.iload_n 3, 1) := dk_29 (dk_at dksX6_brings_1 7 rfl rfl)
theorem dX6_brings_31 : decode cX6_brings 31 = .ok (.i2b, 1) := dk_145 (dk_at dksX6_brings_1 8 rfl rfl)
theorem dX6_brings_32 : decode cX6_brings 32 = .ok (.bastore, 1) := dk_84 (dk_at dksX6_brings_1 9 rfl rfl)
theorem dX6_brings_33 : decode cX6_brings 33 = .ok (.aload_n 0, 1) := dk_42 (dk_at dksX6_brings_1 10 rfl rfl)
theorem dX6_brings_34 : decode cX6_brings 34 = .ok (.dup, 1) := dk_89 (dk_at dksX6_brings_1 11 rfl rfl)
theorem dX6_brings_35 : decode cX6_brings 35 = .ok (.getfield 61, 3) := dk_180 0 61 (dk_at dksX6_brings_1 12 rfl rfl)
theorem dX6_brings_38 : decode cX6_brings 38 = .ok (.iconst 1, 1) := dk_4 (dk_at dksX6_brings_1 15 rfl rfl)
theorem dX6_brings_39 : decode cX6_brings 39 = .ok (.iadd, 1) := dk_96 (dk_at dksX6_brings_1 16 rfl rfl)
theorem dX6_brings_40 : decode cX6_brings 40 = .ok (.putfield 61, 3) := dk_181 0 61 (dk_at dksX6_brings_1 17 rfl rfl)
theorem dX6_brings_43 : decode cX6_brings 43 = .ok (.iinc 2 (-8), 3) := dk_132 2 248 (dk_at dksX6_brings_1 20 rfl rfl)
theorem dX6_brings_46 : decode cX6_brings 46 = .ok (.goto (-43), 3) := dk_167 255 213 (dk_at dksX6_brings_2 0 rfl rfl)
theorem dX6_brings_49 : decode cX6_brings 49 = .ok (.return_, 1) := dk_177 (dk_at dksX6_brings_2 3 rfl rfl)
abbrev cX6_end : ByteArray := prog_12_method_7_code
def yX6_end : MethodName := ⟨RX6, "end", "(I)Z"⟩
def dkwX6_end_1 : List UInt8 := [4, 172]
abbrev dktX6_end_1 : List UInt8 := dkwX6_end_1 ++ []
def dkwX6_end_0 : List UInt8 := [42, 3, 181, 0, 57, 27, 155, 0, 11, 27, 42, 180, 0, 61, 164, 0, 5, 3, 172, 42, 27, 181, 0, 61]
abbrev dktX6_end_0 : List UInt8 := dkwX6_end_0 ++ dktX6_end_1
theorem dksX6_end_0 : cX6_end.data.toList.drop 0 = dktX6_end_0 := by decide +kernel
theorem dksX6_end_1 : cX6_end.data.toList.drop 24 = dktX6_end_1 := dk_seg dksX6_end_0 24 rfl rfl
theorem dX6_end_0 : decode cX6_end 0 = .ok (.aload_n 0, 1) := dk_42 (dk_at dksX6_end_0 0 rfl rfl)
theorem dX6_end_1 : decode cX6_end 1 = .ok (.iconst 0, 1) := dk_3 (dk_at dksX6_end_0 1 rfl rfl)
theorem dX6_end_2 : decode cX6_end 2 = .ok (.putfield 57, 3) := dk_181 0 57 (dk_at dksX6_end_0 2 rfl rfl)
theorem dX6_end_5 : decode cX6_end 5 = .ok (.iload_n 1, 1) := dk_27 (dk_at dksX6_end_0 5 rfl rfl)
theorem dX6_end_6 : decode cX6_end 6 = .ok (.ifCond .lt 11, 3) := dk_155 0 11 (dk_at dksX6_end_0 6 rfl rfl)
theorem dX6_end_9 : decode cX6_end 9 = .ok (.iload_n 1, 1) := dk_27 (dk_at dksX6_end_0 9 rfl rfl)
theorem dX6_end_10 : decode cX6_end 10 = .ok (.aload_n 0, 1) := dk_42 (dk_at dksX6_end_0 10 rfl rfl)
theorem dX6_end_11 : decode cX6_end 11 = .ok (.getfield 61, 3) := dk_180 0 61 (dk_at dksX6_end_0 11 rfl rfl)
theorem dX6_end_14 : decode cX6_end 14 = .ok (.if_icmp .le 5, 3) := dk_164 0 5 (dk_at dksX6_end_0 14 rfl rfl)
theorem dX6_end_17 : decode cX6_end 17 = .ok (.iconst 0, 1) := dk_3 (dk_at dksX6_end_0 17 rfl rfl)
theorem dX6_end_18 : decode cX6_end 18 = .ok (.ireturn, 1) := dk_172 (dk_at dksX6_end_0 18 rfl rfl)
theorem dX6_end_19 : decode cX6_end 19 = .ok (.aload_n 0, 1) := dk_42 (dk_at dksX6_end_0 19 rfl rfl)
theorem dX6_end_20 : decode cX6_end 20 = .ok (.iload_n 1, 1) := dk_27 (dk_at dksX6_end_0 20 rfl rfl)
theorem dX6_end_21 : decode cX6_end 21 = .ok (.putfield 61, 3) := dk_181 0 61 (dk_at dksX6_end_0 21 rfl rfl)
theorem dX6_end_24 : decode cX6_end 24 = .ok (.iconst 1, 1) := dk_4 (dk_at dksX6_end_1 0 rfl rfl)
theorem dX6_end_25 : decode cX6_end 25 = .ok (.ireturn, 1) := dk_172 (dk_at dksX6_end_1 1 rfl rfl)
abbrev cX6_fault : ByteArray := prog_12_method_23_code
def yX6_fault : MethodName := ⟨RX6, "fault", "(I)I"⟩
def dkwX6_fault_1 : List UInt8 := [2, 181, 0, 79, 27, 154, 0, 10, 42, 182, 0, 144, 167, 0, 7, 42, 182, 0, 147, 42, 180, 0, 79, 172]
abbrev dktX6_fault_1 : List UInt8 := dkwX6_fault_1 ++ []
def dkwX6_fault_0 : List UInt8 := [42, 3, 181, 0, 57, 27, 133, 9, 10, 184, 0, 117, 154, 0, 6, 16, 254, 172, 42, 3, 181, 0, 72, 42]
abbrev dktX6_fault_0 : List UInt8 := dkwX6_fault_0 ++ dktX6_fault_1
theorem dksX6_fault_0 : cX6_fault.data.toList.drop 0 = dktX6_fault_0 := by decide +kernel
theorem dksX6_fault_1 : cX6_fault.data.toList.drop 24 = dktX6_fault_1 := dk_seg dksX6_fault_0 24 rfl rfl
theorem dX6_fault_0 : decode cX6_fault 0 = .ok (.aload_n 0, 1) := dk_42 (dk_at dksX6_fault_0 0 rfl rfl)
theorem dX6_fault_1 : decode cX6_fault 1 = .ok (.iconst 0, 1) := dk_3 (dk_at dksX6_fault_0 1 rfl rfl)
theorem dX6_fault_2 : decode cX6_fault 2 = .ok (.putfield 57, 3) := dk_181 0 57 (dk_at dksX6_fault_0 2 rfl rfl)
theorem dX6_fault_5 : decode cX6_fault 5 = .ok (.iload_n 1, 1) := dk_27 (dk_at dksX6_fault_0 5 rfl rfl)
theorem dX6_fault_6 : decode cX6_fault 6 = .ok (.i2l, 1) := dk_133 (dk_at dksX6_fault_0 6 rfl rfl)
theorem dX6_fault_7 : decode cX6_fault 7 = .ok (.lconst 0, 1) := dk_9 (dk_at dksX6_fault_0 7 rfl rfl)
theorem dX6_fault_8 : decode cX6_fault 8 = .ok (.lconst 1, 1) := dk_10 (dk_at dksX6_fault_0 8 rfl rfl)
theorem dX6_fault_9 : decode cX6_fault 9 = .ok (.invokestatic 117, 3) := dk_184 0 117 (dk_at dksX6_fault_0 9 rfl rfl)
theorem dX6_fault_12 : decode cX6_fault 12 = .ok (.ifCond .ne 6, 3) := dk_154 0 6 (dk_at dksX6_fault_0 12 rfl rfl)
theorem dX6_fault_15 : decode cX6_fault 15 = .ok (.bipush (-2), 2) := dk_16 254 (dk_at dksX6_fault_0 15 rfl rfl)
theorem dX6_fault_17 : decode cX6_fault 17 = .ok (.ireturn, 1) := dk_172 (dk_at dksX6_fault_0 17 rfl rfl)
theorem dX6_fault_18 : decode cX6_fault 18 = .ok (.aload_n 0, 1) := dk_42 (dk_at dksX6_fault_0 18 rfl rfl)
theorem dX6_fault_19 : decode cX6_fault 19 = .ok (.iconst 0, 1) := dk_3 (dk_at dksX6_fault_0 19 rfl rfl)
theorem dX6_fault_20 : decode cX6_fault 20 = .ok (.putfield 72, 3) := dk_181 0 72 (dk_at dksX6_fault_0 20 rfl rfl)
theorem dX6_fault_23 : decode cX6_fault 23 = .ok (.aload_n 0, 1) := dk_42 (dk_at dksX6_fault_0 23 rfl rfl)
theorem dX6_fault_24 : decode cX6_fault 24 = .ok (.iconst (-1), 1) := dk_2 (dk_at dksX6_fault_1 0 rfl rfl)
theorem dX6_fault_25 : decode cX6_fault 25 = .ok (.putfield 79, 3) := dk_181 0 79 (dk_at dksX6_fault_1 1 rfl rfl)
theorem dX6_fault_28 : decode cX6_fault 28 = .ok (.iload_n 1, 1) := dk_27 (dk_at dksX6_fault_1 4 rfl rfl)
theorem dX6_fault_29 : decode cX6_fault 29 = .ok (.ifCond .ne 10, 3) := dk_154 0 10 (dk_at dksX6_fault_1 5 rfl rfl)
theorem dX6_fault_32 : decode cX6_fault 32 = .ok (.aload_n 0, 1) := dk_42 (dk_at dksX6_fault_1 8 rfl rfl)
theorem dX6_fault_33 : decode cX6_fault 33 = .ok (.invokevirtual 144, 3) := dk_182 0 144 (dk_at dksX6_fault_1 9 rfl rfl)
theorem dX6_fault_36 : decode cX6_fault 36 = .ok (.goto 7, 3) := dk_167 0 7 (dk_at dksX6_fault_1 12 rfl rfl)
theorem dX6_fault_39 : decode cX6_fault 39 = .ok (.aload_n 0, 1) := dk_42 (dk_at dksX6_fault_1 15 rfl rfl)
theorem dX6_fault_40 : decode cX6_fault 40 = .ok (.invokevirtual 147, 3) := dk_182 0 147 (dk_at dksX6_fault_1 16 rfl rfl)
theorem dX6_fault_43 : decode cX6_fault 43 = .ok (.aload_n 0, 1) := dk_42 (dk_at dksX6_fault_1 19 rfl rfl)
theorem dX6_fault_44 : decode cX6_fault 44 = .ok (.getfield 79, 3) := dk_180 0 79 (dk_at dksX6_fault_1 20 rfl rfl)
theorem dX6_fault_47 : decode cX6_fault 47 = .ok (.ireturn, 1) := dk_172 (dk_at dksX6_fault_1 23 rfl rfl)
abbrev cX6_isIn : ByteArray := prog_12_method_3_code
def yX6_isIn : MethodName := ⟨RX6, "isIn", "(JJJ)Z"⟩
def dkwX6_isIn_0 : List UInt8 := [30, 32, 148, 155, 0, 14, 30, 22, 4, 148, 157, 0, 7, 4, 167, 0, 4, 3, 172]
abbrev dktX6_isIn_0 : List UInt8 := dkwX6_isIn_0 ++ []
theorem dksX6_isIn_0 : cX6_isIn.data.toList.drop 0 = dktX6_isIn_0 := by decide +kernel
theorem dX6_isIn_0 : decode cX6_isIn 0 = .ok (.lload_n 0, 1) := dk_30 (dk_at dksX6_isIn_0 0 rfl rfl)
theorem dX6_isIn_1 : decode cX6_isIn 1 = .ok (.lload_n 2, 1) := dk_32 (dk_at dksX6_isIn_0 1 rfl rfl)
theorem dX6_isIn_2 : decode cX6_isIn 2 = .ok (.lcmp, 1) := dk_148 (dk_at dksX6_isIn_0 2 rfl rfl)
theorem dX6_isIn_3 : decode cX6_isIn 3 = .ok (.ifCond .lt 14, 3) := dk_155 0 14 (dk_at dksX6_isIn_0 3 rfl rfl)
theorem dX6_isIn_6 : decode cX6_isIn 6 = .ok (.lload_n 0, 1) := dk_30 (dk_at dksX6_isIn_0 6 rfl rfl)
theorem dX6_isIn_7 : decode cX6_isIn 7 = .ok (.lload 4, 2) := dk_22 4 (dk_at dksX6_isIn_0 7 rfl rfl)
theorem dX6_isIn_9 : decode cX6_isIn 9 = .ok (.lcmp, 1) := dk_148 (dk_at dksX6_isIn_0 9 rfl rfl)
theorem dX6_isIn_10 : decode cX6_isIn 10 = .ok (.ifCond .gt 7, 3) := dk_157 0 7 (dk_at dksX6_isIn_0 10 rfl rfl)
theorem dX6_isIn_13 : decode cX6_isIn 13 = .ok (.iconst 1, 1) := dk_4 (dk_at dksX6_isIn_0 13 rfl rfl)
theorem dX6_isIn_14 : decode cX6_isIn 14 = .ok (.goto 4, 3) := dk_167 0 4 (dk_at dksX6_isIn_0 14 rfl rfl)
theorem dX6_isIn_17 : decode cX6_isIn 17 = .ok (.iconst 0, 1) := dk_3 (dk_at dksX6_isIn_0 17 rfl rfl)
theorem dX6_isIn_18 : decode cX6_isIn 18 = .ok (.ireturn, 1) := dk_172 (dk_at dksX6_isIn_0 18 rfl rfl)
abbrev cX6_readShelf : ByteArray := prog_12_method_19_code
def yX6_readShelf : MethodName := ⟨RX6, "readShelf", "()V"⟩
def dkwX6_readShelf_4 : List UInt8 := [2, 159, 0, 7, 42, 182, 0, 89, 177]
abbrev dktX6_readShelf_4 : List UInt8 := dkwX6_readShelf_4 ++ []
def dkwX6_readShelf_3 : List UInt8 := [181, 0, 72, 42, 27, 182, 0, 132, 60, 167, 255, 223, 42, 180, 0, 79, 2, 160, 0, 15, 42, 182, 0, 82]
abbrev dktX6_readShelf_3 : List UInt8 := dkwX6_readShelf_3 ++ dktX6_readShelf_4
def dkwX6_readShelf_2 : List UInt8 := [42, 180, 0, 79, 2, 160, 0, 31, 42, 182, 0, 82, 16, 59, 160, 0, 22, 42, 89, 180, 0, 72, 4, 96]
abbrev dktX6_readShelf_2 : List UInt8 := dkwX6_readShelf_2 ++ dktX6_readShelf_3
def dkwX6_readShelf_1 : List UInt8 := [180, 0, 13, 6, 3, 79, 42, 180, 0, 13, 7, 4, 79, 42, 3, 181, 0, 121, 42, 3, 182, 0, 132, 60]
abbrev dktX6_readShelf_1 : List UInt8 := dkwX6_readShelf_1 ++ dktX6_readShelf_2
def dkwX6_readShelf_0 : List UInt8 := [42, 180, 0, 13, 3, 6, 79, 42, 180, 0, 13, 4, 7, 79, 42, 180, 0, 13, 5, 5, 79, 42]
abbrev dktX6_readShelf_0 : List UInt8 := dkwX6_readShelf_0 ++ dktX6_readShelf_1
theorem dksX6_readShelf_0 : cX6_readShelf.data.toList.drop 0 = dktX6_readShelf_0 := by decide +kernel
theorem dksX6_readShelf_1 : cX6_readShelf.data.toList.drop 22 = dktX6_readShelf_1 := dk_seg dksX6_readShelf_0 22 rfl rfl
theorem dksX6_readShelf_2 : cX6_readShelf.data.toList.drop 46 = dktX6_readShelf_2 := dk_seg dksX6_readShelf_1 24 rfl rfl
theorem dksX6_readShelf_3 : cX6_readShelf.data.toList.drop 70 = dktX6_readShelf_3 := dk_seg dksX6_readShelf_2 24 rfl rfl
theorem dksX6_readShelf_4 : cX6_readShelf.data.toList.drop 94 = dktX6_readShelf_4 := dk_seg dksX6_readShelf_3 24 rfl rfl
theorem dX6_readShelf_0 : decode cX6_readShelf 0 = .ok (.aload_n 0, 1) := dk_42 (dk_at dksX6_readShelf_0 0 rfl rfl)
theorem dX6_readShelf_1 : decode cX6_readShelf 1 = .ok (.getfield 13, 3) := dk_180 0 13 (dk_at dksX6_readShelf_0 1 rfl rfl)
theorem dX6_readShelf_4 : decode cX6_readShelf 4 = .ok (.iconst 0, 1) := dk_3 (dk_at dksX6_readShelf_0 4 rfl rfl)
theorem dX6_readShelf_5 : decode cX6_readShelf 5 = .ok (.iconst 3, 1) := dk_6 (dk_at dksX6_readShelf_0 5 rfl rfl)
theorem dX6_readShelf_6 : decode cX6_readShelf 6 = .ok (.iastore, 1) := dk_79 (dk_at dksX6_readShelf_0 6 rfl rfl)
theorem dX6_readShelf_7 : decode cX6_readShelf 7 = .ok (.aload_n 0, 1) := dk_42 (dk_at dksX6_readShelf_0 7 rfl rfl)
theorem dX6_readShelf_8 : decode cX6_readShelf 8 = .ok (.getfield 13, 3) := dk_180 0 13 (dk_at dksX6_readShelf_0 8 rfl rfl)
theorem dX6_readShelf_11 : decode cX6_readShelf 11 = .ok (.iconst 1, 1) := dk_4 (dk_at dksX6_readShelf_0 11 rfl rfl)
theorem dX6_readShelf_12 : decode cX6_readShelf 12 = .ok (.iconst 4, 1) := dk_7 (dk_at dksX6_readShelf_0 12 rfl rfl)
theorem dX6_readShelf_13 : decode cX6_readShelf 13 = .ok (.iastore, 1) := dk_79 (dk_at dksX6_readShelf_0 13 rfl rfl)
theorem dX6_readShelf_14 : decode cX6_readShelf 14 = .ok (.aload_n 0, 1) := dk_42 (dk_at dksX6_readShelf_0 14 rfl rfl)
theorem dX6_readShelf_15 : decode cX6_readShelf 15 = .ok (.getfield 13, 3) := dk_180 0 13 (dk_at dksX6_readShelf_0 15 rfl rfl)
theorem dX6_readShelf_18 : decode cX6_readShelf 18 = .ok (.iconst 2, 1) := dk_5 (dk_at dksX6_readShelf_0 18 rfl rfl)
theorem dX6_readShelf_19 : decode cX6_readShelf 19 = .ok (.iconst 2, 1) := dk_5 (dk_at dksX6_readShelf_0 19 rfl rfl)
theorem dX6_readShelf_20 : decode cX6_readShelf 20 = .ok (.iastore, 1) := dk_79 (dk_at dksX6_readShelf_0 20 rfl rfl)
theorem dX6_readShelf_21 : decode cX6_readShelf 21 = .ok (.aload_n 0, 1) := dk_42 (dk_at dksX6_readShelf_0 21 rfl rfl)
theorem dX6_readShelf_22 : decode cX6_readShelf 22 = .ok (.getfield 13, 3) := dk_180 0 13 (dk_at dksX6_readShelf_1 0 rfl rfl)
theorem dX6_readShelf_25 : decode cX6_readShelf 25 = .ok (.iconst 3, 1) := dk_6 (dk_at dksX6_readShelf_1 3 rfl rfl)
theorem dX6_readShelf_26 : decode cX6_readShelf 26 = .ok (.iconst 0, 1) := dk_3 (dk_at dksX6_readShelf_1 4 rfl rfl)
theorem dX6_readShelf_27 : decode cX6_readShelf 27 = .ok (.iastore, 1) := dk_79 (dk_at dksX6_readShelf_1 5 rfl rfl)
theorem dX6_readShelf_28 : decode cX6_readShelf 28 = .ok (.aload_n 0, 1) := dk_42 (dk_at dksX6_readShelf_1 6 rfl rfl)
theorem dX6_readShelf_29 : decode cX6_readShelf 29 = .ok (.getfield 13, 3) := dk_180 0 13 (dk_at dksX6_readShelf_1 7 rfl rfl)
theorem dX6_readShelf_32 : decode cX6_readShelf 32 = .ok (.iconst 4, 1) := dk_7 (dk_at dksX6_readShelf_1 10 rfl rfl)
theorem dX6_readShelf_33 : decode cX6_readShelf 33 = .ok (.iconst 1, 1) := dk_4 (dk_at dksX6_readShelf_1 11 rfl rfl)
theorem dX6_readShelf_34 : decode cX6_readShelf 34 = .ok (.iastore, 1) := dk_79 (dk_at dksX6_readShelf_1 12 rfl rfl)
theorem dX6_readShelf_35 : decode cX6_readShelf 35 = .ok (.aload_n 0, 1) := dk_42 (dk_at dksX6_readShelf_1 13 rfl rfl)
theorem dX6_readShelf_36 : decode cX6_readShelf 36 = .ok (.iconst 0, 1) := dk_3 (dk_at dksX6_readShelf_1 14 rfl rfl)
theorem dX6_readShelf_37 : decode cX6_readShelf 37 = .ok (.putfield 121, 3) := dk_181 0 121 (dk_at dksX6_readShelf_1 15 rfl rfl)
theorem dX6_readShelf_40 : decode cX6_readShelf 40 = .ok (.aload_n 0, 1) := dk_42 (dk_at dksX6_readShelf_1 18 rfl rfl)
theorem dX6_readShelf_41 : decode cX6_readShelf 41 = .ok (.iconst 0, 1) := dk_3 (dk_at dksX6_readShelf_1 19 rfl rfl)
theorem dX6_readShelf_42 : decode cX6_readShelf 42 = .ok (.invokevirtual 132, 3) := dk_182 0 132 (dk_at dksX6_readShelf_1 20 rfl rfl)
theorem dX6_readShelf_45 : decode cX6_readShelf 45 = .ok (.istore_n 1, 1) := dk_60 (dk_at dksX6_readShelf_1 23 rfl rfl)
theorem dX6_readShelf_46 : decode cX6_readShelf 46 = .ok (.aload_n 0, 1) := dk_42 (dk_at dksX6_readShelf_2 0 rfl rfl)
theorem dX6_readShelf_47 : decode cX6_readShelf 47 = .ok (.getfield 79, 3) := dk_180 0 79 (dk_at dksX6_readShelf_2 1 rfl rfl)
theorem dX6_readShelf_50 : decode cX6_readShelf 50 = .ok (.iconst (-1), 1) := dk_2 (dk_at dksX6_readShelf_2 4 rfl rfl)
theorem dX6_readShelf_51 : decode cX6_readShelf 51 = .ok (.if_icmp .ne 31, 3) := dk_160 0 31 (dk_at dksX6_readShelf_2 5 rfl rfl)
theorem dX6_readShelf_54 : decode cX6_readShelf 54 = .ok (.aload_n 0, 1) := dk_42 (dk_at dksX6_readShelf_2 8 rfl rfl)
theorem dX6_readShelf_55 : decode cX6_readShelf 55 = .ok (.invokevirtual 82, 3) := dk_182 0 82 (dk_at dksX6_readShelf_2 9 rfl rfl)
theorem dX6_readShelf_58 : decode cX6_readShelf 58 = .ok (.bipush 59, 2) := dk_16 59 (dk_at dksX6_readShelf_2 12 rfl rfl)
theorem dX6_readShelf_60 : decode cX6_readShelf 60 = .ok (.if_icmp .ne 22, 3) := dk_160 0 22 (dk_at dksX6_readShelf_2 14 rfl rfl)
theorem dX6_readShelf_63 : decode cX6_readShelf 63 = .ok (.aload_n 0, 1) := dk_42 (dk_at dksX6_readShelf_2 17 rfl rfl)
theorem dX6_readShelf_64 : decode cX6_readShelf 64 = .ok (.dup, 1) := dk_89 (dk_at dksX6_readShelf_2 18 rfl rfl)
theorem dX6_readShelf_65 : decode cX6_readShelf 65 = .ok (.getfield 72, 3) := dk_180 0 72 (dk_at dksX6_readShelf_2 19 rfl rfl)
theorem dX6_readShelf_68 : decode cX6_readShelf 68 = .ok (.iconst 1, 1) := dk_4 (dk_at dksX6_readShelf_2 22 rfl rfl)
theorem dX6_readShelf_69 : decode cX6_readShelf 69 = .ok (.iadd, 1) := dk_96 (dk_at dksX6_readShelf_2 23 rfl rfl)
theorem dX6_readShelf_70 : decode cX6_readShelf 70 = .ok (.putfield 72, 3) := dk_181 0 72 (dk_at dksX6_readShelf_3 0 rfl rfl)
theorem dX6_readShelf_73 : decode cX6_readShelf 73 = .ok (.aload_n 0, 1) := dk_42 (dk_at dksX6_readShelf_3 3 rfl rfl)
theorem dX6_readShelf_74 : decode cX6_readShelf 74 = .ok (.iload_n 1, 1) := dk_27 (dk_at dksX6_readShelf_3 4 rfl rfl)
theorem dX6_readShelf_75 : decode cX6_readShelf 75 = .ok (.invokevirtual 132, 3) := dk_182 0 132 (dk_at dksX6_readShelf_3 5 rfl rfl)
theorem dX6_readShelf_78 : decode cX6_readShelf 78 = .ok (.istore_n 1, 1) := dk_60 (dk_at dksX6_readShelf_3 8 rfl rfl)
theorem dX6_readShelf_79 : decode cX6_readShelf 79 = .ok (.goto (-33), 3) := dk_167 255 223 (dk_at dksX6_readShelf_3 9 rfl rfl)
theorem dX6_readShelf_82 : decode cX6_readShelf 82 = .ok (.aload_n 0, 1) := dk_42 (dk_at dksX6_readShelf_3 12 rfl rfl)
theorem dX6_readShelf_83 : decode cX6_readShelf 83 = .ok (.getfield 79, 3) := dk_180 0 79 (dk_at dksX6_readShelf_3 13 rfl rfl)
theorem dX6_readShelf_86 : decode cX6_readShelf 86 = .ok (.iconst (-1), 1) := dk_2 (dk_at dksX6_readShelf_3 16 rfl rfl)
theorem dX6_readShelf_87 : decode cX6_readShelf 87 = .ok (.if_icmp .ne 15, 3) := dk_160 0 15 (dk_at dksX6_readShelf_3 17 rfl rfl)
theorem dX6_readShelf_90 : decode cX6_readShelf 90 = .ok (.aload_n 0, 1) := dk_42 (dk_at dksX6_readShelf_3 20 rfl rfl)
theorem dX6_readShelf_91 : decode cX6_readShelf 91 = .ok (.invokevirtual 82, 3) := dk_182 0 82 (dk_at dksX6_readShelf_3 21 rfl rfl)
theorem dX6_readShelf_94 : decode cX6_readShelf 94 = .ok (.iconst (-1), 1) := dk_2 (dk_at dksX6_readShelf_4 0 rfl rfl)
theorem dX6_readShelf_95 : decode cX6_readShelf 95 = .ok (.if_icmp .eq 7, 3) := dk_159 0 7 (dk_at dksX6_readShelf_4 1 rfl rfl)
theorem dX6_readShelf_98 : decode cX6_readShelf 98 = .ok (.aload_n 0, 1) := dk_42 (dk_at dksX6_readShelf_4 4 rfl rfl)
theorem dX6_readShelf_99 : decode cX6_readShelf 99 = .ok (.invokevirtual 89, 3) := dk_182 0 89 (dk_at dksX6_readShelf_4 5 rfl rfl)
theorem dX6_readShelf_102 : decode cX6_readShelf 102 = .ok (.return_, 1) := dk_177 (dk_at dksX6_readShelf_4 8 rfl rfl)
abbrev cX6_clause : ByteArray := prog_12_method_18_code
def yX6_clause : MethodName := ⟨RX6, "clause", "(Z)Z"⟩
def dkwX6_clause_5 : List UInt8 := [180, 0, 20, 5, 42, 180, 0, 121, 104, 5, 100, 18, 130, 182, 0, 126, 27, 172]
abbrev dktX6_clause_5 : List UInt8 := dkwX6_clause_5 ++ []
def dkwX6_clause_4 : List UInt8 := [5, 42, 180, 0, 121, 104, 4, 96, 4, 79, 42, 89, 180, 0, 121, 4, 96, 181, 0, 121, 42, 42]
abbrev dktX6_clause_4 : List UInt8 := dkwX6_clause_4 ++ dktX6_clause_5
def dkwX6_clause_3 : List UInt8 := [3, 18, 124, 182, 0, 126, 4, 172, 42, 180, 0, 20, 5, 42, 180, 0, 121, 104, 3, 79, 42, 180, 0, 20]
abbrev dktX6_clause_3 : List UInt8 := dkwX6_clause_3 ++ dktX6_clause_4
def dkwX6_clause_2 : List UInt8 := [182, 0, 89, 27, 172, 42, 89, 180, 0, 72, 4, 96, 181, 0, 72, 28, 153, 0, 16, 42, 42, 180, 0, 13]
abbrev dktX6_clause_2 : List UInt8 := dkwX6_clause_2 ++ dktX6_clause_3
def dkwX6_clause_1 : List UInt8 := [167, 0, 21, 42, 182, 0, 82, 16, 118, 160, 0, 12, 42, 180, 0, 121, 16, 16, 160, 0, 9, 42]
abbrev dktX6_clause_1 : List UInt8 := dkwX6_clause_1 ++ dktX6_clause_2
def dkwX6_clause_0 : List UInt8 := [42, 182, 0, 82, 16, 115, 160, 0, 7, 4, 167, 0, 4, 3, 61, 28, 153, 0, 10, 27, 153, 0, 30]
abbrev dktX6_clause_0 : List UInt8 := dkwX6_clause_0 ++ dktX6_clause_1
theorem dksX6_clause_0 : cX6_clause.data.toList.drop 0 = dktX6_clause_0 := by decide +kernel
theorem dksX6_clause_1 : cX6_clause.data.toList.drop 23 = dktX6_clause_1 := dk_seg dksX6_clause_0 23 rfl rfl
theorem dksX6_clause_2 : cX6_clause.data.toList.drop 45 = dktX6_clause_2 := dk_seg dksX6_clause_1 22 rfl rfl
theorem dksX6_clause_3 : cX6_clause.data.toList.drop 69 = dktX6_clause_3 := dk_seg dksX6_clause_2 24 rfl rfl
theorem dksX6_clause_4 : cX6_clause.data.toList.drop 93 = dktX6_clause_4 := dk_seg dksX6_clause_3 24 rfl rfl
theorem dksX6_clause_5 : cX6_clause.data.toList.drop 115 = dktX6_clause_5 := dk_seg dksX6_clause_4 22 rfl rfl
theorem dX6_clause_0 : decode cX6_clause 0 = .ok (.aload_n 0, 1) := dk_42 (dk_at dksX6_clause_0 0 rfl rfl)
theorem dX6_clause_1 : decode cX6_clause 1 = .ok (.invokevirtual 82, 3) := dk_182 0 82 (dk_at dksX6_clause_0 1 rfl rfl)
theorem dX6_clause_4 : decode cX6_clause 4 = .ok (.bipush 115, 2) := dk_16 115 (dk_at dksX6_clause_0 4 rfl rfl)
theorem dX6_clause_6 : decode cX6_clause 6 = .ok (.if_icmp .ne 7, 3) := dk_160 0 7 (dk_at dksX6_clause_0 6 rfl rfl)
theorem dX6_clause_9 : decode cX6_clause 9 = .ok (.iconst 1, 1) := dk_4 (dk_at dksX6_clause_0 9 rfl rfl)
theorem dX6_clause_10 : decode cX6_clause 10 = .ok (.goto 4, 3) := dk_167 0 4 (dk_at dksX6_clause_0 10 rfl rfl)
theorem dX6_clause_13 : decode cX6_clause 13 = .ok (.iconst 0, 1) := dk_3 (dk_at dksX6_clause_0 13 rfl rfl)
theorem dX6_clause_14 : decode cX6_clause 14 = .ok (.istore_n 2, 1) := dk_61 (dk_at dksX6_clause_0 14 rfl rfl)
theorem dX6_clause_15 : decode cX6_clause 15 = .ok (.iload_n 2, 1) := dk_28 (dk_at dksX6_clause_0 15 rfl rfl)
theorem dX6_clause_16 : decode cX6_clause 16 = .ok (.ifCond .eq 10, 3) := dk_153 0 10 (dk_at dksX6_clause_0 16 rfl rfl)
theorem dX6_clause_19 : decode cX6_clause 19 = .ok (.iload_n 1, 1) := dk_27 (dk_at dksX6_clause_0 19 rfl rfl)
theorem dX6_clause_20 : decode cX6_clause 20 = .ok (.ifCond .eq 30, 3) := dk_153 0 30 (dk_at dksX6_clause_0 20 rfl rfl)
theorem dX6_clause_23 : decode cX6_clause 23 = .ok (.goto 21, 3) := dk_167 0 21 (dk_at dksX6_clause_1 0 rfl rfl)
theorem dX6_clause_26 : decode cX6_clause 26 = .ok (.aload_n 0, 1) := dk_42 (dk_at dksX6_clause_1 3 rfl rfl)
theorem dX6_clause_27 : decode cX6_clause 27 = .ok (.invokevirtual 82, 3) := dk_182 0 82 (dk_at dksX6_clause_1 4 rfl rfl)
theorem dX6_clause_30 : decode cX6_clause 30 = .ok (.bipush 118, 2) := dk_16 118 (dk_at dksX6_clause_1 7 rfl rfl)
theorem dX6_clause_32 : decode cX6_clause 32 = .ok (.if_icmp .ne 12, 3) := dk_160 0 12 (dk_at dksX6_clause_1 9 rfl rfl)
theorem dX6_clause_35 : decode cX6_clause 35 = .ok (.aload_n 0, 1) := dk_42 (dk_at dksX6_clause_1 12 rfl rfl)
theorem dX6_clause_36 : decode cX6_clause 36 = .ok (.getfield 121, 3) := dk_180 0 121 (dk_at dksX6_clause_1 13 rfl rfl)
theorem dX6_clause_39 : decode cX6_clause 39 = .ok (.bipush 16, 2) := dk_16 16 (dk_at dksX6_clause_1 16 rfl rfl)
theorem dX6_clause_41 : decode cX6_clause 41 = .ok (.if_icmp .ne 9, 3) := dk_160 0 9 (dk_at dksX6_clause_1 18 rfl rfl)
theorem dX6_clause_44 : decode cX6_clause 44 = .ok (.aload_n 0, 1) := dk_42 (dk_at dksX6_clause_1 21 rfl rfl)
theorem dX6_clause_45 : decode cX6_clause 45 = .ok (.invokevirtual 89, 3) := dk_182 0 89 (dk_at dksX6_clause_2 0 rfl rfl)
theorem dX6_clause_48 : decode cX6_clause 48 = .ok (.iload_n 1, 1) := dk_27 (dk_at dksX6_clause_2 3 rfl rfl)
theorem dX6_clause_49 : decode cX6_clause 49 = .ok (.ireturn, 1) := dk_172 (dk_at dksX6_clause_2 4 rfl rfl)
theorem dX6_clause_50 : decode cX6_clause 50 = .ok (.aload_n 0, 1) := dk_42 (dk_at dksX6_clause_2 5 rfl rfl)
theorem dX6_clause_51 : decode cX6_clause 51 = .ok (.dup, 1) := dk_89 (dk_at dksX6_clause_2 6 rfl rfl)
theorem dX6_clause_52 : decode cX6_clause 52 = .ok (.getfield 72, 3) := dk_180 0 72 (dk_at dksX6_clause_2 7 rfl rfl)
theorem dX6_clause_55 : decode cX6_clause 55 = .ok (.iconst 1, 1) := dk_4 (dk_at dksX6_clause_2 10 rfl rfl)
theorem dX6_clause_56 : decode cX6_clause 56 = .ok (.iadd, 1) := dk_96 (dk_at dksX6_clause_2 11 rfl rfl)
theorem dX6_clause_57 : decode cX6_clause 57 = .ok (.putfield 72, 3) := dk_181 0 72 (dk_at dksX6_clause_2 12 rfl rfl)
theorem dX6_clause_60 : decode cX6_clause 60 = .ok (.iload_n 2, 1) := dk_28 (dk_at dksX6_clause_2 15 rfl rfl)
theorem dX6_clause_61 : decode cX6_clause 61 = .ok (.ifCond .eq 16, 3) := dk_153 0 16 (dk_at dksX6_clause_2 16 rfl rfl)
theorem dX6_clause_64 : decode cX6_clause 64 = .ok (.aload_n 0, 1) := dk_42 (dk_at dksX6_clause_2 19 rfl rfl)
theorem dX6_clause_65 : decode cX6_clause 65 = .ok (.aload_n 0, 1) := dk_42 (dk_at dksX6_clause_2 20 rfl rfl)
theorem dX6_clause_66 : decode cX6_clause 66 = .ok (.getfield 13, 3) := dk_180 0 13 (dk_at dksX6_clause_2 21 rfl rfl)
theorem dX6_clause_69 : decode cX6_clause 69 = .ok (.iconst 0, 1) := dk_3 (dk_at dksX6_clause_3 0 rfl rfl)
theorem dX6_clause_70 : decode cX6_clause 70 = .ok (.ldc 124, 2) := dk_18 124 (dk_at dksX6_clause_3 1 rfl rfl)
theorem dX6_clause_72 : decode cX6_clause 72 = .ok (.invokevirtual 126, 3) := dk_182 0 126 (dk_at dksX6_clause_3 3 rfl rfl)
theorem dX6_clause_75 : decode cX6_clause 75 = .ok (.iconst 1, 1) := dk_4 (dk_at dksX6_clause_3 6 rfl rfl)
theorem dX6_clause_76 : decode cX6_clause 76 = .ok (.ireturn, 1) := dk_172 (dk_at dksX6_clause_3 7 rfl rfl)
theorem dX6_clause_77 : decode cX6_clause 77 = .ok (.aload_n 0, 1) := dk_42 (dk_at dksX6_clause_3 8 rfl rfl)
theorem dX6_clause_78 : decode cX6_clause 78 = .ok (.getfield 20, 3) := dk_180 0 20 (dk_at dksX6_clause_3 9 rfl rfl)
theorem dX6_clause_81 : decode cX6_clause 81 = .ok (.iconst 2, 1) := dk_5 (dk_at dksX6_clause_3 12 rfl rfl)
theorem dX6_clause_82 : decode cX6_clause 82 = .ok (.aload_n 0, 1) := dk_42 (dk_at dksX6_clause_3 13 rfl rfl)
theorem dX6_clause_83 : decode cX6_clause 83 = .ok (.getfield 121, 3) := dk_180 0 121 (dk_at dksX6_clause_3 14 rfl rfl)
theorem dX6_clause_86 : decode cX6_clause 86 = .ok (.imul, 1) := dk_104 (dk_at dksX6_clause_3 17 rfl rfl)
theorem dX6_clause_87 : decode cX6_clause 87 = .ok (.iconst 0, 1) := dk_3 (dk_at dksX6_clause_3 18 rfl rfl)
theorem dX6_clause_88 : decode cX6_clause 88 = .ok (.iastore, 1) := dk_79 (dk_at dksX6_clause_3 19 rfl rfl)
theorem dX6_clause_89 : decode cX6_clause 89 = .ok (.aload_n 0, 1) := dk_42 (dk_at dksX6_clause_3 20 rfl rfl)
theorem dX6_clause_90 : decode cX6_clause 90 = .ok (.getfield 20, 3) := dk_180 0 20 (dk_at dksX6_clause_3 21 rfl rfl)
theorem dX6_clause_93 : decode cX6_clause 93 = .ok (.iconst 2, 1) := dk_5 (dk_at dksX6_clause_4 0 rfl rfl)
theorem dX6_clause_94 : decode cX6_clause 94 = .ok (.aload_n 0, 1) := dk_42 (dk_at dksX6_clause_4 1 rfl rfl)
theorem dX6_clause_95 : decode cX6_clause 95 = .ok (.getfield 121, 3) := dk_180 0 121 (dk_at dksX6_clause_4 2 rfl rfl)
theorem dX6_clause_98 : decode cX6_clause 98 = .ok (.imul, 1) := dk_104 (dk_at dksX6_clause_4 5 rfl rfl)
theorem dX6_clause_99 : decode cX6_clause 99 = .ok (.iconst 1, 1) := dk_4 (dk_at dksX6_clause_4 6 rfl rfl)
theorem dX6_clause_100 : decode cX6_clause 100 = .ok (.iadd, 1) := dk_96 (dk_at dksX6_clause_4 7 rfl rfl)
theorem dX6_clause_101 : decode cX6_clause 101 = .ok (.iconst 1, 1) := dk_4 (dk_at dksX6_clause_4 8 rfl rfl)
theorem dX6_clause_102 : decode cX6_clause 102 = .ok (.iastore, 1) := dk_79 (dk_at dksX6_clause_4 9 rfl rfl)
theorem dX6_clause_103 : decode cX6_clause 103 = .ok (.aload_n 0, 1) := dk_42 (dk_at dksX6_clause_4 10 rfl rfl)
theorem dX6_clause_104 : decode cX6_clause 104 = .ok (.dup, 1) := dk_89 (dk_at dksX6_clause_4 11 rfl rfl)
theorem dX6_clause_105 : decode cX6_clause 105 = .ok (.getfield 121, 3) := dk_180 0 121 (dk_at dksX6_clause_4 12 rfl rfl)
theorem dX6_clause_108 : decode cX6_clause 108 = .ok (.iconst 1, 1) := dk_4 (dk_at dksX6_clause_4 15 rfl rfl)
theorem dX6_clause_109 : decode cX6_clause 109 = .ok (.iadd, 1) := dk_96 (dk_at dksX6_clause_4 16 rfl rfl)
theorem dX6_clause_110 : decode cX6_clause 110 = .ok (.putfield 121, 3) := dk_181 0 121 (dk_at dksX6_clause_4 17 rfl rfl)
theorem dX6_clause_113 : decode cX6_clause 113 = .ok (.aload_n 0, 1) := dk_42 (dk_at dksX6_clause_4 20 rfl rfl)
theorem dX6_clause_114 : decode cX6_clause 114 = .ok (.aload_n 0, 1) := dk_42 (dk_at dksX6_clause_4 21 rfl rfl)
theorem dX6_clause_115 : decode cX6_clause 115 = .ok (.getfield 20, 3) := dk_180 0 20 (dk_at dksX6_clause_5 0 rfl rfl)
theorem dX6_clause_118 : decode cX6_clause 118 = .ok (.iconst 2, 1) := dk_5 (dk_at dksX6_clause_5 3 rfl rfl)
theorem dX6_clause_119 : decode cX6_clause 119 = .ok (.aload_n 0, 1) := dk_42 (dk_at dksX6_clause_5 4 rfl rfl)
theorem dX6_clause_120 : decode cX6_clause 120 = .ok (.getfield 121, 3) := dk_180 0 121 (dk_at dksX6_clause_5 5 rfl rfl)
theorem dX6_clause_123 : decode cX6_clause 123 = .ok (.imul, 1) := dk_104 (dk_at dksX6_clause_5 8 rfl rfl)
theorem dX6_clause_124 : decode cX6_clause 124 = .ok (.iconst 2, 1) := dk_5 (dk_at dksX6_clause_5 9 rfl rfl)
theorem dX6_clause_125 : decode cX6_clause 125 = .ok (.isub, 1) := dk_100 (dk_at dksX6_clause_5 10 rfl rfl)
theorem dX6_clause_126 : decode cX6_clause 126 = .ok (.ldc 130, 2) := dk_18 130 (dk_at dksX6_clause_5 11 rfl rfl)
theorem dX6_clause_128 : decode cX6_clause 128 = .ok (.invokevirtual 126, 3) := dk_182 0 126 (dk_at dksX6_clause_5 13 rfl rfl)
theorem dX6_clause_131 : decode cX6_clause 131 = .ok (.iload_n 1, 1) := dk_27 (dk_at dksX6_clause_5 16 rfl rfl)
theorem dX6_clause_132 : decode cX6_clause 132 = .ok (.ireturn, 1) := dk_172 (dk_at dksX6_clause_5 17 rfl rfl)
abbrev cX6_look : ByteArray := prog_12_method_9_code
def yX6_look : MethodName := ⟨RX6, "look", "()I"⟩
def dkwX6_look_1 : List UInt8 := [182, 0, 75, 172]
abbrev dktX6_look_1 : List UInt8 := dkwX6_look_1 ++ []
def dkwX6_look_0 : List UInt8 := [42, 182, 0, 75, 16, 32, 160, 0, 16, 42, 89, 180, 0, 72, 4, 96, 181, 0, 72, 167, 255, 237, 42]
abbrev dktX6_look_0 : List UInt8 := dkwX6_look_0 ++ dktX6_look_1
theorem dksX6_look_0 : cX6_look.data.toList.drop 0 = dktX6_look_0 := by decide +kernel
theorem dksX6_look_1 : cX6_look.data.toList.drop 23 = dktX6_look_1 := dk_seg dksX6_look_0 23 rfl rfl
theorem dX6_look_0 : decode cX6_look 0 = .ok (.aload_n 0, 1) := dk_42 (dk_at dksX6_look_0 0 rfl rfl)
theorem dX6_look_1 : decode cX6_look 1 = .ok (.invokevirtual 75, 3) := dk_182 0 75 (dk_at dksX6_look_0 1 rfl rfl)
theorem dX6_look_4 : decode cX6_look 4 = .ok (.bipush 32, 2) := dk_16 32 (dk_at dksX6_look_0 4 rfl rfl)
theorem dX6_look_6 : decode cX6_look 6 = .ok (.if_icmp .ne 16, 3) := dk_160 0 16 (dk_at dksX6_look_0 6 rfl rfl)
theorem dX6_look_9 : decode cX6_look 9 = .ok (.aload_n 0, 1) := dk_42 (dk_at dksX6_look_0 9 rfl rfl)
theorem dX6_look_10 : decode cX6_look 10 = .ok (.dup, 1) := dk_89 (dk_at dksX6_look_0 10 rfl rfl)
theorem dX6_look_11 : decode cX6_look 11 = .ok (.getfield 72, 3) := dk_180 0 72 (dk_at dksX6_look_0 11 rfl rfl)
theorem dX6_look_14 : decode cX6_look 14 = .ok (.iconst 1, 1) := dk_4 (dk_at dksX6_look_0 14 rfl rfl)
theorem dX6_look_15 : decode cX6_look 15 = .ok (.iadd, 1) := dk_96 (dk_at dksX6_look_0 15 rfl rfl)
theorem dX6_look_16 : decode cX6_look 16 = .ok (.putfield 72, 3) := dk_181 0 72 (dk_at dksX6_look_0 16 rfl rfl)
theorem dX6_look_19 : decode cX6_look 19 = .ok (.goto (-19), 3) := dk_167 255 237 (dk_at dksX6_look_0 19 rfl rfl)
theorem dX6_look_22 : decode cX6_look 22 = .ok (.aload_n 0, 1) := dk_42 (dk_at dksX6_look_0 22 rfl rfl)
theorem dX6_look_23 : decode cX6_look 23 = .ok (.invokevirtual 75, 3) := dk_182 0 75 (dk_at dksX6_look_1 0 rfl rfl)
theorem dX6_look_26 : decode cX6_look 26 = .ok (.ireturn, 1) := dk_172 (dk_at dksX6_look_1 3 rfl rfl)
abbrev cX6_here : ByteArray := prog_12_method_8_code
def yX6_here : MethodName := ⟨RX6, "here", "()I"⟩
def dkwX6_here_1 : List UInt8 := [167, 0, 4, 2, 172]
abbrev dktX6_here_1 : List UInt8 := dkwX6_here_1 ++ []
def dkwX6_here_0 : List UInt8 := [42, 180, 0, 72, 42, 180, 0, 61, 162, 0, 19, 42, 180, 0, 9, 42, 180, 0, 72, 51, 17, 0, 255, 126]
abbrev dktX6_here_0 : List UInt8 := dkwX6_here_0 ++ dktX6_here_1
theorem dksX6_here_0 : cX6_here.data.toList.drop 0 = dktX6_here_0 := by decide +kernel
theorem dksX6_here_1 : cX6_here.data.toList.drop 24 = dktX6_here_1 := dk_seg dksX6_here_0 24 rfl rfl
theorem dX6_here_0 : decode cX6_here 0 = .ok (.aload_n 0, 1) := dk_42 (dk_at dksX6_here_0 0 rfl rfl)
theorem dX6_here_1 : decode cX6_here 1 = .ok (.getfield 72, 3) := dk_180 0 72 (dk_at dksX6_here_0 1 rfl rfl)
theorem dX6_here_4 : decode cX6_here 4 = .ok (.aload_n 0, 1) := dk_42 (dk_at dksX6_here_0 4 rfl rfl)
theorem dX6_here_5 : decode cX6_here 5 = .ok (.getfield 61, 3) := dk_180 0 61 (dk_at dksX6_here_0 5 rfl rfl)
theorem dX6_here_8 : decode cX6_here 8 = .ok (.if_icmp .ge 19, 3) := dk_162 0 19 (dk_at dksX6_here_0 8 rfl rfl)
theorem dX6_here_11 : decode cX6_here 11 = .ok (.aload_n 0, 1) := dk_42 (dk_at dksX6_here_0 11 rfl rfl)
theorem dX6_here_12 : decode cX6_here 12 = .ok (.getfield 9, 3) := dk_180 0 9 (dk_at dksX6_here_0 12 rfl rfl)
theorem dX6_here_15 : decode cX6_here 15 = .ok (.aload_n 0, 1) := dk_42 (dk_at dksX6_here_0 15 rfl rfl)
theorem dX6_here_16 : decode cX6_here 16 = .ok (.getfield 72, 3) := dk_180 0 72 (dk_at dksX6_here_0 16 rfl rfl)
theorem dX6_here_19 : decode cX6_here 19 = .ok (.baload, 1) := dk_51 (dk_at dksX6_here_0 19 rfl rfl)
theorem dX6_here_20 : decode cX6_here 20 = .ok (.sipush 255, 3) := dk_17 0 255 (dk_at dksX6_here_0 20 rfl rfl)
theorem dX6_here_23 : decode cX6_here 23 = .ok (.iand, 1) := dk_126 (dk_at dksX6_here_0 23 rfl rfl)
theorem dX6_here_24 : decode cX6_here 24 = .ok (.goto 4, 3) := dk_167 0 4 (dk_at dksX6_here_1 0 rfl rfl)
theorem dX6_here_27 : decode cX6_here 27 = .ok (.iconst (-1), 1) := dk_2 (dk_at dksX6_here_1 3 rfl rfl)
theorem dX6_here_28 : decode cX6_here 28 = .ok (.ireturn, 1) := dk_172 (dk_at dksX6_here_1 4 rfl rfl)
abbrev cX6_fails : ByteArray := prog_12_method_10_code
def yX6_fails : MethodName := ⟨RX6, "fails", "()V"⟩
def dkwX6_fails_0 : List UInt8 := [42, 180, 0, 79, 2, 160, 0, 11, 42, 42, 180, 0, 72, 181, 0, 79, 177]
abbrev dktX6_fails_0 : List UInt8 := dkwX6_fails_0 ++ []
theorem dksX6_fails_0 : cX6_fails.data.toList.drop 0 = dktX6_fails_0 := by decide +kernel
theorem dX6_fails_0 : decode cX6_fails 0 = .ok (.aload_n 0, 1) := dk_42 (dk_at dksX6_fails_0 0 rfl rfl)
theorem dX6_fails_1 : decode cX6_fails 1 = .ok (.getfield 79, 3) := dk_180 0 79 (dk_at dksX6_fails_0 1 rfl rfl)
theorem dX6_fails_4 : decode cX6_fails 4 = .ok (.iconst (-1), 1) := dk_2 (dk_at dksX6_fails_0 4 rfl rfl)
theorem dX6_fails_5 : decode cX6_fails 5 = .ok (.if_icmp .ne 11, 3) := dk_160 0 11 (dk_at dksX6_fails_0 5 rfl rfl)
theorem dX6_fails_8 : decode cX6_fails 8 = .ok (.aload_n 0, 1) := dk_42 (dk_at dksX6_fails_0 8 rfl rfl)
theorem dX6_fails_9 : decode cX6_fails 9 = .ok (.aload_n 0, 1) := dk_42 (dk_at dksX6_fails_0 9 rfl rfl)
theorem dX6_fails_10 : decode cX6_fails 10 = .ok (.getfield 72, 3) := dk_180 0 72 (dk_at dksX6_fails_0 10 rfl rfl)
theorem dX6_fails_13 : decode cX6_fails 13 = .ok (.putfield 79, 3) := dk_181 0 79 (dk_at dksX6_fails_0 13 rfl rfl)
theorem dX6_fails_16 : decode cX6_fails 16 = .ok (.return_, 1) := dk_177 (dk_at dksX6_fails_0 16 rfl rfl)
abbrev cX6_items : ByteArray := prog_12_method_17_code
def yX6_items : MethodName := ⟨RX6, "items", "([IILjava/lang/String;)V"⟩
def dkwX6_items_6 : List UInt8 := [167, 255, 142, 177]
abbrev dktX6_items_6 : List UInt8 := dkwX6_items_6 ++ []
def dkwX6_items_5 : List UInt8 := [89, 180, 0, 72, 4, 100, 181, 0, 72, 42, 182, 0, 89, 177, 45, 42, 182, 0, 82, 184, 0, 103, 54, 6]
abbrev dktX6_items_5 : List UInt8 := dkwX6_items_5 ++ dktX6_items_6
def dkwX6_items_4 : List UInt8 := [133, 21, 4, 21, 6, 184, 0, 110, 133, 21, 4, 21, 6, 184, 0, 114, 133, 184, 0, 117, 154, 0, 18, 42]
abbrev dktX6_items_4 : List UInt8 := dkwX6_items_4 ++ dktX6_items_5
def dkwX6_items_3 : List UInt8 := [28, 21, 6, 96, 42, 182, 0, 107, 79, 42, 180, 0, 79, 2, 159, 0, 4, 177, 43, 28, 21, 6, 96, 46]
abbrev dktX6_items_3 : List UInt8 := dkwX6_items_3 ++ dktX6_items_4
def dkwX6_items_2 : List UInt8 := [182, 0, 89, 177, 21, 5, 4, 21, 6, 120, 128, 54, 5, 42, 89, 180, 0, 72, 4, 96, 181, 0, 72, 43]
abbrev dktX6_items_2 : List UInt8 := dkwX6_items_2 ++ dktX6_items_3
def dkwX6_items_1 : List UInt8 := [184, 0, 103, 54, 6, 21, 6, 2, 159, 0, 114, 21, 5, 21, 6, 122, 4, 126, 4, 160, 0, 8, 42]
abbrev dktX6_items_1 : List UInt8 := dkwX6_items_1 ++ dktX6_items_2
def dkwX6_items_0 : List UInt8 := [45, 182, 0, 95, 8, 160, 0, 7, 4, 167, 0, 4, 3, 54, 4, 3, 54, 5, 45, 42, 182, 0, 82]
abbrev dktX6_items_0 : List UInt8 := dkwX6_items_0 ++ dktX6_items_1
theorem dksX6_items_0 : cX6_items.data.toList.drop 0 = dktX6_items_0 := by decide +kernel
theorem dksX6_items_1 : cX6_items.data.toList.drop 23 = dktX6_items_1 := dk_seg dksX6_items_0 23 rfl rfl
theorem dksX6_items_2 : cX6_items.data.toList.drop 46 = dktX6_items_2 := dk_seg dksX6_items_1 23 rfl rfl
theorem dksX6_items_3 : cX6_items.data.toList.drop 70 = dktX6_items_3 := dk_seg dksX6_items_2 24 rfl rfl
theorem dksX6_items_4 : cX6_items.data.toList.drop 94 = dktX6_items_4 := dk_seg dksX6_items_3 24 rfl rfl
theorem dksX6_items_5 : cX6_items.data.toList.drop 118 = dktX6_items_5 := dk_seg dksX6_items_4 24 rfl rfl
theorem dksX6_items_6 : cX6_items.data.toList.drop 142 = dktX6_items_6 := dk_seg dksX6_items_5 24 rfl rfl
theorem dX6_items_0 : decode cX6_items 0 = .ok (.aload_n 3, 1) := dk_45 (dk_at dksX6_items_0 0 rfl rfl)
theorem dX6_items_1 : decode cX6_items 1 = .ok (.invokevirtual 95, 3) := dk_182 0 95 (dk_at dksX6_items_0 1 rfl rfl)
theorem dX6_items_4 : decode cX6_items 4 = .ok (.iconst 5, 1) := dk_8 (dk_at dksX6_items_0 4 rfl rfl)
theorem dX6_items_5 : decode cX6_items 5 = .ok (.if_icmp .ne 7, 3) := dk_160 0 7 (dk_at dksX6_items_0 5 rfl rfl)
theorem dX6_items_8 : decode cX6_items 8 = .ok (.iconst 1, 1) := dk_4 (dk_at dksX6_items_0 8 rfl rfl)
theorem dX6_items_9 : decode cX6_items 9 = .ok (.goto 4, 3) := dk_167 0 4 (dk_at dksX6_items_0 9 rfl rfl)
theorem dX6_items_12 : decode cX6_items 12 = .ok (.iconst 0, 1) := dk_3 (dk_at dksX6_items_0 12 rfl rfl)
theorem dX6_items_13 : decode cX6_items 13 = .ok (.istore 4, 2) := dk_54 4 (dk_at dksX6_items_0 13 rfl rfl)
theorem dX6_items_15 : decode cX6_items 15 = .ok (.iconst 0, 1) := dk_3 (dk_at dksX6_items_0 15 rfl rfl)
theorem dX6_items_16 : decode cX6_items 16 = .ok (.istore 5, 2) := dk_54 5 (dk_at dksX6_items_0 16 rfl rfl)
theorem dX6_items_18 : decode cX6_items 18 = .ok (.aload_n 3, 1) := dk_45 (dk_at dksX6_items_0 18 rfl rfl)
theorem dX6_items_19 : decode cX6_items 19 = .ok (.aload_n 0, 1) := dk_42 (dk_at dksX6_items_0 19 rfl rfl)
theorem dX6_items_20 : decode cX6_items 20 = .ok (.invokevirtual 82, 3) := dk_182 0 82 (dk_at dksX6_items_0 20 rfl rfl)
theorem dX6_items_23 : decode cX6_items 23 = .ok (.invokestatic 103, 3) := dk_184 0 103 (dk_at dksX6_items_1 0 rfl rfl)
theorem dX6_items_26 : decode cX6_items 26 = .ok (.istore 6, 2) := dk_54 6 (dk_at dksX6_items_1 3 rfl rfl)
theorem dX6_items_28 : decode cX6_items 28 = .ok (.iload 6, 2) := dk_21 6 (dk_at dksX6_items_1 5 rfl rfl)
theorem dX6_items_30 : decode cX6_items 30 = .ok (.iconst (-1), 1) := dk_2 (dk_at dksX6_items_1 7 rfl rfl)
theorem dX6_items_31 : decode cX6_items 31 = .ok (.if_icmp .eq 114, 3) := dk_159 0 114 (dk_at dksX6_items_1 8 rfl rfl)
theorem dX6_items_34 : decode cX6_items 34 = .ok (.iload 5, 2) := dk_21 5 (dk_at dksX6_items_1 11 rfl rfl)
theorem dX6_items_36 : decode cX6_items 36 = .ok (.iload 6, 2) := dk_21 6 (dk_at dksX6_items_1 13 rfl rfl)
theorem dX6_items_38 : decode cX6_items 38 = .ok (.ishr, 1) := dk_122 (dk_at dksX6_items_1 15 rfl rfl)
theorem dX6_items_39 : decode cX6_items 39 = .ok (.iconst 1, 1) := dk_4 (dk_at dksX6_items_1 16 rfl rfl)
theorem dX6_items_40 : decode cX6_items 40 = .ok (.iand, 1) := dk_126 (dk_at dksX6_items_1 17 rfl rfl)
theorem dX6_items_41 : decode cX6_items 41 = .ok (.iconst 1, 1) := dk_4 (dk_at dksX6_items_1 18 rfl rfl)
theorem dX6_items_42 : decode cX6_items 42 = .ok (.if_icmp .ne 8, 3) := dk_160 0 8 (dk_at dksX6_items_1 19 rfl rfl)
theorem dX6_items_45 : decode cX6_items 45 = .ok (.aload_n 0, 1) := dk_42 (dk_at dksX6_items_1 22 rfl rfl)
theorem dX6_items_46 : decode cX6_items 46 = .ok (.invokevirtual 89, 3) := dk_182 0 89 (dk_at dksX6_items_2 0 rfl rfl)
theorem dX6_items_49 : decode cX6_items 49 = .ok (.return_, 1) := dk_177 (dk_at dksX6_items_2 3 rfl rfl)
theorem dX6_items_50 : decode cX6_items 50 = .ok (.iload 5, 2) := dk_21 5 (dk_at dksX6_items_2 4 rfl rfl)
theorem dX6_items_52 : decode cX6_items 52 = .ok (.iconst 1, 1) := dk_4 (dk_at dksX6_items_2 6 rfl rfl)
theorem dX6_items_53 : decode cX6_items 53 = .ok (.iload 6, 2) := dk_21 6 (dk_at dksX6_items_2 7 rfl rfl)
theorem dX6_items_55 : decode cX6_items 55 = .ok (.ishl, 1) := dk_120 (dk_at dksX6_items_2 9 rfl rfl)
theorem dX6_items_56 : decode cX6_items 56 = .ok (.ior, 1) := dk_128 (dk_at dksX6_items_2 10 rfl rfl)
theorem dX6_items_57 : decode cX6_items 57 = .ok (.istore 5, 2) := dk_54 5 (dk_at dksX6_items_2 11 rfl rfl)
theorem dX6_items_59 : decode cX6_items 59 = .ok (.aload_n 0, 1) := dk_42 (dk_at dksX6_items_2 13 rfl rfl)
theorem dX6_items_60 : decode cX6_items 60 = .ok (.dup, 1) := dk_89 (dk_at dksX6_items_2 14 rfl rfl)
theorem dX6_items_61 : decode cX6_items 61 = .ok (.getfield 72, 3) := dk_180 0 72 (dk_at dksX6_items_2 15 rfl rfl)
theorem dX6_items_64 : decode cX6_items 64 = .ok (.iconst 1, 1) := dk_4 (dk_at dksX6_items_2 18 rfl rfl)
theorem dX6_items_65 : decode cX6_items 65 = .ok (.iadd, 1) := dk_96 (dk_at dksX6_items_2 19 rfl rfl)
theorem dX6_items_66 : decode cX6_items 66 = .ok (.putfield 72, 3) := dk_181 0 72 (dk_at dksX6_items_2 20 rfl rfl)
theorem dX6_items_69 : decode cX6_items 69 = .ok (.aload_n 1, 1) := dk_43 (dk_at dksX6_items_2 23 rfl rfl)
theorem dX6_items_70 : decode cX6_items 70 = .ok (.iload_n 2, 1) := dk_28 (dk_at dksX6_items_3 0 rfl rfl)
theorem dX6_items_71 : decode cX6_items 71 = .ok (.iload 6, 2) := dk_21 6 (dk_at dksX6_items_3 1 rfl rfl)
theorem dX6_items_73 : decode cX6_items 73 = .ok (.iadd, 1) := dk_96 (dk_at dksX6_items_3 3 rfl rfl)
theorem dX6_items_74 : decode cX6_items 74 = .ok (.aload_n 0, 1) := dk_42 (dk_at dksX6_items_3 4 rfl rfl)
theorem dX6_items_75 : decode cX6_items 75 = .ok (.invokevirtual 107, 3) := dk_182 0 107 (dk_at dksX6_items_3 5 rfl rfl)
theorem dX6_items_78 : decode cX6_items 78 = .ok (.iastore, 1) := dk_79 (dk_at dksX6_items_3 8 rfl rfl)
theorem dX6_items_79 : decode cX6_items 79 = .ok (.aload_n 0, 1) := dk_42 (dk_at dksX6_items_3 9 rfl rfl)
theorem dX6_items_80 : decode cX6_items 80 = .ok (.getfield 79, 3) := dk_180 0 79 (dk_at dksX6_items_3 10 rfl rfl)
theorem dX6_items_83 : decode cX6_items 83 = .ok (.iconst (-1), 1) := dk_2 (dk_at dksX6_items_3 13 rfl rfl)
theorem dX6_items_84 : decode cX6_items 84 = .ok (.if_icmp .eq 4, 3) := dk_159 0 4 (dk_at dksX6_items_3 14 rfl rfl)
theorem dX6_items_87 : decode cX6_items 87 = .ok (.return_, 1) := dk_177 (dk_at dksX6_items_3 17 rfl rfl)
theorem dX6_items_88 : decode cX6_items 88 = .ok (.aload_n 1, 1) := dk_43 (dk_at dksX6_items_3 18 rfl rfl)
theorem dX6_items_89 : decode cX6_items 89 = .ok (.iload_n 2, 1) := dk_28 (dk_at dksX6_items_3 19 rfl rfl)
theorem dX6_items_90 : decode cX6_items 90 = .ok (.iload 6, 2) := dk_21 6 (dk_at dksX6_items_3 20 rfl rfl)
theorem dX6_items_92 : decode cX6_items 92 = .ok (.iadd, 1) := dk_96 (dk_at dksX6_items_3 22 rfl rfl)
theorem dX6_items_93 : decode cX6_items 93 = .ok (.iaload, 1) := dk_46 (dk_at dksX6_items_3 23 rfl rfl)
theorem dX6_items_94 : decode cX6_items 94 = .ok (.i2l, 1) := dk_133 (dk_at dksX6_items_4 0 rfl rfl)
theorem dX6_items_95 : decode cX6_items 95 = .ok (.iload 4, 2) := dk_21 4 (dk_at dksX6_items_4 1 rfl rfl)
theorem dX6_items_97 : decode cX6_items 97 = .ok (.iload 6, 2) := dk_21 6 (dk_at dksX6_items_4 3 rfl rfl)
theorem dX6_items_99 : decode cX6_items 99 = .ok (.invokestatic 110, 3) := dk_184 0 110 (dk_at dksX6_items_4 5 rfl rfl)
theorem dX6_items_102 : decode cX6_items 102 = .ok (.i2l, 1) := dk_133 (dk_at dksX6_items_4 8 rfl rfl)
theorem dX6_items_103 : decode cX6_items 103 = .ok (.iload 4, 2) := dk_21 4 (dk_at dksX6_items_4 9 rfl rfl)
theorem dX6_items_105 : decode cX6_items 105 = .ok (.iload 6, 2) := dk_21 6 (dk_at dksX6_items_4 11 rfl rfl)
theorem dX6_items_107 : decode cX6_items 107 = .ok (.invokestatic 114, 3) := dk_184 0 114 (dk_at dksX6_items_4 13 rfl rfl)
theorem dX6_items_110 : decode cX6_items 110 = .ok (.i2l, 1) := dk_133 (dk_at dksX6_items_4 16 rfl rfl)
theorem dX6_items_111 : decode cX6_items 111 = .ok (.invokestatic 117, 3) := dk_184 0 117 (dk_at dksX6_items_4 17 rfl rfl)
theorem dX6_items_114 : decode cX6_items 114 = .ok (.ifCond .ne 18, 3) := dk_154 0 18 (dk_at dksX6_items_4 20 rfl rfl)
theorem dX6_items_117 : decode cX6_items 117 = .ok (.aload_n 0, 1) := dk_42 (dk_at dksX6_items_4 23 rfl rfl)
theorem dX6_items_118 : decode cX6_items 118 = .ok (.dup, 1) := dk_89 (dk_at dksX6_items_5 0 rfl rfl)
theorem dX6_items_119 : decode cX6_items 119 = .ok (.getfield 72, 3) := dk_180 0 72 (dk_at dksX6_items_5 1 rfl rfl)
theorem dX6_items_122 : decode cX6_items 122 = .ok (.iconst 1, 1) := dk_4 (dk_at dksX6_items_5 4 rfl rfl)
theorem dX6_items_123 : decode cX6_items 123 = .ok (.isub, 1) := dk_100 (dk_at dksX6_items_5 5 rfl rfl)
theorem dX6_items_124 : decode cX6_items 124 = .ok (.putfield 72, 3) := dk_181 0 72 (dk_at dksX6_items_5 6 rfl rfl)
theorem dX6_items_127 : decode cX6_items 127 = .ok (.aload_n 0, 1) := dk_42 (dk_at dksX6_items_5 9 rfl rfl)
theorem dX6_items_128 : decode cX6_items 128 = .ok (.invokevirtual 89, 3) := dk_182 0 89 (dk_at dksX6_items_5 10 rfl rfl)
theorem dX6_items_131 : decode cX6_items 131 = .ok (.return_, 1) := dk_177 (dk_at dksX6_items_5 13 rfl rfl)
theorem dX6_items_132 : decode cX6_items 132 = .ok (.aload_n 3, 1) := dk_45 (dk_at dksX6_items_5 14 rfl rfl)
theorem dX6_items_133 : decode cX6_items 133 = .ok (.aload_n 0, 1) := dk_42 (dk_at dksX6_items_5 15 rfl rfl)
theorem dX6_items_134 : decode cX6_items 134 = .ok (.invokevirtual 82, 3) := dk_182 0 82 (dk_at dksX6_items_5 16 rfl rfl)
theorem dX6_items_137 : decode cX6_items 137 = .ok (.invokestatic 103, 3) := dk_184 0 103 (dk_at dksX6_items_5 19 rfl rfl)
theorem dX6_items_140 : decode cX6_items 140 = .ok (.istore 6, 2) := dk_54 6 (dk_at dksX6_items_5 22 rfl rfl)
theorem dX6_items_142 : decode cX6_items 142 = .ok (.goto (-114), 3) := dk_167 255 142 (dk_at dksX6_items_6 0 rfl rfl)
theorem dX6_items_145 : decode cX6_items 145 = .ok (.return_, 1) := dk_177 (dk_at dksX6_items_6 3 rfl rfl)
abbrev cX6_spotOf : ByteArray := prog_12_method_14_code
def yX6_spotOf : MethodName := ⟨RX6, "spotOf", "(Ljava/lang/String;I)I"⟩
def dkwX6_spotOf_1 : List UInt8 := [167, 255, 234, 2, 172]
abbrev dktX6_spotOf_1 : List UInt8 := dkwX6_spotOf_1 ++ []
def dkwX6_spotOf_0 : List UInt8 := [3, 61, 28, 42, 182, 0, 95, 162, 0, 20, 42, 28, 182, 0, 99, 27, 160, 0, 5, 28, 172, 132, 2, 1]
abbrev dktX6_spotOf_0 : List UInt8 := dkwX6_spotOf_0 ++ dktX6_spotOf_1
theorem dksX6_spotOf_0 : cX6_spotOf.data.toList.drop 0 = dktX6_spotOf_0 := by decide +kernel
theorem dksX6_spotOf_1 : cX6_spotOf.data.toList.drop 24 = dktX6_spotOf_1 := dk_seg dksX6_spotOf_0 24 rfl rfl
theorem dX6_spotOf_0 : decode cX6_spotOf 0 = .ok (.iconst 0, 1) := dk_3 (dk_at dksX6_spotOf_0 0 rfl rfl)
theorem dX6_spotOf_1 : decode cX6_spotOf 1 = .ok (.istore_n 2, 1) := dk_61 (dk_at dksX6_spotOf_0 1 rfl rfl)
theorem dX6_spotOf_2 : decode cX6_spotOf 2 = .ok (.iload_n 2, 1) := dk_28 (dk_at dksX6_spotOf_0 2 rfl rfl)
theorem dX6_spotOf_3 : decode cX6_spotOf 3 = .ok (.aload_n 0, 1) := dk_42 (dk_at dksX6_spotOf_0 3 rfl rfl)
theorem dX6_spotOf_4 : decode cX6_spotOf 4 = .ok (.invokevirtual 95, 3) := dk_182 0 95 (dk_at dksX6_spotOf_0 4 rfl rfl)
theorem dX6_spotOf_7 : decode cX6_spotOf 7 = .ok (.if_icmp .ge 20, 3) := dk_162 0 20 (dk_at dksX6_spotOf_0 7 rfl rfl)
theorem dX6_spotOf_10 : decode cX6_spotOf 10 = .ok (.aload_n 0, 1) := dk_42 (dk_at dksX6_spotOf_0 10 rfl rfl)
theorem dX6_spotOf_11 : decode cX6_spotOf 11 = .ok (.iload_n 2, 1) := dk_28 (dk_at dksX6_spotOf_0 11 rfl rfl)
theorem dX6_spotOf_12 : decode cX6_spotOf 12 = .ok (.invokevirtual 99, 3) := dk_182 0 99 (dk_at dksX6_spotOf_0 12 rfl rfl)
theorem dX6_spotOf_15 : decode cX6_spotOf 15 = .ok (.iload_n 1, 1) := dk_27 (dk_at dksX6_spotOf_0 15 rfl rfl)
theorem dX6_spotOf_16 : decode cX6_spotOf 16 = .ok (.if_icmp .ne 5, 3) := dk_160 0 5 (dk_at dksX6_spotOf_0 16 rfl rfl)
theorem dX6_spotOf_19 : decode cX6_spotOf 19 = .ok (.iload_n 2, 1) := dk_28 (dk_at dksX6_spotOf_0 19 rfl rfl)
theorem dX6_spotOf_20 : decode cX6_spotOf 20 = .ok (.ireturn, 1) := dk_172 (dk_at dksX6_spotOf_0 20 rfl rfl)
theorem dX6_spotOf_21 : decode cX6_spotOf 21 = .ok (.iinc 2 1, 3) := dk_132 2 1 (dk_at dksX6_spotOf_0 21 rfl rfl)
theorem dX6_spotOf_24 : decode cX6_spotOf 24 = .ok (.goto (-22), 3) := dk_167 255 234 (dk_at dksX6_spotOf_1 0 rfl rfl)
theorem dX6_spotOf_27 : decode cX6_spotOf 27 = .ok (.iconst (-1), 1) := dk_2 (dk_at dksX6_spotOf_1 3 rfl rfl)
theorem dX6_spotOf_28 : decode cX6_spotOf 28 = .ok (.ireturn, 1) := dk_172 (dk_at dksX6_spotOf_1 4 rfl rfl)
abbrev cX6_number : ByteArray := prog_12_method_13_code
def yX6_number : MethodName := ⟨RX6, "number", "()I"⟩
def dkwX6_number_2 : List UInt8 := [160, 0, 14, 42, 182, 0, 85, 153, 0, 7, 42, 182, 0, 89, 27, 172]
abbrev dktX6_number_2 : List UInt8 := dkwX6_number_2 ++ []
def dkwX6_number_1 : List UInt8 := [153, 0, 19, 16, 10, 27, 104, 42, 182, 0, 92, 96, 60, 132, 2, 1, 167, 255, 223, 42, 180, 0, 79, 2]
abbrev dktX6_number_1 : List UInt8 := dkwX6_number_1 ++ dktX6_number_2
def dkwX6_number_0 : List UInt8 := [42, 182, 0, 92, 60, 4, 61, 28, 6, 162, 0, 34, 42, 180, 0, 79, 2, 160, 0, 26, 42, 182, 0, 85]
abbrev dktX6_number_0 : List UInt8 := dkwX6_number_0 ++ dktX6_number_1
theorem dksX6_number_0 : cX6_number.data.toList.drop 0 = dktX6_number_0 := by decide +kernel
theorem dksX6_number_1 : cX6_number.data.toList.drop 24 = dktX6_number_1 := dk_seg dksX6_number_0 24 rfl rfl
theorem dksX6_number_2 : cX6_number.data.toList.drop 48 = dktX6_number_2 := dk_seg dksX6_number_1 24 rfl rfl
theorem dX6_number_0 : decode cX6_number 0 = .ok (.aload_n 0, 1) := dk_42 (dk_at dksX6_number_0 0 rfl rfl)
theorem dX6_number_1 : decode cX6_number 1 = .ok (.invokevirtual 92, 3) := dk_182 0 92 (dk_at dksX6_number_0 1 rfl rfl)
theorem dX6_number_4 : decode cX6_number 4 = .ok (.istore_n 1, 1) := dk_60 (dk_at dksX6_number_0 4 rfl rfl)
theorem dX6_number_5 : decode cX6_number 5 = .ok (.iconst 1, 1) := dk_4 (dk_at dksX6_number_0 5 rfl rfl)
theorem dX6_number_6 : decode cX6_number 6 = .ok (.istore_n 2, 1) := dk_61 (dk_at dksX6_number_0 6 rfl rfl)
theorem dX6_number_7 : decode cX6_number 7 = .ok (.iload_n 2, 1) := dk_28 (dk_at dksX6_number_0 7 rfl rfl)
theorem dX6_number_8 : decode cX6_number 8 = .ok (.iconst 3, 1) := dk_6 (dk_at dksX6_number_0 8 rfl rfl)
theorem dX6_number_9 : decode cX6_number 9 = .ok (.if_icmp .ge 34, 3) := dk_162 0 34 (dk_at dksX6_number_0 9 rfl rfl)
theorem dX6_number_12 : decode cX6_number 12 = .ok (.aload_n 0, 1) := dk_42 (dk_at dksX6_number_0 12 rfl rfl)
theorem dX6_number_13 : decode cX6_number 13 = .ok (.getfield 79, 3) := dk_180 0 79 (dk_at dksX6_number_0 13 rfl rfl)
theorem dX6_number_16 : decode cX6_number 16 = .ok (.iconst (-1), 1) := dk_2 (dk_at dksX6_number_0 16 rfl rfl)
theorem dX6_number_17 : decode cX6_number 17 = .ok (.if_icmp .ne 26, 3) := dk_160 0 26 (dk_at dksX6_number_0 17 rfl rfl)
theorem dX6_number_20 : decode cX6_number 20 = .ok (.aload_n 0, 1) := dk_42 (dk_at dksX6_number_0 20 rfl rfl)
theorem dX6_number_21 : decode cX6_number 21 = .ok (.invokevirtual 85, 3) := dk_182 0 85 (dk_at dksX6_number_0 21 rfl rfl)
theorem dX6_number_24 : decode cX6_number 24 = .ok (.ifCond .eq 19, 3) := dk_153 0 19 (dk_at dksX6_number_1 0 rfl rfl)
theorem dX6_number_27 : decode cX6_number 27 = .ok (.bipush 10, 2) := dk_16 10 (dk_at dksX6_number_1 3 rfl rfl)
theorem dX6_number_29 : decode cX6_number 29 = .ok (.iload_n 1, 1) := dk_27 (dk_at dksX6_number_1 5 rfl rfl)
theorem dX6_number_30 : decode cX6_number 30 = .ok (.imul, 1) := dk_104 (dk_at dksX6_number_1 6 rfl rfl)
theorem dX6_number_31 : decode cX6_number 31 = .ok (.aload_n 0, 1) := dk_42 (dk_at dksX6_number_1 7 rfl rfl)
theorem dX6_number_32 : decode cX6_number 32 = .ok (.invokevirtual 92, 3) := dk_182 0 92 (dk_at dksX6_number_1 8 rfl rfl)
theorem dX6_number_35 : decode cX6_number 35 = .ok (.iadd, 1) := dk_96 (dk_at dksX6_number_1 11 rfl rfl)
theorem dX6_number_36 : decode cX6_number 36 = .ok (.istore_n 1, 1) := dk_60 (dk_at dksX6_number_1 12 rfl rfl)
theorem dX6_number_37 : decode cX6_number 37 = .ok (.iinc 2 1, 3) := dk_132 2 1 (dk_at dksX6_number_1 13 rfl rfl)
theorem dX6_number_40 : decode cX6_number 40 = .ok (.goto (-33), 3) := dk_167 255 223 (dk_at dksX6_number_1 16 rfl rfl)
theorem dX6_number_43 : decode cX6_number 43 = .ok (.aload_n 0, 1) := dk_42 (dk_at dksX6_number_1 19 rfl rfl)
theorem dX6_number_44 : decode cX6_number 44 = .ok (.getfield 79, 3) := dk_180 0 79 (dk_at dksX6_number_1 20 rfl rfl)
theorem dX6_number_47 : decode cX6_number 47 = .ok (.iconst (-1), 1) := dk_2 (dk_at dksX6_number_1 23 rfl rfl)
theorem dX6_number_48 : decode cX6_number 48 = .ok (.if_icmp .ne 14, 3) := dk_160 0 14 (dk_at dksX6_number_2 0 rfl rfl)
theorem dX6_number_51 : decode cX6_number 51 = .ok (.aload_n 0, 1) := dk_42 (dk_at dksX6_number_2 3 rfl rfl)
theorem dX6_number_52 : decode cX6_number 52 = .ok (.invokevirtual 85, 3) := dk_182 0 85 (dk_at dksX6_number_2 4 rfl rfl)
theorem dX6_number_55 : decode cX6_number 55 = .ok (.ifCond .eq 7, 3) := dk_153 0 7 (dk_at dksX6_number_2 7 rfl rfl)
theorem dX6_number_58 : decode cX6_number 58 = .ok (.aload_n 0, 1) := dk_42 (dk_at dksX6_number_2 10 rfl rfl)
theorem dX6_number_59 : decode cX6_number 59 = .ok (.invokevirtual 89, 3) := dk_182 0 89 (dk_at dksX6_number_2 11 rfl rfl)
theorem dX6_number_62 : decode cX6_number 62 = .ok (.iload_n 1, 1) := dk_27 (dk_at dksX6_number_2 14 rfl rfl)
theorem dX6_number_63 : decode cX6_number 63 = .ok (.ireturn, 1) := dk_172 (dk_at dksX6_number_2 15 rfl rfl)
abbrev cX6_digit : ByteArray := prog_12_method_12_code
def yX6_digit : MethodName := ⟨RX6, "digit", "()I"⟩
def dkwX6_digit_1 : List UInt8 := [3, 172, 42, 89, 180, 0, 72, 4, 96, 181, 0, 72, 27, 16, 48, 100, 172]
abbrev dktX6_digit_1 : List UInt8 := dkwX6_digit_1 ++ []
def dkwX6_digit_0 : List UInt8 := [42, 182, 0, 82, 60, 42, 180, 0, 79, 2, 160, 0, 10, 42, 182, 0, 85, 154, 0, 9, 42, 182, 0, 89]
abbrev dktX6_digit_0 : List UInt8 := dkwX6_digit_0 ++ dktX6_digit_1
theorem dksX6_digit_0 : cX6_digit.data.toList.drop 0 = dktX6_digit_0 := by decide +kernel
theorem dksX6_digit_1 : cX6_digit.data.toList.drop 24 = dktX6_digit_1 := dk_seg dksX6_digit_0 24 rfl rfl
theorem dX6_digit_0 : decode cX6_digit 0 = .ok (.aload_n 0, 1) := dk_42 (dk_at dksX6_digit_0 0 rfl rfl)
theorem dX6_digit_1 : decode cX6_digit 1 = .ok (.invokevirtual 82, 3) := dk_182 0 82 (dk_at dksX6_digit_0 1 rfl rfl)
theorem dX6_digit_4 : decode cX6_digit 4 = .ok (.istore_n 1, 1) := dk_60 (dk_at dksX6_digit_0 4 rfl rfl)
theorem dX6_digit_5 : decode cX6_digit 5 = .ok (.aload_n 0, 1) := dk_42 (dk_at dksX6_digit_0 5 rfl rfl)
theorem dX6_digit_6 : decode cX6_digit 6 = .ok (.getfield 79, 3) := dk_180 0 79 (dk_at dksX6_digit_0 6 rfl rfl)
theorem dX6_digit_9 : decode cX6_digit 9 = .ok (.iconst (-1), 1) := dk_2 (dk_at dksX6_digit_0 9 rfl rfl)
theorem dX6_digit_10 : decode cX6_digit 10 = .ok (.if_icmp .ne 10, 3) := dk_160 0 10 (dk_at dksX6_digit_0 10 rfl rfl)
theorem dX6_digit_13 : decode cX6_digit 13 = .ok (.aload_n 0, 1) := dk_42 (dk_at dksX6_digit_0 13 rfl rfl)
theorem dX6_digit_14 : decode cX6_digit 14 = .ok (.invokevirtual 85, 3) := dk_182 0 85 (dk_at dksX6_digit_0 14 rfl rfl)
theorem dX6_digit_17 : decode cX6_digit 17 = .ok (.ifCond .ne 9, 3) := dk_154 0 9 (dk_at dksX6_digit_0 17 rfl rfl)
theorem dX6_digit_20 : decode cX6_digit 20 = .ok (.aload_n 0, 1) := dk_42 (dk_at dksX6_digit_0 20 rfl rfl)
theorem dX6_digit_21 : decode cX6_digit 21 = .ok (.invokevirtual 89, 3) := dk_182 0 89 (dk_at dksX6_digit_0 21 rfl rfl)
theorem dX6_digit_24 : decode cX6_digit 24 = .ok (.iconst 0, 1) := dk_3 (dk_at dksX6_digit_1 0 rfl rfl)
theorem dX6_digit_25 : decode cX6_digit 25 = .ok (.ireturn, 1) := dk_172 (dk_at dksX6_digit_1 1 rfl rfl)
theorem dX6_digit_26 : decode cX6_digit 26 = .ok (.aload_n 0, 1) := dk_42 (dk_at dksX6_digit_1 2 rfl rfl)
theorem dX6_digit_27 : decode cX6_digit 27 = .ok (.dup, 1) := dk_89 (dk_at dksX6_digit_1 3 rfl rfl)
theorem dX6_digit_28 : decode cX6_digit 28 = .ok (.getfield 72, 3) := dk_180 0 72 (dk_at dksX6_digit_1 4 rfl rfl)
theorem dX6_digit_31 : decode cX6_digit 31 = .ok (.iconst 1, 1) := dk_4 (dk_at dksX6_digit_1 7 rfl rfl)
theorem dX6_digit_32 : decode cX6_digit 32 = .ok (.iadd, 1) := dk_96 (dk_at dksX6_digit_1 8 rfl rfl)
theorem dX6_digit_33 : decode cX6_digit 33 = .ok (.putfield 72, 3) := dk_181 0 72 (dk_at dksX6_digit_1 9 rfl rfl)
theorem dX6_digit_36 : decode cX6_digit 36 = .ok (.iload_n 1, 1) := dk_27 (dk_at dksX6_digit_1 12 rfl rfl)
theorem dX6_digit_37 : decode cX6_digit 37 = .ok (.bipush 48, 2) := dk_16 48 (dk_at dksX6_digit_1 13 rfl rfl)
theorem dX6_digit_39 : decode cX6_digit 39 = .ok (.isub, 1) := dk_100 (dk_at dksX6_digit_1 15 rfl rfl)
theorem dX6_digit_40 : decode cX6_digit 40 = .ok (.ireturn, 1) := dk_172 (dk_at dksX6_digit_1 16 rfl rfl)
abbrev cX6_isDigit : ByteArray := prog_12_method_11_code
def yX6_isDigit : MethodName := ⟨RX6, "isDigit", "()Z"⟩
def dkwX6_isDigit_0 : List UInt8 := [42, 182, 0, 75, 16, 48, 161, 0, 16, 42, 182, 0, 75, 16, 57, 163, 0, 7, 4, 167, 0, 4, 3, 172]
abbrev dktX6_isDigit_0 : List UInt8 := dkwX6_isDigit_0 ++ []
theorem dksX6_isDigit_0 : cX6_isDigit.data.toList.drop 0 = dktX6_isDigit_0 := by decide +kernel
theorem dX6_isDigit_0 : decode cX6_isDigit 0 = .ok (.aload_n 0, 1) := dk_42 (dk_at dksX6_isDigit_0 0 rfl rfl)
theorem dX6_isDigit_1 : decode cX6_isDigit 1 = .ok (.invokevirtual 75, 3) := dk_182 0 75 (dk_at dksX6_isDigit_0 1 rfl rfl)
theorem dX6_isDigit_4 : decode cX6_isDigit 4 = .ok (.bipush 48, 2) := dk_16 48 (dk_at dksX6_isDigit_0 4 rfl rfl)
theorem dX6_isDigit_6 : decode cX6_isDigit 6 = .ok (.if_icmp .lt 16, 3) := dk_161 0 16 (dk_at dksX6_isDigit_0 6 rfl rfl)
theorem dX6_isDigit_9 : decode cX6_isDigit 9 = .ok (.aload_n 0, 1) := dk_42 (dk_at dksX6_isDigit_0 9 rfl rfl)
theorem dX6_isDigit_10 : decode cX6_isDigit 10 = .ok (.invokevirtual 75, 3) := dk_182 0 75 (dk_at dksX6_isDigit_0 10 rfl rfl)
theorem dX6_isDigit_13 : decode cX6_isDigit 13 = .ok (.bipush 57, 2) := dk_16 57 (dk_at dksX6_isDigit_0 13 rfl rfl)
theorem dX6_isDigit_15 : decode cX6_isDigit 15 = .ok (.if_icmp .gt 7, 3) := dk_163 0 7 (dk_at dksX6_isDigit_0 15 rfl rfl)
theorem dX6_isDigit_18 : decode cX6_isDigit 18 = .ok (.iconst 1, 1) := dk_4 (dk_at dksX6_isDigit_0 18 rfl rfl)
theorem dX6_isDigit_19 : decode cX6_isDigit 19 = .ok (.goto 4, 3) := dk_167 0 4 (dk_at dksX6_isDigit_0 19 rfl rfl)
theorem dX6_isDigit_22 : decode cX6_isDigit 22 = .ok (.iconst 0, 1) := dk_3 (dk_at dksX6_isDigit_0 22 rfl rfl)
theorem dX6_isDigit_23 : decode cX6_isDigit 23 = .ok (.ireturn, 1) := dk_172 (dk_at dksX6_isDigit_0 23 rfl rfl)
abbrev cX6_leastOf : ByteArray := prog_12_method_15_code
def yX6_leastOf : MethodName := ⟨RX6, "leastOf", "(ZI)I"⟩
def dkwX6_leastOf_0 : List UInt8 := [26, 153, 0, 20, 27, 6, 162, 0, 15, 27, 154, 0, 7, 5, 167, 0, 8, 4, 167, 0, 4, 3, 172]
abbrev dktX6_leastOf_0 : List UInt8 := dkwX6_leastOf_0 ++ []
theorem dksX6_leastOf_0 : cX6_leastOf.data.toList.drop 0 = dktX6_leastOf_0 := by decide +kernel
theorem dX6_leastOf_0 : decode cX6_leastOf 0 = .ok (.iload_n 0, 1) := dk_26 (dk_at dksX6_leastOf_0 0 rfl rfl)
theorem dX6_leastOf_1 : decode cX6_leastOf 1 = .ok (.ifCond .eq 20, 3) := dk_153 0 20 (dk_at dksX6_leastOf_0 1 rfl rfl)
theorem dX6_leastOf_4 : decode cX6_leastOf 4 = .ok (.iload_n 1, 1) := dk_27 (dk_at dksX6_leastOf_0 4 rfl rfl)
theorem dX6_leastOf_5 : decode cX6_leastOf 5 = .ok (.iconst 3, 1) := dk_6 (dk_at dksX6_leastOf_0 5 rfl rfl)
theorem dX6_leastOf_6 : decode cX6_leastOf 6 = .ok (.if_icmp .ge 15, 3) := dk_162 0 15 (dk_at dksX6_leastOf_0 6 rfl rfl)
theorem dX6_leastOf_9 : decode cX6_leastOf 9 = .ok (.iload_n 1, 1) := dk_27 (dk_at dksX6_leastOf_0 9 rfl rfl)
theorem dX6_leastOf_10 : decode cX6_leastOf 10 = .ok (.ifCond .ne 7, 3) := dk_154 0 7 (dk_at dksX6_leastOf_0 10 rfl rfl)
theorem dX6_leastOf_13 : decode cX6_leastOf 13 = .ok (.iconst 2, 1) := dk_5 (dk_at dksX6_leastOf_0 13 rfl rfl)
theorem dX6_leastOf_14 : decode cX6_leastOf 14 = .ok (.goto 8, 3) := dk_167 0 8 (dk_at dksX6_leastOf_0 14 rfl rfl)
theorem dX6_leastOf_17 : decode cX6_leastOf 17 = .ok (.iconst 1, 1) := dk_4 (dk_at dksX6_leastOf_0 17 rfl rfl)
theorem dX6_leastOf_18 : decode cX6_leastOf 18 = .ok (.goto 4, 3) := dk_167 0 4 (dk_at dksX6_leastOf_0 18 rfl rfl)
theorem dX6_leastOf_21 : decode cX6_leastOf 21 = .ok (.iconst 0, 1) := dk_3 (dk_at dksX6_leastOf_0 21 rfl rfl)
theorem dX6_leastOf_22 : decode cX6_leastOf 22 = .ok (.ireturn, 1) := dk_172 (dk_at dksX6_leastOf_0 22 rfl rfl)
abbrev cX6_mostOf : ByteArray := prog_12_method_16_code
def yX6_mostOf : MethodName := ⟨RX6, "mostOf", "(ZI)I"⟩
def dkwX6_mostOf_3 : List UInt8 := [17, 0, 255, 172, 7, 172, 6, 172, 16, 9, 172]
abbrev dktX6_mostOf_3 : List UInt8 := dkwX6_mostOf_3 ++ []
def dkwX6_mostOf_2 : List UInt8 := [26, 153, 0, 8, 16, 6, 167, 0, 6, 17, 1, 31, 172, 26, 153, 0, 8, 16, 12, 167, 0, 6]
abbrev dktX6_mostOf_2 : List UInt8 := dkwX6_mostOf_2 ++ dktX6_mostOf_3
def dkwX6_mostOf_1 : List UInt8 := [170, 0, 0, 0, 0, 0, 61, 0, 0, 0, 0, 0, 0, 0, 3, 0, 0, 0, 31, 0, 0, 0, 44, 0, 0, 0, 57, 0, 0, 0, 59]
abbrev dktX6_mostOf_1 : List UInt8 := dkwX6_mostOf_1 ++ dktX6_mostOf_2
def dkwX6_mostOf_0 : List UInt8 := [27]
abbrev dktX6_mostOf_0 : List UInt8 := dkwX6_mostOf_0 ++ dktX6_mostOf_1
theorem dksX6_mostOf_0 : cX6_mostOf.data.toList.drop 0 = dktX6_mostOf_0 := by decide +kernel
theorem dksX6_mostOf_1 : cX6_mostOf.data.toList.drop 1 = dktX6_mostOf_1 := dk_seg dksX6_mostOf_0 1 rfl rfl
theorem dksX6_mostOf_2 : cX6_mostOf.data.toList.drop 32 = dktX6_mostOf_2 := dk_seg dksX6_mostOf_1 31 rfl rfl
theorem dksX6_mostOf_3 : cX6_mostOf.data.toList.drop 54 = dktX6_mostOf_3 := dk_seg dksX6_mostOf_2 22 rfl rfl
theorem dX6_mostOf_0 : decode cX6_mostOf 0 = .ok (.iload_n 1, 1) := dk_27 (dk_at dksX6_mostOf_0 0 rfl rfl)
theorem dX6_mostOf_1 : decode cX6_mostOf 1 = .ok (.tableswitch 61 0 3 #[31, 44, 57, 59], 31) := by decide +kernel
theorem dX6_mostOf_32 : decode cX6_mostOf 32 = .ok (.iload_n 0, 1) := dk_26 (dk_at dksX6_mostOf_2 0 rfl rfl)
theorem dX6_mostOf_33 : decode cX6_mostOf 33 = .ok (.ifCond .eq 8, 3) := dk_153 0 8 (dk_at dksX6_mostOf_2 1 rfl rfl)
theorem dX6_mostOf_36 : decode cX6_mostOf 36 = .ok (.bipush 6, 2) := dk_16 6 (dk_at dksX6_mostOf_2 4 rfl rfl)
theorem dX6_mostOf_38 : decode cX6_mostOf 38 = .ok (.goto 6, 3) := dk_167 0 6 (dk_at dksX6_mostOf_2 6 rfl rfl)
theorem dX6_mostOf_41 : decode cX6_mostOf 41 = .ok (.sipush 287, 3) := dk_17 1 31 (dk_at dksX6_mostOf_2 9 rfl rfl)
theorem dX6_mostOf_44 : decode cX6_mostOf 44 = .ok (.ireturn, 1) := dk_172 (dk_at dksX6_mostOf_2 12 rfl rfl)
theorem dX6_mostOf_45 : decode cX6_mostOf 45 = .ok (.iload_n 0, 1) := dk_26 (dk_at dksX6_mostOf_2 13 rfl rfl)
theorem dX6_mostOf_46 : decode cX6_mostOf 46 = .ok (.ifCond .eq 8, 3) := dk_153 0 8 (dk_at dksX6_mostOf_2 14 rfl rfl)
theorem dX6_mostOf_49 : decode cX6_mostOf 49 = .ok (.bipush 12, 2) := dk_16 12 (dk_at dksX6_mostOf_2 17 rfl rfl)
theorem dX6_mostOf_51 : decode cX6_mostOf 51 = .ok (.goto 6, 3) := dk_167 0 6 (dk_at dksX6_mostOf_2 19 rfl rfl)
theorem dX6_mostOf_54 : decode cX6_mostOf 54 = .ok (.sipush 255, 3) := dk_17 0 255 (dk_at dksX6_mostOf_3 0 rfl rfl)
theorem dX6_mostOf_57 : decode cX6_mostOf 57 = .ok (.ireturn, 1) := dk_172 (dk_at dksX6_mostOf_3 3 rfl rfl)
theorem dX6_mostOf_58 : decode cX6_mostOf 58 = .ok (.iconst 4, 1) := dk_7 (dk_at dksX6_mostOf_3 4 rfl rfl)
theorem dX6_mostOf_59 : decode cX6_mostOf 59 = .ok (.ireturn, 1) := dk_172 (dk_at dksX6_mostOf_3 5 rfl rfl)
theorem dX6_mostOf_60 : decode cX6_mostOf 60 = .ok (.iconst 3, 1) := dk_6 (dk_at dksX6_mostOf_3 6 rfl rfl)
theorem dX6_mostOf_61 : decode cX6_mostOf 61 = .ok (.ireturn, 1) := dk_172 (dk_at dksX6_mostOf_3 7 rfl rfl)
theorem dX6_mostOf_62 : decode cX6_mostOf 62 = .ok (.bipush 9, 2) := dk_16 9 (dk_at dksX6_mostOf_3 8 rfl rfl)
theorem dX6_mostOf_64 : decode cX6_mostOf 64 = .ok (.ireturn, 1) := dk_172 (dk_at dksX6_mostOf_3 10 rfl rfl)
abbrev cX6_readScript : ByteArray := prog_12_method_22_code
def yX6_readScript : MethodName := ⟨RX6, "readScript", "()V"⟩
def dkwX6_readScript_3 : List UInt8 := [167, 255, 191, 42, 180, 0, 29, 7, 27, 79, 42, 182, 0, 82, 2, 159, 0, 7, 42, 182, 0, 89, 177]
abbrev dktX6_readScript_3 : List UInt8 := dkwX6_readScript_3 ++ []
def dkwX6_readScript_2 : List UInt8 := [16, 16, 160, 0, 8, 42, 182, 0, 89, 177, 28, 153, 255, 204, 42, 89, 180, 0, 72, 4, 96, 181, 0, 72]
abbrev dktX6_readScript_2 : List UInt8 := dkwX6_readScript_2 ++ dktX6_readScript_3
def dkwX6_readScript_1 : List UInt8 := [132, 1, 1, 42, 182, 0, 82, 16, 59, 160, 0, 7, 4, 167, 0, 4, 3, 61, 28, 153, 0, 14, 27]
abbrev dktX6_readScript_1 : List UInt8 := dkwX6_readScript_1 ++ dktX6_readScript_2
def dkwX6_readScript_0 : List UInt8 := [3, 60, 4, 61, 28, 153, 0, 67, 42, 27, 182, 0, 141, 42, 180, 0, 79, 2, 159, 0, 4, 177]
abbrev dktX6_readScript_0 : List UInt8 := dkwX6_readScript_0 ++ dktX6_readScript_1
theorem dksX6_readScript_0 : cX6_readScript.data.toList.drop 0 = dktX6_readScript_0 := by decide +kernel
theorem dksX6_readScript_1 : cX6_readScript.data.toList.drop 22 = dktX6_readScript_1 := dk_seg dksX6_readScript_0 22 rfl rfl
theorem dksX6_readScript_2 : cX6_readScript.data.toList.drop 45 = dktX6_readScript_2 := dk_seg dksX6_readScript_1 23 rfl rfl
theorem dksX6_readScript_3 : cX6_readScript.data.toList.drop 69 = dktX6_readScript_3 := dk_seg dksX6_readScript_2 24 rfl rfl
theorem dX6_readScript_0 : decode cX6_readScript 0 = .ok (.iconst 0, 1) := dk_3 (dk_at dksX6_readScript_0 0 rfl rfl)
theorem dX6_readScript_1 : decode cX6_readScript 1 = .ok (.istore_n 1, 1) := dk_60 (dk_at dksX6_readScript_0 1 rfl rfl)
theorem dX6_readScript_2 : decode cX6_readScript 2 = .ok (.iconst 1, 1) := dk_4 (dk_at dksX6_readScript_0 2 rfl rfl)
theorem dX6_readScript_3 : decode cX6_readScript 3 = .ok (.istore_n 2, 1) := dk_61 (dk_at dksX6_readScript_0 3 rfl rfl)
theorem dX6_readScript_4 : decode cX6_readScript 4 = .ok (.iload_n 2, 1) := dk_28 (dk_at dksX6_readScript_0 4 rfl rfl)
theorem dX6_readScript_5 : decode cX6_readScript 5 = .ok (.ifCond .eq 67, 3) := dk_153 0 67 (dk_at dksX6_readScript_0 5 rfl rfl)
theorem dX6_readScript_8 : decode cX6_readScript 8 = .ok (.aload_n 0, 1) := dk_42 (dk_at dksX6_readScript_0 8 rfl rfl)
theorem dX6_readScript_9 : decode cX6_readScript 9 = .ok (.iload_n 1, 1) := dk_27 (dk_at dksX6_readScript_0 9 rfl rfl)
theorem dX6_readScript_10 : decode cX6_readScript 10 = .ok (.invokevirtual 141, 3) := dk_182 0 141 (dk_at dksX6_readScript_0 10 rfl rfl)
theorem dX6_readScript_13 : decode cX6_readScript 13 = .ok (.aload_n 0, 1) := dk_42 (dk_at dksX6_readScript_0 13 rfl rfl)
theorem dX6_readScript_14 : decode cX6_readScript 14 = .ok (.getfield 79, 3) := dk_180 0 79 (dk_at dksX6_readScript_0 14 rfl rfl)
theorem dX6_readScript_17 : decode cX6_readScript 17 = .ok (.iconst (-1), 1) := dk_2 (dk_at dksX6_readScript_0 17 rfl rfl)
theorem dX6_readScript_18 : decode cX6_readScript 18 = .ok (.if_icmp .eq 4, 3) := dk_159 0 4 (dk_at dksX6_readScript_0 18 rfl rfl)
theorem dX6_readScript_21 : decode cX6_readScript 21 = .ok (.return_, 1) := dk_177 (dk_at dksX6_readScript_0 21 rfl rfl)
theorem dX6_readScript_22 : decode cX6_readScript 22 = .ok (.iinc 1 1, 3) := dk_132 1 1 (dk_at dksX6_readScript_1 0 rfl rfl)
theorem dX6_readScript_25 : decode cX6_readScript 25 = .ok (.aload_n 0, 1) := dk_42 (dk_at dksX6_readScript_1 3 rfl rfl)
theorem dX6_readScript_26 : decode cX6_readScript 26 = .ok (.invokevirtual 82, 3) := dk_182 0 82 (dk_at dksX6_readScript_1 4 rfl rfl)
theorem dX6_readScript_29 : decode cX6_readScript 29 = .ok (.bipush 59, 2) := dk_16 59 (dk_at dksX6_readScript_1 7 rfl rfl)
theorem dX6_readScript_31 : decode cX6_readScript 31 = .ok (.if_icmp .ne 7, 3) := dk_160 0 7 (dk_at dksX6_readScript_1 9 rfl rfl)
theorem dX6_readScript_34 : decode cX6_readScript 34 = .ok (.iconst 1, 1) := dk_4 (dk_at dksX6_readScript_1 12 rfl rfl)
theorem dX6_readScript_35 : decode cX6_readScript 35 = .ok (.goto 4, 3) := dk_167 0 4 (dk_at dksX6_readScript_1 13 rfl rfl)
theorem dX6_readScript_38 : decode cX6_readScript 38 = .ok (.iconst 0, 1) := dk_3 (dk_at dksX6_readScript_1 16 rfl rfl)
theorem dX6_readScript_39 : decode cX6_readScript 39 = .ok (.istore_n 2, 1) := dk_61 (dk_at dksX6_readScript_1 17 rfl rfl)
theorem dX6_readScript_40 : decode cX6_readScript 40 = .ok (.iload_n 2, 1) := dk_28 (dk_at dksX6_readScript_1 18 rfl rfl)
theorem dX6_readScript_41 : decode cX6_readScript 41 = .ok (.ifCond .eq 14, 3) := dk_153 0 14 (dk_at dksX6_readScript_1 19 rfl rfl)
theorem dX6_readScript_44 : decode cX6_readScript 44 = .ok (.iload_n 1, 1) := dk_27 (dk_at dksX6_readScript_1 22 rfl rfl)
theorem dX6_readScript_45 : decode cX6_readScript 45 = .ok (.bipush 16, 2) := dk_16 16 (dk_at dksX6_readScript_2 0 rfl rfl)
theorem dX6_readScript_47 : decode cX6_readScript 47 = .ok (.if_icmp .ne 8, 3) := dk_160 0 8 (dk_at dksX6_readScript_2 2 rfl rfl)
theorem dX6_readScript_50 : decode cX6_readScript 50 = .ok (.aload_n 0, 1) := dk_42 (dk_at dksX6_readScript_2 5 rfl rfl)
theorem dX6_readScript_51 : decode cX6_readScript 51 = .ok (.invokevirtual 89, 3) := dk_182 0 89 (dk_at dksX6_readScript_2 6 rfl rfl)
theorem dX6_readScript_54 : decode cX6_readScript 54 = .ok (.return_, 1) := dk_177 (dk_at dksX6_readScript_2 9 rfl rfl)
theorem dX6_readScript_55 : decode cX6_readScript 55 = .ok (.iload_n 2, 1) := dk_28 (dk_at dksX6_readScript_2 10 rfl rfl)
theorem dX6_readScript_56 : decode cX6_readScript 56 = .ok (.ifCond .eq (-52), 3) := dk_153 255 204 (dk_at dksX6_readScript_2 11 rfl rfl)
theorem dX6_readScript_59 : decode cX6_readScript 59 = .ok (.aload_n 0, 1) := dk_42 (dk_at dksX6_readScript_2 14 rfl rfl)
theorem dX6_readScript_60 : decode cX6_readScript 60 = .ok (.dup, 1) := dk_89 (dk_at dksX6_readScript_2 15 rfl rfl)
theorem dX6_readScript_61 : decode cX6_readScript 61 = .ok (.getfield 72, 3) := dk_180 0 72 (dk_at dksX6_readScript_2 16 rfl rfl)
theorem dX6_readScript_64 : decode cX6_readScript 64 = .ok (.iconst 1, 1) := dk_4 (dk_at dksX6_readScript_2 19 rfl rfl)
theorem dX6_readScript_65 : decode cX6_readScript 65 = .ok (.iadd, 1) := dk_96 (dk_at dksX6_readScript_2 20 rfl rfl)
theorem dX6_readScript_66 : decode cX6_readScript 66 = .ok (.putfield 72, 3) := dk_181 0 72 (dk_at dksX6_readScript_2 21 rfl rfl)
theorem dX6_readScript_69 : decode cX6_readScript 69 = .ok (.goto (-65), 3) := dk_167 255 191 (dk_at dksX6_readScript_3 0 rfl rfl)
theorem dX6_readScript_72 : decode cX6_readScript 72 = .ok (.aload_n 0, 1) := dk_42 (dk_at dksX6_readScript_3 3 rfl rfl)
theorem dX6_readScript_73 : decode cX6_readScript 73 = .ok (.getfield 29, 3) := dk_180 0 29 (dk_at dksX6_readScript_3 4 rfl rfl)
theorem dX6_readScript_76 : decode cX6_readScript 76 = .ok (.iconst 4, 1) := dk_7 (dk_at dksX6_readScript_3 7 rfl rfl)
theorem dX6_readScript_77 : decode cX6_readScript 77 = .ok (.iload_n 1, 1) := dk_27 (dk_at dksX6_readScript_3 8 rfl rfl)
theorem dX6_readScript_78 : decode cX6_readScript 78 = .ok (.iastore, 1) := dk_79 (dk_at dksX6_readScript_3 9 rfl rfl)
theorem dX6_readScript_79 : decode cX6_readScript 79 = .ok (.aload_n 0, 1) := dk_42 (dk_at dksX6_readScript_3 10 rfl rfl)
theorem dX6_readScript_80 : decode cX6_readScript 80 = .ok (.invokevirtual 82, 3) := dk_182 0 82 (dk_at dksX6_readScript_3 11 rfl rfl)
theorem dX6_readScript_83 : decode cX6_readScript 83 = .ok (.iconst (-1), 1) := dk_2 (dk_at dksX6_readScript_3 14 rfl rfl)
theorem dX6_readScript_84 : decode cX6_readScript 84 = .ok (.if_icmp .eq 7, 3) := dk_159 0 7 (dk_at dksX6_readScript_3 15 rfl rfl)
theorem dX6_readScript_87 : decode cX6_readScript 87 = .ok (.aload_n 0, 1) := dk_42 (dk_at dksX6_readScript_3 18 rfl rfl)
theorem dX6_readScript_88 : decode cX6_readScript 88 = .ok (.invokevirtual 89, 3) := dk_182 0 89 (dk_at dksX6_readScript_3 19 rfl rfl)
theorem dX6_readScript_91 : decode cX6_readScript 91 = .ok (.return_, 1) := dk_177 (dk_at dksX6_readScript_3 22 rfl rfl)
abbrev cX6_readStep : ByteArray := prog_12_method_21_code
def yX6_readStep : MethodName := ⟨RX6, "readStep", "(I)V"⟩
def dkwX6_readStep_6 : List UInt8 := [177]
abbrev dktX6_readStep_6 : List UInt8 := dkwX6_readStep_6 ++ []
def dkwX6_readStep_5 : List UInt8 := [181, 0, 72, 42, 180, 0, 26, 28, 4, 96, 21, 4, 96, 42, 182, 0, 107, 79, 132, 4, 1, 167, 255, 166]
abbrev dktX6_readStep_5 : List UInt8 := dkwX6_readStep_5 ++ dktX6_readStep_6
def dkwX6_readStep_4 : List UInt8 := [16, 44, 159, 0, 8, 42, 182, 0, 89, 177, 21, 4, 158, 0, 13, 42, 89, 180, 0, 72, 4, 96]
abbrev dktX6_readStep_4 : List UInt8 := dkwX6_readStep_4 ++ dktX6_readStep_5
def dkwX6_readStep_3 : List UInt8 := [162, 0, 63, 42, 180, 0, 79, 2, 159, 0, 6, 167, 0, 52, 21, 4, 158, 0, 17, 42, 182, 0, 82]
abbrev dktX6_readStep_3 : List UInt8 := dkwX6_readStep_3 ++ dktX6_readStep_4
def dkwX6_readStep_2 : List UInt8 := [21, 4, 7, 162, 0, 90, 42, 180, 0, 26, 28, 4, 96, 21, 4, 96, 2, 79, 21, 4, 29, 184, 0, 138]
abbrev dktX6_readStep_2 : List UInt8 := dkwX6_readStep_2 ++ dktX6_readStep_3
def dkwX6_readStep_1 : List UInt8 := [182, 0, 89, 177, 42, 89, 180, 0, 72, 4, 96, 181, 0, 72, 42, 180, 0, 26, 28, 29, 79, 3, 54, 4]
abbrev dktX6_readStep_1 : List UInt8 := dkwX6_readStep_1 ++ dktX6_readStep_2
def dkwX6_readStep_0 : List UInt8 := [8, 16, 64, 27, 96, 104, 61, 18, 136, 42, 182, 0, 82, 184, 0, 103, 62, 29, 2, 160, 0, 8, 42]
abbrev dktX6_readStep_0 : List UInt8 := dkwX6_readStep_0 ++ dktX6_readStep_1
theorem dksX6_readStep_0 : cX6_readStep.data.toList.drop 0 = dktX6_readStep_0 := by decide +kernel
theorem dksX6_readStep_1 : cX6_readStep.data.toList.drop 23 = dktX6_readStep_1 := dk_seg dksX6_readStep_0 23 rfl rfl
theorem dksX6_readStep_2 : cX6_readStep.data.toList.drop 47 = dktX6_readStep_2 := dk_seg dksX6_readStep_1 24 rfl rfl
theorem dksX6_readStep_3 : cX6_readStep.data.toList.drop 71 = dktX6_readStep_3 := dk_seg dksX6_readStep_2 24 rfl rfl
theorem dksX6_readStep_4 : cX6_readStep.data.toList.drop 94 = dktX6_readStep_4 := dk_seg dksX6_readStep_3 23 rfl rfl
theorem dksX6_readStep_5 : cX6_readStep.data.toList.drop 116 = dktX6_readStep_5 := dk_seg dksX6_readStep_4 22 rfl rfl
theorem dksX6_readStep_6 : cX6_readStep.data.toList.drop 140 = dktX6_readStep_6 := dk_seg dksX6_readStep_5 24 rfl rfl
theorem dX6_readStep_0 : decode cX6_readStep 0 = .ok (.iconst 5, 1) := dk_8 (dk_at dksX6_readStep_0 0 rfl rfl)
theorem dX6_readStep_1 : decode cX6_readStep 1 = .ok (.bipush 64, 2) := dk_16 64 (dk_at dksX6_readStep_0 1 rfl rfl)
theorem dX6_readStep_3 : decode cX6_readStep 3 = .ok (.iload_n 1, 1) := dk_27 (dk_at dksX6_readStep_0 3 rfl rfl)
theorem dX6_readStep_4 : decode cX6_readStep 4 = .ok (.iadd, 1) := dk_96 (dk_at dksX6_readStep_0 4 rfl rfl)
theorem dX6_readStep_5 : decode cX6_readStep 5 = .ok (.imul, 1) := dk_104 (dk_at dksX6_readStep_0 5 rfl rfl)
theorem dX6_readStep_6 : decode cX6_readStep 6 = .ok (.istore_n 2, 1) := dk_61 (dk_at dksX6_readStep_0 6 rfl rfl)
theorem dX6_readStep_7 : decode cX6_readStep 7 = .ok (.ldc 136, 2) := dk_18 136 (dk_at dksX6_readStep_0 7 rfl rfl)
theorem dX6_readStep_9 : decode cX6_readStep 9 = .ok (.aload_n 0, 1) := dk_42 (dk_at dksX6_readStep_0 9 rfl rfl)
theorem dX6_readStep_10 : decode cX6_readStep 10 = .ok (.invokevirtual 82, 3) := dk_182 0 82 (dk_at dksX6_readStep_0 10 rfl rfl)
theorem dX6_readStep_13 : decode cX6_readStep 13 = .ok (.invokestatic 103, 3) := dk_184 0 103 (dk_at dksX6_readStep_0 13 rfl rfl)
theorem dX6_readStep_16 : decode cX6_readStep 16 = .ok (.istore_n 3, 1) := dk_62 (dk_at dksX6_readStep_0 16 rfl rfl)
theorem dX6_readStep_17 : decode cX6_readStep 17 = .ok (.iload_n 3, 1) := dk_29 (dk_at dksX6_readStep_0 17 rfl rfl)
theorem dX6_readStep_18 : decode cX6_readStep 18 = .ok (.iconst (-1), 1) := dk_2 (dk_at dksX6_readStep_0 18 rfl rfl)
theorem dX6_readStep_19 : decode cX6_readStep 19 = .ok (.if_icmp .ne 8, 3) := dk_160 0 8 (dk_at dksX6_readStep_0 19 rfl rfl)
theorem dX6_readStep_22 : decode cX6_readStep 22 = .ok (.aload_n 0, 1) := dk_42 (dk_at dksX6_readStep_0 22 rfl rfl)
theorem dX6_readStep_23 : decode cX6_readStep 23 = .ok (.invokevirtual 89, 3) := dk_182 0 89 (dk_at dksX6_readStep_1 0 rfl rfl)
theorem dX6_readStep_26 : decode cX6_readStep 26 = .ok (.return_, 1) := dk_177 (dk_at dksX6_readStep_1 3 rfl rfl)
theorem dX6_readStep_27 : decode cX6_readStep 27 = .ok (.aload_n 0, 1) := dk_42 (dk_at dksX6_readStep_1 4 rfl rfl)
theorem dX6_readStep_28 : decode cX6_readStep 28 = .ok (.dup, 1) := dk_89 (dk_at dksX6_readStep_1 5 rfl rfl)
theorem dX6_readStep_29 : decode cX6_readStep 29 = .ok (.getfield 72, 3) := dk_180 0 72 (dk_at dksX6_readStep_1 6 rfl rfl)
theorem dX6_readStep_32 : decode cX6_readStep 32 = .ok (.iconst 1, 1) := dk_4 (dk_at dksX6_readStep_1 9 rfl rfl)
theorem dX6_readStep_33 : decode cX6_readStep 33 = .ok (.iadd, 1) := dk_96 (dk_at dksX6_readStep_1 10 rfl rfl)
theorem dX6_readStep_34 : decode cX6_readStep 34 = .ok (.putfield 72, 3) := dk_181 0 72 (dk_at dksX6_readStep_1 11 rfl rfl)
theorem dX6_readStep_37 : decode cX6_readStep 37 = .ok (.aload_n 0, 1) := dk_42 (dk_at dksX6_readStep_1 14 rfl rfl)
theorem dX6_readStep_38 : decode cX6_readStep 38 = .ok (.getfield 26, 3) := dk_180 0 26 (dk_at dksX6_readStep_1 15 rfl rfl)
theorem dX6_readStep_41 : decode cX6_readStep 41 = .ok (.iload_n 2, 1) := dk_28 (dk_at dksX6_readStep_1 18 rfl rfl)
theorem dX6_readStep_42 : decode cX6_readStep 42 = .ok (.iload_n 3, 1) := dk_29 (dk_at dksX6_readStep_1 19 rfl rfl)
theorem dX6_readStep_43 : decode cX6_readStep 43 = .ok (.iastore, 1) := dk_79 (dk_at dksX6_readStep_1 20 rfl rfl)
theorem dX6_readStep_44 : decode cX6_readStep 44 = .ok (.iconst 0, 1) := dk_3 (dk_at dksX6_readStep_1 21 rfl rfl)
theorem dX6_readStep_45 : decode cX6_readStep 45 = .ok (.istore 4, 2) := dk_54 4 (dk_at dksX6_readStep_1 22 rfl rfl)
theorem dX6_readStep_47 : decode cX6_readStep 47 = .ok (.iload 4, 2) := dk_21 4 (dk_at dksX6_readStep_2 0 rfl rfl)
theorem dX6_readStep_49 : decode cX6_readStep 49 = .ok (.iconst 4, 1) := dk_7 (dk_at dksX6_readStep_2 2 rfl rfl)
theorem dX6_readStep_50 : decode cX6_readStep 50 = .ok (.if_icmp .ge 90, 3) := dk_162 0 90 (dk_at dksX6_readStep_2 3 rfl rfl)
theorem dX6_readStep_53 : decode cX6_readStep 53 = .ok (.aload_n 0, 1) := dk_42 (dk_at dksX6_readStep_2 6 rfl rfl)
theorem dX6_readStep_54 : decode cX6_readStep 54 = .ok (.getfield 26, 3) := dk_180 0 26 (dk_at dksX6_readStep_2 7 rfl rfl)
theorem dX6_readStep_57 : decode cX6_readStep 57 = .ok (.iload_n 2, 1) := dk_28 (dk_at dksX6_readStep_2 10 rfl rfl)
theorem dX6_readStep_58 : decode cX6_readStep 58 = .ok (.iconst 1, 1) := dk_4 (dk_at dksX6_readStep_2 11 rfl rfl)
theorem dX6_readStep_59 : decode cX6_readStep 59 = .ok (.iadd, 1) := dk_96 (dk_at dksX6_readStep_2 12 rfl rfl)
theorem dX6_readStep_60 : decode cX6_readStep 60 = .ok (.iload 4, 2) := dk_21 4 (dk_at dksX6_readStep_2 13 rfl rfl)
theorem dX6_readStep_62 : decode cX6_readStep 62 = .ok (.iadd, 1) := dk_96 (dk_at dksX6_readStep_2 15 rfl rfl)
theorem dX6_readStep_63 : decode cX6_readStep 63 = .ok (.iconst (-1), 1) := dk_2 (dk_at dksX6_readStep_2 16 rfl rfl)
theorem dX6_readStep_64 : decode cX6_readStep 64 = .ok (.iastore, 1) := dk_79 (dk_at dksX6_readStep_2 17 rfl rfl)
theorem dX6_readStep_65 : decode cX6_readStep 65 = .ok (.iload 4, 2) := dk_21 4 (dk_at dksX6_readStep_2 18 rfl rfl)
theorem dX6_readStep_67 : decode cX6_readStep 67 = .ok (.iload_n 3, 1) := dk_29 (dk_at dksX6_readStep_2 20 rfl rfl)
theorem dX6_readStep_68 : decode cX6_readStep 68 = .ok (.invokestatic 138, 3) := dk_184 0 138 (dk_at dksX6_readStep_2 21 rfl rfl)
theorem dX6_readStep_71 : decode cX6_readStep 71 = .ok (.if_icmp .ge 63, 3) := dk_162 0 63 (dk_at dksX6_readStep_3 0 rfl rfl)
theorem dX6_readStep_74 : decode cX6_readStep 74 = .ok (.aload_n 0, 1) := dk_42 (dk_at dksX6_readStep_3 3 rfl rfl)
theorem dX6_readStep_75 : decode cX6_readStep 75 = .ok (.getfield 79, 3) := dk_180 0 79 (dk_at dksX6_readStep_3 4 rfl rfl)
theorem dX6_readStep_78 : decode cX6_readStep 78 = .ok (.iconst (-1), 1) := dk_2 (dk_at dksX6_readStep_3 7 rfl rfl)
theorem dX6_readStep_79 : decode cX6_readStep 79 = .ok (.if_icmp .eq 6, 3) := dk_159 0 6 (dk_at dksX6_readStep_3 8 rfl rfl)
theorem dX6_readStep_82 : decode cX6_readStep 82 = .ok (.goto 52, 3) := dk_167 0 52 (dk_at dksX6_readStep_3 11 rfl rfl)
theorem dX6_readStep_85 : decode cX6_readStep 85 = .ok (.iload 4, 2) := dk_21 4 (dk_at dksX6_readStep_3 14 rfl rfl)
theorem dX6_readStep_87 : decode cX6_readStep 87 = .ok (.ifCond .le 17, 3) := dk_158 0 17 (dk_at dksX6_readStep_3 16 rfl rfl)
theorem dX6_readStep_90 : decode cX6_readStep 90 = .ok (.aload_n 0, 1) := dk_42 (dk_at dksX6_readStep_3 19 rfl rfl)
theorem dX6_readStep_91 : decode cX6_readStep 91 = .ok (.invokevirtual 82, 3) := dk_182 0 82 (dk_at dksX6_readStep_3 20 rfl rfl)
theorem dX6_readStep_94 : decode cX6_readStep 94 = .ok (.bipush 44, 2) := dk_16 44 (dk_at dksX6_readStep_4 0 rfl rfl)
theorem dX6_readStep_96 : decode cX6_readStep 96 = .ok (.if_icmp .eq 8, 3) := dk_159 0 8 (dk_at dksX6_readStep_4 2 rfl rfl)
theorem dX6_readStep_99 : decode cX6_readStep 99 = .ok (.aload_n 0, 1) := dk_42 (dk_at dksX6_readStep_4 5 rfl rfl)
theorem dX6_readStep_100 : decode cX6_readStep 100 = .ok (.invokevirtual 89, 3) := dk_182 0 89 (dk_at dksX6_readStep_4 6 rfl rfl)
theorem dX6_readStep_103 : decode cX6_readStep 103 = .ok (.return_, 1) := dk_177 (dk_at dksX6_readStep_4 9 rfl rfl)
theorem dX6_readStep_104 : decode cX6_readStep 104 = .ok (.iload 4, 2) := dk_21 4 (dk_at dksX6_readStep_4 10 rfl rfl)
theorem dX6_readStep_106 : decode cX6_readStep 106 = .ok (.ifCond .le 13, 3) := dk_158 0 13 (dk_at dksX6_readStep_4 12 rfl rfl)
theorem dX6_readStep_109 : decode cX6_readStep 109 = .ok (.aload_n 0, 1) := dk_42 (dk_at dksX6_readStep_4 15 rfl rfl)
theorem dX6_readStep_110 : decode cX6_readStep 110 = .ok (.dup, 1) := dk_89 (dk_at dksX6_readStep_4 16 rfl rfl)
theorem dX6_readStep_111 : decode cX6_readStep 111 = .ok (.getfield 72, 3) := dk_180 0 72 (dk_at dksX6_readStep_4 17 rfl rfl)
theorem dX6_readStep_114 : decode cX6_readStep 114 = .ok (.iconst 1, 1) := dk_4 (dk_at dksX6_readStep_4 20 rfl rfl)
theorem dX6_readStep_115 : decode cX6_readStep 115 = .ok (.iadd, 1) := dk_96 (dk_at dksX6_readStep_4 21 rfl rfl)
theorem dX6_readStep_116 : decode cX6_readStep 116 = .ok (.putfield 72, 3) := dk_181 0 72 (dk_at dksX6_readStep_5 0 rfl rfl)
theorem dX6_readStep_119 : decode cX6_readStep 119 = .ok (.aload_n 0, 1) := dk_42 (dk_at dksX6_readStep_5 3 rfl rfl)
theorem dX6_readStep_120 : decode cX6_readStep 120 = .ok (.getfield 26, 3) := dk_180 0 26 (dk_at dksX6_readStep_5 4 rfl rfl)
theorem dX6_readStep_123 : decode cX6_readStep 123 = .ok (.iload_n 2, 1) := dk_28 (dk_at dksX6_readStep_5 7 rfl rfl)
theorem dX6_readStep_124 : decode cX6_readStep 124 = .ok (.iconst 1, 1) := dk_4 (dk_at dksX6_readStep_5 8 rfl rfl)
theorem dX6_readStep_125 : decode cX6_readStep 125 = .ok (.iadd, 1) := dk_96 (dk_at dksX6_readStep_5 9 rfl rfl)
theorem dX6_readStep_126 : decode cX6_readStep 126 = .ok (.iload 4, 2) := dk_21 4 (dk_at dksX6_readStep_5 10 rfl rfl)
theorem dX6_readStep_128 : decode cX6_readStep 128 = .ok (.iadd, 1) := dk_96 (dk_at dksX6_readStep_5 12 rfl rfl)
theorem dX6_readStep_129 : decode cX6_readStep 129 = .ok (.aload_n 0, 1) := dk_42 (dk_at dksX6_readStep_5 13 rfl rfl)
theorem dX6_readStep_130 : decode cX6_readStep 130 = .ok (.invokevirtual 107, 3) := dk_182 0 107 (dk_at dksX6_readStep_5 14 rfl rfl)
theorem dX6_readStep_133 : decode cX6_readStep 133 = .ok (.iastore, 1) := dk_79 (dk_at dksX6_readStep_5 17 rfl rfl)
theorem dX6_readStep_134 : decode cX6_readStep 134 = .ok (.iinc 4 1, 3) := dk_132 4 1 (dk_at dksX6_readStep_5 18 rfl rfl)
theorem dX6_readStep_137 : decode cX6_readStep 137 = .ok (.goto (-90), 3) := dk_167 255 166 (dk_at dksX6_readStep_5 21 rfl rfl)
theorem dX6_readStep_140 : decode cX6_readStep 140 = .ok (.return_, 1) := dk_177 (dk_at dksX6_readStep_6 0 rfl rfl)
abbrev cX6_numbersOf : ByteArray := prog_12_method_20_code
def yX6_numbersOf : MethodName := ⟨RX6, "numbersOf", "(I)I"⟩
def dkwX6_numbersOf_2 : List UInt8 := [5, 172, 7, 172, 6, 172, 3, 172, 4, 172]
abbrev dktX6_numbersOf_2 : List UInt8 := dkwX6_numbersOf_2 ++ []
def dkwX6_numbersOf_1 : List UInt8 := [170, 0, 0, 0, 0, 0, 59, 0, 0, 0, 0, 0, 0, 0, 8, 0, 0, 0, 51, 0, 0, 0, 59, 0, 0, 0, 59, 0, 0, 0, 51, 0, 0, 0, 59, 0, 0, 0, 53, 0, 0, 0, 55, 0, 0, 0, 57, 0, 0, 0, 53]
abbrev dktX6_numbersOf_1 : List UInt8 := dkwX6_numbersOf_1 ++ dktX6_numbersOf_2
def dkwX6_numbersOf_0 : List UInt8 := [26]
abbrev dktX6_numbersOf_0 : List UInt8 := dkwX6_numbersOf_0 ++ dktX6_numbersOf_1
theorem dksX6_numbersOf_0 : cX6_numbersOf.data.toList.drop 0 = dktX6_numbersOf_0 := by decide +kernel
theorem dksX6_numbersOf_1 : cX6_numbersOf.data.toList.drop 1 = dktX6_numbersOf_1 := dk_seg dksX6_numbersOf_0 1 rfl rfl
theorem dksX6_numbersOf_2 : cX6_numbersOf.data.toList.drop 52 = dktX6_numbersOf_2 := dk_seg dksX6_numbersOf_1 51 rfl rfl
theorem dX6_numbersOf_0 : decode cX6_numbersOf 0 = .ok (.iload_n 0, 1) := dk_26 (dk_at dksX6_numbersOf_0 0 rfl rfl)
theorem dX6_numbersOf_1 : decode cX6_numbersOf 1 = .ok (.tableswitch 59 0 8 #[51, 59, 59, 51, 59, 53, 55, 57, 53], 51) := by decide +kernel
theorem dX6_numbersOf_52 : decode cX6_numbersOf 52 = .ok (.iconst 2, 1) := dk_5 (dk_at dksX6_numbersOf_2 0 rfl rfl)
theorem dX6_numbersOf_53 : decode cX6_numbersOf 53 = .ok (.ireturn, 1) := dk_172 (dk_at dksX6_numbersOf_2 1 rfl rfl)
theorem dX6_numbersOf_54 : decode cX6_numbersOf 54 = .ok (.iconst 4, 1) := dk_7 (dk_at dksX6_numbersOf_2 2 rfl rfl)
theorem dX6_numbersOf_55 : decode cX6_numbersOf 55 = .ok (.ireturn, 1) := dk_172 (dk_at dksX6_numbersOf_2 3 rfl rfl)
theorem dX6_numbersOf_56 : decode cX6_numbersOf 56 = .ok (.iconst 3, 1) := dk_6 (dk_at dksX6_numbersOf_2 4 rfl rfl)
theorem dX6_numbersOf_57 : decode cX6_numbersOf 57 = .ok (.ireturn, 1) := dk_172 (dk_at dksX6_numbersOf_2 5 rfl rfl)
theorem dX6_numbersOf_58 : decode cX6_numbersOf 58 = .ok (.iconst 0, 1) := dk_3 (dk_at dksX6_numbersOf_2 6 rfl rfl)
theorem dX6_numbersOf_59 : decode cX6_numbersOf 59 = .ok (.ireturn, 1) := dk_172 (dk_at dksX6_numbersOf_2 7 rfl rfl)
theorem dX6_numbersOf_60 : decode cX6_numbersOf 60 = .ok (.iconst 1, 1) := dk_4 (dk_at dksX6_numbersOf_2 8 rfl rfl)
theorem dX6_numbersOf_61 : decode cX6_numbersOf 61 = .ok (.ireturn, 1) := dk_172 (dk_at dksX6_numbersOf_2 9 rfl rfl)
abbrev cX6_times : ByteArray := prog_12_method_29_code
def yX6_times : MethodName := ⟨RX6, "times", "(II)I"⟩
def dkwX6_times_1 : List UInt8 := [153, 0, 12, 42, 27, 28, 182, 0, 160, 167, 0, 4, 2, 172]
abbrev dktX6_times_1 : List UInt8 := dkwX6_times_1 ++ []
def dkwX6_times_0 : List UInt8 := [42, 3, 181, 0, 57, 42, 180, 0, 153, 158, 0, 26, 27, 184, 0, 156, 153, 0, 19, 28, 184, 0, 156]
abbrev dktX6_times_0 : List UInt8 := dkwX6_times_0 ++ dktX6_times_1
theorem dksX6_times_0 : cX6_times.data.toList.drop 0 = dktX6_times_0 := by decide +kernel
theorem dksX6_times_1 : cX6_times.data.toList.drop 23 = dktX6_times_1 := dk_seg dksX6_times_0 23 rfl rfl
theorem dX6_times_0 : decode cX6_times 0 = .ok (.aload_n 0, 1) := dk_42 (dk_at dksX6_times_0 0 rfl rfl)
theorem dX6_times_1 : decode cX6_times 1 = .ok (.iconst 0, 1) := dk_3 (dk_at dksX6_times_0 1 rfl rfl)
theorem dX6_times_2 : decode cX6_times 2 = .ok (.putfield 57, 3) := dk_181 0 57 (dk_at dksX6_times_0 2 rfl rfl)
theorem dX6_times_5 : decode cX6_times 5 = .ok (.aload_n 0, 1) := dk_42 (dk_at dksX6_times_0 5 rfl rfl)
theorem dX6_times_6 : decode cX6_times 6 = .ok (.getfield 153, 3) := dk_180 0 153 (dk_at dksX6_times_0 6 rfl rfl)
theorem dX6_times_9 : decode cX6_times 9 = .ok (.ifCond .le 26, 3) := dk_158 0 26 (dk_at dksX6_times_0 9 rfl rfl)
theorem dX6_times_12 : decode cX6_times 12 = .ok (.iload_n 1, 1) := dk_27 (dk_at dksX6_times_0 12 rfl rfl)
theorem dX6_times_13 : decode cX6_times 13 = .ok (.invokestatic 156, 3) := dk_184 0 156 (dk_at dksX6_times_0 13 rfl rfl)
theorem dX6_times_16 : decode cX6_times 16 = .ok (.ifCond .eq 19, 3) := dk_153 0 19 (dk_at dksX6_times_0 16 rfl rfl)
theorem dX6_times_19 : decode cX6_times 19 = .ok (.iload_n 2, 1) := dk_28 (dk_at dksX6_times_0 19 rfl rfl)
theorem dX6_times_20 : decode cX6_times 20 = .ok (.invokestatic 156, 3) := dk_184 0 156 (dk_at dksX6_times_0 20 rfl rfl)
theorem dX6_times_23 : decode cX6_times 23 = .ok (.ifCond .eq 12, 3) := dk_153 0 12 (dk_at dksX6_times_1 0 rfl rfl)
theorem dX6_times_26 : decode cX6_times 26 = .ok (.aload_n 0, 1) := dk_42 (dk_at dksX6_times_1 3 rfl rfl)
theorem dX6_times_27 : decode cX6_times 27 = .ok (.iload_n 1, 1) := dk_27 (dk_at dksX6_times_1 4 rfl rfl)
theorem dX6_times_28 : decode cX6_times 28 = .ok (.iload_n 2, 1) := dk_28 (dk_at dksX6_times_1 5 rfl rfl)
theorem dX6_times_29 : decode cX6_times 29 = .ok (.invokevirtual 160, 3) := dk_182 0 160 (dk_at dksX6_times_1 6 rfl rfl)
theorem dX6_times_32 : decode cX6_times 32 = .ok (.goto 4, 3) := dk_167 0 4 (dk_at dksX6_times_1 9 rfl rfl)
theorem dX6_times_35 : decode cX6_times 35 = .ok (.iconst (-1), 1) := dk_2 (dk_at dksX6_times_1 12 rfl rfl)
theorem dX6_times_36 : decode cX6_times 36 = .ok (.ireturn, 1) := dk_172 (dk_at dksX6_times_1 13 rfl rfl)
abbrev cX6_isByte : ByteArray := prog_12_method_28_code
def yX6_isByte : MethodName := ⟨RX6, "isByte", "(I)Z"⟩
def dkwX6_isByte_0 : List UInt8 := [26, 155, 0, 14, 26, 17, 0, 255, 163, 0, 7, 4, 167, 0, 4, 3, 172]
abbrev dktX6_isByte_0 : List UInt8 := dkwX6_isByte_0 ++ []
theorem dksX6_isByte_0 : cX6_isByte.data.toList.drop 0 = dktX6_isByte_0 := by decide +kernel
theorem dX6_isByte_0 : decode cX6_isByte 0 = .ok (.iload_n 0, 1) := dk_26 (dk_at dksX6_isByte_0 0 rfl rfl)
theorem dX6_isByte_1 : decode cX6_isByte 1 = .ok (.ifCond .lt 14, 3) := dk_155 0 14 (dk_at dksX6_isByte_0 1 rfl rfl)
theorem dX6_isByte_4 : decode cX6_isByte 4 = .ok (.iload_n 0, 1) := dk_26 (dk_at dksX6_isByte_0 4 rfl rfl)
theorem dX6_isByte_5 : decode cX6_isByte 5 = .ok (.sipush 255, 3) := dk_17 0 255 (dk_at dksX6_isByte_0 5 rfl rfl)
theorem dX6_isByte_8 : decode cX6_isByte 8 = .ok (.if_icmp .gt 7, 3) := dk_163 0 7 (dk_at dksX6_isByte_0 8 rfl rfl)
theorem dX6_isByte_11 : decode cX6_isByte 11 = .ok (.iconst 1, 1) := dk_4 (dk_at dksX6_isByte_0 11 rfl rfl)
theorem dX6_isByte_12 : decode cX6_isByte 12 = .ok (.goto 4, 3) := dk_167 0 4 (dk_at dksX6_isByte_0 12 rfl rfl)
theorem dX6_isByte_15 : decode cX6_isByte 15 = .ok (.iconst 0, 1) := dk_3 (dk_at dksX6_isByte_0 15 rfl rfl)
theorem dX6_isByte_16 : decode cX6_isByte 16 = .ok (.ireturn, 1) := dk_172 (dk_at dksX6_isByte_0 16 rfl rfl)
abbrev cX6_product : ByteArray := prog_12_method_26_code
def yX6_product : MethodName := ⟨RX6, "product", "(II)I"⟩
def dkwX6_product_1 : List UInt8 := [180, 0, 35, 28, 46, 96, 17, 0, 255, 112, 46, 172]
abbrev dktX6_product_1 : List UInt8 := dkwX6_product_1 ++ []
def dkwX6_product_0 : List UInt8 := [27, 153, 0, 7, 28, 154, 0, 7, 3, 167, 0, 25, 42, 180, 0, 32, 42, 180, 0, 35, 27, 46, 42]
abbrev dktX6_product_0 : List UInt8 := dkwX6_product_0 ++ dktX6_product_1
theorem dksX6_product_0 : cX6_product.data.toList.drop 0 = dktX6_product_0 := by decide +kernel
theorem dksX6_product_1 : cX6_product.data.toList.drop 23 = dktX6_product_1 := dk_seg dksX6_product_0 23 rfl rfl
theorem dX6_product_0 : decode cX6_product 0 = .ok (.iload_n 1, 1) := dk_27 (dk_at dksX6_product_0 0 rfl rfl)
theorem dX6_product_1 : decode cX6_product 1 = .ok (.ifCond .eq 7, 3) := dk_153 0 7 (dk_at dksX6_product_0 1 rfl rfl)
theorem dX6_product_4 : decode cX6_product 4 = .ok (.iload_n 2, 1) := dk_28 (dk_at dksX6_product_0 4 rfl rfl)
theorem dX6_product_5 : decode cX6_product 5 = .ok (.ifCond .ne 7, 3) := dk_154 0 7 (dk_at dksX6_product_0 5 rfl rfl)
theorem dX6_product_8 : decode cX6_product 8 = .ok (.iconst 0, 1) := dk_3 (dk_at dksX6_product_0 8 rfl rfl)
theorem dX6_product_9 : decode cX6_product 9 = .ok (.goto 25, 3) := dk_167 0 25 (dk_at dksX6_product_0 9 rfl rfl)
theorem dX6_product_12 : decode cX6_product 12 = .ok (.aload_n 0, 1) := dk_42 (dk_at dksX6_product_0 12 rfl rfl)
theorem dX6_product_13 : decode cX6_product 13 = .ok (.getfield 32, 3) := dk_180 0 32 (dk_at dksX6_product_0 13 rfl rfl)
theorem dX6_product_16 : decode cX6_product 16 = .ok (.aload_n 0, 1) := dk_42 (dk_at dksX6_product_0 16 rfl rfl)
theorem dX6_product_17 : decode cX6_product 17 = .ok (.getfield 35, 3) := dk_180 0 35 (dk_at dksX6_product_0 17 rfl rfl)
theorem dX6_product_20 : decode cX6_product 20 = .ok (.iload_n 1, 1) := dk_27 (dk_at dksX6_product_0 20 rfl rfl)
theorem dX6_product_21 : decode cX6_product 21 = .ok (.iaload, 1) := dk_46 (dk_at dksX6_product_0 21 rfl rfl)
theorem dX6_product_22 : decode cX6_product 22 = .ok (.aload_n 0, 1) := dk_42 (dk_at dksX6_product_0 22 rfl rfl)
theorem dX6_product_23 : decode cX6_product 23 = .ok (.getfield 35, 3) := dk_180 0 35 (dk_at dksX6_product_1 0 rfl rfl)
theorem dX6_product_26 : decode cX6_product 26 = .ok (.iload_n 2, 1) := dk_28 (dk_at dksX6_product_1 3 rfl rfl)
theorem dX6_product_27 : decode cX6_product 27 = .ok (.iaload, 1) := dk_46 (dk_at dksX6_product_1 4 rfl rfl)
theorem dX6_product_28 : decode cX6_product 28 = .ok (.iadd, 1) := dk_96 (dk_at dksX6_product_1 5 rfl rfl)
theorem dX6_product_29 : decode cX6_product 29 = .ok (.sipush 255, 3) := dk_17 0 255 (dk_at dksX6_product_1 6 rfl rfl)
theorem dX6_product_32 : decode cX6_product 32 = .ok (.irem, 1) := dk_112 (dk_at dksX6_product_1 9 rfl rfl)
theorem dX6_product_33 : decode cX6_product 33 = .ok (.iaload, 1) := dk_46 (dk_at dksX6_product_1 10 rfl rfl)
theorem dX6_product_34 : decode cX6_product 34 = .ok (.ireturn, 1) := dk_172 (dk_at dksX6_product_1 11 rfl rfl)
abbrev cX6_over : ByteArray := prog_12_method_30_code
def yX6_over : MethodName := ⟨RX6, "over", "(II)I"⟩
def dkwX6_over_1 : List UInt8 := [153, 0, 16, 28, 153, 0, 12, 42, 27, 28, 182, 0, 164, 167, 0, 4, 2, 172]
abbrev dktX6_over_1 : List UInt8 := dkwX6_over_1 ++ []
def dkwX6_over_0 : List UInt8 := [42, 3, 181, 0, 57, 42, 180, 0, 153, 158, 0, 30, 27, 184, 0, 156, 153, 0, 23, 28, 184, 0, 156]
abbrev dktX6_over_0 : List UInt8 := dkwX6_over_0 ++ dktX6_over_1
theorem dksX6_over_0 : cX6_over.data.toList.drop 0 = dktX6_over_0 := by decide +kernel
theorem dksX6_over_1 : cX6_over.data.toList.drop 23 = dktX6_over_1 := dk_seg dksX6_over_0 23 rfl rfl
theorem dX6_over_0 : decode cX6_over 0 = .ok (.aload_n 0, 1) := dk_42 (dk_at dksX6_over_0 0 rfl rfl)
theorem dX6_over_1 : decode cX6_over 1 = .ok (.iconst 0, 1) := dk_3 (dk_at dksX6_over_0 1 rfl rfl)
theorem dX6_over_2 : decode cX6_over 2 = .ok (.putfield 57, 3) := dk_181 0 57 (dk_at dksX6_over_0 2 rfl rfl)
theorem dX6_over_5 : decode cX6_over 5 = .ok (.aload_n 0, 1) := dk_42 (dk_at dksX6_over_0 5 rfl rfl)
theorem dX6_over_6 : decode cX6_over 6 = .ok (.getfield 153, 3) := dk_180 0 153 (dk_at dksX6_over_0 6 rfl rfl)
theorem dX6_over_9 : decode cX6_over 9 = .ok (.ifCond .le 30, 3) := dk_158 0 30 (dk_at dksX6_over_0 9 rfl rfl)
theorem dX6_over_12 : decode cX6_over 12 = .ok (.iload_n 1, 1) := dk_27 (dk_at dksX6_over_0 12 rfl rfl)
theorem dX6_over_13 : decode cX6_over 13 = .ok (.invokestatic 156, 3) := dk_184 0 156 (dk_at dksX6_over_0 13 rfl rfl)
theorem dX6_over_16 : decode cX6_over 16 = .ok (.ifCond .eq 23, 3) := dk_153 0 23 (dk_at dksX6_over_0 16 rfl rfl)
theorem dX6_over_19 : decode cX6_over 19 = .ok (.iload_n 2, 1) := dk_28 (dk_at dksX6_over_0 19 rfl rfl)
theorem dX6_over_20 : decode cX6_over 20 = .ok (.invokestatic 156, 3) := dk_184 0 156 (dk_at dksX6_over_0 20 rfl rfl)
theorem dX6_over_23 : decode cX6_over 23 = .ok (.ifCond .eq 16, 3) := dk_153 0 16 (dk_at dksX6_over_1 0 rfl rfl)
theorem dX6_over_26 : decode cX6_over 26 = .ok (.iload_n 2, 1) := dk_28 (dk_at dksX6_over_1 3 rfl rfl)
theorem dX6_over_27 : decode cX6_over 27 = .ok (.ifCond .eq 12, 3) := dk_153 0 12 (dk_at dksX6_over_1 4 rfl rfl)
theorem dX6_over_30 : decode cX6_over 30 = .ok (.aload_n 0, 1) := dk_42 (dk_at dksX6_over_1 7 rfl rfl)
theorem dX6_over_31 : decode cX6_over 31 = .ok (.iload_n 1, 1) := dk_27 (dk_at dksX6_over_1 8 rfl rfl)
theorem dX6_over_32 : decode cX6_over 32 = .ok (.iload_n 2, 1) := dk_28 (dk_at dksX6_over_1 9 rfl rfl)
theorem dX6_over_33 : decode cX6_over 33 = .ok (.invokevirtual 164, 3) := dk_182 0 164 (dk_at dksX6_over_1 10 rfl rfl)
theorem dX6_over_36 : decode cX6_over 36 = .ok (.goto 4, 3) := dk_167 0 4 (dk_at dksX6_over_1 13 rfl rfl)
theorem dX6_over_39 : decode cX6_over 39 = .ok (.iconst (-1), 1) := dk_2 (dk_at dksX6_over_1 16 rfl rfl)
theorem dX6_over_40 : decode cX6_over 40 = .ok (.ireturn, 1) := dk_172 (dk_at dksX6_over_1 17 rfl rfl)
abbrev cX6_quotient : ByteArray := prog_12_method_27_code
def yX6_quotient : MethodName := ⟨RX6, "quotient", "(II)I"⟩
def dkwX6_quotient_1 : List UInt8 := [100, 17, 0, 255, 96, 17, 0, 255, 112, 46, 172]
abbrev dktX6_quotient_1 : List UInt8 := dkwX6_quotient_1 ++ []
def dkwX6_quotient_0 : List UInt8 := [27, 154, 0, 7, 3, 167, 0, 29, 42, 180, 0, 32, 42, 180, 0, 35, 27, 46, 42, 180, 0, 35, 28, 46]
abbrev dktX6_quotient_0 : List UInt8 := dkwX6_quotient_0 ++ dktX6_quotient_1
theorem dksX6_quotient_0 : cX6_quotient.data.toList.drop 0 = dktX6_quotient_0 := by decide +kernel
theorem dksX6_quotient_1 : cX6_quotient.data.toList.drop 24 = dktX6_quotient_1 := dk_seg dksX6_quotient_0 24 rfl rfl
theorem dX6_quotient_0 : decode cX6_quotient 0 = .ok (.iload_n 1, 1) := dk_27 (dk_at dksX6_quotient_0 0 rfl rfl)
theorem dX6_quotient_1 : decode cX6_quotient 1 = .ok (.ifCond .ne 7, 3) := dk_154 0 7 (dk_at dksX6_quotient_0 1 rfl rfl)
theorem dX6_quotient_4 : decode cX6_quotient 4 = .ok (.iconst 0, 1) := dk_3 (dk_at dksX6_quotient_0 4 rfl rfl)
theorem dX6_quotient_5 : decode cX6_quotient 5 = .ok (.goto 29, 3) := dk_167 0 29 (dk_at dksX6_quotient_0 5 rfl rfl)
theorem dX6_quotient_8 : decode cX6_quotient 8 = .ok (.aload_n 0, 1) := dk_42 (dk_at dksX6_quotient_0 8 rfl rfl)
theorem dX6_quotient_9 : decode cX6_quotient 9 = .ok (.getfield 32, 3) := dk_180 0 32 (dk_at dksX6_quotient_0 9 rfl rfl)
theorem dX6_quotient_12 : decode cX6_quotient 12 = .ok (.aload_n 0, 1) := dk_42 (dk_at dksX6_quotient_0 12 rfl rfl)
theorem dX6_quotient_13 : decode cX6_quotient 13 = .ok (.getfield 35, 3) := dk_180 0 35 (dk_at dksX6_quotient_0 13 rfl rfl)
theorem dX6_quotient_16 : decode cX6_quotient 16 = .ok (.iload_n 1, 1) := dk_27 (dk_at dksX6_quotient_0 16 rfl rfl)
theorem dX6_quotient_17 : decode cX6_quotient 17 = .ok (.iaload, 1) := dk_46 (dk_at dksX6_quotient_0 17 rfl rfl)
theorem dX6_quotient_18 : decode cX6_quotient 18 = .ok (.aload_n 0, 1) := dk_42 (dk_at dksX6_quotient_0 18 rfl rfl)
theorem dX6_quotient_19 : decode cX6_quotient 19 = .ok (.getfield 35, 3) := dk_180 0 35 (dk_at dksX6_quotient_0 19 rfl rfl)
theorem dX6_quotient_22 : decode cX6_quotient 22 = .ok (.iload_n 2, 1) := dk_28 (dk_at dksX6_quotient_0 22 rfl rfl)
theorem dX6_quotient_23 : decode cX6_quotient 23 = .ok (.iaload, 1) := dk_46 (dk_at dksX6_quotient_0 23 rfl rfl)
theorem dX6_quotient_24 : decode cX6_quotient 24 = .ok (.isub, 1) := dk_100 (dk_at dksX6_quotient_1 0 rfl rfl)
theorem dX6_quotient_25 : decode cX6_quotient 25 = .ok (.sipush 255, 3) := dk_17 0 255 (dk_at dksX6_quotient_1 1 rfl rfl)
theorem dX6_quotient_28 : decode cX6_quotient 28 = .ok (.iadd, 1) := dk_96 (dk_at dksX6_quotient_1 4 rfl rfl)
theorem dX6_quotient_29 : decode cX6_quotient 29 = .ok (.sipush 255, 3) := dk_17 0 255 (dk_at dksX6_quotient_1 5 rfl rfl)
theorem dX6_quotient_32 : decode cX6_quotient 32 = .ok (.irem, 1) := dk_112 (dk_at dksX6_quotient_1 8 rfl rfl)
theorem dX6_quotient_33 : decode cX6_quotient 33 = .ok (.iaload, 1) := dk_46 (dk_at dksX6_quotient_1 9 rfl rfl)
theorem dX6_quotient_34 : decode cX6_quotient 34 = .ok (.ireturn, 1) := dk_172 (dk_at dksX6_quotient_1 10 rfl rfl)
abbrev cX6_power : ByteArray := prog_12_method_31_code
def yX6_power : MethodName := ⟨RX6, "power", "(I)I"⟩
def dkwX6_power_1 : List UInt8 := [42, 180, 0, 32, 27, 17, 0, 255, 112, 46, 167, 0, 4, 2, 172]
abbrev dktX6_power_1 : List UInt8 := dkwX6_power_1 ++ []
def dkwX6_power_0 : List UInt8 := [42, 3, 181, 0, 57, 42, 180, 0, 153, 158, 0, 28, 27, 133, 9, 20, 0, 167, 184, 0, 117, 153, 0, 16]
abbrev dktX6_power_0 : List UInt8 := dkwX6_power_0 ++ dktX6_power_1
theorem dksX6_power_0 : cX6_power.data.toList.drop 0 = dktX6_power_0 := by decide +kernel
theorem dksX6_power_1 : cX6_power.data.toList.drop 24 = dktX6_power_1 := dk_seg dksX6_power_0 24 rfl rfl
theorem dX6_power_0 : decode cX6_power 0 = .ok (.aload_n 0, 1) := dk_42 (dk_at dksX6_power_0 0 rfl rfl)
theorem dX6_power_1 : decode cX6_power 1 = .ok (.iconst 0, 1) := dk_3 (dk_at dksX6_power_0 1 rfl rfl)
theorem dX6_power_2 : decode cX6_power 2 = .ok (.putfield 57, 3) := dk_181 0 57 (dk_at dksX6_power_0 2 rfl rfl)
theorem dX6_power_5 : decode cX6_power 5 = .ok (.aload_n 0, 1) := dk_42 (dk_at dksX6_power_0 5 rfl rfl)
theorem dX6_power_6 : decode cX6_power 6 = .ok (.getfield 153, 3) := dk_180 0 153 (dk_at dksX6_power_0 6 rfl rfl)
theorem dX6_power_9 : decode cX6_power 9 = .ok (.ifCond .le 28, 3) := dk_158 0 28 (dk_at dksX6_power_0 9 rfl rfl)
theorem dX6_power_12 : decode cX6_power 12 = .ok (.iload_n 1, 1) := dk_27 (dk_at dksX6_power_0 12 rfl rfl)
theorem dX6_power_13 : decode cX6_power 13 = .ok (.i2l, 1) := dk_133 (dk_at dksX6_power_0 13 rfl rfl)
theorem dX6_power_14 : decode cX6_power 14 = .ok (.lconst 0, 1) := dk_9 (dk_at dksX6_power_0 14 rfl rfl)
theorem dX6_power_15 : decode cX6_power 15 = .ok (.ldc2_w 167, 3) := dk_20 0 167 (dk_at dksX6_power_0 15 rfl rfl)
theorem dX6_power_18 : decode cX6_power 18 = .ok (.invokestatic 117, 3) := dk_184 0 117 (dk_at dksX6_power_0 18 rfl rfl)
theorem dX6_power_21 : decode cX6_power 21 = .ok (.ifCond .eq 16, 3) := dk_153 0 16 (dk_at dksX6_power_0 21 rfl rfl)
theorem dX6_power_24 : decode cX6_power 24 = .ok (.aload_n 0, 1) := dk_42 (dk_at dksX6_power_1 0 rfl rfl)
theorem dX6_power_25 : decode cX6_power 25 = .ok (.getfield 32, 3) := dk_180 0 32 (dk_at dksX6_power_1 1 rfl rfl)
theorem dX6_power_28 : decode cX6_power 28 = .ok (.iload_n 1, 1) := dk_27 (dk_at dksX6_power_1 4 rfl rfl)
theorem dX6_power_29 : decode cX6_power 29 = .ok (.sipush 255, 3) := dk_17 0 255 (dk_at dksX6_power_1 5 rfl rfl)
theorem dX6_power_32 : decode cX6_power 32 = .ok (.irem, 1) := dk_112 (dk_at dksX6_power_1 8 rfl rfl)
theorem dX6_power_33 : decode cX6_power 33 = .ok (.iaload, 1) := dk_46 (dk_at dksX6_power_1 9 rfl rfl)
theorem dX6_power_34 : decode cX6_power 34 = .ok (.goto 4, 3) := dk_167 0 4 (dk_at dksX6_power_1 10 rfl rfl)
theorem dX6_power_37 : decode cX6_power 37 = .ok (.iconst (-1), 1) := dk_2 (dk_at dksX6_power_1 13 rfl rfl)
theorem dX6_power_38 : decode cX6_power 38 = .ok (.ireturn, 1) := dk_172 (dk_at dksX6_power_1 14 rfl rfl)
abbrev cX6_logOf : ByteArray := prog_12_method_32_code
def yX6_logOf : MethodName := ⟨RX6, "logOf", "(I)I"⟩
def dkwX6_logOf_1 : List UInt8 := [42, 180, 0, 35, 27, 46, 167, 0, 4, 2, 172]
abbrev dktX6_logOf_1 : List UInt8 := dkwX6_logOf_1 ++ []
def dkwX6_logOf_0 : List UInt8 := [42, 3, 181, 0, 57, 42, 180, 0, 153, 158, 0, 24, 27, 133, 10, 20, 0, 169, 184, 0, 117, 153, 0, 12]
abbrev dktX6_logOf_0 : List UInt8 := dkwX6_logOf_0 ++ dktX6_logOf_1
theorem dksX6_logOf_0 : cX6_logOf.data.toList.drop 0 = dktX6_logOf_0 := by decide +kernel
theorem dksX6_logOf_1 : cX6_logOf.data.toList.drop 24 = dktX6_logOf_1 := dk_seg dksX6_logOf_0 24 rfl rfl
theorem dX6_logOf_0 : decode cX6_logOf 0 = .ok (.aload_n 0, 1) := dk_42 (dk_at dksX6_logOf_0 0 rfl rfl)
theorem dX6_logOf_1 : decode cX6_logOf 1 = .ok (.iconst 0, 1) := dk_3 (dk_at dksX6_logOf_0 1 rfl rfl)
theorem dX6_logOf_2 : decode cX6_logOf 2 = .ok (.putfield 57, 3) := dk_181 0 57 (dk_at dksX6_logOf_0 2 rfl rfl)
theorem dX6_logOf_5 : decode cX6_logOf 5 = .ok (.aload_n 0, 1) := dk_42 (dk_at dksX6_logOf_0 5 rfl rfl)
theorem dX6_logOf_6 : decode cX6_logOf 6 = .ok (.getfield 153, 3) := dk_180 0 153 (dk_at dksX6_logOf_0 6 rfl rfl)
theorem dX6_logOf_9 : decode cX6_logOf 9 = .ok (.ifCond .le 24, 3) := dk_158 0 24 (dk_at dksX6_logOf_0 9 rfl rfl)
theorem dX6_logOf_12 : decode cX6_logOf 12 = .ok (.iload_n 1, 1) := dk_27 (dk_at dksX6_logOf_0 12 rfl rfl)
theorem dX6_logOf_13 : decode cX6_logOf 13 = .ok (.i2l, 1) := dk_133 (dk_at dksX6_logOf_0 13 rfl rfl)
theorem dX6_logOf_14 : decode cX6_logOf 14 = .ok (.lconst 1, 1) := dk_10 (dk_at dksX6_logOf_0 14 rfl rfl)
theorem dX6_logOf_15 : decode cX6_logOf 15 = .ok (.ldc2_w 169, 3) := dk_20 0 169 (dk_at dksX6_logOf_0 15 rfl rfl)
theorem dX6_logOf_18 : decode cX6_logOf 18 = .ok (.invokestatic 117, 3) := dk_184 0 117 (dk_at dksX6_logOf_0 18 rfl rfl)
theorem dX6_logOf_21 : decode cX6_logOf 21 = .ok (.ifCond .eq 12, 3) := dk_153 0 12 (dk_at dksX6_logOf_0 21 rfl rfl)
theorem dX6_logOf_24 : decode cX6_logOf 24 = .ok (.aload_n 0, 1) := dk_42 (dk_at dksX6_logOf_1 0 rfl rfl)
theorem dX6_logOf_25 : decode cX6_logOf 25 = .ok (.getfield 35, 3) := dk_180 0 35 (dk_at dksX6_logOf_1 1 rfl rfl)
theorem dX6_logOf_28 : decode cX6_logOf 28 = .ok (.iload_n 1, 1) := dk_27 (dk_at dksX6_logOf_1 4 rfl rfl)
theorem dX6_logOf_29 : decode cX6_logOf 29 = .ok (.iaload, 1) := dk_46 (dk_at dksX6_logOf_1 5 rfl rfl)
theorem dX6_logOf_30 : decode cX6_logOf 30 = .ok (.goto 4, 3) := dk_167 0 4 (dk_at dksX6_logOf_1 6 rfl rfl)
theorem dX6_logOf_33 : decode cX6_logOf 33 = .ok (.iconst (-1), 1) := dk_2 (dk_at dksX6_logOf_1 9 rfl rfl)
theorem dX6_logOf_34 : decode cX6_logOf 34 = .ok (.ireturn, 1) := dk_172 (dk_at dksX6_logOf_1 10 rfl rfl)
abbrev cX6_text : ByteArray := prog_12_method_34_code
def yX6_text : MethodName := ⟨RX6, "text", "(I)I"⟩
def dkwX6_text_5 : List UInt8 := [4, 100, 172, 42, 182, 0, 193, 42, 180, 0, 153, 172]
abbrev dktX6_text_5 : List UInt8 := dkwX6_text_5 ++ []
def dkwX6_text_4 : List UInt8 := [180, 0, 188, 42, 180, 0, 29, 7, 46, 79, 42, 89, 180, 0, 188, 4, 96, 181, 0, 188, 42, 180, 0, 188]
abbrev dktX6_text_4 : List UInt8 := dkwX6_text_4 ++ dktX6_text_5
def dkwX6_text_3 : List UInt8 := [96, 42, 180, 0, 26, 28, 7, 104, 29, 96, 46, 79, 132, 3, 1, 167, 255, 225, 42, 180, 0, 29, 42]
abbrev dktX6_text_3 : List UInt8 := dkwX6_text_3 ++ dktX6_text_4
def dkwX6_text_2 : List UInt8 := [160, 0, 74, 16, 80, 61, 3, 62, 29, 28, 162, 0, 32, 42, 180, 0, 26, 28, 42, 180, 0, 188, 104, 29]
abbrev dktX6_text_2 : List UInt8 := dkwX6_text_2 ++ dktX6_text_3
def dkwX6_text_1 : List UInt8 := [7, 159, 0, 12, 42, 27, 182, 0, 191, 2, 159, 0, 5, 2, 172, 42, 3, 181, 0, 61, 27, 4]
abbrev dktX6_text_1 : List UInt8 := dkwX6_text_1 ++ dktX6_text_2
def dkwX6_text_0 : List UInt8 := [42, 3, 181, 0, 57, 27, 133, 9, 10, 184, 0, 117, 153, 0, 25, 27, 4, 160, 0, 11, 42, 180, 0, 188]
abbrev dktX6_text_0 : List UInt8 := dkwX6_text_0 ++ dktX6_text_1
theorem dksX6_text_0 : cX6_text.data.toList.drop 0 = dktX6_text_0 := by decide +kernel
theorem dksX6_text_1 : cX6_text.data.toList.drop 24 = dktX6_text_1 := dk_seg dksX6_text_0 24 rfl rfl
theorem dksX6_text_2 : cX6_text.data.toList.drop 46 = dktX6_text_2 := dk_seg dksX6_text_1 22 rfl rfl
theorem dksX6_text_3 : cX6_text.data.toList.drop 70 = dktX6_text_3 := dk_seg dksX6_text_2 24 rfl rfl
theorem dksX6_text_4 : cX6_text.data.toList.drop 93 = dktX6_text_4 := dk_seg dksX6_text_3 23 rfl rfl
theorem dksX6_text_5 : cX6_text.data.toList.drop 117 = dktX6_text_5 := dk_seg dksX6_text_4 24 rfl rfl
theorem dX6_text_0 : decode cX6_text 0 = .ok (.aload_n 0, 1) := dk_42 (dk_at dksX6_text_0 0 rfl rfl)
theorem dX6_text_1 : decode cX6_text 1 = .ok (.iconst 0, 1) := dk_3 (dk_at dksX6_text_0 1 rfl rfl)
theorem dX6_text_2 : decode cX6_text 2 = .ok (.putfield 57, 3) := dk_181 0 57 (dk_at dksX6_text_0 2 rfl rfl)
theorem dX6_text_5 : decode cX6_text 5 = .ok (.iload_n 1, 1) := dk_27 (dk_at dksX6_text_0 5 rfl rfl)
theorem dX6_text_6 : decode cX6_text 6 = .ok (.i2l, 1) := dk_133 (dk_at dksX6_text_0 6 rfl rfl)
theorem dX6_text_7 : decode cX6_text 7 = .ok (.lconst 0, 1) := dk_9 (dk_at dksX6_text_0 7 rfl rfl)
theorem dX6_text_8 : decode cX6_text 8 = .ok (.lconst 1, 1) := dk_10 (dk_at dksX6_text_0 8 rfl rfl)
theorem dX6_text_9 : decode cX6_text 9 = .ok (.invokestatic 117, 3) := dk_184 0 117 (dk_at dksX6_text_0 9 rfl rfl)
theorem dX6_text_12 : decode cX6_text 12 = .ok (.ifCond .eq 25, 3) := dk_153 0 25 (dk_at dksX6_text_0 12 rfl rfl)
theorem dX6_text_15 : decode cX6_text 15 = .ok (.iload_n 1, 1) := dk_27 (dk_at dksX6_text_0 15 rfl rfl)
theorem dX6_text_16 : decode cX6_text 16 = .ok (.iconst 1, 1) := dk_4 (dk_at dksX6_text_0 16 rfl rfl)
theorem dX6_text_17 : decode cX6_text 17 = .ok (.if_icmp .ne 11, 3) := dk_160 0 11 (dk_at dksX6_text_0 17 rfl rfl)
theorem dX6_text_20 : decode cX6_text 20 = .ok (.aload_n 0, 1) := dk_42 (dk_at dksX6_text_0 20 rfl rfl)
theorem dX6_text_21 : decode cX6_text 21 = .ok (.getfield 188, 3) := dk_180 0 188 (dk_at dksX6_text_0 21 rfl rfl)
theorem dX6_text_24 : decode cX6_text 24 = .ok (.iconst 4, 1) := dk_7 (dk_at dksX6_text_1 0 rfl rfl)
theorem dX6_text_25 : decode cX6_text 25 = .ok (.if_icmp .eq 12, 3) := dk_159 0 12 (dk_at dksX6_text_1 1 rfl rfl)
theorem dX6_text_28 : decode cX6_text 28 = .ok (.aload_n 0, 1) := dk_42 (dk_at dksX6_text_1 4 rfl rfl)
theorem dX6_text_29 : decode cX6_text 29 = .ok (.iload_n 1, 1) := dk_27 (dk_at dksX6_text_1 5 rfl rfl)
theorem dX6_text_30 : decode cX6_text 30 = .ok (.invokevirtual 191, 3) := dk_182 0 191 (dk_at dksX6_text_1 6 rfl rfl)
theorem dX6_text_33 : decode cX6_text 33 = .ok (.iconst (-1), 1) := dk_2 (dk_at dksX6_text_1 9 rfl rfl)
theorem dX6_text_34 : decode cX6_text 34 = .ok (.if_icmp .eq 5, 3) := dk_159 0 5 (dk_at dksX6_text_1 10 rfl rfl)
theorem dX6_text_37 : decode cX6_text 37 = .ok (.iconst (-1), 1) := dk_2 (dk_at dksX6_text_1 13 rfl rfl)
theorem dX6_text_38 : decode cX6_text 38 = .ok (.ireturn, 1) := dk_172 (dk_at dksX6_text_1 14 rfl rfl)
theorem dX6_text_39 : decode cX6_text 39 = .ok (.aload_n 0, 1) := dk_42 (dk_at dksX6_text_1 15 rfl rfl)
theorem dX6_text_40 : decode cX6_text 40 = .ok (.iconst 0, 1) := dk_3 (dk_at dksX6_text_1 16 rfl rfl)
theorem dX6_text_41 : decode cX6_text 41 = .ok (.putfield 61, 3) := dk_181 0 61 (dk_at dksX6_text_1 17 rfl rfl)
theorem dX6_text_44 : decode cX6_text 44 = .ok (.iload_n 1, 1) := dk_27 (dk_at dksX6_text_1 20 rfl rfl)
theorem dX6_text_45 : decode cX6_text 45 = .ok (.iconst 1, 1) := dk_4 (dk_at dksX6_text_1 21 rfl rfl)
theorem dX6_text_46 : decode cX6_text 46 = .ok (.if_icmp .ne 74, 3) := dk_160 0 74 (dk_at dksX6_text_2 0 rfl rfl)
theorem dX6_text_49 : decode cX6_text 49 = .ok (.bipush 80, 2) := dk_16 80 (dk_at dksX6_text_2 3 rfl rfl)
theorem dX6_text_51 : decode cX6_text 51 = .ok (.istore_n 2, 1) := dk_61 (dk_at dksX6_text_2 5 rfl rfl)
theorem dX6_text_52 : decode cX6_text 52 = .ok (.iconst 0, 1) := dk_3 (dk_at dksX6_text_2 6 rfl rfl)
theorem dX6_text_53 : decode cX6_text 53 = .ok (.istore_n 3, 1) := dk_62 (dk_at dksX6_text_2 7 rfl rfl)
theorem dX6_text_54 : decode cX6_text 54 = .ok (.iload_n 3, 1) := dk_29 (dk_at dksX6_text_2 8 rfl rfl)
theorem dX6_text_55 : decode cX6_text 55 = .ok (.iload_n 2, 1) := dk_28 (dk_at dksX6_text_2 9 rfl rfl)
theorem dX6_text_56 : decode cX6_text 56 = .ok (.if_icmp .ge 32, 3) := dk_162 0 32 (dk_at dksX6_text_2 10 rfl rfl)
theorem dX6_text_59 : decode cX6_text 59 = .ok (.aload_n 0, 1) := dk_42 (dk_at dksX6_text_2 13 rfl rfl)
theorem dX6_text_60 : decode cX6_text 60 = .ok (.getfield 26, 3) := dk_180 0 26 (dk_at dksX6_text_2 14 rfl rfl)
theorem dX6_text_63 : decode cX6_text 63 = .ok (.iload_n 2, 1) := dk_28 (dk_at dksX6_text_2 17 rfl rfl)
theorem dX6_text_64 : decode cX6_text 64 = .ok (.aload_n 0, 1) := dk_42 (dk_at dksX6_text_2 18 rfl rfl)
theorem dX6_text_65 : decode cX6_text 65 = .ok (.getfield 188, 3) := dk_180 0 188 (dk_at dksX6_text_2 19 rfl rfl)
theorem dX6_text_68 : decode cX6_text 68 = .ok (.imul, 1) := dk_104 (dk_at dksX6_text_2 22 rfl rfl)
theorem dX6_text_69 : decode cX6_text 69 = .ok (.iload_n 3, 1) := dk_29 (dk_at dksX6_text_2 23 rfl rfl)
theorem dX6_text_70 : decode cX6_text 70 = .ok (.iadd, 1) := dk_96 (dk_at dksX6_text_3 0 rfl rfl)
theorem dX6_text_71 : decode cX6_text 71 = .ok (.aload_n 0, 1) := dk_42 (dk_at dksX6_text_3 1 rfl rfl)
theorem dX6_text_72 : decode cX6_text 72 = .ok (.getfield 26, 3) := dk_180 0 26 (dk_at dksX6_text_3 2 rfl rfl)
theorem dX6_text_75 : decode cX6_text 75 = .ok (.iload_n 2, 1) := dk_28 (dk_at dksX6_text_3 5 rfl rfl)
theorem dX6_text_76 : decode cX6_text 76 = .ok (.iconst 4, 1) := dk_7 (dk_at dksX6_text_3 6 rfl rfl)
theorem dX6_text_77 : decode cX6_text 77 = .ok (.imul, 1) := dk_104 (dk_at dksX6_text_3 7 rfl rfl)
theorem dX6_text_78 : decode cX6_text 78 = .ok (.iload_n 3, 1) := dk_29 (dk_at dksX6_text_3 8 rfl rfl)
theorem dX6_text_79 : decode cX6_text 79 = .ok (.iadd, 1) := dk_96 (dk_at dksX6_text_3 9 rfl rfl)
theorem dX6_text_80 : decode cX6_text 80 = .ok (.iaload, 1) := dk_46 (dk_at dksX6_text_3 10 rfl rfl)
theorem dX6_text_81 : decode cX6_text 81 = .ok (.iastore, 1) := dk_79 (dk_at dksX6_text_3 11 rfl rfl)
theorem dX6_text_82 : decode cX6_text 82 = .ok (.iinc 3 1, 3) := dk_132 3 1 (dk_at dksX6_text_3 12 rfl rfl)
theorem dX6_text_85 : decode cX6_text 85 = .ok (.goto (-31), 3) := dk_167 255 225 (dk_at dksX6_text_3 15 rfl rfl)
theorem dX6_text_88 : decode cX6_text 88 = .ok (.aload_n 0, 1) := dk_42 (dk_at dksX6_text_3 18 rfl rfl)
theorem dX6_text_89 : decode cX6_text 89 = .ok (.getfield 29, 3) := dk_180 0 29 (dk_at dksX6_text_3 19 rfl rfl)
theorem dX6_text_92 : decode cX6_text 92 = .ok (.aload_n 0, 1) := dk_42 (dk_at dksX6_text_3 22 rfl rfl)
theorem dX6_text_93 : decode cX6_text 93 = .ok (.getfield 188, 3) := dk_180 0 188 (dk_at dksX6_text_4 0 rfl rfl)
theorem dX6_text_96 : decode cX6_text 96 = .ok (.aload_n 0, 1) := dk_42 (dk_at dksX6_text_4 3 rfl rfl)
theorem dX6_text_97 : decode cX6_text 97 = .ok (.getfield 29, 3) := dk_180 0 29 (dk_at dksX6_text_4 4 rfl rfl)
theorem dX6_text_100 : decode cX6_text 100 = .ok (.iconst 4, 1) := dk_7 (dk_at dksX6_text_4 7 rfl rfl)
theorem dX6_text_101 : decode cX6_text 101 = .ok (.iaload, 1) := dk_46 (dk_at dksX6_text_4 8 rfl rfl)
theorem dX6_text_102 : decode cX6_text 102 = .ok (.iastore, 1) := dk_79 (dk_at dksX6_text_4 9 rfl rfl)
theorem dX6_text_103 : decode cX6_text 103 = .ok (.aload_n 0, 1) := dk_42 (dk_at dksX6_text_4 10 rfl rfl)
theorem dX6_text_104 : decode cX6_text 104 = .ok (.dup, 1) := dk_89 (dk_at dksX6_text_4 11 rfl rfl)
theorem dX6_text_105 : decode cX6_text 105 = .ok (.getfield 188, 3) := dk_180 0 188 (dk_at dksX6_text_4 12 rfl rfl)
theorem dX6_text_108 : decode cX6_text 108 = .ok (.iconst 1, 1) := dk_4 (dk_at dksX6_text_4 15 rfl rfl)
theorem dX6_text_109 : decode cX6_text 109 = .ok (.iadd, 1) := dk_96 (dk_at dksX6_text_4 16 rfl rfl)
theorem dX6_text_110 : decode cX6_text 110 = .ok (.putfield 188, 3) := dk_181 0 188 (dk_at dksX6_text_4 17 rfl rfl)
theorem dX6_text_113 : decode cX6_text 113 = .ok (.aload_n 0, 1) := dk_42 (dk_at dksX6_text_4 20 rfl rfl)
theorem dX6_text_114 : decode cX6_text 114 = .ok (.getfield 188, 3) := dk_180 0 188 (dk_at dksX6_text_4 21 rfl rfl)
theorem dX6_text_117 : decode cX6_text 117 = .ok (.iconst 1, 1) := dk_4 (dk_at dksX6_text_5 0 rfl rfl)
theorem dX6_text_118 : decode cX6_text 118 = .ok (.isub, 1) := dk_100 (dk_at dksX6_text_5 1 rfl rfl)
theorem dX6_text_119 : decode cX6_text 119 = .ok (.ireturn, 1) := dk_172 (dk_at dksX6_text_5 2 rfl rfl)
theorem dX6_text_120 : decode cX6_text 120 = .ok (.aload_n 0, 1) := dk_42 (dk_at dksX6_text_5 3 rfl rfl)
theorem dX6_text_121 : decode cX6_text 121 = .ok (.invokevirtual 193, 3) := dk_182 0 193 (dk_at dksX6_text_5 4 rfl rfl)
theorem dX6_text_124 : decode cX6_text 124 = .ok (.aload_n 0, 1) := dk_42 (dk_at dksX6_text_5 7 rfl rfl)
theorem dX6_text_125 : decode cX6_text 125 = .ok (.getfield 153, 3) := dk_180 0 153 (dk_at dksX6_text_5 8 rfl rfl)
theorem dX6_text_128 : decode cX6_text 128 = .ok (.ireturn, 1) := dk_172 (dk_at dksX6_text_5 11 rfl rfl)
abbrev cX6_begins : ByteArray := prog_12_method_33_code
def yX6_begins : MethodName := ⟨RX6, "begins", "()V"⟩
def dkwX6_begins_10 : List UInt8 := [79, 42, 3, 181, 0, 181, 42, 3, 181, 0, 184, 177]
abbrev dktX6_begins_10 : List UInt8 := dkwX6_begins_10 ++ []
def dkwX6_begins_9 : List UInt8 := [79, 132, 1, 1, 167, 255, 225, 42, 180, 0, 38, 17, 1, 171, 3, 79, 42, 180, 0, 38, 17, 1, 172, 3]
abbrev dktX6_begins_9 : List UInt8 := dkwX6_begins_9 ++ dktX6_begins_10
def dkwX6_begins_8 : List UInt8 := [162, 0, 31, 42, 180, 0, 38, 17, 1, 144, 27, 96, 3, 79, 42, 180, 0, 38, 17, 1, 152, 27, 96, 3]
abbrev dktX6_begins_8 : List UInt8 := dkwX6_begins_8 ++ dktX6_begins_9
def dkwX6_begins_7 : List UInt8 := [42, 180, 0, 20, 5, 27, 104, 4, 96, 46, 182, 0, 177, 132, 1, 1, 167, 255, 204, 3, 60, 27, 16, 8]
abbrev dktX6_begins_7 : List UInt8 := dkwX6_begins_7 ++ dktX6_begins_8
def dkwX6_begins_6 : List UInt8 := [5, 27, 104, 46, 42, 180, 0, 153, 162, 0, 29, 42, 42, 180, 0, 38, 42, 180, 0, 20, 5, 27, 104, 46]
abbrev dktX6_begins_6 : List UInt8 := dkwX6_begins_6 ++ dktX6_begins_7
def dkwX6_begins_5 : List UInt8 := [27, 96, 2, 79, 132, 1, 1, 167, 255, 237, 3, 60, 27, 42, 180, 0, 121, 162, 0, 50, 42, 180, 0, 20]
abbrev dktX6_begins_5 : List UInt8 := dkwX6_begins_5 ++ dktX6_begins_6
def dkwX6_begins_4 : List UInt8 := [17, 1, 168, 42, 180, 0, 17, 7, 46, 79, 3, 60, 27, 6, 162, 0, 20, 42, 180, 0, 38, 17, 1, 176]
abbrev dktX6_begins_4 : List UInt8 := dkwX6_begins_4 ++ dktX6_begins_5
def dkwX6_begins_3 : List UInt8 := [17, 2, 104, 162, 0, 16, 42, 180, 0, 38, 27, 3, 79, 132, 1, 1, 167, 255, 239, 42, 180, 0, 38]
abbrev dktX6_begins_3 : List UInt8 := dkwX6_begins_3 ++ dktX6_begins_4
def dkwX6_begins_2 : List UInt8 := [180, 0, 17, 4, 46, 104, 42, 180, 0, 17, 5, 46, 104, 181, 0, 153, 42, 182, 0, 174, 3, 60, 27]
abbrev dktX6_begins_2 : List UInt8 := dkwX6_begins_2 ++ dktX6_begins_3
def dkwX6_begins_1 : List UInt8 := [167, 255, 236, 42, 42, 180, 0, 17, 3, 46, 5, 96, 181, 0, 171, 42, 42, 180, 0, 17, 3, 46, 42]
abbrev dktX6_begins_1 : List UInt8 := dkwX6_begins_1 ++ dktX6_begins_2
def dkwX6_begins_0 : List UInt8 := [3, 60, 27, 8, 162, 0, 21, 42, 180, 0, 17, 27, 42, 180, 0, 13, 27, 46, 79, 132, 1, 1]
abbrev dktX6_begins_0 : List UInt8 := dkwX6_begins_0 ++ dktX6_begins_1
theorem dksX6_begins_0 : cX6_begins.data.toList.drop 0 = dktX6_begins_0 := by decide +kernel
theorem dksX6_begins_1 : cX6_begins.data.toList.drop 22 = dktX6_begins_1 := dk_seg dksX6_begins_0 22 rfl rfl
theorem dksX6_begins_2 : cX6_begins.data.toList.drop 45 = dktX6_begins_2 := dk_seg dksX6_begins_1 23 rfl rfl
theorem dksX6_begins_3 : cX6_begins.data.toList.drop 68 = dktX6_begins_3 := dk_seg dksX6_begins_2 23 rfl rfl
theorem dksX6_begins_4 : cX6_begins.data.toList.drop 91 = dktX6_begins_4 := dk_seg dksX6_begins_3 23 rfl rfl
theorem dksX6_begins_5 : cX6_begins.data.toList.drop 115 = dktX6_begins_5 := dk_seg dksX6_begins_4 24 rfl rfl
theorem dksX6_begins_6 : cX6_begins.data.toList.drop 139 = dktX6_begins_6 := dk_seg dksX6_begins_5 24 rfl rfl
theorem dksX6_begins_7 : cX6_begins.data.toList.drop 163 = dktX6_begins_7 := dk_seg dksX6_begins_6 24 rfl rfl
theorem dksX6_begins_8 : cX6_begins.data.toList.drop 187 = dktX6_begins_8 := dk_seg dksX6_begins_7 24 rfl rfl
theorem dksX6_begins_9 : cX6_begins.data.toList.drop 211 = dktX6_begins_9 := dk_seg dksX6_begins_8 24 rfl rfl
theorem dksX6_begins_10 : cX6_begins.data.toList.drop 235 = dktX6_begins_10 := dk_seg dksX6_begins_9 24 rfl rfl
theorem dX6_begins_0 : decode cX6_begins 0 = .ok (.iconst 0, 1) := dk_3 (dk_at dksX6_begins_0 0 rfl rfl)
theorem dX6_begins_1 : decode cX6_begins 1 = .ok (.istore_n 1, 1) := dk_60 (dk_at dksX6_begins_0 1 rfl rfl)
theorem dX6_begins_2 : decode cX6_begins 2 = .ok (.iload_n 1, 1) := dk_27 (dk_at dksX6_begins_0 2 rfl rfl)
theorem dX6_begins_3 : decode cX6_begins 3 = .ok (.iconst 5, 1) := dk_8 (dk_at dksX6_begins_0 3 rfl rfl)
theorem dX6_begins_4 : decode cX6_begins 4 = .ok (.if_icmp .ge 21, 3) := dk_162 0 21 (dk_at dksX6_begins_0 4 rfl rfl)
theorem dX6_begins_7 : decode cX6_begins 7 = .ok (.aload_n 0, 1) := dk_42 (dk_at dksX6_begins_0 7 rfl rfl)
theorem dX6_begins_8 : decode cX6_begins 8 = .ok (.getfield 17, 3) := dk_180 0 17 (dk_at dksX6_begins_0 8 rfl rfl)
theorem dX6_begins_11 : decode cX6_begins 11 = .ok (.iload_n 1, 1) := dk_27 (dk_at dksX6_begins_0 11 rfl rfl)
theorem dX6_begins_12 : decode cX6_begins 12 = .ok (.aload_n 0, 1) := dk_42 (dk_at dksX6_begins_0 12 rfl rfl)
theorem dX6_begins_13 : decode cX6_begins 13 = .ok (.getfield 13, 3) := dk_180 0 13 (dk_at dksX6_begins_0 13 rfl rfl)
theorem dX6_begins_16 : decode cX6_begins 16 = .ok (.iload_n 1, 1) := dk_27 (dk_at dksX6_begins_0 16 rfl rfl)
theorem dX6_begins_17 : decode cX6_begins 17 = .ok (.iaload, 1) := dk_46 (dk_at dksX6_begins_0 17 rfl rfl)
theorem dX6_begins_18 : decode cX6_begins 18 = .ok (.iastore, 1) := dk_79 (dk_at dksX6_begins_0 18 rfl rfl)
theorem dX6_begins_19 : decode cX6_begins 19 = .ok (.iinc 1 1, 3) := dk_132 1 1 (dk_at dksX6_begins_0 19 rfl rfl)
theorem dX6_begins_22 : decode cX6_begins 22 = .ok (.goto (-20), 3) := dk_167 255 236 (dk_at dksX6_begins_1 0 rfl rfl)
theorem dX6_begins_25 : decode cX6_begins 25 = .ok (.aload_n 0, 1) := dk_42 (dk_at dksX6_begins_1 3 rfl rfl)
theorem dX6_begins_26 : decode cX6_begins 26 = .ok (.aload_n 0, 1) := dk_42 (dk_at dksX6_begins_1 4 rfl rfl)
theorem dX6_begins_27 : decode cX6_begins 27 = .ok (.getfield 17, 3) := dk_180 0 17 (dk_at dksX6_begins_1 5 rfl rfl)
theorem dX6_begins_30 : decode cX6_begins 30 = .ok (.iconst 0, 1) := dk_3 (dk_at dksX6_begins_1 8 rfl rfl)
theorem dX6_begins_31 : decode cX6_begins 31 = .ok (.iaload, 1) := dk_46 (dk_at dksX6_begins_1 9 rfl rfl)
theorem dX6_begins_32 : decode cX6_begins 32 = .ok (.iconst 2, 1) := dk_5 (dk_at dksX6_begins_1 10 rfl rfl)
theorem dX6_begins_33 : decode cX6_begins 33 = .ok (.iadd, 1) := dk_96 (dk_at dksX6_begins_1 11 rfl rfl)
theorem dX6_begins_34 : decode cX6_begins 34 = .ok (.putfield 171, 3) := dk_181 0 171 (dk_at dksX6_begins_1 12 rfl rfl)
theorem dX6_begins_37 : decode cX6_begins 37 = .ok (.aload_n 0, 1) := dk_42 (dk_at dksX6_begins_1 15 rfl rfl)
theorem dX6_begins_38 : decode cX6_begins 38 = .ok (.aload_n 0, 1) := dk_42 (dk_at dksX6_begins_1 16 rfl rfl)
theorem dX6_begins_39 : decode cX6_begins 39 = .ok (.getfield 17, 3) := dk_180 0 17 (dk_at dksX6_begins_1 17 rfl rfl)
theorem dX6_begins_42 : decode cX6_begins 42 = .ok (.iconst 0, 1) := dk_3 (dk_at dksX6_begins_1 20 rfl rfl)
theorem dX6_begins_43 : decode cX6_begins 43 = .ok (.iaload, 1) := dk_46 (dk_at dksX6_begins_1 21 rfl rfl)
theorem dX6_begins_44 : decode cX6_begins 44 = .ok (.aload_n 0, 1) := dk_42 (dk_at dksX6_begins_1 22 rfl rfl)
theorem dX6_begins_45 : decode cX6_begins 45 = .ok (.getfield 17, 3) := dk_180 0 17 (dk_at dksX6_begins_2 0 rfl rfl)
theorem dX6_begins_48 : decode cX6_begins 48 = .ok (.iconst 1, 1) := dk_4 (dk_at dksX6_begins_2 3 rfl rfl)
theorem dX6_begins_49 : decode cX6_begins 49 = .ok (.iaload, 1) := dk_46 (dk_at dksX6_begins_2 4 rfl rfl)
theorem dX6_begins_50 : decode cX6_begins 50 = .ok (.imul, 1) := dk_104 (dk_at dksX6_begins_2 5 rfl rfl)
theorem dX6_begins_51 : decode cX6_begins 51 = .ok (.aload_n 0, 1) := dk_42 (dk_at dksX6_begins_2 6 rfl rfl)
theorem dX6_begins_52 : decode cX6_begins 52 = .ok (.getfield 17, 3) := dk_180 0 17 (dk_at dksX6_begins_2 7 rfl rfl)
theorem dX6_begins_55 : decode cX6_begins 55 = .ok (.iconst 2, 1) := dk_5 (dk_at dksX6_begins_2 10 rfl rfl)
theorem dX6_begins_56 : decode cX6_begins 56 = .ok (.iaload, 1) := dk_46 (dk_at dksX6_begins_2 11 rfl rfl)
theorem dX6_begins_57 : decode cX6_begins 57 = .ok (.imul, 1) := dk_104 (dk_at dksX6_begins_2 12 rfl rfl)
theorem dX6_begins_58 : decode cX6_begins 58 = .ok (.putfield 153, 3) := dk_181 0 153 (dk_at dksX6_begins_2 13 rfl rfl)
theorem dX6_begins_61 : decode cX6_begins 61 = .ok (.aload_n 0, 1) := dk_42 (dk_at dksX6_begins_2 16 rfl rfl)
theorem dX6_begins_62 : decode cX6_begins 62 = .ok (.invokevirtual 174, 3) := dk_182 0 174 (dk_at dksX6_begins_2 17 rfl rfl)
theorem dX6_begins_65 : decode cX6_begins 65 = .ok (.iconst 0, 1) := dk_3 (dk_at dksX6_begins_2 20 rfl rfl)
theorem dX6_begins_66 : decode cX6_begins 66 = .ok (.istore_n 1, 1) := dk_60 (dk_at dksX6_begins_2 21 rfl rfl)
theorem dX6_begins_67 : decode cX6_begins 67 = .ok (.iload_n 1, 1) := dk_27 (dk_at dksX6_begins_2 22 rfl rfl)
theorem dX6_begins_68 : decode cX6_begins 68 = .ok (.sipush 616, 3) := dk_17 2 104 (dk_at dksX6_begins_3 0 rfl rfl)
theorem dX6_begins_71 : decode cX6_begins 71 = .ok (.if_icmp .ge 16, 3) := dk_162 0 16 (dk_at dksX6_begins_3 3 rfl rfl)
theorem dX6_begins_74 : decode cX6_begins 74 = .ok (.aload_n 0, 1) := dk_42 (dk_at dksX6_begins_3 6 rfl rfl)
theorem dX6_begins_75 : decode cX6_begins 75 = .ok (.getfield 38, 3) := dk_180 0 38 (dk_at dksX6_begins_3 7 rfl rfl)
theorem dX6_begins_78 : decode cX6_begins 78 = .ok (.iload_n 1, 1) := dk_27 (dk_at dksX6_begins_3 10 rfl rfl)
theorem dX6_begins_79 : decode cX6_begins 79 = .ok (.iconst 0, 1) := dk_3 (dk_at dksX6_begins_3 11 rfl rfl)
theorem dX6_begins_80 : decode cX6_begins 80 = .ok (.iastore, 1) := dk_79 (dk_at dksX6_begins_3 12 rfl rfl)
theorem dX6_begins_81 : decode cX6_begins 81 = .ok (.iinc 1 1, 3) := dk_132 1 1 (dk_at dksX6_begins_3 13 rfl rfl)
theorem dX6_begins_84 : decode cX6_begins 84 = .ok (.goto (-17), 3) := dk_167 255 239 (dk_at dksX6_begins_3 16 rfl rfl)
theorem dX6_begins_87 : decode cX6_begins 87 = .ok (.aload_n 0, 1) := dk_42 (dk_at dksX6_begins_3 19 rfl rfl)
theorem dX6_begins_88 : decode cX6_begins 88 = .ok (.getfield 38, 3) := dk_180 0 38 (dk_at dksX6_begins_3 20 rfl rfl)
theorem dX6_begins_91 : decode cX6_begins 91 = .ok (.sipush 424, 3) := dk_17 1 168 (dk_at dksX6_begins_4 0 rfl rfl)
theorem dX6_begins_94 : decode cX6_begins 94 = .ok (.aload_n 0, 1) := dk_42 (dk_at dksX6_begins_4 3 rfl rfl)
theorem dX6_begins_95 : decode cX6_begins 95 = .ok (.getfield 17, 3) := dk_180 0 17 (dk_at dksX6_begins_4 4 rfl rfl)
theorem dX6_begins_98 : decode cX6_begins 98 = .ok (.iconst 4, 1) := dk_7 (dk_at dksX6_begins_4 7 rfl rfl)
theorem dX6_begins_99 : decode cX6_begins 99 = .ok (.iaload, 1) := dk_46 (dk_at dksX6_begins_4 8 rfl rfl)
theorem dX6_begins_100 : decode cX6_begins 100 = .ok (.iastore, 1) := dk_79 (dk_at dksX6_begins_4 9 rfl rfl)
theorem dX6_begins_101 : decode cX6_begins 101 = .ok (.iconst 0, 1) := dk_3 (dk_at dksX6_begins_4 10 rfl rfl)
theorem dX6_begins_102 : decode cX6_begins 102 = .ok (.istore_n 1, 1) := dk_60 (dk_at dksX6_begins_4 11 rfl rfl)
theorem dX6_begins_103 : decode cX6_begins 103 = .ok (.iload_n 1, 1) := dk_27 (dk_at dksX6_begins_4 12 rfl rfl)
theorem dX6_begins_104 : decode cX6_begins 104 = .ok (.iconst 3, 1) := dk_6 (dk_at dksX6_begins_4 13 rfl rfl)
theorem dX6_begins_105 : decode cX6_begins 105 = .ok (.if_icmp .ge 20, 3) := dk_162 0 20 (dk_at dksX6_begins_4 14 rfl rfl)
theorem dX6_begins_108 : decode cX6_begins 108 = .ok (.aload_n 0, 1) := dk_42 (dk_at dksX6_begins_4 17 rfl rfl)
theorem dX6_begins_109 : decode cX6_begins 109 = .ok (.getfield 38, 3) := dk_180 0 38 (dk_at dksX6_begins_4 18 rfl rfl)
theorem dX6_begins_112 : decode cX6_begins 112 = .ok (.sipush 432, 3) := dk_17 1 176 (dk_at dksX6_begins_4 21 rfl rfl)
theorem dX6_begins_115 : decode cX6_begins 115 = .ok (.iload_n 1, 1) := dk_27 (dk_at dksX6_begins_5 0 rfl rfl)
theorem dX6_begins_116 : decode cX6_begins 116 = .ok (.iadd, 1) := dk_96 (dk_at dksX6_begins_5 1 rfl rfl)
theorem dX6_begins_117 : decode cX6_begins 117 = .ok (.iconst (-1), 1) := dk_2 (dk_at dksX6_begins_5 2 rfl rfl)
theorem dX6_begins_118 : decode cX6_begins 118 = .ok (.iastore, 1) := dk_79 (dk_at dksX6_begins_5 3 rfl rfl)
theorem dX6_begins_119 : decode cX6_begins 119 = .ok (.iinc 1 1, 3) := dk_132 1 1 (dk_at dksX6_begins_5 4 rfl rfl)
theorem dX6_begins_122 : decode cX6_begins 122 = .ok (.goto (-19), 3) := dk_167 255 237 (dk_at dksX6_begins_5 7 rfl rfl)
theorem dX6_begins_125 : decode cX6_begins 125 = .ok (.iconst 0, 1) := dk_3 (dk_at dksX6_begins_5 10 rfl rfl)
theorem dX6_begins_126 : decode cX6_begins 126 = .ok (.istore_n 1, 1) := dk_60 (dk_at dksX6_begins_5 11 rfl rfl)
theorem dX6_begins_127 : decode cX6_begins 127 = .ok (.iload_n 1, 1) := dk_27 (dk_at dksX6_begins_5 12 rfl rfl)
theorem dX6_begins_128 : decode cX6_begins 128 = .ok (.aload_n 0, 1) := dk_42 (dk_at dksX6_begins_5 13 rfl rfl)
theorem dX6_begins_129 : decode cX6_begins 129 = .ok (.getfield 121, 3) := dk_180 0 121 (dk_at dksX6_begins_5 14 rfl rfl)
theorem dX6_begins_132 : decode cX6_begins 132 = .ok (.if_icmp .ge 50, 3) := dk_162 0 50 (dk_at dksX6_begins_5 17 rfl rfl)
theorem dX6_begins_135 : decode cX6_begins 135 = .ok (.aload_n 0, 1) := dk_42 (dk_at dksX6_begins_5 20 rfl rfl)
theorem dX6_begins_136 : decode cX6_begins 136 = .ok (.getfield 20, 3) := dk_180 0 20 (dk_at dksX6_begins_5 21 rfl rfl)
theorem dX6_begins_139 : decode cX6_begins 139 = .ok (.iconst 2, 1) := dk_5 (dk_at dksX6_begins_6 0 rfl rfl)
theorem dX6_begins_140 : decode cX6_begins 140 = .ok (.iload_n 1, 1) := dk_27 (dk_at dksX6_begins_6 1 rfl rfl)
theorem dX6_begins_141 : decode cX6_begins 141 = .ok (.imul, 1) := dk_104 (dk_at dksX6_begins_6 2 rfl rfl)
theorem dX6_begins_142 : decode cX6_begins 142 = .ok (.iaload, 1) := dk_46 (dk_at dksX6_begins_6 3 rfl rfl)
theorem dX6_begins_143 : decode cX6_begins 143 = .ok (.aload_n 0, 1) := dk_42 (dk_at dksX6_begins_6 4 rfl rfl)
theorem dX6_begins_144 : decode cX6_begins 144 = .ok (.getfield 153, 3) := dk_180 0 153 (dk_at dksX6_begins_6 5 rfl rfl)
theorem dX6_begins_147 : decode cX6_begins 147 = .ok (.if_icmp .ge 29, 3) := dk_162 0 29 (dk_at dksX6_begins_6 8 rfl rfl)
theorem dX6_begins_150 : decode cX6_begins 150 = .ok (.aload_n 0, 1) := dk_42 (dk_at dksX6_begins_6 11 rfl rfl)
theorem dX6_begins_151 : decode cX6_begins 151 = .ok (.aload_n 0, 1) := dk_42 (dk_at dksX6_begins_6 12 rfl rfl)
theorem dX6_begins_152 : decode cX6_begins 152 = .ok (.getfield 38, 3) := dk_180 0 38 (dk_at dksX6_begins_6 13 rfl rfl)
theorem dX6_begins_155 : decode cX6_begins 155 = .ok (.aload_n 0, 1) := dk_42 (dk_at dksX6_begins_6 16 rfl rfl)
theorem dX6_begins_156 : decode cX6_begins 156 = .ok (.getfield 20, 3) := dk_180 0 20 (dk_at dksX6_begins_6 17 rfl rfl)
theorem dX6_begins_159 : decode cX6_begins 159 = .ok (.iconst 2, 1) := dk_5 (dk_at dksX6_begins_6 20 rfl rfl)
theorem dX6_begins_160 : decode cX6_begins 160 = .ok (.iload_n 1, 1) := dk_27 (dk_at dksX6_begins_6 21 rfl rfl)
theorem dX6_begins_161 : decode cX6_begins 161 = .ok (.imul, 1) := dk_104 (dk_at dksX6_begins_6 22 rfl rfl)
theorem dX6_begins_162 : decode cX6_begins 162 = .ok (.iaload, 1) := dk_46 (dk_at dksX6_begins_6 23 rfl rfl)
theorem dX6_begins_163 : decode cX6_begins 163 = .ok (.aload_n 0, 1) := dk_42 (dk_at dksX6_begins_7 0 rfl rfl)
theorem dX6_begins_164 : decode cX6_begins 164 = .ok (.getfield 20, 3) := dk_180 0 20 (dk_at dksX6_begins_7 1 rfl rfl)
theorem dX6_begins_167 : decode cX6_begins 167 = .ok (.iconst 2, 1) := dk_5 (dk_at dksX6_begins_7 4 rfl rfl)
theorem dX6_begins_168 : decode cX6_begins 168 = .ok (.iload_n 1, 1) := dk_27 (dk_at dksX6_begins_7 5 rfl rfl)
theorem dX6_begins_169 : decode cX6_begins 169 = .ok (.imul, 1) := dk_104 (dk_at dksX6_begins_7 6 rfl rfl)
theorem dX6_begins_170 : decode cX6_begins 170 = .ok (.iconst 1, 1) := dk_4 (dk_at dksX6_begins_7 7 rfl rfl)
theorem dX6_begins_171 : decode cX6_begins 171 = .ok (.iadd, 1) := dk_96 (dk_at dksX6_begins_7 8 rfl rfl)
theorem dX6_begins_172 : decode cX6_begins 172 = .ok (.iaload, 1) := dk_46 (dk_at dksX6_begins_7 9 rfl rfl)
theorem dX6_begins_173 : decode cX6_begins 173 = .ok (.invokevirtual 177, 3) := dk_182 0 177 (dk_at dksX6_begins_7 10 rfl rfl)
theorem dX6_begins_176 : decode cX6_begins 176 = .ok (.iinc 1 1, 3) := dk_132 1 1 (dk_at dksX6_begins_7 13 rfl rfl)
theorem dX6_begins_179 : decode cX6_begins 179 = .ok (.goto (-52), 3) := dk_167 255 204 (dk_at dksX6_begins_7 16 rfl rfl)
theorem dX6_begins_182 : decode cX6_begins 182 = .ok (.iconst 0, 1) := dk_3 (dk_at dksX6_begins_7 19 rfl rfl)
theorem dX6_begins_183 : decode cX6_begins 183 = .ok (.istore_n 1, 1) := dk_60 (dk_at dksX6_begins_7 20 rfl rfl)
theorem dX6_begins_184 : decode cX6_begins 184 = .ok (.iload_n 1, 1) := dk_27 (dk_at dksX6_begins_7 21 rfl rfl)
theorem dX6_begins_185 : decode cX6_begins 185 = .ok (.bipush 8, 2) := dk_16 8 (dk_at dksX6_begins_7 22 rfl rfl)
theorem dX6_begins_187 : decode cX6_begins 187 = .ok (.if_icmp .ge 31, 3) := dk_162 0 31 (dk_at dksX6_begins_8 0 rfl rfl)
theorem dX6_begins_190 : decode cX6_begins 190 = .ok (.aload_n 0, 1) := dk_42 (dk_at dksX6_begins_8 3 rfl rfl)
theorem dX6_begins_191 : decode cX6_begins 191 = .ok (.getfield 38, 3) := dk_180 0 38 (dk_at dksX6_begins_8 4 rfl rfl)
theorem dX6_begins_194 : decode cX6_begins 194 = .ok (.sipush 400, 3) := dk_17 1 144 (dk_at dksX6_begins_8 7 rfl rfl)
theorem dX6_begins_197 : decode cX6_begins 197 = .ok (.iload_n 1, 1) := dk_27 (dk_at dksX6_begins_8 10 rfl rfl)
theorem dX6_begins_198 : decode cX6_begins 198 = .ok (.iadd, 1) := dk_96 (dk_at dksX6_begins_8 11 rfl rfl)
theorem dX6_begins_199 : decode cX6_begins 199 = .ok (.iconst 0, 1) := dk_3 (dk_at dksX6_begins_8 12 rfl rfl)
theorem dX6_begins_200 : decode cX6_begins 200 = .ok (.iastore, 1) := dk_79 (dk_at dksX6_begins_8 13 rfl rfl)
theorem dX6_begins_201 : decode cX6_begins 201 = .ok (.aload_n 0, 1) := dk_42 (dk_at dksX6_begins_8 14 rfl rfl)
theorem dX6_begins_202 : decode cX6_begins 202 = .ok (.getfield 38, 3) := dk_180 0 38 (dk_at dksX6_begins_8 15 rfl rfl)
theorem dX6_begins_205 : decode cX6_begins 205 = .ok (.sipush 408, 3) := dk_17 1 152 (dk_at dksX6_begins_8 18 rfl rfl)
theorem dX6_begins_208 : decode cX6_begins 208 = .ok (.iload_n 1, 1) := dk_27 (dk_at dksX6_begins_8 21 rfl rfl)
theorem dX6_begins_209 : decode cX6_begins 209 = .ok (.iadd, 1) := dk_96 (dk_at dksX6_begins_8 22 rfl rfl)
theorem dX6_begins_210 : decode cX6_begins 210 = .ok (.iconst 0, 1) := dk_3 (dk_at dksX6_begins_8 23 rfl rfl)
theorem dX6_begins_211 : decode cX6_begins 211 = .ok (.iastore, 1) := dk_79 (dk_at dksX6_begins_9 0 rfl rfl)
theorem dX6_begins_212 : decode cX6_begins 212 = .ok (.iinc 1 1, 3) := dk_132 1 1 (dk_at dksX6_begins_9 1 rfl rfl)
theorem dX6_begins_215 : decode cX6_begins 215 = .ok (.goto (-31), 3) := dk_167 255 225 (dk_at dksX6_begins_9 4 rfl rfl)
theorem dX6_begins_218 : decode cX6_begins 218 = .ok (.aload_n 0, 1) := dk_42 (dk_at dksX6_begins_9 7 rfl rfl)
theorem dX6_begins_219 : decode cX6_begins 219 = .ok (.getfield 38, 3) := dk_180 0 38 (dk_at dksX6_begins_9 8 rfl rfl)
theorem dX6_begins_222 : decode cX6_begins 222 = .ok (.sipush 427, 3) := dk_17 1 171 (dk_at dksX6_begins_9 11 rfl rfl)
theorem dX6_begins_225 : decode cX6_begins 225 = .ok (.iconst 0, 1) := dk_3 (dk_at dksX6_begins_9 14 rfl rfl)
theorem dX6_begins_226 : decode cX6_begins 226 = .ok (.iastore, 1) := dk_79 (dk_at dksX6_begins_9 15 rfl rfl)
theorem dX6_begins_227 : decode cX6_begins 227 = .ok (.aload_n 0, 1) := dk_42 (dk_at dksX6_begins_9 16 rfl rfl)
theorem dX6_begins_228 : decode cX6_begins 228 = .ok (.getfield 38, 3) := dk_180 0 38 (dk_at dksX6_begins_9 17 rfl rfl)
theorem dX6_begins_231 : decode cX6_begins 231 = .ok (.sipush 428, 3) := dk_17 1 172 (dk_at dksX6_begins_9 20 rfl rfl)
theorem dX6_begins_234 : decode cX6_begins 234 = .ok (.iconst 0, 1) := dk_3 (dk_at dksX6_begins_9 23 rfl rfl)
theorem dX6_begins_235 : decode cX6_begins 235 = .ok (.iastore, 1) := dk_79 (dk_at dksX6_begins_10 0 rfl rfl)
theorem dX6_begins_236 : decode cX6_begins 236 = .ok (.aload_n 0, 1) := dk_42 (dk_at dksX6_begins_10 1 rfl rfl)
theorem dX6_begins_237 : decode cX6_begins 237 = .ok (.iconst 0, 1) := dk_3 (dk_at dksX6_begins_10 2 rfl rfl)
theorem dX6_begins_238 : decode cX6_begins 238 = .ok (.putfield 181, 3) := dk_181 0 181 (dk_at dksX6_begins_10 3 rfl rfl)
theorem dX6_begins_241 : decode cX6_begins 241 = .ok (.aload_n 0, 1) := dk_42 (dk_at dksX6_begins_10 6 rfl rfl)
theorem dX6_begins_242 : decode cX6_begins 242 = .ok (.iconst 0, 1) := dk_3 (dk_at dksX6_begins_10 7 rfl rfl)
theorem dX6_begins_243 : decode cX6_begins 243 = .ok (.putfield 184, 3) := dk_181 0 184 (dk_at dksX6_begins_10 8 rfl rfl)
theorem dX6_begins_246 : decode cX6_begins 246 = .ok (.return_, 1) := dk_177 (dk_at dksX6_begins_10 11 rfl rfl)
abbrev cX6_laysField : ByteArray := prog_12_method_25_code
def yX6_laysField : MethodName := ⟨RX6, "laysField", "()V"⟩
def dkwX6_laysField_2 : List UInt8 := [132, 2, 1, 167, 255, 209, 177]
abbrev dktX6_laysField_2 : List UInt8 := dkwX6_laysField_2 ++ []
def dkwX6_laysField_1 : List UInt8 := [79, 5, 27, 104, 60, 27, 17, 0, 255, 164, 0, 15, 27, 42, 180, 0, 17, 6, 46, 184, 0, 150, 130, 60]
abbrev dktX6_laysField_1 : List UInt8 := dkwX6_laysField_1 ++ dktX6_laysField_2
def dkwX6_laysField_0 : List UInt8 := [4, 60, 3, 61, 28, 17, 0, 255, 162, 0, 46, 42, 180, 0, 32, 28, 27, 79, 42, 180, 0, 35, 27, 28]
abbrev dktX6_laysField_0 : List UInt8 := dkwX6_laysField_0 ++ dktX6_laysField_1
theorem dksX6_laysField_0 : cX6_laysField.data.toList.drop 0 = dktX6_laysField_0 := by decide +kernel
theorem dksX6_laysField_1 : cX6_laysField.data.toList.drop 24 = dktX6_laysField_1 := dk_seg dksX6_laysField_0 24 rfl rfl
theorem dksX6_laysField_2 : cX6_laysField.data.toList.drop 48 = dktX6_laysField_2 := dk_seg dksX6_laysField_1 24 rfl rfl
theorem dX6_laysField_0 : decode cX6_laysField 0 = .ok (.iconst 1, 1) := dk_4 (dk_at dksX6_laysField_0 0 rfl rfl)
theorem dX6_laysField_1 : decode cX6_laysField 1 = .ok (.istore_n 1, 1) := dk_60 (dk_at dksX6_laysField_0 1 rfl rfl)
theorem dX6_laysField_2 : decode cX6_laysField 2 = .ok (.iconst 0, 1) := dk_3 (dk_at dksX6_laysField_0 2 rfl rfl)
theorem dX6_laysField_3 : decode cX6_laysField 3 = .ok (.istore_n 2, 1) := dk_61 (dk_at dksX6_laysField_0 3 rfl rfl)
theorem dX6_laysField_4 : decode cX6_laysField 4 = .ok (.iload_n 2, 1) := dk_28 (dk_at dksX6_laysField_0 4 rfl rfl)
theorem dX6_laysField_5 : decode cX6_laysField 5 = .ok (.sipush 255, 3) := dk_17 0 255 (dk_at dksX6_laysField_0 5 rfl rfl)
theorem dX6_laysField_8 : decode cX6_laysField 8 = .ok (.if_icmp .ge 46, 3) := dk_162 0 46 (dk_at dksX6_laysField_0 8 rfl rfl)
theorem dX6_laysField_11 : decode cX6_laysField 11 = .ok (.aload_n 0, 1) := dk_42 (dk_at dksX6_laysField_0 11 rfl rfl)
theorem dX6_laysField_12 : decode cX6_laysField 12 = .ok (.getfield 32, 3) := dk_180 0 32 (dk_at dksX6_laysField_0 12 rfl rfl)
theorem dX6_laysField_15 : decode cX6_laysField 15 = .ok (.iload_n 2, 1) := dk_28 (dk_at dksX6_laysField_0 15 rfl rfl)
theorem dX6_laysField_16 : decode cX6_laysField 16 = .ok (.iload_n 1, 1) := dk_27 (dk_at dksX6_laysField_0 16 rfl rfl)
theorem dX6_laysField_17 : decode cX6_laysField 17 = .ok (.iastore, 1) := dk_79 (dk_at dksX6_laysField_0 17 rfl rfl)
theorem dX6_laysField_18 : decode cX6_laysField 18 = .ok (.aload_n 0, 1) := dk_42 (dk_at dksX6_laysField_0 18 rfl rfl)
theorem dX6_laysField_19 : decode cX6_laysField 19 = .ok (.getfield 35, 3) := dk_180 0 35 (dk_at dksX6_laysField_0 19 rfl rfl)
theorem dX6_laysField_22 : decode cX6_laysField 22 = .ok (.iload_n 1, 1) := dk_27 (dk_at dksX6_laysField_0 22 rfl rfl)
theorem dX6_laysField_23 : decode cX6_laysField 23 = .ok (.iload_n 2, 1) := dk_28 (dk_at dksX6_laysField_0 23 rfl rfl)
theorem dX6_laysField_24 : decode cX6_laysField 24 = .ok (.iastore, 1) := dk_79 (dk_at dksX6_laysField_1 0 rfl rfl)
theorem dX6_laysField_25 : decode cX6_laysField 25 = .ok (.iconst 2, 1) := dk_5 (dk_at dksX6_laysField_1 1 rfl rfl)
theorem dX6_laysField_26 : decode cX6_laysField 26 = .ok (.iload_n 1, 1) := dk_27 (dk_at dksX6_laysField_1 2 rfl rfl)
theorem dX6_laysField_27 : decode cX6_laysField 27 = .ok (.imul, 1) := dk_104 (dk_at dksX6_laysField_1 3 rfl rfl)
theorem dX6_laysField_28 : decode cX6_laysField 28 = .ok (.istore_n 1, 1) := dk_60 (dk_at dksX6_laysField_1 4 rfl rfl)
theorem dX6_laysField_29 : decode cX6_laysField 29 = .ok (.iload_n 1, 1) := dk_27 (dk_at dksX6_laysField_1 5 rfl rfl)
theorem dX6_laysField_30 : decode cX6_laysField 30 = .ok (.sipush 255, 3) := dk_17 0 255 (dk_at dksX6_laysField_1 6 rfl rfl)
theorem dX6_laysField_33 : decode cX6_laysField 33 = .ok (.if_icmp .le 15, 3) := dk_164 0 15 (dk_at dksX6_laysField_1 9 rfl rfl)
theorem dX6_laysField_36 : decode cX6_laysField 36 = .ok (.iload_n 1, 1) := dk_27 (dk_at dksX6_laysField_1 12 rfl rfl)
theorem dX6_laysField_37 : decode cX6_laysField 37 = .ok (.aload_n 0, 1) := dk_42 (dk_at dksX6_laysField_1 13 rfl rfl)
theorem dX6_laysField_38 : decode cX6_laysField 38 = .ok (.getfield 17, 3) := dk_180 0 17 (dk_at dksX6_laysField_1 14 rfl rfl)
theorem dX6_laysField_41 : decode cX6_laysField 41 = .ok (.iconst 3, 1) := dk_6 (dk_at dksX6_laysField_1 17 rfl rfl)
theorem dX6_laysField_42 : decode cX6_laysField 42 = .ok (.iaload, 1) := dk_46 (dk_at dksX6_laysField_1 18 rfl rfl)
theorem dX6_laysField_43 : decode cX6_laysField 43 = .ok (.invokestatic 150, 3) := dk_184 0 150 (dk_at dksX6_laysField_1 19 rfl rfl)
theorem dX6_laysField_46 : decode cX6_laysField 46 = .ok (.ixor, 1) := dk_130 (dk_at dksX6_laysField_1 22 rfl rfl)
theorem dX6_laysField_47 : decode cX6_laysField 47 = .ok (.istore_n 1, 1) := dk_60 (dk_at dksX6_laysField_1 23 rfl rfl)
theorem dX6_laysField_48 : decode cX6_laysField 48 = .ok (.iinc 2 1, 3) := dk_132 2 1 (dk_at dksX6_laysField_2 0 rfl rfl)
theorem dX6_laysField_51 : decode cX6_laysField 51 = .ok (.goto (-47), 3) := dk_167 255 209 (dk_at dksX6_laysField_2 3 rfl rfl)
theorem dX6_laysField_54 : decode cX6_laysField 54 = .ok (.return_, 1) := dk_177 (dk_at dksX6_laysField_2 6 rfl rfl)
abbrev cX6_modulusOf : ByteArray := prog_12_method_24_code
def yX6_modulusOf : MethodName := ⟨RX6, "modulusOf", "(I)I"⟩
def dkwX6_modulusOf_1 : List UInt8 := [160, 0, 9, 17, 1, 45, 167, 0, 6, 17, 1, 77, 172]
abbrev dktX6_modulusOf_1 : List UInt8 := dkwX6_modulusOf_1 ++ []
def dkwX6_modulusOf_0 : List UInt8 := [26, 154, 0, 9, 17, 1, 29, 167, 0, 28, 26, 4, 160, 0, 9, 17, 1, 43, 167, 0, 17, 26, 5]
abbrev dktX6_modulusOf_0 : List UInt8 := dkwX6_modulusOf_0 ++ dktX6_modulusOf_1
theorem dksX6_modulusOf_0 : cX6_modulusOf.data.toList.drop 0 = dktX6_modulusOf_0 := by decide +kernel
theorem dksX6_modulusOf_1 : cX6_modulusOf.data.toList.drop 23 = dktX6_modulusOf_1 := dk_seg dksX6_modulusOf_0 23 rfl rfl
theorem dX6_modulusOf_0 : decode cX6_modulusOf 0 = .ok (.iload_n 0, 1) := dk_26 (dk_at dksX6_modulusOf_0 0 rfl rfl)
theorem dX6_modulusOf_1 : decode cX6_modulusOf 1 = .ok (.ifCond .ne 9, 3) := dk_154 0 9 (dk_at dksX6_modulusOf_0 1 rfl rfl)
theorem dX6_modulusOf_4 : decode cX6_modulusOf 4 = .ok (.sipush 285, 3) := dk_17 1 29 (dk_at dksX6_modulusOf_0 4 rfl rfl)
theorem dX6_modulusOf_7 : decode cX6_modulusOf 7 = .ok (.goto 28, 3) := dk_167 0 28 (dk_at dksX6_modulusOf_0 7 rfl rfl)
theorem dX6_modulusOf_10 : decode cX6_modulusOf 10 = .ok (.iload_n 0, 1) := dk_26 (dk_at dksX6_modulusOf_0 10 rfl rfl)
theorem dX6_modulusOf_11 : decode cX6_modulusOf 11 = .ok (.iconst 1, 1) := dk_4 (dk_at dksX6_modulusOf_0 11 rfl rfl)
theorem dX6_modulusOf_12 : decode cX6_modulusOf 12 = .ok (.if_icmp .ne 9, 3) := dk_160 0 9 (dk_at dksX6_modulusOf_0 12 rfl rfl)
theorem dX6_modulusOf_15 : decode cX6_modulusOf 15 = .ok (.sipush 299, 3) := dk_17 1 43 (dk_at dksX6_modulusOf_0 15 rfl rfl)
theorem dX6_modulusOf_18 : decode cX6_modulusOf 18 = .ok (.goto 17, 3) := dk_167 0 17 (dk_at dksX6_modulusOf_0 18 rfl rfl)
theorem dX6_modulusOf_21 : decode cX6_modulusOf 21 = .ok (.iload_n 0, 1) := dk_26 (dk_at dksX6_modulusOf_0 21 rfl rfl)
theorem dX6_modulusOf_22 : decode cX6_modulusOf 22 = .ok (.iconst 2, 1) := dk_5 (dk_at dksX6_modulusOf_0 22 rfl rfl)
theorem dX6_modulusOf_23 : decode cX6_modulusOf 23 = .ok (.if_icmp .ne 9, 3) := dk_160 0 9 (dk_at dksX6_modulusOf_1 0 rfl rfl)
theorem dX6_modulusOf_26 : decode cX6_modulusOf 26 = .ok (.sipush 301, 3) := dk_17 1 45 (dk_at dksX6_modulusOf_1 3 rfl rfl)
theorem dX6_modulusOf_29 : decode cX6_modulusOf 29 = .ok (.goto 6, 3) := dk_167 0 6 (dk_at dksX6_modulusOf_1 6 rfl rfl)
theorem dX6_modulusOf_32 : decode cX6_modulusOf 32 = .ok (.sipush 333, 3) := dk_17 1 77 (dk_at dksX6_modulusOf_1 9 rfl rfl)
theorem dX6_modulusOf_35 : decode cX6_modulusOf 35 = .ok (.ireturn, 1) := dk_172 (dk_at dksX6_modulusOf_1 12 rfl rfl)
abbrev cX6_writes : ByteArray := prog_12_method_54_code
def yX6_writes : MethodName := ⟨RX6, "writes", "([III)V"⟩
def dkwX6_writes_12 : List UInt8 := [42, 180, 0, 50, 21, 7, 4, 96, 46, 182, 1, 5, 177]
abbrev dktX6_writes_12 : List UInt8 := dkwX6_writes_12 ++ []
def dkwX6_writes_11 : List UInt8 := [180, 0, 50, 21, 7, 46, 182, 1, 5, 21, 10, 153, 0, 25, 42, 43, 21, 4, 21, 5, 21, 7, 4, 96]
abbrev dktX6_writes_11 : List UInt8 := dkwX6_writes_11 ++ dktX6_writes_12
def dkwX6_writes_10 : List UInt8 := [21, 4, 21, 5, 21, 6, 29, 182, 1, 5, 21, 9, 153, 0, 21, 42, 43, 21, 4, 21, 5, 21, 7, 42]
abbrev dktX6_writes_10 : List UInt8 := dkwX6_writes_10 ++ dktX6_writes_11
def dkwX6_writes_9 : List UInt8 := [79, 42, 180, 0, 50, 21, 7, 4, 96, 42, 4, 2, 2, 182, 0, 213, 79, 21, 8, 153, 0, 15, 42, 43]
abbrev dktX6_writes_9 : List UInt8 := dkwX6_writes_9 ++ dktX6_writes_10
def dkwX6_writes_8 : List UInt8 := [182, 0, 227, 42, 180, 0, 50, 21, 6, 29, 79, 42, 180, 0, 50, 21, 7, 42, 3, 2, 2, 182, 0, 213]
abbrev dktX6_writes_8 : List UInt8 := dkwX6_writes_8 ++ dktX6_writes_9
def dkwX6_writes_7 : List UInt8 := [96, 92, 46, 42, 21, 11, 29, 130, 42, 180, 0, 32, 21, 6, 46, 182, 0, 160, 130, 79, 167, 0, 45, 42]
abbrev dktX6_writes_7 : List UInt8 := dkwX6_writes_7 ++ dktX6_writes_8
def dkwX6_writes_6 : List UInt8 := [154, 0, 47, 42, 180, 0, 50, 21, 7, 92, 46, 21, 11, 29, 130, 130, 79, 42, 180, 0, 50, 21, 7, 4]
abbrev dktX6_writes_6 : List UInt8 := dkwX6_writes_6 ++ dktX6_writes_7
def dkwX6_writes_5 : List UInt8 := [180, 0, 53, 21, 7, 4, 96, 51, 54, 10, 42, 180, 0, 50, 21, 6, 46, 54, 11, 42, 180, 0, 237]
abbrev dktX6_writes_5 : List UInt8 := dkwX6_writes_5 ++ dktX6_writes_6
def dkwX6_writes_4 : List UInt8 := [167, 255, 213, 42, 180, 0, 53, 21, 6, 51, 54, 8, 42, 180, 0, 53, 21, 7, 51, 54, 9, 42]
abbrev dktX6_writes_4 : List UInt8 := dkwX6_writes_4 ++ dktX6_writes_5
def dkwX6_writes_3 : List UInt8 := [21, 8, 21, 6, 182, 0, 253, 153, 0, 13, 42, 43, 21, 4, 21, 8, 3, 182, 1, 1, 132, 8, 1]
abbrev dktX6_writes_3 : List UInt8 := dkwX6_writes_3 ++ dktX6_writes_4
def dkwX6_writes_2 : List UInt8 := [3, 54, 8, 21, 8, 42, 180, 0, 171, 162, 0, 40, 42, 180, 0, 53, 21, 8, 51, 153, 0, 24, 42]
abbrev dktX6_writes_2 : List UInt8 := dkwX6_writes_2 ++ dktX6_writes_3
def dkwX6_writes_1 : List UInt8 := [180, 0, 17, 3, 46, 54, 7, 42, 43, 21, 4, 21, 5, 2, 2, 182, 0, 223, 42, 21, 6, 182, 0, 250]
abbrev dktX6_writes_1 : List UInt8 := dkwX6_writes_1 ++ dktX6_writes_2
def dkwX6_writes_0 : List UInt8 := [42, 28, 182, 0, 217, 54, 4, 42, 28, 182, 0, 220, 54, 5, 42, 28, 182, 0, 230, 54, 6, 42]
abbrev dktX6_writes_0 : List UInt8 := dkwX6_writes_0 ++ dktX6_writes_1
theorem dksX6_writes_0 : cX6_writes.data.toList.drop 0 = dktX6_writes_0 := by decide +kernel
theorem dksX6_writes_1 : cX6_writes.data.toList.drop 22 = dktX6_writes_1 := dk_seg dksX6_writes_0 22 rfl rfl
theorem dksX6_writes_2 : cX6_writes.data.toList.drop 46 = dktX6_writes_2 := dk_seg dksX6_writes_1 24 rfl rfl
theorem dksX6_writes_3 : cX6_writes.data.toList.drop 69 = dktX6_writes_3 := dk_seg dksX6_writes_2 23 rfl rfl
theorem dksX6_writes_4 : cX6_writes.data.toList.drop 92 = dktX6_writes_4 := dk_seg dksX6_writes_3 23 rfl rfl
theorem dksX6_writes_5 : cX6_writes.data.toList.drop 114 = dktX6_writes_5 := dk_seg dksX6_writes_4 22 rfl rfl
theorem dksX6_writes_6 : cX6_writes.data.toList.drop 137 = dktX6_writes_6 := dk_seg dksX6_writes_5 23 rfl rfl
theorem dksX6_writes_7 : cX6_writes.data.toList.drop 161 = dktX6_writes_7 := dk_seg dksX6_writes_6 24 rfl rfl
theorem dksX6_writes_8 : cX6_writes.data.toList.drop 185 = dktX6_writes_8 := dk_seg dksX6_writes_7 24 rfl rfl
theorem dksX6_writes_9 : cX6_writes.data.toList.drop 209 = dktX6_writes_9 := dk_seg dksX6_writes_8 24 rfl rfl
theorem dksX6_writes_10 : cX6_writes.data.toList.drop 233 = dktX6_writes_10 := dk_seg dksX6_writes_9 24 rfl rfl
theorem dksX6_writes_11 : cX6_writes.data.toList.drop 257 = dktX6_writes_11 := dk_seg dksX6_writes_10 24 rfl rfl
theorem dksX6_writes_12 : cX6_writes.data.toList.drop 281 = dktX6_writes_12 := dk_seg dksX6_writes_11 24 rfl rfl
theorem dX6_writes_0 : decode cX6_writes 0 = .ok (.aload_n 0, 1) := dk_42 (dk_at dksX6_writes_0 0 rfl rfl)
theorem dX6_writes_1 : decode cX6_writes 1 = .ok (.iload_n 2, 1) := dk_28 (dk_at dksX6_writes_0 1 rfl rfl)
theorem dX6_writes_2 : decode cX6_writes 2 = .ok (.invokevirtual 217, 3) := dk_182 0 217 (dk_at dksX6_writes_0 2 rfl rfl)
theorem dX6_writes_5 : decode cX6_writes 5 = .ok (.istore 4, 2) := dk_54 4 (dk_at dksX6_writes_0 5 rfl rfl)
theorem dX6_writes_7 : decode cX6_writes 7 = .ok (.aload_n 0, 1) := dk_42 (dk_at dksX6_writes_0 7 rfl rfl)
theorem dX6_writes_8 : decode cX6_writes 8 = .ok (.iload_n 2, 1) := dk_28 (dk_at dksX6_writes_0 8 rfl rfl)
theorem dX6_writes_9 : decode cX6_writes 9 = .ok (.invokevirtual 220, 3) := dk_182 0 220 (dk_at dksX6_writes_0 9 rfl rfl)
theorem dX6_writes_12 : decode cX6_writes 12 = .ok (.istore 5, 2) := dk_54 5 (dk_at dksX6_writes_0 12 rfl rfl)
theorem dX6_writes_14 : decode cX6_writes 14 = .ok (.aload_n 0, 1) := dk_42 (dk_at dksX6_writes_0 14 rfl rfl)
theorem dX6_writes_15 : decode cX6_writes 15 = .ok (.iload_n 2, 1) := dk_28 (dk_at dksX6_writes_0 15 rfl rfl)
theorem dX6_writes_16 : decode cX6_writes 16 = .ok (.invokevirtual 230, 3) := dk_182 0 230 (dk_at dksX6_writes_0 16 rfl rfl)
theorem dX6_writes_19 : decode cX6_writes 19 = .ok (.istore 6, 2) := dk_54 6 (dk_at dksX6_writes_0 19 rfl rfl)
theorem dX6_writes_21 : decode cX6_writes 21 = .ok (.aload_n 0, 1) := dk_42 (dk_at dksX6_writes_0 21 rfl rfl)
theorem dX6_writes_22 : decode cX6_writes 22 = .ok (.getfield 17, 3) := dk_180 0 17 (dk_at dksX6_writes_1 0 rfl rfl)
theorem dX6_writes_25 : decode cX6_writes 25 = .ok (.iconst 0, 1) := dk_3 (dk_at dksX6_writes_1 3 rfl rfl)
theorem dX6_writes_26 : decode cX6_writes 26 = .ok (.iaload, 1) := dk_46 (dk_at dksX6_writes_1 4 rfl rfl)
theorem dX6_writes_27 : decode cX6_writes 27 = .ok (.istore 7, 2) := dk_54 7 (dk_at dksX6_writes_1 5 rfl rfl)
theorem dX6_writes_29 : decode cX6_writes 29 = .ok (.aload_n 0, 1) := dk_42 (dk_at dksX6_writes_1 7 rfl rfl)
theorem dX6_writes_30 : decode cX6_writes 30 = .ok (.aload_n 1, 1) := dk_43 (dk_at dksX6_writes_1 8 rfl rfl)
theorem dX6_writes_31 : decode cX6_writes 31 = .ok (.iload 4, 2) := dk_21 4 (dk_at dksX6_writes_1 9 rfl rfl)
theorem dX6_writes_33 : decode cX6_writes 33 = .ok (.iload 5, 2) := dk_21 5 (dk_at dksX6_writes_1 11 rfl rfl)
theorem dX6_writes_35 : decode cX6_writes 35 = .ok (.iconst (-1), 1) := dk_2 (dk_at dksX6_writes_1 13 rfl rfl)
theorem dX6_writes_36 : decode cX6_writes 36 = .ok (.iconst (-1), 1) := dk_2 (dk_at dksX6_writes_1 14 rfl rfl)
theorem dX6_writes_37 : decode cX6_writes 37 = .ok (.invokevirtual 223, 3) := dk_182 0 223 (dk_at dksX6_writes_1 15 rfl rfl)
theorem dX6_writes_40 : decode cX6_writes 40 = .ok (.aload_n 0, 1) := dk_42 (dk_at dksX6_writes_1 18 rfl rfl)
theorem dX6_writes_41 : decode cX6_writes 41 = .ok (.iload 6, 2) := dk_21 6 (dk_at dksX6_writes_1 19 rfl rfl)
theorem dX6_writes_43 : decode cX6_writes 43 = .ok (.invokevirtual 250, 3) := dk_182 0 250 (dk_at dksX6_writes_1 21 rfl rfl)
theorem dX6_writes_46 : decode cX6_writes 46 = .ok (.iconst 0, 1) := dk_3 (dk_at dksX6_writes_2 0 rfl rfl)
theorem dX6_writes_47 : decode cX6_writes 47 = .ok (.istore 8, 2) := dk_54 8 (dk_at dksX6_writes_2 1 rfl rfl)
theorem dX6_writes_49 : decode cX6_writes 49 = .ok (.iload 8, 2) := dk_21 8 (dk_at dksX6_writes_2 3 rfl rfl)
theorem dX6_writes_51 : decode cX6_writes 51 = .ok (.aload_n 0, 1) := dk_42 (dk_at dksX6_writes_2 5 rfl rfl)
theorem dX6_writes_52 : decode cX6_writes 52 = .ok (.getfield 171, 3) := dk_180 0 171 (dk_at dksX6_writes_2 6 rfl rfl)
theorem dX6_writes_55 : decode cX6_writes 55 = .ok (.if_icmp .ge 40, 3) := dk_162 0 40 (dk_at dksX6_writes_2 9 rfl rfl)
theorem dX6_writes_58 : decode cX6_writes 58 = .ok (.aload_n 0, 1) := dk_42 (dk_at dksX6_writes_2 12 rfl rfl)
theorem dX6_writes_59 : decode cX6_writes 59 = .ok (.getfield 53, 3) := dk_180 0 53 (dk_at dksX6_writes_2 13 rfl rfl)
theorem dX6_writes_62 : decode cX6_writes 62 = .ok (.iload 8, 2) := dk_21 8 (dk_at dksX6_writes_2 16 rfl rfl)
theorem dX6_writes_64 : decode cX6_writes 64 = .ok (.baload, 1) := dk_51 (dk_at dksX6_writes_2 18 rfl rfl)
theorem dX6_writes_65 : decode cX6_writes 65 = .ok (.ifCond .eq 24, 3) := dk_153 0 24 (dk_at dksX6_writes_2 19 rfl rfl)
theorem dX6_writes_68 : decode cX6_writes 68 = .ok (.aload_n 0, 1) := dk_42 (dk_at dksX6_writes_2 22 rfl rfl)
theorem dX6_writes_69 : decode cX6_writes 69 = .ok (.iload 8, 2) := dk_21 8 (dk_at dksX6_writes_3 0 rfl rfl)
theorem dX6_writes_71 : decode cX6_writes 71 = .ok (.iload 6, 2) := dk_21 6 (dk_at dksX6_writes_3 2 rfl rfl)
theorem dX6_writes_73 : decode cX6_writes 73 = .ok (.invokevirtual 253, 3) := dk_182 0 253 (dk_at dksX6_writes_3 4 rfl rfl)
theorem dX6_writes_76 : decode cX6_writes 76 = .ok (.ifCond .eq 13, 3) := dk_153 0 13 (dk_at dksX6_writes_3 7 rfl rfl)
theorem dX6_writes_79 : decode cX6_writes 79 = .ok (.aload_n 0, 1) := dk_42 (dk_at dksX6_writes_3 10 rfl rfl)
theorem dX6_writes_80 : decode cX6_writes 80 = .ok (.aload_n 1, 1) := dk_43 (dk_at dksX6_writes_3 11 rfl rfl)
theorem dX6_writes_81 : decode cX6_writes 81 = .ok (.iload 4, 2) := dk_21 4 (dk_at dksX6_writes_3 12 rfl rfl)
theorem dX6_writes_83 : decode cX6_writes 83 = .ok (.iload 8, 2) := dk_21 8 (dk_at dksX6_writes_3 14 rfl rfl)
theorem dX6_writes_85 : decode cX6_writes 85 = .ok (.iconst 0, 1) := dk_3 (dk_at dksX6_writes_3 16 rfl rfl)
theorem dX6_writes_86 : decode cX6_writes 86 = .ok (.invokevirtual 257, 3) := dk_182 1 1 (dk_at dksX6_writes_3 17 rfl rfl)
theorem dX6_writes_89 : decode cX6_writes 89 = .ok (.iinc 8 1, 3) := dk_132 8 1 (dk_at dksX6_writes_3 20 rfl rfl)
theorem dX6_writes_92 : decode cX6_writes 92 = .ok (.goto (-43), 3) := dk_167 255 213 (dk_at dksX6_writes_4 0 rfl rfl)
theorem dX6_writes_95 : decode cX6_writes 95 = .ok (.aload_n 0, 1) := dk_42 (dk_at dksX6_writes_4 3 rfl rfl)
theorem dX6_writes_96 : decode cX6_writes 96 = .ok (.getfield 53, 3) := dk_180 0 53 (dk_at dksX6_writes_4 4 rfl rfl)
theorem dX6_writes_99 : decode cX6_writes 99 = .ok (.iload 6, 2) := dk_21 6 (dk_at dksX6_writes_4 7 rfl rfl)
theorem dX6_writes_101 : decode cX6_writes 101 = .ok (.baload, 1) := dk_51 (dk_at dksX6_writes_4 9 rfl rfl)
theorem dX6_writes_102 : decode cX6_writes 102 = .ok (.istore 8, 2) := dk_54 8 (dk_at dksX6_writes_4 10 rfl rfl)
theorem dX6_writes_104 : decode cX6_writes 104 = .ok (.aload_n 0, 1) := dk_42 (dk_at dksX6_writes_4 12 rfl rfl)
theorem dX6_writes_105 : decode cX6_writes 105 = .ok (.getfield 53, 3) := dk_180 0 53 (dk_at dksX6_writes_4 13 rfl rfl)
theorem dX6_writes_108 : decode cX6_writes 108 = .ok (.iload 7, 2) := dk_21 7 (dk_at dksX6_writes_4 16 rfl rfl)
theorem dX6_writes_110 : decode cX6_writes 110 = .ok (.baload, 1) := dk_51 (dk_at dksX6_writes_4 18 rfl rfl)
theorem dX6_writes_111 : decode cX6_writes 111 = .ok (.istore 9, 2) := dk_54 9 (dk_at dksX6_writes_4 19 rfl rfl)
theorem dX6_writes_113 : decode cX6_writes 113 = .ok (.aload_n 0, 1) := dk_42 (dk_at dksX6_writes_4 21 rfl rfl)
theorem dX6_writes_114 : decode cX6_writes 114 = .ok (.getfield 53, 3) := dk_180 0 53 (dk_at dksX6_writes_5 0 rfl rfl)
theorem dX6_writes_117 : decode cX6_writes 117 = .ok (.iload 7, 2) := dk_21 7 (dk_at dksX6_writes_5 3 rfl rfl)
theorem dX6_writes_119 : decode cX6_writes 119 = .ok (.iconst 1, 1) := dk_4 (dk_at dksX6_writes_5 5 rfl rfl)
theorem dX6_writes_120 : decode cX6_writes 120 = .ok (.iadd, 1) := dk_96 (dk_at dksX6_writes_5 6 rfl rfl)
theorem dX6_writes_121 : decode cX6_writes 121 = .ok (.baload, 1) := dk_51 (dk_at dksX6_writes_5 7 rfl rfl)
theorem dX6_writes_122 : decode cX6_writes 122 = .ok (.istore 10, 2) := dk_54 10 (dk_at dksX6_writes_5 8 rfl rfl)
theorem dX6_writes_124 : decode cX6_writes 124 = .ok (.aload_n 0, 1) := dk_42 (dk_at dksX6_writes_5 10 rfl rfl)
theorem dX6_writes_125 : decode cX6_writes 125 = .ok (.getfield 50, 3) := dk_180 0 50 (dk_at dksX6_writes_5 11 rfl rfl)
theorem dX6_writes_128 : decode cX6_writes 128 = .ok (.iload 6, 2) := dk_21 6 (dk_at dksX6_writes_5 14 rfl rfl)
theorem dX6_writes_130 : decode cX6_writes 130 = .ok (.iaload, 1) := dk_46 (dk_at dksX6_writes_5 16 rfl rfl)
theorem dX6_writes_131 : decode cX6_writes 131 = .ok (.istore 11, 2) := dk_54 11 (dk_at dksX6_writes_5 17 rfl rfl)
theorem dX6_writes_133 : decode cX6_writes 133 = .ok (.aload_n 0, 1) := dk_42 (dk_at dksX6_writes_5 19 rfl rfl)
theorem dX6_writes_134 : decode cX6_writes 134 = .ok (.getfield 237, 3) := dk_180 0 237 (dk_at dksX6_writes_5 20 rfl rfl)
theorem dX6_writes_137 : decode cX6_writes 137 = .ok (.ifCond .ne 47, 3) := dk_154 0 47 (dk_at dksX6_writes_6 0 rfl rfl)
theorem dX6_writes_140 : decode cX6_writes 140 = .ok (.aload_n 0, 1) := dk_42 (dk_at dksX6_writes_6 3 rfl rfl)
theorem dX6_writes_141 : decode cX6_writes 141 = .ok (.getfield 50, 3) := dk_180 0 50 (dk_at dksX6_writes_6 4 rfl rfl)
theorem dX6_writes_144 : decode cX6_writes 144 = .ok (.iload 7, 2) := dk_21 7 (dk_at dksX6_writes_6 7 rfl rfl)
theorem dX6_writes_146 : decode cX6_writes 146 = .ok (.dup2, 1) := dk_92 (dk_at dksX6_writes_6 9 rfl rfl)
theorem dX6_writes_147 : decode cX6_writes 147 = .ok (.iaload, 1) := dk_46 (dk_at dksX6_writes_6 10 rfl rfl)
theorem dX6_writes_148 : decode cX6_writes 148 = .ok (.iload 11, 2) := dk_21 11 (dk_at dksX6_writes_6 11 rfl rfl)
theorem dX6_writes_150 : decode cX6_writes 150 = .ok (.iload_n 3, 1) := dk_29 (dk_at dksX6_writes_6 13 rfl rfl)
theorem dX6_writes_151 : decode cX6_writes 151 = .ok (.ixor, 1) := dk_130 (dk_at dksX6_writes_6 14 rfl rfl)
theorem dX6_writes_152 : decode cX6_writes 152 = .ok (.ixor, 1) := dk_130 (dk_at dksX6_writes_6 15 rfl rfl)
theorem dX6_writes_153 : decode cX6_writes 153 = .ok (.iastore, 1) := dk_79 (dk_at dksX6_writes_6 16 rfl rfl)
theorem dX6_writes_154 : decode cX6_writes 154 = .ok (.aload_n 0, 1) := dk_42 (dk_at dksX6_writes_6 17 rfl rfl)
theorem dX6_writes_155 : decode cX6_writes 155 = .ok (.getfield 50, 3) := dk_180 0 50 (dk_at dksX6_writes_6 18 rfl rfl)
theorem dX6_writes_158 : decode cX6_writes 158 = .ok (.iload 7, 2) := dk_21 7 (dk_at dksX6_writes_6 21 rfl rfl)
theorem dX6_writes_160 : decode cX6_writes 160 = .ok (.iconst 1, 1) := dk_4 (dk_at dksX6_writes_6 23 rfl rfl)
theorem dX6_writes_161 : decode cX6_writes 161 = .ok (.iadd, 1) := dk_96 (dk_at dksX6_writes_7 0 rfl rfl)
theorem dX6_writes_162 : decode cX6_writes 162 = .ok (.dup2, 1) := dk_92 (dk_at dksX6_writes_7 1 rfl rfl)
theorem dX6_writes_163 : decode cX6_writes 163 = .ok (.iaload, 1) := dk_46 (dk_at dksX6_writes_7 2 rfl rfl)
theorem dX6_writes_164 : decode cX6_writes 164 = .ok (.aload_n 0, 1) := dk_42 (dk_at dksX6_writes_7 3 rfl rfl)
theorem dX6_writes_165 : decode cX6_writes 165 = .ok (.iload 11, 2) := dk_21 11 (dk_at dksX6_writes_7 4 rfl rfl)
theorem dX6_writes_167 : decode cX6_writes 167 = .ok (.iload_n 3, 1) := dk_29 (dk_at dksX6_writes_7 6 rfl rfl)
theorem dX6_writes_168 : decode cX6_writes 168 = .ok (.ixor, 1) := dk_130 (dk_at dksX6_writes_7 7 rfl rfl)
theorem dX6_writes_169 : decode cX6_writes 169 = .ok (.aload_n 0, 1) := dk_42 (dk_at dksX6_writes_7 8 rfl rfl)
theorem dX6_writes_170 : decode cX6_writes 170 = .ok (.getfield 32, 3) := dk_180 0 32 (dk_at dksX6_writes_7 9 rfl rfl)
theorem dX6_writes_173 : decode cX6_writes 173 = .ok (.iload 6, 2) := dk_21 6 (dk_at dksX6_writes_7 12 rfl rfl)
theorem dX6_writes_175 : decode cX6_writes 175 = .ok (.iaload, 1) := dk_46 (dk_at dksX6_writes_7 14 rfl rfl)
theorem dX6_writes_176 : decode cX6_writes 176 = .ok (.invokevirtual 160, 3) := dk_182 0 160 (dk_at dksX6_writes_7 15 rfl rfl)
theorem dX6_writes_179 : decode cX6_writes 179 = .ok (.ixor, 1) := dk_130 (dk_at dksX6_writes_7 18 rfl rfl)
theorem dX6_writes_180 : decode cX6_writes 180 = .ok (.iastore, 1) := dk_79 (dk_at dksX6_writes_7 19 rfl rfl)
theorem dX6_writes_181 : decode cX6_writes 181 = .ok (.goto 45, 3) := dk_167 0 45 (dk_at dksX6_writes_7 20 rfl rfl)
theorem dX6_writes_184 : decode cX6_writes 184 = .ok (.aload_n 0, 1) := dk_42 (dk_at dksX6_writes_7 23 rfl rfl)
theorem dX6_writes_185 : decode cX6_writes 185 = .ok (.invokevirtual 227, 3) := dk_182 0 227 (dk_at dksX6_writes_8 0 rfl rfl)
theorem dX6_writes_188 : decode cX6_writes 188 = .ok (.aload_n 0, 1) := dk_42 (dk_at dksX6_writes_8 3 rfl rfl)
theorem dX6_writes_189 : decode cX6_writes 189 = .ok (.getfield 50, 3) := dk_180 0 50 (dk_at dksX6_writes_8 4 rfl rfl)
theorem dX6_writes_192 : decode cX6_writes 192 = .ok (.iload 6, 2) := dk_21 6 (dk_at dksX6_writes_8 7 rfl rfl)
theorem dX6_writes_194 : decode cX6_writes 194 = .ok (.iload_n 3, 1) := dk_29 (dk_at dksX6_writes_8 9 rfl rfl)
theorem dX6_writes_195 : decode cX6_writes 195 = .ok (.iastore, 1) := dk_79 (dk_at dksX6_writes_8 10 rfl rfl)
theorem dX6_writes_196 : decode cX6_writes 196 = .ok (.aload_n 0, 1) := dk_42 (dk_at dksX6_writes_8 11 rfl rfl)
theorem dX6_writes_197 : decode cX6_writes 197 = .ok (.getfield 50, 3) := dk_180 0 50 (dk_at dksX6_writes_8 12 rfl rfl)
theorem dX6_writes_200 : decode cX6_writes 200 = .ok (.iload 7, 2) := dk_21 7 (dk_at dksX6_writes_8 15 rfl rfl)
theorem dX6_writes_202 : decode cX6_writes 202 = .ok (.aload_n 0, 1) := dk_42 (dk_at dksX6_writes_8 17 rfl rfl)
theorem dX6_writes_203 : decode cX6_writes 203 = .ok (.iconst 0, 1) := dk_3 (dk_at dksX6_writes_8 18 rfl rfl)
theorem dX6_writes_204 : decode cX6_writes 204 = .ok (.iconst (-1), 1) := dk_2 (dk_at dksX6_writes_8 19 rfl rfl)
theorem dX6_writes_205 : decode cX6_writes 205 = .ok (.iconst (-1), 1) := dk_2 (dk_at dksX6_writes_8 20 rfl rfl)
theorem dX6_writes_206 : decode cX6_writes 206 = .ok (.invokevirtual 213, 3) := dk_182 0 213 (dk_at dksX6_writes_8 21 rfl rfl)
theorem dX6_writes_209 : decode cX6_writes 209 = .ok (.iastore, 1) := dk_79 (dk_at dksX6_writes_9 0 rfl rfl)
theorem dX6_writes_210 : decode cX6_writes 210 = .ok (.aload_n 0, 1) := dk_42 (dk_at dksX6_writes_9 1 rfl rfl)
theorem dX6_writes_211 : decode cX6_writes 211 = .ok (.getfield 50, 3) := dk_180 0 50 (dk_at dksX6_writes_9 2 rfl rfl)
theorem dX6_writes_214 : decode cX6_writes 214 = .ok (.iload 7, 2) := dk_21 7 (dk_at dksX6_writes_9 5 rfl rfl)
theorem dX6_writes_216 : decode cX6_writes 216 = .ok (.iconst 1, 1) := dk_4 (dk_at dksX6_writes_9 7 rfl rfl)
theorem dX6_writes_217 : decode cX6_writes 217 = .ok (.iadd, 1) := dk_96 (dk_at dksX6_writes_9 8 rfl rfl)
theorem dX6_writes_218 : decode cX6_writes 218 = .ok (.aload_n 0, 1) := dk_42 (dk_at dksX6_writes_9 9 rfl rfl)
theorem dX6_writes_219 : decode cX6_writes 219 = .ok (.iconst 1, 1) := dk_4 (dk_at dksX6_writes_9 10 rfl rfl)
theorem dX6_writes_220 : decode cX6_writes 220 = .ok (.iconst (-1), 1) := dk_2 (dk_at dksX6_writes_9 11 rfl rfl)
theorem dX6_writes_221 : decode cX6_writes 221 = .ok (.iconst (-1), 1) := dk_2 (dk_at dksX6_writes_9 12 rfl rfl)
theorem dX6_writes_222 : decode cX6_writes 222 = .ok (.invokevirtual 213, 3) := dk_182 0 213 (dk_at dksX6_writes_9 13 rfl rfl)
theorem dX6_writes_225 : decode cX6_writes 225 = .ok (.iastore, 1) := dk_79 (dk_at dksX6_writes_9 16 rfl rfl)
theorem dX6_writes_226 : decode cX6_writes 226 = .ok (.iload 8, 2) := dk_21 8 (dk_at dksX6_writes_9 17 rfl rfl)
theorem dX6_writes_228 : decode cX6_writes 228 = .ok (.ifCond .eq 15, 3) := dk_153 0 15 (dk_at dksX6_writes_9 19 rfl rfl)
theorem dX6_writes_231 : decode cX6_writes 231 = .ok (.aload_n 0, 1) := dk_42 (dk_at dksX6_writes_9 22 rfl rfl)
theorem dX6_writes_232 : decode cX6_writes 232 = .ok (.aload_n 1, 1) := dk_43 (dk_at dksX6_writes_9 23 rfl rfl)
theorem dX6_writes_233 : decode cX6_writes 233 = .ok (.iload 4, 2) := dk_21 4 (dk_at dksX6_writes_10 0 rfl rfl)
theorem dX6_writes_235 : decode cX6_writes 235 = .ok (.iload 5, 2) := dk_21 5 (dk_at dksX6_writes_10 2 rfl rfl)
theorem dX6_writes_237 : decode cX6_writes 237 = .ok (.iload 6, 2) := dk_21 6 (dk_at dksX6_writes_10 4 rfl rfl)
theorem dX6_writes_239 : decode cX6_writes 239 = .ok (.iload_n 3, 1) := dk_29 (dk_at dksX6_writes_10 6 rfl rfl)
theorem dX6_writes_240 : decode cX6_writes 240 = .ok (.invokevirtual 261, 3) := dk_182 1 5 (dk_at dksX6_writes_10 7 rfl rfl)
theorem dX6_writes_243 : decode cX6_writes 243 = .ok (.iload 9, 2) := dk_21 9 (dk_at dksX6_writes_10 10 rfl rfl)
theorem dX6_writes_245 : decode cX6_writes 245 = .ok (.ifCond .eq 21, 3) := dk_153 0 21 (dk_at dksX6_writes_10 12 rfl rfl)
theorem dX6_writes_248 : decode cX6_writes 248 = .ok (.aload_n 0, 1) := dk_42 (dk_at dksX6_writes_10 15 rfl rfl)
theorem dX6_writes_249 : decode cX6_writes 249 = .ok (.aload_n 1, 1) := dk_43 (dk_at dksX6_writes_10 16 rfl rfl)
theorem dX6_writes_250 : decode cX6_writes 250 = .ok (.iload 4, 2) := dk_21 4 (dk_at dksX6_writes_10 17 rfl rfl)
theorem dX6_writes_252 : decode cX6_writes 252 = .ok (.iload 5, 2) := dk_21 5 (dk_at dksX6_writes_10 19 rfl rfl)
theorem dX6_writes_254 : decode cX6_writes 254 = .ok (.iload 7, 2) := dk_21 7 (dk_at dksX6_writes_10 21 rfl rfl)
theorem dX6_writes_256 : decode cX6_writes 256 = .ok (.aload_n 0, 1) := dk_42 (dk_at dksX6_writes_10 23 rfl rfl)
theorem dX6_writes_257 : decode cX6_writes 257 = .ok (.getfield 50, 3) := dk_180 0 50 (dk_at dksX6_writes_11 0 rfl rfl)
theorem dX6_writes_260 : decode cX6_writes 260 = .ok (.iload 7, 2) := dk_21 7 (dk_at dksX6_writes_11 3 rfl rfl)
theorem dX6_writes_262 : decode cX6_writes 262 = .ok (.iaload, 1) := dk_46 (dk_at dksX6_writes_11 5 rfl rfl)
theorem dX6_writes_263 : decode cX6_writes 263 = .ok (.invokevirtual 261, 3) := dk_182 1 5 (dk_at dksX6_writes_11 6 rfl rfl)
theorem dX6_writes_266 : decode cX6_writes 266 = .ok (.iload 10, 2) := dk_21 10 (dk_at dksX6_writes_11 9 rfl rfl)
theorem dX6_writes_268 : decode cX6_writes 268 = .ok (.ifCond .eq 25, 3) := dk_153 0 25 (dk_at dksX6_writes_11 11 rfl rfl)
theorem dX6_writes_271 : decode cX6_writes 271 = .ok (.aload_n 0, 1) := dk_42 (dk_at dksX6_writes_11 14 rfl rfl)
theorem dX6_writes_272 : decode cX6_writes 272 = .ok (.aload_n 1, 1) := dk_43 (dk_at dksX6_writes_11 15 rfl rfl)
theorem dX6_writes_273 : decode cX6_writes 273 = .ok (.iload 4, 2) := dk_21 4 (dk_at dksX6_writes_11 16 rfl rfl)
theorem dX6_writes_275 : decode cX6_writes 275 = .ok (.iload 5, 2) := dk_21 5 (dk_at dksX6_writes_11 18 rfl rfl)
theorem dX6_writes_277 : decode cX6_writes 277 = .ok (.iload 7, 2) := dk_21 7 (dk_at dksX6_writes_11 20 rfl rfl)
theorem dX6_writes_279 : decode cX6_writes 279 = .ok (.iconst 1, 1) := dk_4 (dk_at dksX6_writes_11 22 rfl rfl)
theorem dX6_writes_280 : decode cX6_writes 280 = .ok (.iadd, 1) := dk_96 (dk_at dksX6_writes_11 23 rfl rfl)
theorem dX6_writes_281 : decode cX6_writes 281 = .ok (.aload_n 0, 1) := dk_42 (dk_at dksX6_writes_12 0 rfl rfl)
theorem dX6_writes_282 : decode cX6_writes 282 = .ok (.getfield 50, 3) := dk_180 0 50 (dk_at dksX6_writes_12 1 rfl rfl)
theorem dX6_writes_285 : decode cX6_writes 285 = .ok (.iload 7, 2) := dk_21 7 (dk_at dksX6_writes_12 4 rfl rfl)
theorem dX6_writes_287 : decode cX6_writes 287 = .ok (.iconst 1, 1) := dk_4 (dk_at dksX6_writes_12 6 rfl rfl)
theorem dX6_writes_288 : decode cX6_writes 288 = .ok (.iadd, 1) := dk_96 (dk_at dksX6_writes_12 7 rfl rfl)
theorem dX6_writes_289 : decode cX6_writes 289 = .ok (.iaload, 1) := dk_46 (dk_at dksX6_writes_12 8 rfl rfl)
theorem dX6_writes_290 : decode cX6_writes 290 = .ok (.invokevirtual 261, 3) := dk_182 1 5 (dk_at dksX6_writes_12 9 rfl rfl)
theorem dX6_writes_293 : decode cX6_writes 293 = .ok (.return_, 1) := dk_177 (dk_at dksX6_writes_12 12 rfl rfl)
abbrev cX6_stripeOf : ByteArray := prog_12_method_41_code
def yX6_stripeOf : MethodName := ⟨RX6, "stripeOf", "(I)I"⟩
def dkwX6_stripeOf_0 : List UInt8 := [27, 42, 180, 0, 17, 5, 46, 108, 42, 180, 0, 17, 3, 46, 108, 172]
abbrev dktX6_stripeOf_0 : List UInt8 := dkwX6_stripeOf_0 ++ []
theorem dksX6_stripeOf_0 : cX6_stripeOf.data.toList.drop 0 = dktX6_stripeOf_0 := by decide +kernel
theorem dX6_stripeOf_0 : decode cX6_stripeOf 0 = .ok (.iload_n 1, 1) := dk_27 (dk_at dksX6_stripeOf_0 0 rfl rfl)
theorem dX6_stripeOf_1 : decode cX6_stripeOf 1 = .ok (.aload_n 0, 1) := dk_42 (dk_at dksX6_stripeOf_0 1 rfl rfl)
theorem dX6_stripeOf_2 : decode cX6_stripeOf 2 = .ok (.getfield 17, 3) := dk_180 0 17 (dk_at dksX6_stripeOf_0 2 rfl rfl)
theorem dX6_stripeOf_5 : decode cX6_stripeOf 5 = .ok (.iconst 2, 1) := dk_5 (dk_at dksX6_stripeOf_0 5 rfl rfl)
theorem dX6_stripeOf_6 : decode cX6_stripeOf 6 = .ok (.iaload, 1) := dk_46 (dk_at dksX6_stripeOf_0 6 rfl rfl)
theorem dX6_stripeOf_7 : decode cX6_stripeOf 7 = .ok (.idiv, 1) := dk_108 (dk_at dksX6_stripeOf_0 7 rfl rfl)
theorem dX6_stripeOf_8 : decode cX6_stripeOf 8 = .ok (.aload_n 0, 1) := dk_42 (dk_at dksX6_stripeOf_0 8 rfl rfl)
theorem dX6_stripeOf_9 : decode cX6_stripeOf 9 = .ok (.getfield 17, 3) := dk_180 0 17 (dk_at dksX6_stripeOf_0 9 rfl rfl)
theorem dX6_stripeOf_12 : decode cX6_stripeOf 12 = .ok (.iconst 0, 1) := dk_3 (dk_at dksX6_stripeOf_0 12 rfl rfl)
theorem dX6_stripeOf_13 : decode cX6_stripeOf 13 = .ok (.iaload, 1) := dk_46 (dk_at dksX6_stripeOf_0 13 rfl rfl)
theorem dX6_stripeOf_14 : decode cX6_stripeOf 14 = .ok (.idiv, 1) := dk_108 (dk_at dksX6_stripeOf_0 14 rfl rfl)
theorem dX6_stripeOf_15 : decode cX6_stripeOf 15 = .ok (.ireturn, 1) := dk_172 (dk_at dksX6_stripeOf_0 15 rfl rfl)
abbrev cX6_byteOf : ByteArray := prog_12_method_39_code
def yX6_byteOf : MethodName := ⟨RX6, "byteOf", "(I)I"⟩
def dkwX6_byteOf_0 : List UInt8 := [27, 42, 180, 0, 17, 5, 46, 112, 172]
abbrev dktX6_byteOf_0 : List UInt8 := dkwX6_byteOf_0 ++ []
theorem dksX6_byteOf_0 : cX6_byteOf.data.toList.drop 0 = dktX6_byteOf_0 := by decide +kernel
theorem dX6_byteOf_0 : decode cX6_byteOf 0 = .ok (.iload_n 1, 1) := dk_27 (dk_at dksX6_byteOf_0 0 rfl rfl)
theorem dX6_byteOf_1 : decode cX6_byteOf 1 = .ok (.aload_n 0, 1) := dk_42 (dk_at dksX6_byteOf_0 1 rfl rfl)
theorem dX6_byteOf_2 : decode cX6_byteOf 2 = .ok (.getfield 17, 3) := dk_180 0 17 (dk_at dksX6_byteOf_0 2 rfl rfl)
theorem dX6_byteOf_5 : decode cX6_byteOf 5 = .ok (.iconst 2, 1) := dk_5 (dk_at dksX6_byteOf_0 5 rfl rfl)
theorem dX6_byteOf_6 : decode cX6_byteOf 6 = .ok (.iaload, 1) := dk_46 (dk_at dksX6_byteOf_0 6 rfl rfl)
theorem dX6_byteOf_7 : decode cX6_byteOf 7 = .ok (.irem, 1) := dk_112 (dk_at dksX6_byteOf_0 7 rfl rfl)
theorem dX6_byteOf_8 : decode cX6_byteOf 8 = .ok (.ireturn, 1) := dk_172 (dk_at dksX6_byteOf_0 8 rfl rfl)
abbrev cX6_partOf : ByteArray := prog_12_method_40_code
def yX6_partOf : MethodName := ⟨RX6, "partOf", "(I)I"⟩
def dkwX6_partOf_0 : List UInt8 := [27, 42, 180, 0, 17, 5, 46, 108, 42, 180, 0, 17, 3, 46, 112, 172]
abbrev dktX6_partOf_0 : List UInt8 := dkwX6_partOf_0 ++ []
theorem dksX6_partOf_0 : cX6_partOf.data.toList.drop 0 = dktX6_partOf_0 := by decide +kernel
theorem dX6_partOf_0 : decode cX6_partOf 0 = .ok (.iload_n 1, 1) := dk_27 (dk_at dksX6_partOf_0 0 rfl rfl)
theorem dX6_partOf_1 : decode cX6_partOf 1 = .ok (.aload_n 0, 1) := dk_42 (dk_at dksX6_partOf_0 1 rfl rfl)
theorem dX6_partOf_2 : decode cX6_partOf 2 = .ok (.getfield 17, 3) := dk_180 0 17 (dk_at dksX6_partOf_0 2 rfl rfl)
theorem dX6_partOf_5 : decode cX6_partOf 5 = .ok (.iconst 2, 1) := dk_5 (dk_at dksX6_partOf_0 5 rfl rfl)
theorem dX6_partOf_6 : decode cX6_partOf 6 = .ok (.iaload, 1) := dk_46 (dk_at dksX6_partOf_0 6 rfl rfl)
theorem dX6_partOf_7 : decode cX6_partOf 7 = .ok (.idiv, 1) := dk_108 (dk_at dksX6_partOf_0 7 rfl rfl)
theorem dX6_partOf_8 : decode cX6_partOf 8 = .ok (.aload_n 0, 1) := dk_42 (dk_at dksX6_partOf_0 8 rfl rfl)
theorem dX6_partOf_9 : decode cX6_partOf 9 = .ok (.getfield 17, 3) := dk_180 0 17 (dk_at dksX6_partOf_0 9 rfl rfl)
theorem dX6_partOf_12 : decode cX6_partOf 12 = .ok (.iconst 0, 1) := dk_3 (dk_at dksX6_partOf_0 12 rfl rfl)
theorem dX6_partOf_13 : decode cX6_partOf 13 = .ok (.iaload, 1) := dk_46 (dk_at dksX6_partOf_0 13 rfl rfl)
theorem dX6_partOf_14 : decode cX6_partOf 14 = .ok (.irem, 1) := dk_112 (dk_at dksX6_partOf_0 14 rfl rfl)
theorem dX6_partOf_15 : decode cX6_partOf 15 = .ok (.ireturn, 1) := dk_172 (dk_at dksX6_partOf_0 15 rfl rfl)
abbrev cX6_lays : ByteArray := prog_12_method_44_code
def yX6_lays : MethodName := ⟨RX6, "lays", "([IIIII)V"⟩
def dkwX6_lays_3 : List UInt8 := [153, 0, 15, 43, 21, 7, 28, 29, 184, 0, 206, 46, 167, 0, 4, 3, 79, 132, 6, 1, 167, 255, 169, 177]
abbrev dktX6_lays_3 : List UInt8 := dkwX6_lays_3 ++ []
def dkwX6_lays_2 : List UInt8 := [21, 5, 159, 0, 7, 4, 167, 0, 4, 3, 84, 42, 180, 0, 50, 21, 6, 42, 180, 0, 53, 21, 6, 51]
abbrev dktX6_lays_2 : List UInt8 := dkwX6_lays_2 ++ dktX6_lays_3
def dkwX6_lays_1 : List UInt8 := [180, 0, 53, 21, 6, 43, 21, 7, 28, 184, 0, 202, 153, 0, 21, 21, 7, 21, 4, 159, 0, 14, 21, 7]
abbrev dktX6_lays_1 : List UInt8 := dkwX6_lays_1 ++ dktX6_lays_2
def dkwX6_lays_0 : List UInt8 := [3, 54, 6, 21, 6, 42, 180, 0, 171, 162, 0, 84, 42, 28, 21, 6, 182, 0, 199, 54, 7, 42]
abbrev dktX6_lays_0 : List UInt8 := dkwX6_lays_0 ++ dktX6_lays_1
theorem dksX6_lays_0 : cX6_lays.data.toList.drop 0 = dktX6_lays_0 := by decide +kernel
theorem dksX6_lays_1 : cX6_lays.data.toList.drop 22 = dktX6_lays_1 := dk_seg dksX6_lays_0 22 rfl rfl
theorem dksX6_lays_2 : cX6_lays.data.toList.drop 46 = dktX6_lays_2 := dk_seg dksX6_lays_1 24 rfl rfl
theorem dksX6_lays_3 : cX6_lays.data.toList.drop 70 = dktX6_lays_3 := dk_seg dksX6_lays_2 24 rfl rfl
theorem dX6_lays_0 : decode cX6_lays 0 = .ok (.iconst 0, 1) := dk_3 (dk_at dksX6_lays_0 0 rfl rfl)
theorem dX6_lays_1 : decode cX6_lays 1 = .ok (.istore 6, 2) := dk_54 6 (dk_at dksX6_lays_0 1 rfl rfl)
theorem dX6_lays_3 : decode cX6_lays 3 = .ok (.iload 6, 2) := dk_21 6 (dk_at dksX6_lays_0 3 rfl rfl)
theorem dX6_lays_5 : decode cX6_lays 5 = .ok (.aload_n 0, 1) := dk_42 (dk_at dksX6_lays_0 5 rfl rfl)
theorem dX6_lays_6 : decode cX6_lays 6 = .ok (.getfield 171, 3) := dk_180 0 171 (dk_at dksX6_lays_0 6 rfl rfl)
theorem dX6_lays_9 : decode cX6_lays 9 = .ok (.if_icmp .ge 84, 3) := dk_162 0 84 (dk_at dksX6_lays_0 9 rfl rfl)
theorem dX6_lays_12 : decode cX6_lays 12 = .ok (.aload_n 0, 1) := dk_42 (dk_at dksX6_lays_0 12 rfl rfl)
theorem dX6_lays_13 : decode cX6_lays 13 = .ok (.iload_n 2, 1) := dk_28 (dk_at dksX6_lays_0 13 rfl rfl)
theorem dX6_lays_14 : decode cX6_lays 14 = .ok (.iload 6, 2) := dk_21 6 (dk_at dksX6_lays_0 14 rfl rfl)
theorem dX6_lays_16 : decode cX6_lays 16 = .ok (.invokevirtual 199, 3) := dk_182 0 199 (dk_at dksX6_lays_0 16 rfl rfl)
theorem dX6_lays_19 : decode cX6_lays 19 = .ok (.istore 7, 2) := dk_54 7 (dk_at dksX6_lays_0 19 rfl rfl)
theorem dX6_lays_21 : decode cX6_lays 21 = .ok (.aload_n 0, 1) := dk_42 (dk_at dksX6_lays_0 21 rfl rfl)
theorem dX6_lays_22 : decode cX6_lays 22 = .ok (.getfield 53, 3) := dk_180 0 53 (dk_at dksX6_lays_1 0 rfl rfl)
theorem dX6_lays_25 : decode cX6_lays 25 = .ok (.iload 6, 2) := dk_21 6 (dk_at dksX6_lays_1 3 rfl rfl)
theorem dX6_lays_27 : decode cX6_lays 27 = .ok (.aload_n 1, 1) := dk_43 (dk_at dksX6_lays_1 5 rfl rfl)
theorem dX6_lays_28 : decode cX6_lays 28 = .ok (.iload 7, 2) := dk_21 7 (dk_at dksX6_lays_1 6 rfl rfl)
theorem dX6_lays_30 : decode cX6_lays 30 = .ok (.iload_n 2, 1) := dk_28 (dk_at dksX6_lays_1 8 rfl rfl)
theorem dX6_lays_31 : decode cX6_lays 31 = .ok (.invokestatic 202, 3) := dk_184 0 202 (dk_at dksX6_lays_1 9 rfl rfl)
theorem dX6_lays_34 : decode cX6_lays 34 = .ok (.ifCond .eq 21, 3) := dk_153 0 21 (dk_at dksX6_lays_1 12 rfl rfl)
theorem dX6_lays_37 : decode cX6_lays 37 = .ok (.iload 7, 2) := dk_21 7 (dk_at dksX6_lays_1 15 rfl rfl)
theorem dX6_lays_39 : decode cX6_lays 39 = .ok (.iload 4, 2) := dk_21 4 (dk_at dksX6_lays_1 17 rfl rfl)
theorem dX6_lays_41 : decode cX6_lays 41 = .ok (.if_icmp .eq 14, 3) := dk_159 0 14 (dk_at dksX6_lays_1 19 rfl rfl)
theorem dX6_lays_44 : decode cX6_lays 44 = .ok (.iload 7, 2) := dk_21 7 (dk_at dksX6_lays_1 22 rfl rfl)
theorem dX6_lays_46 : decode cX6_lays 46 = .ok (.iload 5, 2) := dk_21 5 (dk_at dksX6_lays_2 0 rfl rfl)
theorem dX6_lays_48 : decode cX6_lays 48 = .ok (.if_icmp .eq 7, 3) := dk_159 0 7 (dk_at dksX6_lays_2 2 rfl rfl)
theorem dX6_lays_51 : decode cX6_lays 51 = .ok (.iconst 1, 1) := dk_4 (dk_at dksX6_lays_2 5 rfl rfl)
theorem dX6_lays_52 : decode cX6_lays 52 = .ok (.goto 4, 3) := dk_167 0 4 (dk_at dksX6_lays_2 6 rfl rfl)
theorem dX6_lays_55 : decode cX6_lays 55 = .ok (.iconst 0, 1) := dk_3 (dk_at dksX6_lays_2 9 rfl rfl)
theorem dX6_lays_56 : decode cX6_lays 56 = .ok (.bastore, 1) := dk_84 (dk_at dksX6_lays_2 10 rfl rfl)
theorem dX6_lays_57 : decode cX6_lays 57 = .ok (.aload_n 0, 1) := dk_42 (dk_at dksX6_lays_2 11 rfl rfl)
theorem dX6_lays_58 : decode cX6_lays 58 = .ok (.getfield 50, 3) := dk_180 0 50 (dk_at dksX6_lays_2 12 rfl rfl)
theorem dX6_lays_61 : decode cX6_lays 61 = .ok (.iload 6, 2) := dk_21 6 (dk_at dksX6_lays_2 15 rfl rfl)
theorem dX6_lays_63 : decode cX6_lays 63 = .ok (.aload_n 0, 1) := dk_42 (dk_at dksX6_lays_2 17 rfl rfl)
theorem dX6_lays_64 : decode cX6_lays 64 = .ok (.getfield 53, 3) := dk_180 0 53 (dk_at dksX6_lays_2 18 rfl rfl)
theorem dX6_lays_67 : decode cX6_lays 67 = .ok (.iload 6, 2) := dk_21 6 (dk_at dksX6_lays_2 21 rfl rfl)
theorem dX6_lays_69 : decode cX6_lays 69 = .ok (.baload, 1) := dk_51 (dk_at dksX6_lays_2 23 rfl rfl)
theorem dX6_lays_70 : decode cX6_lays 70 = .ok (.ifCond .eq 15, 3) := dk_153 0 15 (dk_at dksX6_lays_3 0 rfl rfl)
theorem dX6_lays_73 : decode cX6_lays 73 = .ok (.aload_n 1, 1) := dk_43 (dk_at dksX6_lays_3 3 rfl rfl)
theorem dX6_lays_74 : decode cX6_lays 74 = .ok (.iload 7, 2) := dk_21 7 (dk_at dksX6_lays_3 4 rfl rfl)
theorem dX6_lays_76 : decode cX6_lays 76 = .ok (.iload_n 2, 1) := dk_28 (dk_at dksX6_lays_3 6 rfl rfl)
theorem dX6_lays_77 : decode cX6_lays 77 = .ok (.iload_n 3, 1) := dk_29 (dk_at dksX6_lays_3 7 rfl rfl)
theorem dX6_lays_78 : decode cX6_lays 78 = .ok (.invokestatic 206, 3) := dk_184 0 206 (dk_at dksX6_lays_3 8 rfl rfl)
theorem dX6_lays_81 : decode cX6_lays 81 = .ok (.iaload, 1) := dk_46 (dk_at dksX6_lays_3 11 rfl rfl)
theorem dX6_lays_82 : decode cX6_lays 82 = .ok (.goto 4, 3) := dk_167 0 4 (dk_at dksX6_lays_3 12 rfl rfl)
theorem dX6_lays_85 : decode cX6_lays 85 = .ok (.iconst 0, 1) := dk_3 (dk_at dksX6_lays_3 15 rfl rfl)
theorem dX6_lays_86 : decode cX6_lays 86 = .ok (.iastore, 1) := dk_79 (dk_at dksX6_lays_3 16 rfl rfl)
theorem dX6_lays_87 : decode cX6_lays 87 = .ok (.iinc 6 1, 3) := dk_132 6 1 (dk_at dksX6_lays_3 17 rfl rfl)
theorem dX6_lays_90 : decode cX6_lays 90 = .ok (.goto (-87), 3) := dk_167 255 169 (dk_at dksX6_lays_3 20 rfl rfl)
theorem dX6_lays_93 : decode cX6_lays 93 = .ok (.return_, 1) := dk_177 (dk_at dksX6_lays_3 23 rfl rfl)
abbrev cX6_diskOf : ByteArray := prog_12_method_37_code
def yX6_diskOf : MethodName := ⟨RX6, "diskOf", "(II)I"⟩
def dkwX6_diskOf_1 : List UInt8 := [160, 0, 7, 4, 167, 0, 6, 28, 5, 96, 62, 42, 27, 182, 0, 196, 29, 96, 42, 180, 0, 171, 112, 172]
abbrev dktX6_diskOf_1 : List UInt8 := dkwX6_diskOf_1 ++ []
def dkwX6_diskOf_0 : List UInt8 := [28, 42, 180, 0, 17, 3, 46, 160, 0, 7, 3, 167, 0, 22, 28, 42, 180, 0, 17, 3, 46, 4, 96]
abbrev dktX6_diskOf_0 : List UInt8 := dkwX6_diskOf_0 ++ dktX6_diskOf_1
theorem dksX6_diskOf_0 : cX6_diskOf.data.toList.drop 0 = dktX6_diskOf_0 := by decide +kernel
theorem dksX6_diskOf_1 : cX6_diskOf.data.toList.drop 23 = dktX6_diskOf_1 := dk_seg dksX6_diskOf_0 23 rfl rfl
theorem dX6_diskOf_0 : decode cX6_diskOf 0 = .ok (.iload_n 2, 1) := dk_28 (dk_at dksX6_diskOf_0 0 rfl rfl)
theorem dX6_diskOf_1 : decode cX6_diskOf 1 = .ok (.aload_n 0, 1) := dk_42 (dk_at dksX6_diskOf_0 1 rfl rfl)
theorem dX6_diskOf_2 : decode cX6_diskOf 2 = .ok (.getfield 17, 3) := dk_180 0 17 (dk_at dksX6_diskOf_0 2 rfl rfl)
theorem dX6_diskOf_5 : decode cX6_diskOf 5 = .ok (.iconst 0, 1) := dk_3 (dk_at dksX6_diskOf_0 5 rfl rfl)
theorem dX6_diskOf_6 : decode cX6_diskOf 6 = .ok (.iaload, 1) := dk_46 (dk_at dksX6_diskOf_0 6 rfl rfl)
theorem dX6_diskOf_7 : decode cX6_diskOf 7 = .ok (.if_icmp .ne 7, 3) := dk_160 0 7 (dk_at dksX6_diskOf_0 7 rfl rfl)
theorem dX6_diskOf_10 : decode cX6_diskOf 10 = .ok (.iconst 0, 1) := dk_3 (dk_at dksX6_diskOf_0 10 rfl rfl)
theorem dX6_diskOf_11 : decode cX6_diskOf 11 = .ok (.goto 22, 3) := dk_167 0 22 (dk_at dksX6_diskOf_0 11 rfl rfl)
theorem dX6_diskOf_14 : decode cX6_diskOf 14 = .ok (.iload_n 2, 1) := dk_28 (dk_at dksX6_diskOf_0 14 rfl rfl)
theorem dX6_diskOf_15 : decode cX6_diskOf 15 = .ok (.aload_n 0, 1) := dk_42 (dk_at dksX6_diskOf_0 15 rfl rfl)
theorem dX6_diskOf_16 : decode cX6_diskOf 16 = .ok (.getfield 17, 3) := dk_180 0 17 (dk_at dksX6_diskOf_0 16 rfl rfl)
theorem dX6_diskOf_19 : decode cX6_diskOf 19 = .ok (.iconst 0, 1) := dk_3 (dk_at dksX6_diskOf_0 19 rfl rfl)
theorem dX6_diskOf_20 : decode cX6_diskOf 20 = .ok (.iaload, 1) := dk_46 (dk_at dksX6_diskOf_0 20 rfl rfl)
theorem dX6_diskOf_21 : decode cX6_diskOf 21 = .ok (.iconst 1, 1) := dk_4 (dk_at dksX6_diskOf_0 21 rfl rfl)
theorem dX6_diskOf_22 : decode cX6_diskOf 22 = .ok (.iadd, 1) := dk_96 (dk_at dksX6_diskOf_0 22 rfl rfl)
theorem dX6_diskOf_23 : decode cX6_diskOf 23 = .ok (.if_icmp .ne 7, 3) := dk_160 0 7 (dk_at dksX6_diskOf_1 0 rfl rfl)
theorem dX6_diskOf_26 : decode cX6_diskOf 26 = .ok (.iconst 1, 1) := dk_4 (dk_at dksX6_diskOf_1 3 rfl rfl)
theorem dX6_diskOf_27 : decode cX6_diskOf 27 = .ok (.goto 6, 3) := dk_167 0 6 (dk_at dksX6_diskOf_1 4 rfl rfl)
theorem dX6_diskOf_30 : decode cX6_diskOf 30 = .ok (.iload_n 2, 1) := dk_28 (dk_at dksX6_diskOf_1 7 rfl rfl)
theorem dX6_diskOf_31 : decode cX6_diskOf 31 = .ok (.iconst 2, 1) := dk_5 (dk_at dksX6_diskOf_1 8 rfl rfl)
theorem dX6_diskOf_32 : decode cX6_diskOf 32 = .ok (.iadd, 1) := dk_96 (dk_at dksX6_diskOf_1 9 rfl rfl)
theorem dX6_diskOf_33 : decode cX6_diskOf 33 = .ok (.istore_n 3, 1) := dk_62 (dk_at dksX6_diskOf_1 10 rfl rfl)
theorem dX6_diskOf_34 : decode cX6_diskOf 34 = .ok (.aload_n 0, 1) := dk_42 (dk_at dksX6_diskOf_1 11 rfl rfl)
theorem dX6_diskOf_35 : decode cX6_diskOf 35 = .ok (.iload_n 1, 1) := dk_27 (dk_at dksX6_diskOf_1 12 rfl rfl)
theorem dX6_diskOf_36 : decode cX6_diskOf 36 = .ok (.invokevirtual 196, 3) := dk_182 0 196 (dk_at dksX6_diskOf_1 13 rfl rfl)
theorem dX6_diskOf_39 : decode cX6_diskOf 39 = .ok (.iload_n 3, 1) := dk_29 (dk_at dksX6_diskOf_1 16 rfl rfl)
theorem dX6_diskOf_40 : decode cX6_diskOf 40 = .ok (.iadd, 1) := dk_96 (dk_at dksX6_diskOf_1 17 rfl rfl)
theorem dX6_diskOf_41 : decode cX6_diskOf 41 = .ok (.aload_n 0, 1) := dk_42 (dk_at dksX6_diskOf_1 18 rfl rfl)
theorem dX6_diskOf_42 : decode cX6_diskOf 42 = .ok (.getfield 171, 3) := dk_180 0 171 (dk_at dksX6_diskOf_1 19 rfl rfl)
theorem dX6_diskOf_45 : decode cX6_diskOf 45 = .ok (.irem, 1) := dk_112 (dk_at dksX6_diskOf_1 22 rfl rfl)
theorem dX6_diskOf_46 : decode cX6_diskOf 46 = .ok (.ireturn, 1) := dk_172 (dk_at dksX6_diskOf_1 23 rfl rfl)
abbrev cX6_pDisk : ByteArray := prog_12_method_36_code
def yX6_pDisk : MethodName := ⟨RX6, "pDisk", "(I)I"⟩
def dkwX6_pDisk_0 : List UInt8 := [42, 180, 0, 171, 4, 100, 27, 42, 180, 0, 171, 112, 100, 172]
abbrev dktX6_pDisk_0 : List UInt8 := dkwX6_pDisk_0 ++ []
theorem dksX6_pDisk_0 : cX6_pDisk.data.toList.drop 0 = dktX6_pDisk_0 := by decide +kernel
theorem dX6_pDisk_0 : decode cX6_pDisk 0 = .ok (.aload_n 0, 1) := dk_42 (dk_at dksX6_pDisk_0 0 rfl rfl)
theorem dX6_pDisk_1 : decode cX6_pDisk 1 = .ok (.getfield 171, 3) := dk_180 0 171 (dk_at dksX6_pDisk_0 1 rfl rfl)
theorem dX6_pDisk_4 : decode cX6_pDisk 4 = .ok (.iconst 1, 1) := dk_4 (dk_at dksX6_pDisk_0 4 rfl rfl)
theorem dX6_pDisk_5 : decode cX6_pDisk 5 = .ok (.isub, 1) := dk_100 (dk_at dksX6_pDisk_0 5 rfl rfl)
theorem dX6_pDisk_6 : decode cX6_pDisk 6 = .ok (.iload_n 1, 1) := dk_27 (dk_at dksX6_pDisk_0 6 rfl rfl)
theorem dX6_pDisk_7 : decode cX6_pDisk 7 = .ok (.aload_n 0, 1) := dk_42 (dk_at dksX6_pDisk_0 7 rfl rfl)
theorem dX6_pDisk_8 : decode cX6_pDisk 8 = .ok (.getfield 171, 3) := dk_180 0 171 (dk_at dksX6_pDisk_0 8 rfl rfl)
theorem dX6_pDisk_11 : decode cX6_pDisk 11 = .ok (.irem, 1) := dk_112 (dk_at dksX6_pDisk_0 11 rfl rfl)
theorem dX6_pDisk_12 : decode cX6_pDisk 12 = .ok (.isub, 1) := dk_100 (dk_at dksX6_pDisk_0 12 rfl rfl)
theorem dX6_pDisk_13 : decode cX6_pDisk 13 = .ok (.ireturn, 1) := dk_172 (dk_at dksX6_pDisk_0 13 rfl rfl)
abbrev cX6_isThere : ByteArray := prog_12_method_43_code
def yX6_isThere : MethodName := ⟨RX6, "isThere", "([III)Z"⟩
def dkwX6_isThere_1 : List UInt8 := [17, 1, 136, 27, 96, 46, 162, 0, 7, 4, 167, 0, 4, 3, 172]
abbrev dktX6_isThere_1 : List UInt8 := dkwX6_isThere_1 ++ []
def dkwX6_isThere_0 : List UInt8 := [42, 17, 1, 128, 27, 96, 46, 153, 0, 25, 42, 17, 1, 128, 27, 96, 46, 5, 160, 0, 18, 28, 42]
abbrev dktX6_isThere_0 : List UInt8 := dkwX6_isThere_0 ++ dktX6_isThere_1
theorem dksX6_isThere_0 : cX6_isThere.data.toList.drop 0 = dktX6_isThere_0 := by decide +kernel
theorem dksX6_isThere_1 : cX6_isThere.data.toList.drop 23 = dktX6_isThere_1 := dk_seg dksX6_isThere_0 23 rfl rfl
theorem dX6_isThere_0 : decode cX6_isThere 0 = .ok (.aload_n 0, 1) := dk_42 (dk_at dksX6_isThere_0 0 rfl rfl)
theorem dX6_isThere_1 : decode cX6_isThere 1 = .ok (.sipush 384, 3) := dk_17 1 128 (dk_at dksX6_isThere_0 1 rfl rfl)
theorem dX6_isThere_4 : decode cX6_isThere 4 = .ok (.iload_n 1, 1) := dk_27 (dk_at dksX6_isThere_0 4 rfl rfl)
theorem dX6_isThere_5 : decode cX6_isThere 5 = .ok (.iadd, 1) := dk_96 (dk_at dksX6_isThere_0 5 rfl rfl)
theorem dX6_isThere_6 : decode cX6_isThere 6 = .ok (.iaload, 1) := dk_46 (dk_at dksX6_isThere_0 6 rfl rfl)
theorem dX6_isThere_7 : decode cX6_isThere 7 = .ok (.ifCond .eq 25, 3) := dk_153 0 25 (dk_at dksX6_isThere_0 7 rfl rfl)
theorem dX6_isThere_10 : decode cX6_isThere 10 = .ok (.aload_n 0, 1) := dk_42 (dk_at dksX6_isThere_0 10 rfl rfl)
theorem dX6_isThere_11 : decode cX6_isThere 11 = .ok (.sipush 384, 3) := dk_17 1 128 (dk_at dksX6_isThere_0 11 rfl rfl)
theorem dX6_isThere_14 : decode cX6_isThere 14 = .ok (.iload_n 1, 1) := dk_27 (dk_at dksX6_isThere_0 14 rfl rfl)
theorem dX6_isThere_15 : decode cX6_isThere 15 = .ok (.iadd, 1) := dk_96 (dk_at dksX6_isThere_0 15 rfl rfl)
theorem dX6_isThere_16 : decode cX6_isThere 16 = .ok (.iaload, 1) := dk_46 (dk_at dksX6_isThere_0 16 rfl rfl)
theorem dX6_isThere_17 : decode cX6_isThere 17 = .ok (.iconst 2, 1) := dk_5 (dk_at dksX6_isThere_0 17 rfl rfl)
theorem dX6_isThere_18 : decode cX6_isThere 18 = .ok (.if_icmp .ne 18, 3) := dk_160 0 18 (dk_at dksX6_isThere_0 18 rfl rfl)
theorem dX6_isThere_21 : decode cX6_isThere 21 = .ok (.iload_n 2, 1) := dk_28 (dk_at dksX6_isThere_0 21 rfl rfl)
theorem dX6_isThere_22 : decode cX6_isThere 22 = .ok (.aload_n 0, 1) := dk_42 (dk_at dksX6_isThere_0 22 rfl rfl)
theorem dX6_isThere_23 : decode cX6_isThere 23 = .ok (.sipush 392, 3) := dk_17 1 136 (dk_at dksX6_isThere_1 0 rfl rfl)
theorem dX6_isThere_26 : decode cX6_isThere 26 = .ok (.iload_n 1, 1) := dk_27 (dk_at dksX6_isThere_1 3 rfl rfl)
theorem dX6_isThere_27 : decode cX6_isThere 27 = .ok (.iadd, 1) := dk_96 (dk_at dksX6_isThere_1 4 rfl rfl)
theorem dX6_isThere_28 : decode cX6_isThere 28 = .ok (.iaload, 1) := dk_46 (dk_at dksX6_isThere_1 5 rfl rfl)
theorem dX6_isThere_29 : decode cX6_isThere 29 = .ok (.if_icmp .ge 7, 3) := dk_162 0 7 (dk_at dksX6_isThere_1 6 rfl rfl)
theorem dX6_isThere_32 : decode cX6_isThere 32 = .ok (.iconst 1, 1) := dk_4 (dk_at dksX6_isThere_1 9 rfl rfl)
theorem dX6_isThere_33 : decode cX6_isThere 33 = .ok (.goto 4, 3) := dk_167 0 4 (dk_at dksX6_isThere_1 10 rfl rfl)
theorem dX6_isThere_36 : decode cX6_isThere 36 = .ok (.iconst 0, 1) := dk_3 (dk_at dksX6_isThere_1 13 rfl rfl)
theorem dX6_isThere_37 : decode cX6_isThere 37 = .ok (.ireturn, 1) := dk_172 (dk_at dksX6_isThere_1 14 rfl rfl)
abbrev cX6_spot : ByteArray := prog_12_method_42_code
def yX6_spot : MethodName := ⟨RX6, "spot", "(III)I"⟩
def dkwX6_spot_0 : List UInt8 := [16, 48, 26, 104, 7, 27, 104, 96, 28, 96, 172]
abbrev dktX6_spot_0 : List UInt8 := dkwX6_spot_0 ++ []
theorem dksX6_spot_0 : cX6_spot.data.toList.drop 0 = dktX6_spot_0 := by decide +kernel
theorem dX6_spot_0 : decode cX6_spot 0 = .ok (.bipush 48, 2) := dk_16 48 (dk_at dksX6_spot_0 0 rfl rfl)
theorem dX6_spot_2 : decode cX6_spot 2 = .ok (.iload_n 0, 1) := dk_26 (dk_at dksX6_spot_0 2 rfl rfl)
theorem dX6_spot_3 : decode cX6_spot 3 = .ok (.imul, 1) := dk_104 (dk_at dksX6_spot_0 3 rfl rfl)
theorem dX6_spot_4 : decode cX6_spot 4 = .ok (.iconst 4, 1) := dk_7 (dk_at dksX6_spot_0 4 rfl rfl)
theorem dX6_spot_5 : decode cX6_spot 5 = .ok (.iload_n 1, 1) := dk_27 (dk_at dksX6_spot_0 5 rfl rfl)
theorem dX6_spot_6 : decode cX6_spot 6 = .ok (.imul, 1) := dk_104 (dk_at dksX6_spot_0 6 rfl rfl)
theorem dX6_spot_7 : decode cX6_spot 7 = .ok (.iadd, 1) := dk_96 (dk_at dksX6_spot_0 7 rfl rfl)
theorem dX6_spot_8 : decode cX6_spot 8 = .ok (.iload_n 2, 1) := dk_28 (dk_at dksX6_spot_0 8 rfl rfl)
theorem dX6_spot_9 : decode cX6_spot 9 = .ok (.iadd, 1) := dk_96 (dk_at dksX6_spot_0 9 rfl rfl)
theorem dX6_spot_10 : decode cX6_spot 10 = .ok (.ireturn, 1) := dk_172 (dk_at dksX6_spot_0 10 rfl rfl)
abbrev cX6_chooses : ByteArray := prog_12_method_53_code
def yX6_chooses : MethodName := ⟨RX6, "chooses", "(I)V"⟩
def dkwX6_chooses_6 : List UInt8 := [180, 0, 53, 27, 51, 154, 0, 18, 21, 4, 28, 5, 100, 160, 0, 10, 42, 5, 28, 5, 182, 0, 246, 177]
abbrev dktX6_chooses_6 : List UInt8 := dkwX6_chooses_6 ++ []
def dkwX6_chooses_5 : List UInt8 := [4, 28, 4, 100, 42, 180, 0, 53, 27, 51, 153, 0, 7, 4, 167, 0, 4, 3, 29, 96, 182, 0, 246, 42]
abbrev dktX6_chooses_5 : List UInt8 := dkwX6_chooses_5 ++ dktX6_chooses_6
def dkwX6_chooses_4 : List UInt8 := [51, 153, 0, 14, 42, 3, 4, 29, 96, 4, 29, 96, 182, 0, 246, 21, 4, 28, 4, 100, 160, 0, 27, 42]
abbrev dktX6_chooses_4 : List UInt8 := dkwX6_chooses_4 ++ dktX6_chooses_5
def dkwX6_chooses_3 : List UInt8 := [4, 167, 0, 4, 3, 96, 54, 4, 132, 5, 1, 167, 255, 221, 42, 2, 181, 0, 237, 42, 180, 0, 53, 27]
abbrev dktX6_chooses_3 : List UInt8 := dkwX6_chooses_3 ++ dktX6_chooses_4
def dkwX6_chooses_2 : List UInt8 := [21, 5, 28, 162, 0, 35, 21, 4, 21, 5, 27, 159, 0, 17, 42, 180, 0, 53, 21, 5, 51, 153, 0, 7]
abbrev dktX6_chooses_2 : List UInt8 := dkwX6_chooses_2 ++ dktX6_chooses_3
def dkwX6_chooses_1 : List UInt8 := [180, 0, 53, 28, 4, 96, 51, 153, 0, 7, 4, 167, 0, 4, 3, 96, 62, 3, 54, 4, 3, 54, 5]
abbrev dktX6_chooses_1 : List UInt8 := dkwX6_chooses_1 ++ dktX6_chooses_2
def dkwX6_chooses_0 : List UInt8 := [42, 180, 0, 17, 3, 46, 61, 42, 180, 0, 53, 28, 51, 153, 0, 7, 4, 167, 0, 4, 3, 42]
abbrev dktX6_chooses_0 : List UInt8 := dkwX6_chooses_0 ++ dktX6_chooses_1
theorem dksX6_chooses_0 : cX6_chooses.data.toList.drop 0 = dktX6_chooses_0 := by decide +kernel
theorem dksX6_chooses_1 : cX6_chooses.data.toList.drop 22 = dktX6_chooses_1 := dk_seg dksX6_chooses_0 22 rfl rfl
theorem dksX6_chooses_2 : cX6_chooses.data.toList.drop 45 = dktX6_chooses_2 := dk_seg dksX6_chooses_1 23 rfl rfl
theorem dksX6_chooses_3 : cX6_chooses.data.toList.drop 69 = dktX6_chooses_3 := dk_seg dksX6_chooses_2 24 rfl rfl
theorem dksX6_chooses_4 : cX6_chooses.data.toList.drop 93 = dktX6_chooses_4 := dk_seg dksX6_chooses_3 24 rfl rfl
theorem dksX6_chooses_5 : cX6_chooses.data.toList.drop 117 = dktX6_chooses_5 := dk_seg dksX6_chooses_4 24 rfl rfl
theorem dksX6_chooses_6 : cX6_chooses.data.toList.drop 141 = dktX6_chooses_6 := dk_seg dksX6_chooses_5 24 rfl rfl
theorem dX6_chooses_0 : decode cX6_chooses 0 = .ok (.aload_n 0, 1) := dk_42 (dk_at dksX6_chooses_0 0 rfl rfl)
theorem dX6_chooses_1 : decode cX6_chooses 1 = .ok (.getfield 17, 3) := dk_180 0 17 (dk_at dksX6_chooses_0 1 rfl rfl)
theorem dX6_chooses_4 : decode cX6_chooses 4 = .ok (.iconst 0, 1) := dk_3 (dk_at dksX6_chooses_0 4 rfl rfl)
theorem dX6_chooses_5 : decode cX6_chooses 5 = .ok (.iaload, 1) := dk_46 (dk_at dksX6_chooses_0 5 rfl rfl)
theorem dX6_chooses_6 : decode cX6_chooses 6 = .ok (.istore_n 2, 1) := dk_61 (dk_at dksX6_chooses_0 6 rfl rfl)
theorem dX6_chooses_7 : decode cX6_chooses 7 = .ok (.aload_n 0, 1) := dk_42 (dk_at dksX6_chooses_0 7 rfl rfl)
theorem dX6_chooses_8 : decode cX6_chooses 8 = .ok (.getfield 53, 3) := dk_180 0 53 (dk_at dksX6_chooses_0 8 rfl rfl)
theorem dX6_chooses_11 : decode cX6_chooses 11 = .ok (.iload_n 2, 1) := dk_28 (dk_at dksX6_chooses_0 11 rfl rfl)
theorem dX6_chooses_12 : decode cX6_chooses 12 = .ok (.baload, 1) := dk_51 (dk_at dksX6_chooses_0 12 rfl rfl)
theorem dX6_chooses_13 : decode cX6_chooses 13 = .ok (.ifCond .eq 7, 3) := dk_153 0 7 (dk_at dksX6_chooses_0 13 rfl rfl)
theorem dX6_chooses_16 : decode cX6_chooses 16 = .ok (.iconst 1, 1) := dk_4 (dk_at dksX6_chooses_0 16 rfl rfl)
theorem dX6_chooses_17 : decode cX6_chooses 17 = .ok (.goto 4, 3) := dk_167 0 4 (dk_at dksX6_chooses_0 17 rfl rfl)
theorem dX6_chooses_20 : decode cX6_chooses 20 = .ok (.iconst 0, 1) := dk_3 (dk_at dksX6_chooses_0 20 rfl rfl)
theorem dX6_chooses_21 : decode cX6_chooses 21 = .ok (.aload_n 0, 1) := dk_42 (dk_at dksX6_chooses_0 21 rfl rfl)
theorem dX6_chooses_22 : decode cX6_chooses 22 = .ok (.getfield 53, 3) := dk_180 0 53 (dk_at dksX6_chooses_1 0 rfl rfl)
theorem dX6_chooses_25 : decode cX6_chooses 25 = .ok (.iload_n 2, 1) := dk_28 (dk_at dksX6_chooses_1 3 rfl rfl)
theorem dX6_chooses_26 : decode cX6_chooses 26 = .ok (.iconst 1, 1) := dk_4 (dk_at dksX6_chooses_1 4 rfl rfl)
theorem dX6_chooses_27 : decode cX6_chooses 27 = .ok (.iadd, 1) := dk_96 (dk_at dksX6_chooses_1 5 rfl rfl)
theorem dX6_chooses_28 : decode cX6_chooses 28 = .ok (.baload, 1) := dk_51 (dk_at dksX6_chooses_1 6 rfl rfl)
theorem dX6_chooses_29 : decode cX6_chooses 29 = .ok (.ifCond .eq 7, 3) := dk_153 0 7 (dk_at dksX6_chooses_1 7 rfl rfl)
theorem dX6_chooses_32 : decode cX6_chooses 32 = .ok (.iconst 1, 1) := dk_4 (dk_at dksX6_chooses_1 10 rfl rfl)
theorem dX6_chooses_33 : decode cX6_chooses 33 = .ok (.goto 4, 3) := dk_167 0 4 (dk_at dksX6_chooses_1 11 rfl rfl)
theorem dX6_chooses_36 : decode cX6_chooses 36 = .ok (.iconst 0, 1) := dk_3 (dk_at dksX6_chooses_1 14 rfl rfl)
theorem dX6_chooses_37 : decode cX6_chooses 37 = .ok (.iadd, 1) := dk_96 (dk_at dksX6_chooses_1 15 rfl rfl)
theorem dX6_chooses_38 : decode cX6_chooses 38 = .ok (.istore_n 3, 1) := dk_62 (dk_at dksX6_chooses_1 16 rfl rfl)
theorem dX6_chooses_39 : decode cX6_chooses 39 = .ok (.iconst 0, 1) := dk_3 (dk_at dksX6_chooses_1 17 rfl rfl)
theorem dX6_chooses_40 : decode cX6_chooses 40 = .ok (.istore 4, 2) := dk_54 4 (dk_at dksX6_chooses_1 18 rfl rfl)
theorem dX6_chooses_42 : decode cX6_chooses 42 = .ok (.iconst 0, 1) := dk_3 (dk_at dksX6_chooses_1 20 rfl rfl)
theorem dX6_chooses_43 : decode cX6_chooses 43 = .ok (.istore 5, 2) := dk_54 5 (dk_at dksX6_chooses_1 21 rfl rfl)
theorem dX6_chooses_45 : decode cX6_chooses 45 = .ok (.iload 5, 2) := dk_21 5 (dk_at dksX6_chooses_2 0 rfl rfl)
theorem dX6_chooses_47 : decode cX6_chooses 47 = .ok (.iload_n 2, 1) := dk_28 (dk_at dksX6_chooses_2 2 rfl rfl)
theorem dX6_chooses_48 : decode cX6_chooses 48 = .ok (.if_icmp .ge 35, 3) := dk_162 0 35 (dk_at dksX6_chooses_2 3 rfl rfl)
theorem dX6_chooses_51 : decode cX6_chooses 51 = .ok (.iload 4, 2) := dk_21 4 (dk_at dksX6_chooses_2 6 rfl rfl)
theorem dX6_chooses_53 : decode cX6_chooses 53 = .ok (.iload 5, 2) := dk_21 5 (dk_at dksX6_chooses_2 8 rfl rfl)
theorem dX6_chooses_55 : decode cX6_chooses 55 = .ok (.iload_n 1, 1) := dk_27 (dk_at dksX6_chooses_2 10 rfl rfl)
theorem dX6_chooses_56 : decode cX6_chooses 56 = .ok (.if_icmp .eq 17, 3) := dk_159 0 17 (dk_at dksX6_chooses_2 11 rfl rfl)
theorem dX6_chooses_59 : decode cX6_chooses 59 = .ok (.aload_n 0, 1) := dk_42 (dk_at dksX6_chooses_2 14 rfl rfl)
theorem dX6_chooses_60 : decode cX6_chooses 60 = .ok (.getfield 53, 3) := dk_180 0 53 (dk_at dksX6_chooses_2 15 rfl rfl)
theorem dX6_chooses_63 : decode cX6_chooses 63 = .ok (.iload 5, 2) := dk_21 5 (dk_at dksX6_chooses_2 18 rfl rfl)
theorem dX6_chooses_65 : decode cX6_chooses 65 = .ok (.baload, 1) := dk_51 (dk_at dksX6_chooses_2 20 rfl rfl)
theorem dX6_chooses_66 : decode cX6_chooses 66 = .ok (.ifCond .eq 7, 3) := dk_153 0 7 (dk_at dksX6_chooses_2 21 rfl rfl)
theorem dX6_chooses_69 : decode cX6_chooses 69 = .ok (.iconst 1, 1) := dk_4 (dk_at dksX6_chooses_3 0 rfl rfl)
theorem dX6_chooses_70 : decode cX6_chooses 70 = .ok (.goto 4, 3) := dk_167 0 4 (dk_at dksX6_chooses_3 1 rfl rfl)
theorem dX6_chooses_73 : decode cX6_chooses 73 = .ok (.iconst 0, 1) := dk_3 (dk_at dksX6_chooses_3 4 rfl rfl)
theorem dX6_chooses_74 : decode cX6_chooses 74 = .ok (.iadd, 1) := dk_96 (dk_at dksX6_chooses_3 5 rfl rfl)
theorem dX6_chooses_75 : decode cX6_chooses 75 = .ok (.istore 4, 2) := dk_54 4 (dk_at dksX6_chooses_3 6 rfl rfl)
theorem dX6_chooses_77 : decode cX6_chooses 77 = .ok (.iinc 5 1, 3) := dk_132 5 1 (dk_at dksX6_chooses_3 8 rfl rfl)
theorem dX6_chooses_80 : decode cX6_chooses 80 = .ok (.goto (-35), 3) := dk_167 255 221 (dk_at dksX6_chooses_3 11 rfl rfl)
theorem dX6_chooses_83 : decode cX6_chooses 83 = .ok (.aload_n 0, 1) := dk_42 (dk_at dksX6_chooses_3 14 rfl rfl)
theorem dX6_chooses_84 : decode cX6_chooses 84 = .ok (.iconst (-1), 1) := dk_2 (dk_at dksX6_chooses_3 15 rfl rfl)
theorem dX6_chooses_85 : decode cX6_chooses 85 = .ok (.putfield 237, 3) := dk_181 0 237 (dk_at dksX6_chooses_3 16 rfl rfl)
theorem dX6_chooses_88 : decode cX6_chooses 88 = .ok (.aload_n 0, 1) := dk_42 (dk_at dksX6_chooses_3 19 rfl rfl)
theorem dX6_chooses_89 : decode cX6_chooses 89 = .ok (.getfield 53, 3) := dk_180 0 53 (dk_at dksX6_chooses_3 20 rfl rfl)
theorem dX6_chooses_92 : decode cX6_chooses 92 = .ok (.iload_n 1, 1) := dk_27 (dk_at dksX6_chooses_3 23 rfl rfl)
theorem dX6_chooses_93 : decode cX6_chooses 93 = .ok (.baload, 1) := dk_51 (dk_at dksX6_chooses_4 0 rfl rfl)
theorem dX6_chooses_94 : decode cX6_chooses 94 = .ok (.ifCond .eq 14, 3) := dk_153 0 14 (dk_at dksX6_chooses_4 1 rfl rfl)
theorem dX6_chooses_97 : decode cX6_chooses 97 = .ok (.aload_n 0, 1) := dk_42 (dk_at dksX6_chooses_4 4 rfl rfl)
theorem dX6_chooses_98 : decode cX6_chooses 98 = .ok (.iconst 0, 1) := dk_3 (dk_at dksX6_chooses_4 5 rfl rfl)
theorem dX6_chooses_99 : decode cX6_chooses 99 = .ok (.iconst 1, 1) := dk_4 (dk_at dksX6_chooses_4 6 rfl rfl)
theorem dX6_chooses_100 : decode cX6_chooses 100 = .ok (.iload_n 3, 1) := dk_29 (dk_at dksX6_chooses_4 7 rfl rfl)
theorem dX6_chooses_101 : decode cX6_chooses 101 = .ok (.iadd, 1) := dk_96 (dk_at dksX6_chooses_4 8 rfl rfl)
theorem dX6_chooses_102 : decode cX6_chooses 102 = .ok (.iconst 1, 1) := dk_4 (dk_at dksX6_chooses_4 9 rfl rfl)
theorem dX6_chooses_103 : decode cX6_chooses 103 = .ok (.iload_n 3, 1) := dk_29 (dk_at dksX6_chooses_4 10 rfl rfl)
theorem dX6_chooses_104 : decode cX6_chooses 104 = .ok (.iadd, 1) := dk_96 (dk_at dksX6_chooses_4 11 rfl rfl)
theorem dX6_chooses_105 : decode cX6_chooses 105 = .ok (.invokevirtual 246, 3) := dk_182 0 246 (dk_at dksX6_chooses_4 12 rfl rfl)
theorem dX6_chooses_108 : decode cX6_chooses 108 = .ok (.iload 4, 2) := dk_21 4 (dk_at dksX6_chooses_4 15 rfl rfl)
theorem dX6_chooses_110 : decode cX6_chooses 110 = .ok (.iload_n 2, 1) := dk_28 (dk_at dksX6_chooses_4 17 rfl rfl)
theorem dX6_chooses_111 : decode cX6_chooses 111 = .ok (.iconst 1, 1) := dk_4 (dk_at dksX6_chooses_4 18 rfl rfl)
theorem dX6_chooses_112 : decode cX6_chooses 112 = .ok (.isub, 1) := dk_100 (dk_at dksX6_chooses_4 19 rfl rfl)
theorem dX6_chooses_113 : decode cX6_chooses 113 = .ok (.if_icmp .ne 27, 3) := dk_160 0 27 (dk_at dksX6_chooses_4 20 rfl rfl)
theorem dX6_chooses_116 : decode cX6_chooses 116 = .ok (.aload_n 0, 1) := dk_42 (dk_at dksX6_chooses_4 23 rfl rfl)
theorem dX6_chooses_117 : decode cX6_chooses 117 = .ok (.iconst 1, 1) := dk_4 (dk_at dksX6_chooses_5 0 rfl rfl)
theorem dX6_chooses_118 : decode cX6_chooses 118 = .ok (.iload_n 2, 1) := dk_28 (dk_at dksX6_chooses_5 1 rfl rfl)
theorem dX6_chooses_119 : decode cX6_chooses 119 = .ok (.iconst 1, 1) := dk_4 (dk_at dksX6_chooses_5 2 rfl rfl)
theorem dX6_chooses_120 : decode cX6_chooses 120 = .ok (.isub, 1) := dk_100 (dk_at dksX6_chooses_5 3 rfl rfl)
theorem dX6_chooses_121 : decode cX6_chooses 121 = .ok (.aload_n 0, 1) := dk_42 (dk_at dksX6_chooses_5 4 rfl rfl)
theorem dX6_chooses_122 : decode cX6_chooses 122 = .ok (.getfield 53, 3) := dk_180 0 53 (dk_at dksX6_chooses_5 5 rfl rfl)
theorem dX6_chooses_125 : decode cX6_chooses 125 = .ok (.iload_n 1, 1) := dk_27 (dk_at dksX6_chooses_5 8 rfl rfl)
theorem dX6_chooses_126 : decode cX6_chooses 126 = .ok (.baload, 1) := dk_51 (dk_at dksX6_chooses_5 9 rfl rfl)
theorem dX6_chooses_127 : decode cX6_chooses 127 = .ok (.ifCond .eq 7, 3) := dk_153 0 7 (dk_at dksX6_chooses_5 10 rfl rfl)
theorem dX6_chooses_130 : decode cX6_chooses 130 = .ok (.iconst 1, 1) := dk_4 (dk_at dksX6_chooses_5 13 rfl rfl)
theorem dX6_chooses_131 : decode cX6_chooses 131 = .ok (.goto 4, 3) := dk_167 0 4 (dk_at dksX6_chooses_5 14 rfl rfl)
theorem dX6_chooses_134 : decode cX6_chooses 134 = .ok (.iconst 0, 1) := dk_3 (dk_at dksX6_chooses_5 17 rfl rfl)
theorem dX6_chooses_135 : decode cX6_chooses 135 = .ok (.iload_n 3, 1) := dk_29 (dk_at dksX6_chooses_5 18 rfl rfl)
theorem dX6_chooses_136 : decode cX6_chooses 136 = .ok (.iadd, 1) := dk_96 (dk_at dksX6_chooses_5 19 rfl rfl)
theorem dX6_chooses_137 : decode cX6_chooses 137 = .ok (.invokevirtual 246, 3) := dk_182 0 246 (dk_at dksX6_chooses_5 20 rfl rfl)
theorem dX6_chooses_140 : decode cX6_chooses 140 = .ok (.aload_n 0, 1) := dk_42 (dk_at dksX6_chooses_5 23 rfl rfl)
theorem dX6_chooses_141 : decode cX6_chooses 141 = .ok (.getfield 53, 3) := dk_180 0 53 (dk_at dksX6_chooses_6 0 rfl rfl)
theorem dX6_chooses_144 : decode cX6_chooses 144 = .ok (.iload_n 1, 1) := dk_27 (dk_at dksX6_chooses_6 3 rfl rfl)
theorem dX6_chooses_145 : decode cX6_chooses 145 = .ok (.baload, 1) := dk_51 (dk_at dksX6_chooses_6 4 rfl rfl)
theorem dX6_chooses_146 : decode cX6_chooses 146 = .ok (.ifCond .ne 18, 3) := dk_154 0 18 (dk_at dksX6_chooses_6 5 rfl rfl)
theorem dX6_chooses_149 : decode cX6_chooses 149 = .ok (.iload 4, 2) := dk_21 4 (dk_at dksX6_chooses_6 8 rfl rfl)
theorem dX6_chooses_151 : decode cX6_chooses 151 = .ok (.iload_n 2, 1) := dk_28 (dk_at dksX6_chooses_6 10 rfl rfl)
theorem dX6_chooses_152 : decode cX6_chooses 152 = .ok (.iconst 2, 1) := dk_5 (dk_at dksX6_chooses_6 11 rfl rfl)
theorem dX6_chooses_153 : decode cX6_chooses 153 = .ok (.isub, 1) := dk_100 (dk_at dksX6_chooses_6 12 rfl rfl)
theorem dX6_chooses_154 : decode cX6_chooses 154 = .ok (.if_icmp .ne 10, 3) := dk_160 0 10 (dk_at dksX6_chooses_6 13 rfl rfl)
theorem dX6_chooses_157 : decode cX6_chooses 157 = .ok (.aload_n 0, 1) := dk_42 (dk_at dksX6_chooses_6 16 rfl rfl)
theorem dX6_chooses_158 : decode cX6_chooses 158 = .ok (.iconst 2, 1) := dk_5 (dk_at dksX6_chooses_6 17 rfl rfl)
theorem dX6_chooses_159 : decode cX6_chooses 159 = .ok (.iload_n 2, 1) := dk_28 (dk_at dksX6_chooses_6 18 rfl rfl)
theorem dX6_chooses_160 : decode cX6_chooses 160 = .ok (.iconst 2, 1) := dk_5 (dk_at dksX6_chooses_6 19 rfl rfl)
theorem dX6_chooses_161 : decode cX6_chooses 161 = .ok (.invokevirtual 246, 3) := dk_182 0 246 (dk_at dksX6_chooses_6 20 rfl rfl)
theorem dX6_chooses_164 : decode cX6_chooses 164 = .ok (.return_, 1) := dk_177 (dk_at dksX6_chooses_6 23 rfl rfl)
abbrev cX6_tries : ByteArray := prog_12_method_52_code
def yX6_tries : MethodName := ⟨RX6, "tries", "(III)V"⟩
def dkwX6_tries_1 : List UInt8 := [42, 27, 181, 0, 237, 42, 28, 181, 0, 240, 42, 29, 181, 0, 243, 177]
abbrev dktX6_tries_1 : List UInt8 := dkwX6_tries_1 ++ []
def dkwX6_tries_0 : List UInt8 := [42, 180, 0, 237, 2, 159, 0, 19, 28, 29, 96, 42, 180, 0, 240, 42, 180, 0, 243, 96, 161, 0, 4, 177]
abbrev dktX6_tries_0 : List UInt8 := dkwX6_tries_0 ++ dktX6_tries_1
theorem dksX6_tries_0 : cX6_tries.data.toList.drop 0 = dktX6_tries_0 := by decide +kernel
theorem dksX6_tries_1 : cX6_tries.data.toList.drop 24 = dktX6_tries_1 := dk_seg dksX6_tries_0 24 rfl rfl
theorem dX6_tries_0 : decode cX6_tries 0 = .ok (.aload_n 0, 1) := dk_42 (dk_at dksX6_tries_0 0 rfl rfl)
theorem dX6_tries_1 : decode cX6_tries 1 = .ok (.getfield 237, 3) := dk_180 0 237 (dk_at dksX6_tries_0 1 rfl rfl)
theorem dX6_tries_4 : decode cX6_tries 4 = .ok (.iconst (-1), 1) := dk_2 (dk_at dksX6_tries_0 4 rfl rfl)
theorem dX6_tries_5 : decode cX6_tries 5 = .ok (.if_icmp .eq 19, 3) := dk_159 0 19 (dk_at dksX6_tries_0 5 rfl rfl)
theorem dX6_tries_8 : decode cX6_tries 8 = .ok (.iload_n 2, 1) := dk_28 (dk_at dksX6_tries_0 8 rfl rfl)
theorem dX6_tries_9 : decode cX6_tries 9 = .ok (.iload_n 3, 1) := dk_29 (dk_at dksX6_tries_0 9 rfl rfl)
theorem dX6_tries_10 : decode cX6_tries 10 = .ok (.iadd, 1) := dk_96 (dk_at dksX6_tries_0 10 rfl rfl)
theorem dX6_tries_11 : decode cX6_tries 11 = .ok (.aload_n 0, 1) := dk_42 (dk_at dksX6_tries_0 11 rfl rfl)
theorem dX6_tries_12 : decode cX6_tries 12 = .ok (.getfield 240, 3) := dk_180 0 240 (dk_at dksX6_tries_0 12 rfl rfl)
theorem dX6_tries_15 : decode cX6_tries 15 = .ok (.aload_n 0, 1) := dk_42 (dk_at dksX6_tries_0 15 rfl rfl)
theorem dX6_tries_16 : decode cX6_tries 16 = .ok (.getfield 243, 3) := dk_180 0 243 (dk_at dksX6_tries_0 16 rfl rfl)
theorem dX6_tries_19 : decode cX6_tries 19 = .ok (.iadd, 1) := dk_96 (dk_at dksX6_tries_0 19 rfl rfl)
theorem dX6_tries_20 : decode cX6_tries 20 = .ok (.if_icmp .lt 4, 3) := dk_161 0 4 (dk_at dksX6_tries_0 20 rfl rfl)
theorem dX6_tries_23 : decode cX6_tries 23 = .ok (.return_, 1) := dk_177 (dk_at dksX6_tries_0 23 rfl rfl)
theorem dX6_tries_24 : decode cX6_tries 24 = .ok (.aload_n 0, 1) := dk_42 (dk_at dksX6_tries_1 0 rfl rfl)
theorem dX6_tries_25 : decode cX6_tries 25 = .ok (.iload_n 1, 1) := dk_27 (dk_at dksX6_tries_1 1 rfl rfl)
theorem dX6_tries_26 : decode cX6_tries 26 = .ok (.putfield 237, 3) := dk_181 0 237 (dk_at dksX6_tries_1 2 rfl rfl)
theorem dX6_tries_29 : decode cX6_tries 29 = .ok (.aload_n 0, 1) := dk_42 (dk_at dksX6_tries_1 5 rfl rfl)
theorem dX6_tries_30 : decode cX6_tries 30 = .ok (.iload_n 2, 1) := dk_28 (dk_at dksX6_tries_1 6 rfl rfl)
theorem dX6_tries_31 : decode cX6_tries 31 = .ok (.putfield 240, 3) := dk_181 0 240 (dk_at dksX6_tries_1 7 rfl rfl)
theorem dX6_tries_34 : decode cX6_tries 34 = .ok (.aload_n 0, 1) := dk_42 (dk_at dksX6_tries_1 10 rfl rfl)
theorem dX6_tries_35 : decode cX6_tries 35 = .ok (.iload_n 3, 1) := dk_29 (dk_at dksX6_tries_1 11 rfl rfl)
theorem dX6_tries_36 : decode cX6_tries 36 = .ok (.putfield 243, 3) := dk_181 0 243 (dk_at dksX6_tries_1 12 rfl rfl)
theorem dX6_tries_39 : decode cX6_tries 39 = .ok (.return_, 1) := dk_177 (dk_at dksX6_tries_1 15 rfl rfl)
abbrev cX6_isRead : ByteArray := prog_12_method_55_code
def yX6_isRead : MethodName := ⟨RX6, "isRead", "(II)Z"⟩
def dkwX6_isRead_2 : List UInt8 := [29, 153, 0, 12, 27, 28, 159, 0, 7, 4, 167, 0, 8, 3, 167, 0, 4, 4, 172]
abbrev dktX6_isRead_2 : List UInt8 := dkwX6_isRead_2 ++ []
def dkwX6_isRead_1 : List UInt8 := [153, 0, 8, 27, 28, 160, 0, 7, 4, 167, 0, 33, 3, 167, 0, 29, 42, 180, 0, 237, 4, 160, 0, 20]
abbrev dktX6_isRead_1 : List UInt8 := dkwX6_isRead_1 ++ dktX6_isRead_2
def dkwX6_isRead_0 : List UInt8 := [27, 42, 180, 0, 17, 3, 46, 162, 0, 7, 4, 167, 0, 4, 3, 62, 42, 180, 0, 237, 154, 0, 20, 29]
abbrev dktX6_isRead_0 : List UInt8 := dkwX6_isRead_0 ++ dktX6_isRead_1
theorem dksX6_isRead_0 : cX6_isRead.data.toList.drop 0 = dktX6_isRead_0 := by decide +kernel
theorem dksX6_isRead_1 : cX6_isRead.data.toList.drop 24 = dktX6_isRead_1 := dk_seg dksX6_isRead_0 24 rfl rfl
theorem dksX6_isRead_2 : cX6_isRead.data.toList.drop 48 = dktX6_isRead_2 := dk_seg dksX6_isRead_1 24 rfl rfl
theorem dX6_isRead_0 : decode cX6_isRead 0 = .ok (.iload_n 1, 1) := dk_27 (dk_at dksX6_isRead_0 0 rfl rfl)
theorem dX6_isRead_1 : decode cX6_isRead 1 = .ok (.aload_n 0, 1) := dk_42 (dk_at dksX6_isRead_0 1 rfl rfl)
theorem dX6_isRead_2 : decode cX6_isRead 2 = .ok (.getfield 17, 3) := dk_180 0 17 (dk_at dksX6_isRead_0 2 rfl rfl)
theorem dX6_isRead_5 : decode cX6_isRead 5 = .ok (.iconst 0, 1) := dk_3 (dk_at dksX6_isRead_0 5 rfl rfl)
theorem dX6_isRead_6 : decode cX6_isRead 6 = .ok (.iaload, 1) := dk_46 (dk_at dksX6_isRead_0 6 rfl rfl)
theorem dX6_isRead_7 : decode cX6_isRead 7 = .ok (.if_icmp .ge 7, 3) := dk_162 0 7 (dk_at dksX6_isRead_0 7 rfl rfl)
theorem dX6_isRead_10 : decode cX6_isRead 10 = .ok (.iconst 1, 1) := dk_4 (dk_at dksX6_isRead_0 10 rfl rfl)
theorem dX6_isRead_11 : decode cX6_isRead 11 = .ok (.goto 4, 3) := dk_167 0 4 (dk_at dksX6_isRead_0 11 rfl rfl)
theorem dX6_isRead_14 : decode cX6_isRead 14 = .ok (.iconst 0, 1) := dk_3 (dk_at dksX6_isRead_0 14 rfl rfl)
theorem dX6_isRead_15 : decode cX6_isRead 15 = .ok (.istore_n 3, 1) := dk_62 (dk_at dksX6_isRead_0 15 rfl rfl)
theorem dX6_isRead_16 : decode cX6_isRead 16 = .ok (.aload_n 0, 1) := dk_42 (dk_at dksX6_isRead_0 16 rfl rfl)
theorem dX6_isRead_17 : decode cX6_isRead 17 = .ok (.getfield 237, 3) := dk_180 0 237 (dk_at dksX6_isRead_0 17 rfl rfl)
theorem dX6_isRead_20 : decode cX6_isRead 20 = .ok (.ifCond .ne 20, 3) := dk_154 0 20 (dk_at dksX6_isRead_0 20 rfl rfl)
theorem dX6_isRead_23 : decode cX6_isRead 23 = .ok (.iload_n 3, 1) := dk_29 (dk_at dksX6_isRead_0 23 rfl rfl)
theorem dX6_isRead_24 : decode cX6_isRead 24 = .ok (.ifCond .eq 8, 3) := dk_153 0 8 (dk_at dksX6_isRead_1 0 rfl rfl)
theorem dX6_isRead_27 : decode cX6_isRead 27 = .ok (.iload_n 1, 1) := dk_27 (dk_at dksX6_isRead_1 3 rfl rfl)
theorem dX6_isRead_28 : decode cX6_isRead 28 = .ok (.iload_n 2, 1) := dk_28 (dk_at dksX6_isRead_1 4 rfl rfl)
theorem dX6_isRead_29 : decode cX6_isRead 29 = .ok (.if_icmp .ne 7, 3) := dk_160 0 7 (dk_at dksX6_isRead_1 5 rfl rfl)
theorem dX6_isRead_32 : decode cX6_isRead 32 = .ok (.iconst 1, 1) := dk_4 (dk_at dksX6_isRead_1 8 rfl rfl)
theorem dX6_isRead_33 : decode cX6_isRead 33 = .ok (.goto 33, 3) := dk_167 0 33 (dk_at dksX6_isRead_1 9 rfl rfl)
theorem dX6_isRead_36 : decode cX6_isRead 36 = .ok (.iconst 0, 1) := dk_3 (dk_at dksX6_isRead_1 12 rfl rfl)
theorem dX6_isRead_37 : decode cX6_isRead 37 = .ok (.goto 29, 3) := dk_167 0 29 (dk_at dksX6_isRead_1 13 rfl rfl)
theorem dX6_isRead_40 : decode cX6_isRead 40 = .ok (.aload_n 0, 1) := dk_42 (dk_at dksX6_isRead_1 16 rfl rfl)
theorem dX6_isRead_41 : decode cX6_isRead 41 = .ok (.getfield 237, 3) := dk_180 0 237 (dk_at dksX6_isRead_1 17 rfl rfl)
theorem dX6_isRead_44 : decode cX6_isRead 44 = .ok (.iconst 1, 1) := dk_4 (dk_at dksX6_isRead_1 20 rfl rfl)
theorem dX6_isRead_45 : decode cX6_isRead 45 = .ok (.if_icmp .ne 20, 3) := dk_160 0 20 (dk_at dksX6_isRead_1 21 rfl rfl)
theorem dX6_isRead_48 : decode cX6_isRead 48 = .ok (.iload_n 3, 1) := dk_29 (dk_at dksX6_isRead_2 0 rfl rfl)
theorem dX6_isRead_49 : decode cX6_isRead 49 = .ok (.ifCond .eq 12, 3) := dk_153 0 12 (dk_at dksX6_isRead_2 1 rfl rfl)
theorem dX6_isRead_52 : decode cX6_isRead 52 = .ok (.iload_n 1, 1) := dk_27 (dk_at dksX6_isRead_2 4 rfl rfl)
theorem dX6_isRead_53 : decode cX6_isRead 53 = .ok (.iload_n 2, 1) := dk_28 (dk_at dksX6_isRead_2 5 rfl rfl)
theorem dX6_isRead_54 : decode cX6_isRead 54 = .ok (.if_icmp .eq 7, 3) := dk_159 0 7 (dk_at dksX6_isRead_2 6 rfl rfl)
theorem dX6_isRead_57 : decode cX6_isRead 57 = .ok (.iconst 1, 1) := dk_4 (dk_at dksX6_isRead_2 9 rfl rfl)
theorem dX6_isRead_58 : decode cX6_isRead 58 = .ok (.goto 8, 3) := dk_167 0 8 (dk_at dksX6_isRead_2 10 rfl rfl)
theorem dX6_isRead_61 : decode cX6_isRead 61 = .ok (.iconst 0, 1) := dk_3 (dk_at dksX6_isRead_2 13 rfl rfl)
theorem dX6_isRead_62 : decode cX6_isRead 62 = .ok (.goto 4, 3) := dk_167 0 4 (dk_at dksX6_isRead_2 14 rfl rfl)
theorem dX6_isRead_65 : decode cX6_isRead 65 = .ok (.iconst 1, 1) := dk_4 (dk_at dksX6_isRead_2 17 rfl rfl)
theorem dX6_isRead_66 : decode cX6_isRead 66 = .ok (.ireturn, 1) := dk_172 (dk_at dksX6_isRead_2 18 rfl rfl)
abbrev cX6_countsRole : ByteArray := prog_12_method_50_code
def yX6_countsRole : MethodName := ⟨RX6, "countsRole", "([IIIZ)V"⟩
def dkwX6_countsRole_0 : List UInt8 := [42, 43, 42, 28, 29, 182, 0, 199, 21, 4, 182, 0, 233, 177]
abbrev dktX6_countsRole_0 : List UInt8 := dkwX6_countsRole_0 ++ []
theorem dksX6_countsRole_0 : cX6_countsRole.data.toList.drop 0 = dktX6_countsRole_0 := by decide +kernel
theorem dX6_countsRole_0 : decode cX6_countsRole 0 = .ok (.aload_n 0, 1) := dk_42 (dk_at dksX6_countsRole_0 0 rfl rfl)
theorem dX6_countsRole_1 : decode cX6_countsRole 1 = .ok (.aload_n 1, 1) := dk_43 (dk_at dksX6_countsRole_0 1 rfl rfl)
theorem dX6_countsRole_2 : decode cX6_countsRole 2 = .ok (.aload_n 0, 1) := dk_42 (dk_at dksX6_countsRole_0 2 rfl rfl)
theorem dX6_countsRole_3 : decode cX6_countsRole 3 = .ok (.iload_n 2, 1) := dk_28 (dk_at dksX6_countsRole_0 3 rfl rfl)
theorem dX6_countsRole_4 : decode cX6_countsRole 4 = .ok (.iload_n 3, 1) := dk_29 (dk_at dksX6_countsRole_0 4 rfl rfl)
theorem dX6_countsRole_5 : decode cX6_countsRole 5 = .ok (.invokevirtual 199, 3) := dk_182 0 199 (dk_at dksX6_countsRole_0 5 rfl rfl)
theorem dX6_countsRole_8 : decode cX6_countsRole 8 = .ok (.iload 4, 2) := dk_21 4 (dk_at dksX6_countsRole_0 8 rfl rfl)
theorem dX6_countsRole_10 : decode cX6_countsRole 10 = .ok (.invokevirtual 233, 3) := dk_182 0 233 (dk_at dksX6_countsRole_0 10 rfl rfl)
theorem dX6_countsRole_13 : decode cX6_countsRole 13 = .ok (.return_, 1) := dk_177 (dk_at dksX6_countsRole_0 13 rfl rfl)
abbrev cX6_counts : ByteArray := prog_12_method_49_code
def yX6_counts : MethodName := ⟨RX6, "counts", "([IIZ)V"⟩
def dkwX6_counts_1 : List UInt8 := [153, 0, 9, 17, 1, 172, 167, 0, 6, 17, 1, 171, 92, 46, 4, 96, 79, 177]
abbrev dktX6_counts_1 : List UInt8 := dkwX6_counts_1 ++ []
def dkwX6_counts_0 : List UInt8 := [43, 29, 153, 0, 9, 17, 1, 152, 167, 0, 6, 17, 1, 144, 28, 96, 92, 46, 4, 96, 79, 43, 29]
abbrev dktX6_counts_0 : List UInt8 := dkwX6_counts_0 ++ dktX6_counts_1
theorem dksX6_counts_0 : cX6_counts.data.toList.drop 0 = dktX6_counts_0 := by decide +kernel
theorem dksX6_counts_1 : cX6_counts.data.toList.drop 23 = dktX6_counts_1 := dk_seg dksX6_counts_0 23 rfl rfl
theorem dX6_counts_0 : decode cX6_counts 0 = .ok (.aload_n 1, 1) := dk_43 (dk_at dksX6_counts_0 0 rfl rfl)
theorem dX6_counts_1 : decode cX6_counts 1 = .ok (.iload_n 3, 1) := dk_29 (dk_at dksX6_counts_0 1 rfl rfl)
theorem dX6_counts_2 : decode cX6_counts 2 = .ok (.ifCond .eq 9, 3) := dk_153 0 9 (dk_at dksX6_counts_0 2 rfl rfl)
theorem dX6_counts_5 : decode cX6_counts 5 = .ok (.sipush 408, 3) := dk_17 1 152 (dk_at dksX6_counts_0 5 rfl rfl)
theorem dX6_counts_8 : decode cX6_counts 8 = .ok (.goto 6, 3) := dk_167 0 6 (dk_at dksX6_counts_0 8 rfl rfl)
theorem dX6_counts_11 : decode cX6_counts 11 = .ok (.sipush 400, 3) := dk_17 1 144 (dk_at dksX6_counts_0 11 rfl rfl)
theorem dX6_counts_14 : decode cX6_counts 14 = .ok (.iload_n 2, 1) := dk_28 (dk_at dksX6_counts_0 14 rfl rfl)
theorem dX6_counts_15 : decode cX6_counts 15 = .ok (.iadd, 1) := dk_96 (dk_at dksX6_counts_0 15 rfl rfl)
theorem dX6_counts_16 : decode cX6_counts 16 = .ok (.dup2, 1) := dk_92 (dk_at dksX6_counts_0 16 rfl rfl)
theorem dX6_counts_17 : decode cX6_counts 17 = .ok (.iaload, 1) := dk_46 (dk_at dksX6_counts_0 17 rfl rfl)
theorem dX6_counts_18 : decode cX6_counts 18 = .ok (.iconst 1, 1) := dk_4 (dk_at dksX6_counts_0 18 rfl rfl)
theorem dX6_counts_19 : decode cX6_counts 19 = .ok (.iadd, 1) := dk_96 (dk_at dksX6_counts_0 19 rfl rfl)
theorem dX6_counts_20 : decode cX6_counts 20 = .ok (.iastore, 1) := dk_79 (dk_at dksX6_counts_0 20 rfl rfl)
theorem dX6_counts_21 : decode cX6_counts 21 = .ok (.aload_n 1, 1) := dk_43 (dk_at dksX6_counts_0 21 rfl rfl)
theorem dX6_counts_22 : decode cX6_counts 22 = .ok (.iload_n 3, 1) := dk_29 (dk_at dksX6_counts_0 22 rfl rfl)
theorem dX6_counts_23 : decode cX6_counts 23 = .ok (.ifCond .eq 9, 3) := dk_153 0 9 (dk_at dksX6_counts_1 0 rfl rfl)
theorem dX6_counts_26 : decode cX6_counts 26 = .ok (.sipush 428, 3) := dk_17 1 172 (dk_at dksX6_counts_1 3 rfl rfl)
theorem dX6_counts_29 : decode cX6_counts 29 = .ok (.goto 6, 3) := dk_167 0 6 (dk_at dksX6_counts_1 6 rfl rfl)
theorem dX6_counts_32 : decode cX6_counts 32 = .ok (.sipush 427, 3) := dk_17 1 171 (dk_at dksX6_counts_1 9 rfl rfl)
theorem dX6_counts_35 : decode cX6_counts 35 = .ok (.dup2, 1) := dk_92 (dk_at dksX6_counts_1 12 rfl rfl)
theorem dX6_counts_36 : decode cX6_counts 36 = .ok (.iaload, 1) := dk_46 (dk_at dksX6_counts_1 13 rfl rfl)
theorem dX6_counts_37 : decode cX6_counts 37 = .ok (.iconst 1, 1) := dk_4 (dk_at dksX6_counts_1 14 rfl rfl)
theorem dX6_counts_38 : decode cX6_counts 38 = .ok (.iadd, 1) := dk_96 (dk_at dksX6_counts_1 15 rfl rfl)
theorem dX6_counts_39 : decode cX6_counts 39 = .ok (.iastore, 1) := dk_79 (dk_at dksX6_counts_1 16 rfl rfl)
theorem dX6_counts_40 : decode cX6_counts 40 = .ok (.return_, 1) := dk_177 (dk_at dksX6_counts_1 17 rfl rfl)
abbrev cX6_solves : ByteArray := prog_12_method_47_code
def yX6_solves : MethodName := ⟨RX6, "solves", "()V"⟩
def dkwX6_solves_10 : List UInt8 := [2, 182, 0, 213, 79, 177]
abbrev dktX6_solves_10 : List UInt8 := dkwX6_solves_10 ++ []
def dkwX6_solves_9 : List UInt8 := [3, 2, 2, 182, 0, 213, 79, 42, 180, 0, 53, 28, 51, 154, 0, 16, 42, 180, 0, 50, 28, 42, 4, 2]
abbrev dktX6_solves_9 : List UInt8 := dkwX6_solves_9 ++ dktX6_solves_10
def dkwX6_solves_8 : List UInt8 := [180, 0, 32, 29, 46, 182, 0, 164, 79, 42, 180, 0, 53, 27, 51, 154, 0, 16, 42, 180, 0, 50, 27, 42]
abbrev dktX6_solves_8 : List UInt8 := dkwX6_solves_8 ++ dktX6_solves_9
def dkwX6_solves_7 : List UInt8 := [182, 0, 213, 130, 167, 0, 27, 42, 42, 180, 0, 50, 28, 46, 42, 4, 29, 2, 182, 0, 213, 130, 42]
abbrev dktX6_solves_7 : List UInt8 := dkwX6_solves_7 ++ dktX6_solves_8
def dkwX6_solves_6 : List UInt8 := [180, 0, 50, 29, 42, 180, 0, 53, 27, 51, 153, 0, 20, 42, 180, 0, 50, 27, 46, 42, 3, 29, 2]
abbrev dktX6_solves_6 : List UInt8 := dkwX6_solves_6 ++ dktX6_solves_7
def dkwX6_solves_5 : List UInt8 := [180, 0, 50, 21, 4, 21, 5, 42, 180, 0, 50, 29, 46, 130, 79, 167, 0, 64, 29, 2, 159, 0, 59, 42]
abbrev dktX6_solves_5 : List UInt8 := dkwX6_solves_5 ++ dktX6_solves_6
def dkwX6_solves_4 : List UInt8 := [182, 0, 160, 130, 42, 180, 0, 32, 29, 46, 42, 180, 0, 32, 21, 4, 46, 130, 182, 0, 164, 79, 42]
abbrev dktX6_solves_4 : List UInt8 := dkwX6_solves_4 ++ dktX6_solves_5
def dkwX6_solves_3 : List UInt8 := [182, 0, 213, 130, 54, 6, 42, 180, 0, 50, 29, 42, 21, 6, 42, 21, 5, 42, 180, 0, 32, 21, 4, 46]
abbrev dktX6_solves_3 : List UInt8 := dkwX6_solves_3 ++ dktX6_solves_4
def dkwX6_solves_2 : List UInt8 := [42, 3, 29, 21, 4, 182, 0, 213, 130, 54, 5, 42, 180, 0, 50, 28, 46, 42, 4, 29, 21, 4]
abbrev dktX6_solves_2 : List UInt8 := dkwX6_solves_2 ++ dktX6_solves_3
def dkwX6_solves_1 : List UInt8 := [167, 0, 10, 42, 29, 4, 96, 182, 0, 210, 54, 4, 21, 4, 2, 159, 0, 96, 42, 180, 0, 50, 27, 46]
abbrev dktX6_solves_1 : List UInt8 := dkwX6_solves_1 ++ dktX6_solves_2
def dkwX6_solves_0 : List UInt8 := [42, 180, 0, 17, 3, 46, 60, 27, 4, 96, 61, 42, 3, 182, 0, 210, 62, 29, 2, 160, 0, 7, 2]
abbrev dktX6_solves_0 : List UInt8 := dkwX6_solves_0 ++ dktX6_solves_1
theorem dksX6_solves_0 : cX6_solves.data.toList.drop 0 = dktX6_solves_0 := by decide +kernel
theorem dksX6_solves_1 : cX6_solves.data.toList.drop 23 = dktX6_solves_1 := dk_seg dksX6_solves_0 23 rfl rfl
theorem dksX6_solves_2 : cX6_solves.data.toList.drop 47 = dktX6_solves_2 := dk_seg dksX6_solves_1 24 rfl rfl
theorem dksX6_solves_3 : cX6_solves.data.toList.drop 69 = dktX6_solves_3 := dk_seg dksX6_solves_2 22 rfl rfl
theorem dksX6_solves_4 : cX6_solves.data.toList.drop 93 = dktX6_solves_4 := dk_seg dksX6_solves_3 24 rfl rfl
theorem dksX6_solves_5 : cX6_solves.data.toList.drop 116 = dktX6_solves_5 := dk_seg dksX6_solves_4 23 rfl rfl
theorem dksX6_solves_6 : cX6_solves.data.toList.drop 140 = dktX6_solves_6 := dk_seg dksX6_solves_5 24 rfl rfl
theorem dksX6_solves_7 : cX6_solves.data.toList.drop 163 = dktX6_solves_7 := dk_seg dksX6_solves_6 23 rfl rfl
theorem dksX6_solves_8 : cX6_solves.data.toList.drop 186 = dktX6_solves_8 := dk_seg dksX6_solves_7 23 rfl rfl
theorem dksX6_solves_9 : cX6_solves.data.toList.drop 210 = dktX6_solves_9 := dk_seg dksX6_solves_8 24 rfl rfl
theorem dksX6_solves_10 : cX6_solves.data.toList.drop 234 = dktX6_solves_10 := dk_seg dksX6_solves_9 24 rfl rfl
theorem dX6_solves_0 : decode cX6_solves 0 = .ok (.aload_n 0, 1) := dk_42 (dk_at dksX6_solves_0 0 rfl rfl)
theorem dX6_solves_1 : decode cX6_solves 1 = .ok (.getfield 17, 3) := dk_180 0 17 (dk_at dksX6_solves_0 1 rfl rfl)
theorem dX6_solves_4 : decode cX6_solves 4 = .ok (.iconst 0, 1) := dk_3 (dk_at dksX6_solves_0 4 rfl rfl)
theorem dX6_solves_5 : decode cX6_solves 5 = .ok (.iaload, 1) := dk_46 (dk_at dksX6_solves_0 5 rfl rfl)
theorem dX6_solves_6 : decode cX6_solves 6 = .ok (.istore_n 1, 1) := dk_60 (dk_at dksX6_solves_0 6 rfl rfl)
theorem dX6_solves_7 : decode cX6_solves 7 = .ok (.iload_n 1, 1) := dk_27 (dk_at dksX6_solves_0 7 rfl rfl)
theorem dX6_solves_8 : decode cX6_solves 8 = .ok (.iconst 1, 1) := dk_4 (dk_at dksX6_solves_0 8 rfl rfl)
theorem dX6_solves_9 : decode cX6_solves 9 = .ok (.iadd, 1) := dk_96 (dk_at dksX6_solves_0 9 rfl rfl)
theorem dX6_solves_10 : decode cX6_solves 10 = .ok (.istore_n 2, 1) := dk_61 (dk_at dksX6_solves_0 10 rfl rfl)
theorem dX6_solves_11 : decode cX6_solves 11 = .ok (.aload_n 0, 1) := dk_42 (dk_at dksX6_solves_0 11 rfl rfl)
theorem dX6_solves_12 : decode cX6_solves 12 = .ok (.iconst 0, 1) := dk_3 (dk_at dksX6_solves_0 12 rfl rfl)
theorem dX6_solves_13 : decode cX6_solves 13 = .ok (.invokevirtual 210, 3) := dk_182 0 210 (dk_at dksX6_solves_0 13 rfl rfl)
theorem dX6_solves_16 : decode cX6_solves 16 = .ok (.istore_n 3, 1) := dk_62 (dk_at dksX6_solves_0 16 rfl rfl)
theorem dX6_solves_17 : decode cX6_solves 17 = .ok (.iload_n 3, 1) := dk_29 (dk_at dksX6_solves_0 17 rfl rfl)
theorem dX6_solves_18 : decode cX6_solves 18 = .ok (.iconst (-1), 1) := dk_2 (dk_at dksX6_solves_0 18 rfl rfl)
theorem dX6_solves_19 : decode cX6_solves 19 = .ok (.if_icmp .ne 7, 3) := dk_160 0 7 (dk_at dksX6_solves_0 19 rfl rfl)
theorem dX6_solves_22 : decode cX6_solves 22 = .ok (.iconst (-1), 1) := dk_2 (dk_at dksX6_solves_0 22 rfl rfl)
theorem dX6_solves_23 : decode cX6_solves 23 = .ok (.goto 10, 3) := dk_167 0 10 (dk_at dksX6_solves_1 0 rfl rfl)
theorem dX6_solves_26 : decode cX6_solves 26 = .ok (.aload_n 0, 1) := dk_42 (dk_at dksX6_solves_1 3 rfl rfl)
theorem dX6_solves_27 : decode cX6_solves 27 = .ok (.iload_n 3, 1) := dk_29 (dk_at dksX6_solves_1 4 rfl rfl)
theorem dX6_solves_28 : decode cX6_solves 28 = .ok (.iconst 1, 1) := dk_4 (dk_at dksX6_solves_1 5 rfl rfl)
theorem dX6_solves_29 : decode cX6_solves 29 = .ok (.iadd, 1) := dk_96 (dk_at dksX6_solves_1 6 rfl rfl)
theorem dX6_solves_30 : decode cX6_solves 30 = .ok (.invokevirtual 210, 3) := dk_182 0 210 (dk_at dksX6_solves_1 7 rfl rfl)
theorem dX6_solves_33 : decode cX6_solves 33 = .ok (.istore 4, 2) := dk_54 4 (dk_at dksX6_solves_1 10 rfl rfl)
theorem dX6_solves_35 : decode cX6_solves 35 = .ok (.iload 4, 2) := dk_21 4 (dk_at dksX6_solves_1 12 rfl rfl)
theorem dX6_solves_37 : decode cX6_solves 37 = .ok (.iconst (-1), 1) := dk_2 (dk_at dksX6_solves_1 14 rfl rfl)
theorem dX6_solves_38 : decode cX6_solves 38 = .ok (.if_icmp .eq 96, 3) := dk_159 0 96 (dk_at dksX6_solves_1 15 rfl rfl)
theorem dX6_solves_41 : decode cX6_solves 41 = .ok (.aload_n 0, 1) := dk_42 (dk_at dksX6_solves_1 18 rfl rfl)
theorem dX6_solves_42 : decode cX6_solves 42 = .ok (.getfield 50, 3) := dk_180 0 50 (dk_at dksX6_solves_1 19 rfl rfl)
theorem dX6_solves_45 : decode cX6_solves 45 = .ok (.iload_n 1, 1) := dk_27 (dk_at dksX6_solves_1 22 rfl rfl)
theorem dX6_solves_46 : decode cX6_solves 46 = .ok (.iaload, 1) := dk_46 (dk_at dksX6_solves_1 23 rfl rfl)
theorem dX6_solves_47 : decode cX6_solves 47 = .ok (.aload_n 0, 1) := dk_42 (dk_at dksX6_solves_2 0 rfl rfl)
theorem dX6_solves_48 : decode cX6_solves 48 = .ok (.iconst 0, 1) := dk_3 (dk_at dksX6_solves_2 1 rfl rfl)
theorem dX6_solves_49 : decode cX6_solves 49 = .ok (.iload_n 3, 1) := dk_29 (dk_at dksX6_solves_2 2 rfl rfl)
theorem dX6_solves_50 : decode cX6_solves 50 = .ok (.iload 4, 2) := dk_21 4 (dk_at dksX6_solves_2 3 rfl rfl)
theorem dX6_solves_52 : decode cX6_solves 52 = .ok (.invokevirtual 213, 3) := dk_182 0 213 (dk_at dksX6_solves_2 5 rfl rfl)
theorem dX6_solves_55 : decode cX6_solves 55 = .ok (.ixor, 1) := dk_130 (dk_at dksX6_solves_2 8 rfl rfl)
theorem dX6_solves_56 : decode cX6_solves 56 = .ok (.istore 5, 2) := dk_54 5 (dk_at dksX6_solves_2 9 rfl rfl)
theorem dX6_solves_58 : decode cX6_solves 58 = .ok (.aload_n 0, 1) := dk_42 (dk_at dksX6_solves_2 11 rfl rfl)
theorem dX6_solves_59 : decode cX6_solves 59 = .ok (.getfield 50, 3) := dk_180 0 50 (dk_at dksX6_solves_2 12 rfl rfl)
theorem dX6_solves_62 : decode cX6_solves 62 = .ok (.iload_n 2, 1) := dk_28 (dk_at dksX6_solves_2 15 rfl rfl)
theorem dX6_solves_63 : decode cX6_solves 63 = .ok (.iaload, 1) := dk_46 (dk_at dksX6_solves_2 16 rfl rfl)
theorem dX6_solves_64 : decode cX6_solves 64 = .ok (.aload_n 0, 1) := dk_42 (dk_at dksX6_solves_2 17 rfl rfl)
theorem dX6_solves_65 : decode cX6_solves 65 = .ok (.iconst 1, 1) := dk_4 (dk_at dksX6_solves_2 18 rfl rfl)
theorem dX6_solves_66 : decode cX6_solves 66 = .ok (.iload_n 3, 1) := dk_29 (dk_at dksX6_solves_2 19 rfl rfl)
theorem dX6_solves_67 : decode cX6_solves 67 = .ok (.iload 4, 2) := dk_21 4 (dk_at dksX6_solves_2 20 rfl rfl)
theorem dX6_solves_69 : decode cX6_solves 69 = .ok (.invokevirtual 213, 3) := dk_182 0 213 (dk_at dksX6_solves_3 0 rfl rfl)
theorem dX6_solves_72 : decode cX6_solves 72 = .ok (.ixor, 1) := dk_130 (dk_at dksX6_solves_3 3 rfl rfl)
theorem dX6_solves_73 : decode cX6_solves 73 = .ok (.istore 6, 2) := dk_54 6 (dk_at dksX6_solves_3 4 rfl rfl)
theorem dX6_solves_75 : decode cX6_solves 75 = .ok (.aload_n 0, 1) := dk_42 (dk_at dksX6_solves_3 6 rfl rfl)
theorem dX6_solves_76 : decode cX6_solves 76 = .ok (.getfield 50, 3) := dk_180 0 50 (dk_at dksX6_solves_3 7 rfl rfl)
theorem dX6_solves_79 : decode cX6_solves 79 = .ok (.iload_n 3, 1) := dk_29 (dk_at dksX6_solves_3 10 rfl rfl)
theorem dX6_solves_80 : decode cX6_solves 80 = .ok (.aload_n 0, 1) := dk_42 (dk_at dksX6_solves_3 11 rfl rfl)
theorem dX6_solves_81 : decode cX6_solves 81 = .ok (.iload 6, 2) := dk_21 6 (dk_at dksX6_solves_3 12 rfl rfl)
theorem dX6_solves_83 : decode cX6_solves 83 = .ok (.aload_n 0, 1) := dk_42 (dk_at dksX6_solves_3 14 rfl rfl)
theorem dX6_solves_84 : decode cX6_solves 84 = .ok (.iload 5, 2) := dk_21 5 (dk_at dksX6_solves_3 15 rfl rfl)
theorem dX6_solves_86 : decode cX6_solves 86 = .ok (.aload_n 0, 1) := dk_42 (dk_at dksX6_solves_3 17 rfl rfl)
theorem dX6_solves_87 : decode cX6_solves 87 = .ok (.getfield 32, 3) := dk_180 0 32 (dk_at dksX6_solves_3 18 rfl rfl)
theorem dX6_solves_90 : decode cX6_solves 90 = .ok (.iload 4, 2) := dk_21 4 (dk_at dksX6_solves_3 21 rfl rfl)
theorem dX6_solves_92 : decode cX6_solves 92 = .ok (.iaload, 1) := dk_46 (dk_at dksX6_solves_3 23 rfl rfl)
theorem dX6_solves_93 : decode cX6_solves 93 = .ok (.invokevirtual 160, 3) := dk_182 0 160 (dk_at dksX6_solves_4 0 rfl rfl)
theorem dX6_solves_96 : decode cX6_solves 96 = .ok (.ixor, 1) := dk_130 (dk_at dksX6_solves_4 3 rfl rfl)
theorem dX6_solves_97 : decode cX6_solves 97 = .ok (.aload_n 0, 1) := dk_42 (dk_at dksX6_solves_4 4 rfl rfl)
theorem dX6_solves_98 : decode cX6_solves 98 = .ok (.getfield 32, 3) := dk_180 0 32 (dk_at dksX6_solves_4 5 rfl rfl)
theorem dX6_solves_101 : decode cX6_solves 101 = .ok (.iload_n 3, 1) := dk_29 (dk_at dksX6_solves_4 8 rfl rfl)
theorem dX6_solves_102 : decode cX6_solves 102 = .ok (.iaload, 1) := dk_46 (dk_at dksX6_solves_4 9 rfl rfl)
theorem dX6_solves_103 : decode cX6_solves 103 = .ok (.aload_n 0, 1) := dk_42 (dk_at dksX6_solves_4 10 rfl rfl)
theorem dX6_solves_104 : decode cX6_solves 104 = .ok (.getfield 32, 3) := dk_180 0 32 (dk_at dksX6_solves_4 11 rfl rfl)
theorem dX6_solves_107 : decode cX6_solves 107 = .ok (.iload 4, 2) := dk_21 4 (dk_at dksX6_solves_4 14 rfl rfl)
theorem dX6_solves_109 : decode cX6_solves 109 = .ok (.iaload, 1) := dk_46 (dk_at dksX6_solves_4 16 rfl rfl)
theorem dX6_solves_110 : decode cX6_solves 110 = .ok (.ixor, 1) := dk_130 (dk_at dksX6_solves_4 17 rfl rfl)
theorem dX6_solves_111 : decode cX6_solves 111 = .ok (.invokevirtual 164, 3) := dk_182 0 164 (dk_at dksX6_solves_4 18 rfl rfl)
theorem dX6_solves_114 : decode cX6_solves 114 = .ok (.iastore, 1) := dk_79 (dk_at dksX6_solves_4 21 rfl rfl)
theorem dX6_solves_115 : decode cX6_solves 115 = .ok (.aload_n 0, 1) := dk_42 (dk_at dksX6_solves_4 22 rfl rfl)
theorem dX6_solves_116 : decode cX6_solves 116 = .ok (.getfield 50, 3) := dk_180 0 50 (dk_at dksX6_solves_5 0 rfl rfl)
theorem dX6_solves_119 : decode cX6_solves 119 = .ok (.iload 4, 2) := dk_21 4 (dk_at dksX6_solves_5 3 rfl rfl)
theorem dX6_solves_121 : decode cX6_solves 121 = .ok (.iload 5, 2) := dk_21 5 (dk_at dksX6_solves_5 5 rfl rfl)
theorem dX6_solves_123 : decode cX6_solves 123 = .ok (.aload_n 0, 1) := dk_42 (dk_at dksX6_solves_5 7 rfl rfl)
theorem dX6_solves_124 : decode cX6_solves 124 = .ok (.getfield 50, 3) := dk_180 0 50 (dk_at dksX6_solves_5 8 rfl rfl)
theorem dX6_solves_127 : decode cX6_solves 127 = .ok (.iload_n 3, 1) := dk_29 (dk_at dksX6_solves_5 11 rfl rfl)
theorem dX6_solves_128 : decode cX6_solves 128 = .ok (.iaload, 1) := dk_46 (dk_at dksX6_solves_5 12 rfl rfl)
theorem dX6_solves_129 : decode cX6_solves 129 = .ok (.ixor, 1) := dk_130 (dk_at dksX6_solves_5 13 rfl rfl)
theorem dX6_solves_130 : decode cX6_solves 130 = .ok (.iastore, 1) := dk_79 (dk_at dksX6_solves_5 14 rfl rfl)
theorem dX6_solves_131 : decode cX6_solves 131 = .ok (.goto 64, 3) := dk_167 0 64 (dk_at dksX6_solves_5 15 rfl rfl)
theorem dX6_solves_134 : decode cX6_solves 134 = .ok (.iload_n 3, 1) := dk_29 (dk_at dksX6_solves_5 18 rfl rfl)
theorem dX6_solves_135 : decode cX6_solves 135 = .ok (.iconst (-1), 1) := dk_2 (dk_at dksX6_solves_5 19 rfl rfl)
theorem dX6_solves_136 : decode cX6_solves 136 = .ok (.if_icmp .eq 59, 3) := dk_159 0 59 (dk_at dksX6_solves_5 20 rfl rfl)
theorem dX6_solves_139 : decode cX6_solves 139 = .ok (.aload_n 0, 1) := dk_42 (dk_at dksX6_solves_5 23 rfl rfl)
theorem dX6_solves_140 : decode cX6_solves 140 = .ok (.getfield 50, 3) := dk_180 0 50 (dk_at dksX6_solves_6 0 rfl rfl)
theorem dX6_solves_143 : decode cX6_solves 143 = .ok (.iload_n 3, 1) := dk_29 (dk_at dksX6_solves_6 3 rfl rfl)
theorem dX6_solves_144 : decode cX6_solves 144 = .ok (.aload_n 0, 1) := dk_42 (dk_at dksX6_solves_6 4 rfl rfl)
theorem dX6_solves_145 : decode cX6_solves 145 = .ok (.getfield 53, 3) := dk_180 0 53 (dk_at dksX6_solves_6 5 rfl rfl)
theorem dX6_solves_148 : decode cX6_solves 148 = .ok (.iload_n 1, 1) := dk_27 (dk_at dksX6_solves_6 8 rfl rfl)
theorem dX6_solves_149 : decode cX6_solves 149 = .ok (.baload, 1) := dk_51 (dk_at dksX6_solves_6 9 rfl rfl)
theorem dX6_solves_150 : decode cX6_solves 150 = .ok (.ifCond .eq 20, 3) := dk_153 0 20 (dk_at dksX6_solves_6 10 rfl rfl)
theorem dX6_solves_153 : decode cX6_solves 153 = .ok (.aload_n 0, 1) := dk_42 (dk_at dksX6_solves_6 13 rfl rfl)
theorem dX6_solves_154 : decode cX6_solves 154 = .ok (.getfield 50, 3) := dk_180 0 50 (dk_at dksX6_solves_6 14 rfl rfl)
theorem dX6_solves_157 : decode cX6_solves 157 = .ok (.iload_n 1, 1) := dk_27 (dk_at dksX6_solves_6 17 rfl rfl)
theorem dX6_solves_158 : decode cX6_solves 158 = .ok (.iaload, 1) := dk_46 (dk_at dksX6_solves_6 18 rfl rfl)
theorem dX6_solves_159 : decode cX6_solves 159 = .ok (.aload_n 0, 1) := dk_42 (dk_at dksX6_solves_6 19 rfl rfl)
theorem dX6_solves_160 : decode cX6_solves 160 = .ok (.iconst 0, 1) := dk_3 (dk_at dksX6_solves_6 20 rfl rfl)
theorem dX6_solves_161 : decode cX6_solves 161 = .ok (.iload_n 3, 1) := dk_29 (dk_at dksX6_solves_6 21 rfl rfl)
theorem dX6_solves_162 : decode cX6_solves 162 = .ok (.iconst (-1), 1) := dk_2 (dk_at dksX6_solves_6 22 rfl rfl)
theorem dX6_solves_163 : decode cX6_solves 163 = .ok (.invokevirtual 213, 3) := dk_182 0 213 (dk_at dksX6_solves_7 0 rfl rfl)
theorem dX6_solves_166 : decode cX6_solves 166 = .ok (.ixor, 1) := dk_130 (dk_at dksX6_solves_7 3 rfl rfl)
theorem dX6_solves_167 : decode cX6_solves 167 = .ok (.goto 27, 3) := dk_167 0 27 (dk_at dksX6_solves_7 4 rfl rfl)
theorem dX6_solves_170 : decode cX6_solves 170 = .ok (.aload_n 0, 1) := dk_42 (dk_at dksX6_solves_7 7 rfl rfl)
theorem dX6_solves_171 : decode cX6_solves 171 = .ok (.aload_n 0, 1) := dk_42 (dk_at dksX6_solves_7 8 rfl rfl)
theorem dX6_solves_172 : decode cX6_solves 172 = .ok (.getfield 50, 3) := dk_180 0 50 (dk_at dksX6_solves_7 9 rfl rfl)
theorem dX6_solves_175 : decode cX6_solves 175 = .ok (.iload_n 2, 1) := dk_28 (dk_at dksX6_solves_7 12 rfl rfl)
theorem dX6_solves_176 : decode cX6_solves 176 = .ok (.iaload, 1) := dk_46 (dk_at dksX6_solves_7 13 rfl rfl)
theorem dX6_solves_177 : decode cX6_solves 177 = .ok (.aload_n 0, 1) := dk_42 (dk_at dksX6_solves_7 14 rfl rfl)
theorem dX6_solves_178 : decode cX6_solves 178 = .ok (.iconst 1, 1) := dk_4 (dk_at dksX6_solves_7 15 rfl rfl)
theorem dX6_solves_179 : decode cX6_solves 179 = .ok (.iload_n 3, 1) := dk_29 (dk_at dksX6_solves_7 16 rfl rfl)
theorem dX6_solves_180 : decode cX6_solves 180 = .ok (.iconst (-1), 1) := dk_2 (dk_at dksX6_solves_7 17 rfl rfl)
theorem dX6_solves_181 : decode cX6_solves 181 = .ok (.invokevirtual 213, 3) := dk_182 0 213 (dk_at dksX6_solves_7 18 rfl rfl)
theorem dX6_solves_184 : decode cX6_solves 184 = .ok (.ixor, 1) := dk_130 (dk_at dksX6_solves_7 21 rfl rfl)
theorem dX6_solves_185 : decode cX6_solves 185 = .ok (.aload_n 0, 1) := dk_42 (dk_at dksX6_solves_7 22 rfl rfl)
theorem dX6_solves_186 : decode cX6_solves 186 = .ok (.getfield 32, 3) := dk_180 0 32 (dk_at dksX6_solves_8 0 rfl rfl)
theorem dX6_solves_189 : decode cX6_solves 189 = .ok (.iload_n 3, 1) := dk_29 (dk_at dksX6_solves_8 3 rfl rfl)
theorem dX6_solves_190 : decode cX6_solves 190 = .ok (.iaload, 1) := dk_46 (dk_at dksX6_solves_8 4 rfl rfl)
theorem dX6_solves_191 : decode cX6_solves 191 = .ok (.invokevirtual 164, 3) := dk_182 0 164 (dk_at dksX6_solves_8 5 rfl rfl)
theorem dX6_solves_194 : decode cX6_solves 194 = .ok (.iastore, 1) := dk_79 (dk_at dksX6_solves_8 8 rfl rfl)
theorem dX6_solves_195 : decode cX6_solves 195 = .ok (.aload_n 0, 1) := dk_42 (dk_at dksX6_solves_8 9 rfl rfl)
theorem dX6_solves_196 : decode cX6_solves 196 = .ok (.getfield 53, 3) := dk_180 0 53 (dk_at dksX6_solves_8 10 rfl rfl)
theorem dX6_solves_199 : decode cX6_solves 199 = .ok (.iload_n 1, 1) := dk_27 (dk_at dksX6_solves_8 13 rfl rfl)
theorem dX6_solves_200 : decode cX6_solves 200 = .ok (.baload, 1) := dk_51 (dk_at dksX6_solves_8 14 rfl rfl)
theorem dX6_solves_201 : decode cX6_solves 201 = .ok (.ifCond .ne 16, 3) := dk_154 0 16 (dk_at dksX6_solves_8 15 rfl rfl)
theorem dX6_solves_204 : decode cX6_solves 204 = .ok (.aload_n 0, 1) := dk_42 (dk_at dksX6_solves_8 18 rfl rfl)
theorem dX6_solves_205 : decode cX6_solves 205 = .ok (.getfield 50, 3) := dk_180 0 50 (dk_at dksX6_solves_8 19 rfl rfl)
theorem dX6_solves_208 : decode cX6_solves 208 = .ok (.iload_n 1, 1) := dk_27 (dk_at dksX6_solves_8 22 rfl rfl)
theorem dX6_solves_209 : decode cX6_solves 209 = .ok (.aload_n 0, 1) := dk_42 (dk_at dksX6_solves_8 23 rfl rfl)
theorem dX6_solves_210 : decode cX6_solves 210 = .ok (.iconst 0, 1) := dk_3 (dk_at dksX6_solves_9 0 rfl rfl)
theorem dX6_solves_211 : decode cX6_solves 211 = .ok (.iconst (-1), 1) := dk_2 (dk_at dksX6_solves_9 1 rfl rfl)
theorem dX6_solves_212 : decode cX6_solves 212 = .ok (.iconst (-1), 1) := dk_2 (dk_at dksX6_solves_9 2 rfl rfl)
theorem dX6_solves_213 : decode cX6_solves 213 = .ok (.invokevirtual 213, 3) := dk_182 0 213 (dk_at dksX6_solves_9 3 rfl rfl)
theorem dX6_solves_216 : decode cX6_solves 216 = .ok (.iastore, 1) := dk_79 (dk_at dksX6_solves_9 6 rfl rfl)
theorem dX6_solves_217 : decode cX6_solves 217 = .ok (.aload_n 0, 1) := dk_42 (dk_at dksX6_solves_9 7 rfl rfl)
theorem dX6_solves_218 : decode cX6_solves 218 = .ok (.getfield 53, 3) := dk_180 0 53 (dk_at dksX6_solves_9 8 rfl rfl)
theorem dX6_solves_221 : decode cX6_solves 221 = .ok (.iload_n 2, 1) := dk_28 (dk_at dksX6_solves_9 11 rfl rfl)
theorem dX6_solves_222 : decode cX6_solves 222 = .ok (.baload, 1) := dk_51 (dk_at dksX6_solves_9 12 rfl rfl)
theorem dX6_solves_223 : decode cX6_solves 223 = .ok (.ifCond .ne 16, 3) := dk_154 0 16 (dk_at dksX6_solves_9 13 rfl rfl)
theorem dX6_solves_226 : decode cX6_solves 226 = .ok (.aload_n 0, 1) := dk_42 (dk_at dksX6_solves_9 16 rfl rfl)
theorem dX6_solves_227 : decode cX6_solves 227 = .ok (.getfield 50, 3) := dk_180 0 50 (dk_at dksX6_solves_9 17 rfl rfl)
theorem dX6_solves_230 : decode cX6_solves 230 = .ok (.iload_n 2, 1) := dk_28 (dk_at dksX6_solves_9 20 rfl rfl)
theorem dX6_solves_231 : decode cX6_solves 231 = .ok (.aload_n 0, 1) := dk_42 (dk_at dksX6_solves_9 21 rfl rfl)
theorem dX6_solves_232 : decode cX6_solves 232 = .ok (.iconst 1, 1) := dk_4 (dk_at dksX6_solves_9 22 rfl rfl)
theorem dX6_solves_233 : decode cX6_solves 233 = .ok (.iconst (-1), 1) := dk_2 (dk_at dksX6_solves_9 23 rfl rfl)
theorem dX6_solves_234 : decode cX6_solves 234 = .ok (.iconst (-1), 1) := dk_2 (dk_at dksX6_solves_10 0 rfl rfl)
theorem dX6_solves_235 : decode cX6_solves 235 = .ok (.invokevirtual 213, 3) := dk_182 0 213 (dk_at dksX6_solves_10 1 rfl rfl)
theorem dX6_solves_238 : decode cX6_solves 238 = .ok (.iastore, 1) := dk_79 (dk_at dksX6_solves_10 4 rfl rfl)
theorem dX6_solves_239 : decode cX6_solves 239 = .ok (.return_, 1) := dk_177 (dk_at dksX6_solves_10 5 rfl rfl)
abbrev cX6_missing : ByteArray := prog_12_method_45_code
def yX6_missing : MethodName := ⟨RX6, "missing", "(I)I"⟩
def dkwX6_missing_1 : List UInt8 := [132, 2, 1, 167, 255, 232, 2, 172]
abbrev dktX6_missing_1 : List UInt8 := dkwX6_missing_1 ++ []
def dkwX6_missing_0 : List UInt8 := [27, 61, 28, 42, 180, 0, 17, 3, 46, 162, 0, 20, 42, 180, 0, 53, 28, 51, 154, 0, 5, 28, 172]
abbrev dktX6_missing_0 : List UInt8 := dkwX6_missing_0 ++ dktX6_missing_1
theorem dksX6_missing_0 : cX6_missing.data.toList.drop 0 = dktX6_missing_0 := by decide +kernel
theorem dksX6_missing_1 : cX6_missing.data.toList.drop 23 = dktX6_missing_1 := dk_seg dksX6_missing_0 23 rfl rfl
theorem dX6_missing_0 : decode cX6_missing 0 = .ok (.iload_n 1, 1) := dk_27 (dk_at dksX6_missing_0 0 rfl rfl)
theorem dX6_missing_1 : decode cX6_missing 1 = .ok (.istore_n 2, 1) := dk_61 (dk_at dksX6_missing_0 1 rfl rfl)
theorem dX6_missing_2 : decode cX6_missing 2 = .ok (.iload_n 2, 1) := dk_28 (dk_at dksX6_missing_0 2 rfl rfl)
theorem dX6_missing_3 : decode cX6_missing 3 = .ok (.aload_n 0, 1) := dk_42 (dk_at dksX6_missing_0 3 rfl rfl)
theorem dX6_missing_4 : decode cX6_missing 4 = .ok (.getfield 17, 3) := dk_180 0 17 (dk_at dksX6_missing_0 4 rfl rfl)
theorem dX6_missing_7 : decode cX6_missing 7 = .ok (.iconst 0, 1) := dk_3 (dk_at dksX6_missing_0 7 rfl rfl)
theorem dX6_missing_8 : decode cX6_missing 8 = .ok (.iaload, 1) := dk_46 (dk_at dksX6_missing_0 8 rfl rfl)
theorem dX6_missing_9 : decode cX6_missing 9 = .ok (.if_icmp .ge 20, 3) := dk_162 0 20 (dk_at dksX6_missing_0 9 rfl rfl)
theorem dX6_missing_12 : decode cX6_missing 12 = .ok (.aload_n 0, 1) := dk_42 (dk_at dksX6_missing_0 12 rfl rfl)
theorem dX6_missing_13 : decode cX6_missing 13 = .ok (.getfield 53, 3) := dk_180 0 53 (dk_at dksX6_missing_0 13 rfl rfl)
theorem dX6_missing_16 : decode cX6_missing 16 = .ok (.iload_n 2, 1) := dk_28 (dk_at dksX6_missing_0 16 rfl rfl)
theorem dX6_missing_17 : decode cX6_missing 17 = .ok (.baload, 1) := dk_51 (dk_at dksX6_missing_0 17 rfl rfl)
theorem dX6_missing_18 : decode cX6_missing 18 = .ok (.ifCond .ne 5, 3) := dk_154 0 5 (dk_at dksX6_missing_0 18 rfl rfl)
theorem dX6_missing_21 : decode cX6_missing 21 = .ok (.iload_n 2, 1) := dk_28 (dk_at dksX6_missing_0 21 rfl rfl)
theorem dX6_missing_22 : decode cX6_missing 22 = .ok (.ireturn, 1) := dk_172 (dk_at dksX6_missing_0 22 rfl rfl)
theorem dX6_missing_23 : decode cX6_missing 23 = .ok (.iinc 2 1, 3) := dk_132 2 1 (dk_at dksX6_missing_1 0 rfl rfl)
theorem dX6_missing_26 : decode cX6_missing 26 = .ok (.goto (-24), 3) := dk_167 255 232 (dk_at dksX6_missing_1 3 rfl rfl)
theorem dX6_missing_29 : decode cX6_missing 29 = .ok (.iconst (-1), 1) := dk_2 (dk_at dksX6_missing_1 6 rfl rfl)
theorem dX6_missing_30 : decode cX6_missing 30 = .ok (.ireturn, 1) := dk_172 (dk_at dksX6_missing_1 7 rfl rfl)
abbrev cX6_sum : ByteArray := prog_12_method_46_code
def yX6_sum : MethodName := ⟨RX6, "sum", "(ZII)I"⟩
def dkwX6_sum_3 : List UInt8 := [167, 255, 193, 21, 4, 172]
abbrev dktX6_sum_3 : List UInt8 := dkwX6_sum_3 ++ []
def dkwX6_sum_2 : List UInt8 := [21, 5, 46, 182, 0, 160, 167, 0, 10, 42, 180, 0, 50, 21, 5, 46, 130, 54, 4, 132, 5, 1]
abbrev dktX6_sum_2 : List UInt8 := dkwX6_sum_2 ++ dktX6_sum_3
def dkwX6_sum_1 : List UInt8 := [21, 5, 29, 159, 0, 40, 21, 4, 27, 153, 0, 24, 42, 42, 180, 0, 50, 21, 5, 46, 42, 180, 0, 32]
abbrev dktX6_sum_1 : List UInt8 := dkwX6_sum_1 ++ dktX6_sum_2
def dkwX6_sum_0 : List UInt8 := [3, 54, 4, 3, 54, 5, 21, 5, 42, 180, 0, 17, 3, 46, 162, 0, 58, 21, 5, 28, 159, 0, 46]
abbrev dktX6_sum_0 : List UInt8 := dkwX6_sum_0 ++ dktX6_sum_1
theorem dksX6_sum_0 : cX6_sum.data.toList.drop 0 = dktX6_sum_0 := by decide +kernel
theorem dksX6_sum_1 : cX6_sum.data.toList.drop 23 = dktX6_sum_1 := dk_seg dksX6_sum_0 23 rfl rfl
theorem dksX6_sum_2 : cX6_sum.data.toList.drop 47 = dktX6_sum_2 := dk_seg dksX6_sum_1 24 rfl rfl
theorem dksX6_sum_3 : cX6_sum.data.toList.drop 69 = dktX6_sum_3 := dk_seg dksX6_sum_2 22 rfl rfl
theorem dX6_sum_0 : decode cX6_sum 0 = .ok (.iconst 0, 1) := dk_3 (dk_at dksX6_sum_0 0 rfl rfl)
theorem dX6_sum_1 : decode cX6_sum 1 = .ok (.istore 4, 2) := dk_54 4 (dk_at dksX6_sum_0 1 rfl rfl)
theorem dX6_sum_3 : decode cX6_sum 3 = .ok (.iconst 0, 1) := dk_3 (dk_at dksX6_sum_0 3 rfl rfl)
theorem dX6_sum_4 : decode cX6_sum 4 = .ok (.istore 5, 2) := dk_54 5 (dk_at dksX6_sum_0 4 rfl rfl)
theorem dX6_sum_6 : decode cX6_sum 6 = .ok (.iload 5, 2) := dk_21 5 (dk_at dksX6_sum_0 6 rfl rfl)
theorem dX6_sum_8 : decode cX6_sum 8 = .ok (.aload_n 0, 1) := dk_42 (dk_at dksX6_sum_0 8 rfl rfl)
theorem dX6_sum_9 : decode cX6_sum 9 = .ok (.getfield 17, 3) := dk_180 0 17 (dk_at dksX6_sum_0 9 rfl rfl)
theorem dX6_sum_12 : decode cX6_sum 12 = .ok (.iconst 0, 1) := dk_3 (dk_at dksX6_sum_0 12 rfl rfl)
theorem dX6_sum_13 : decode cX6_sum 13 = .ok (.iaload, 1) := dk_46 (dk_at dksX6_sum_0 13 rfl rfl)
theorem dX6_sum_14 : decode cX6_sum 14 = .ok (.if_icmp .ge 58, 3) := dk_162 0 58 (dk_at dksX6_sum_0 14 rfl rfl)
theorem dX6_sum_17 : decode cX6_sum 17 = .ok (.iload 5, 2) := dk_21 5 (dk_at dksX6_sum_0 17 rfl rfl)
theorem dX6_sum_19 : decode cX6_sum 19 = .ok (.iload_n 2, 1) := dk_28 (dk_at dksX6_sum_0 19 rfl rfl)
theorem dX6_sum_20 : decode cX6_sum 20 = .ok (.if_icmp .eq 46, 3) := dk_159 0 46 (dk_at dksX6_sum_0 20 rfl rfl)
theorem dX6_sum_23 : decode cX6_sum 23 = .ok (.iload 5, 2) := dk_21 5 (dk_at dksX6_sum_1 0 rfl rfl)
theorem dX6_sum_25 : decode cX6_sum 25 = .ok (.iload_n 3, 1) := dk_29 (dk_at dksX6_sum_1 2 rfl rfl)
theorem dX6_sum_26 : decode cX6_sum 26 = .ok (.if_icmp .eq 40, 3) := dk_159 0 40 (dk_at dksX6_sum_1 3 rfl rfl)
theorem dX6_sum_29 : decode cX6_sum 29 = .ok (.iload 4, 2) := dk_21 4 (dk_at dksX6_sum_1 6 rfl rfl)
theorem dX6_sum_31 : decode cX6_sum 31 = .ok (.iload_n 1, 1) := dk_27 (dk_at dksX6_sum_1 8 rfl rfl)
theorem dX6_sum_32 : decode cX6_sum 32 = .ok (.ifCond .eq 24, 3) := dk_153 0 24 (dk_at dksX6_sum_1 9 rfl rfl)
theorem dX6_sum_35 : decode cX6_sum 35 = .ok (.aload_n 0, 1) := dk_42 (dk_at dksX6_sum_1 12 rfl rfl)
theorem dX6_sum_36 : decode cX6_sum 36 = .ok (.aload_n 0, 1) := dk_42 (dk_at dksX6_sum_1 13 rfl rfl)
theorem dX6_sum_37 : decode cX6_sum 37 = .ok (.getfield 50, 3) := dk_180 0 50 (dk_at dksX6_sum_1 14 rfl rfl)
theorem dX6_sum_40 : decode cX6_sum 40 = .ok (.iload 5, 2) := dk_21 5 (dk_at dksX6_sum_1 17 rfl rfl)
theorem dX6_sum_42 : decode cX6_sum 42 = .ok (.iaload, 1) := dk_46 (dk_at dksX6_sum_1 19 rfl rfl)
theorem dX6_sum_43 : decode cX6_sum 43 = .ok (.aload_n 0, 1) := dk_42 (dk_at dksX6_sum_1 20 rfl rfl)
theorem dX6_sum_44 : decode cX6_sum 44 = .ok (.getfield 32, 3) := dk_180 0 32 (dk_at dksX6_sum_1 21 rfl rfl)
theorem dX6_sum_47 : decode cX6_sum 47 = .ok (.iload 5, 2) := dk_21 5 (dk_at dksX6_sum_2 0 rfl rfl)
theorem dX6_sum_49 : decode cX6_sum 49 = .ok (.iaload, 1) := dk_46 (dk_at dksX6_sum_2 2 rfl rfl)
theorem dX6_sum_50 : decode cX6_sum 50 = .ok (.invokevirtual 160, 3) := dk_182 0 160 (dk_at dksX6_sum_2 3 rfl rfl)
theorem dX6_sum_53 : decode cX6_sum 53 = .ok (.goto 10, 3) := dk_167 0 10 (dk_at dksX6_sum_2 6 rfl rfl)
theorem dX6_sum_56 : decode cX6_sum 56 = .ok (.aload_n 0, 1) := dk_42 (dk_at dksX6_sum_2 9 rfl rfl)
theorem dX6_sum_57 : decode cX6_sum 57 = .ok (.getfield 50, 3) := dk_180 0 50 (dk_at dksX6_sum_2 10 rfl rfl)
theorem dX6_sum_60 : decode cX6_sum 60 = .ok (.iload 5, 2) := dk_21 5 (dk_at dksX6_sum_2 13 rfl rfl)
theorem dX6_sum_62 : decode cX6_sum 62 = .ok (.iaload, 1) := dk_46 (dk_at dksX6_sum_2 15 rfl rfl)
theorem dX6_sum_63 : decode cX6_sum 63 = .ok (.ixor, 1) := dk_130 (dk_at dksX6_sum_2 16 rfl rfl)
theorem dX6_sum_64 : decode cX6_sum 64 = .ok (.istore 4, 2) := dk_54 4 (dk_at dksX6_sum_2 17 rfl rfl)
theorem dX6_sum_66 : decode cX6_sum 66 = .ok (.iinc 5 1, 3) := dk_132 5 1 (dk_at dksX6_sum_2 19 rfl rfl)
theorem dX6_sum_69 : decode cX6_sum 69 = .ok (.goto (-63), 3) := dk_167 255 193 (dk_at dksX6_sum_3 0 rfl rfl)
theorem dX6_sum_72 : decode cX6_sum 72 = .ok (.iload 4, 2) := dk_21 4 (dk_at dksX6_sum_3 3 rfl rfl)
theorem dX6_sum_74 : decode cX6_sum 74 = .ok (.ireturn, 1) := dk_172 (dk_at dksX6_sum_3 5 rfl rfl)
abbrev cX6_puts : ByteArray := prog_12_method_51_code
def yX6_puts : MethodName := ⟨RX6, "puts", "([IIIII)V"⟩
def dkwX6_puts_1 : List UInt8 := [4, 182, 0, 233, 177]
abbrev dktX6_puts_1 : List UInt8 := dkwX6_puts_1 ++ []
def dkwX6_puts_0 : List UInt8 := [42, 28, 21, 4, 182, 0, 199, 54, 6, 43, 21, 6, 28, 29, 184, 0, 206, 21, 5, 79, 42, 43, 21, 6]
abbrev dktX6_puts_0 : List UInt8 := dkwX6_puts_0 ++ dktX6_puts_1
theorem dksX6_puts_0 : cX6_puts.data.toList.drop 0 = dktX6_puts_0 := by decide +kernel
theorem dksX6_puts_1 : cX6_puts.data.toList.drop 24 = dktX6_puts_1 := dk_seg dksX6_puts_0 24 rfl rfl
theorem dX6_puts_0 : decode cX6_puts 0 = .ok (.aload_n 0, 1) := dk_42 (dk_at dksX6_puts_0 0 rfl rfl)
theorem dX6_puts_1 : decode cX6_puts 1 = .ok (.iload_n 2, 1) := dk_28 (dk_at dksX6_puts_0 1 rfl rfl)
theorem dX6_puts_2 : decode cX6_puts 2 = .ok (.iload 4, 2) := dk_21 4 (dk_at dksX6_puts_0 2 rfl rfl)
theorem dX6_puts_4 : decode cX6_puts 4 = .ok (.invokevirtual 199, 3) := dk_182 0 199 (dk_at dksX6_puts_0 4 rfl rfl)
theorem dX6_puts_7 : decode cX6_puts 7 = .ok (.istore 6, 2) := dk_54 6 (dk_at dksX6_puts_0 7 rfl rfl)
theorem dX6_puts_9 : decode cX6_puts 9 = .ok (.aload_n 1, 1) := dk_43 (dk_at dksX6_puts_0 9 rfl rfl)
theorem dX6_puts_10 : decode cX6_puts 10 = .ok (.iload 6, 2) := dk_21 6 (dk_at dksX6_puts_0 10 rfl rfl)
theorem dX6_puts_12 : decode cX6_puts 12 = .ok (.iload_n 2, 1) := dk_28 (dk_at dksX6_puts_0 12 rfl rfl)
theorem dX6_puts_13 : decode cX6_puts 13 = .ok (.iload_n 3, 1) := dk_29 (dk_at dksX6_puts_0 13 rfl rfl)
theorem dX6_puts_14 : decode cX6_puts 14 = .ok (.invokestatic 206, 3) := dk_184 0 206 (dk_at dksX6_puts_0 14 rfl rfl)
theorem dX6_puts_17 : decode cX6_puts 17 = .ok (.iload 5, 2) := dk_21 5 (dk_at dksX6_puts_0 17 rfl rfl)
theorem dX6_puts_19 : decode cX6_puts 19 = .ok (.iastore, 1) := dk_79 (dk_at dksX6_puts_0 19 rfl rfl)
theorem dX6_puts_20 : decode cX6_puts 20 = .ok (.aload_n 0, 1) := dk_42 (dk_at dksX6_puts_0 20 rfl rfl)
theorem dX6_puts_21 : decode cX6_puts 21 = .ok (.aload_n 1, 1) := dk_43 (dk_at dksX6_puts_0 21 rfl rfl)
theorem dX6_puts_22 : decode cX6_puts 22 = .ok (.iload 6, 2) := dk_21 6 (dk_at dksX6_puts_0 22 rfl rfl)
theorem dX6_puts_24 : decode cX6_puts 24 = .ok (.iconst 1, 1) := dk_4 (dk_at dksX6_puts_1 0 rfl rfl)
theorem dX6_puts_25 : decode cX6_puts 25 = .ok (.invokevirtual 233, 3) := dk_182 0 233 (dk_at dksX6_puts_1 1 rfl rfl)
theorem dX6_puts_28 : decode cX6_puts 28 = .ok (.return_, 1) := dk_177 (dk_at dksX6_puts_1 4 rfl rfl)
abbrev cX6_write : ByteArray := prog_12_method_81_code
def yX6_write : MethodName := ⟨RX6, "write", "(II)I"⟩
def dkwX6_write_0 : List UInt8 := [42, 3, 27, 28, 3, 3, 182, 1, 113, 172]
abbrev dktX6_write_0 : List UInt8 := dkwX6_write_0 ++ []
theorem dksX6_write_0 : cX6_write.data.toList.drop 0 = dktX6_write_0 := by decide +kernel
theorem dX6_write_0 : decode cX6_write 0 = .ok (.aload_n 0, 1) := dk_42 (dk_at dksX6_write_0 0 rfl rfl)
theorem dX6_write_1 : decode cX6_write 1 = .ok (.iconst 0, 1) := dk_3 (dk_at dksX6_write_0 1 rfl rfl)
theorem dX6_write_2 : decode cX6_write 2 = .ok (.iload_n 1, 1) := dk_27 (dk_at dksX6_write_0 2 rfl rfl)
theorem dX6_write_3 : decode cX6_write 3 = .ok (.iload_n 2, 1) := dk_28 (dk_at dksX6_write_0 3 rfl rfl)
theorem dX6_write_4 : decode cX6_write 4 = .ok (.iconst 0, 1) := dk_3 (dk_at dksX6_write_0 4 rfl rfl)
theorem dX6_write_5 : decode cX6_write 5 = .ok (.iconst 0, 1) := dk_3 (dk_at dksX6_write_0 5 rfl rfl)
theorem dX6_write_6 : decode cX6_write 6 = .ok (.invokevirtual 369, 3) := dk_182 1 113 (dk_at dksX6_write_0 6 rfl rfl)
theorem dX6_write_9 : decode cX6_write 9 = .ok (.ireturn, 1) := dk_172 (dk_at dksX6_write_0 9 rfl rfl)
abbrev cX6_act : ByteArray := prog_12_method_80_code
def yX6_act : MethodName := ⟨RX6, "act", "(IIIII)I"⟩
def dkwX6_act_1 : List UInt8 := [42, 180, 1, 57, 172, 42, 180, 0, 23, 21, 6, 92, 46, 4, 96, 79, 2, 172]
abbrev dktX6_act_1 : List UInt8 := dkwX6_act_1 ++ []
def dkwX6_act_0 : List UInt8 := [42, 3, 181, 0, 57, 42, 27, 28, 29, 21, 4, 21, 5, 182, 1, 110, 54, 6, 21, 6, 2, 160, 0, 8]
abbrev dktX6_act_0 : List UInt8 := dkwX6_act_0 ++ dktX6_act_1
theorem dksX6_act_0 : cX6_act.data.toList.drop 0 = dktX6_act_0 := by decide +kernel
theorem dksX6_act_1 : cX6_act.data.toList.drop 24 = dktX6_act_1 := dk_seg dksX6_act_0 24 rfl rfl
theorem dX6_act_0 : decode cX6_act 0 = .ok (.aload_n 0, 1) := dk_42 (dk_at dksX6_act_0 0 rfl rfl)
theorem dX6_act_1 : decode cX6_act 1 = .ok (.iconst 0, 1) := dk_3 (dk_at dksX6_act_0 1 rfl rfl)
theorem dX6_act_2 : decode cX6_act 2 = .ok (.putfield 57, 3) := dk_181 0 57 (dk_at dksX6_act_0 2 rfl rfl)
theorem dX6_act_5 : decode cX6_act 5 = .ok (.aload_n 0, 1) := dk_42 (dk_at dksX6_act_0 5 rfl rfl)
theorem dX6_act_6 : decode cX6_act 6 = .ok (.iload_n 1, 1) := dk_27 (dk_at dksX6_act_0 6 rfl rfl)
theorem dX6_act_7 : decode cX6_act 7 = .ok (.iload_n 2, 1) := dk_28 (dk_at dksX6_act_0 7 rfl rfl)
theorem dX6_act_8 : decode cX6_act 8 = .ok (.iload_n 3, 1) := dk_29 (dk_at dksX6_act_0 8 rfl rfl)
theorem dX6_act_9 : decode cX6_act 9 = .ok (.iload 4, 2) := dk_21 4 (dk_at dksX6_act_0 9 rfl rfl)
theorem dX6_act_11 : decode cX6_act 11 = .ok (.iload 5, 2) := dk_21 5 (dk_at dksX6_act_0 11 rfl rfl)
theorem dX6_act_13 : decode cX6_act 13 = .ok (.invokevirtual 366, 3) := dk_182 1 110 (dk_at dksX6_act_0 13 rfl rfl)
theorem dX6_act_16 : decode cX6_act 16 = .ok (.istore 6, 2) := dk_54 6 (dk_at dksX6_act_0 16 rfl rfl)
theorem dX6_act_18 : decode cX6_act 18 = .ok (.iload 6, 2) := dk_21 6 (dk_at dksX6_act_0 18 rfl rfl)
theorem dX6_act_20 : decode cX6_act 20 = .ok (.iconst (-1), 1) := dk_2 (dk_at dksX6_act_0 20 rfl rfl)
theorem dX6_act_21 : decode cX6_act 21 = .ok (.if_icmp .ne 8, 3) := dk_160 0 8 (dk_at dksX6_act_0 21 rfl rfl)
theorem dX6_act_24 : decode cX6_act 24 = .ok (.aload_n 0, 1) := dk_42 (dk_at dksX6_act_1 0 rfl rfl)
theorem dX6_act_25 : decode cX6_act 25 = .ok (.getfield 313, 3) := dk_180 1 57 (dk_at dksX6_act_1 1 rfl rfl)
theorem dX6_act_28 : decode cX6_act 28 = .ok (.ireturn, 1) := dk_172 (dk_at dksX6_act_1 4 rfl rfl)
theorem dX6_act_29 : decode cX6_act 29 = .ok (.aload_n 0, 1) := dk_42 (dk_at dksX6_act_1 5 rfl rfl)
theorem dX6_act_30 : decode cX6_act 30 = .ok (.getfield 23, 3) := dk_180 0 23 (dk_at dksX6_act_1 6 rfl rfl)
theorem dX6_act_33 : decode cX6_act 33 = .ok (.iload 6, 2) := dk_21 6 (dk_at dksX6_act_1 9 rfl rfl)
theorem dX6_act_35 : decode cX6_act 35 = .ok (.dup2, 1) := dk_92 (dk_at dksX6_act_1 11 rfl rfl)
theorem dX6_act_36 : decode cX6_act 36 = .ok (.iaload, 1) := dk_46 (dk_at dksX6_act_1 12 rfl rfl)
theorem dX6_act_37 : decode cX6_act 37 = .ok (.iconst 1, 1) := dk_4 (dk_at dksX6_act_1 13 rfl rfl)
theorem dX6_act_38 : decode cX6_act 38 = .ok (.iadd, 1) := dk_96 (dk_at dksX6_act_1 14 rfl rfl)
theorem dX6_act_39 : decode cX6_act 39 = .ok (.iastore, 1) := dk_79 (dk_at dksX6_act_1 15 rfl rfl)
theorem dX6_act_40 : decode cX6_act 40 = .ok (.iconst (-1), 1) := dk_2 (dk_at dksX6_act_1 16 rfl rfl)
theorem dX6_act_41 : decode cX6_act 41 = .ok (.ireturn, 1) := dk_172 (dk_at dksX6_act_1 17 rfl rfl)
abbrev cX6_tries_2 : ByteArray := prog_12_method_79_code
def yX6_tries_2 : MethodName := ⟨RX6, "tries", "(IIIII)I"⟩
def dkwX6_tries_2_3 : List UInt8 := [2, 172]
abbrev dktX6_tries_2_3 : List UInt8 := dkwX6_tries_2_3 ++ []
def dkwX6_tries_2_2 : List UInt8 := [42, 182, 1, 100, 42, 27, 42, 180, 0, 38, 184, 1, 103, 42, 180, 0, 41, 184, 1, 103, 100, 182, 1, 106]
abbrev dktX6_tries_2_2 : List UInt8 := dkwX6_tries_2_2 ++ dktX6_tries_2_3
def dkwX6_tries_2_1 : List UInt8 := [180, 0, 38, 27, 28, 29, 21, 4, 21, 5, 182, 1, 97, 54, 6, 21, 6, 2, 159, 0, 6, 21, 6, 172]
abbrev dktX6_tries_2_1 : List UInt8 := dkwX6_tries_2_1 ++ dktX6_tries_2_2
def dkwX6_tries_2_0 : List UInt8 := [42, 180, 0, 153, 158, 0, 16, 42, 180, 0, 38, 3, 42, 180, 0, 41, 3, 184, 1, 93, 42, 42]
abbrev dktX6_tries_2_0 : List UInt8 := dkwX6_tries_2_0 ++ dktX6_tries_2_1
theorem dksX6_tries_2_0 : cX6_tries_2.data.toList.drop 0 = dktX6_tries_2_0 := by decide +kernel
theorem dksX6_tries_2_1 : cX6_tries_2.data.toList.drop 22 = dktX6_tries_2_1 := dk_seg dksX6_tries_2_0 22 rfl rfl
theorem dksX6_tries_2_2 : cX6_tries_2.data.toList.drop 46 = dktX6_tries_2_2 := dk_seg dksX6_tries_2_1 24 rfl rfl
theorem dksX6_tries_2_3 : cX6_tries_2.data.toList.drop 70 = dktX6_tries_2_3 := dk_seg dksX6_tries_2_2 24 rfl rfl
theorem dX6_tries_2_0 : decode cX6_tries_2 0 = .ok (.aload_n 0, 1) := dk_42 (dk_at dksX6_tries_2_0 0 rfl rfl)
theorem dX6_tries_2_1 : decode cX6_tries_2 1 = .ok (.getfield 153, 3) := dk_180 0 153 (dk_at dksX6_tries_2_0 1 rfl rfl)
theorem dX6_tries_2_4 : decode cX6_tries_2 4 = .ok (.ifCond .le 16, 3) := dk_158 0 16 (dk_at dksX6_tries_2_0 4 rfl rfl)
theorem dX6_tries_2_7 : decode cX6_tries_2 7 = .ok (.aload_n 0, 1) := dk_42 (dk_at dksX6_tries_2_0 7 rfl rfl)
theorem dX6_tries_2_8 : decode cX6_tries_2 8 = .ok (.getfield 38, 3) := dk_180 0 38 (dk_at dksX6_tries_2_0 8 rfl rfl)
theorem dX6_tries_2_11 : decode cX6_tries_2 11 = .ok (.iconst 0, 1) := dk_3 (dk_at dksX6_tries_2_0 11 rfl rfl)
theorem dX6_tries_2_12 : decode cX6_tries_2 12 = .ok (.aload_n 0, 1) := dk_42 (dk_at dksX6_tries_2_0 12 rfl rfl)
theorem dX6_tries_2_13 : decode cX6_tries_2 13 = .ok (.getfield 41, 3) := dk_180 0 41 (dk_at dksX6_tries_2_0 13 rfl rfl)
theorem dX6_tries_2_16 : decode cX6_tries_2 16 = .ok (.iconst 0, 1) := dk_3 (dk_at dksX6_tries_2_0 16 rfl rfl)
theorem dX6_tries_2_17 : decode cX6_tries_2 17 = .ok (.invokestatic 349, 3) := dk_184 1 93 (dk_at dksX6_tries_2_0 17 rfl rfl)
theorem dX6_tries_2_20 : decode cX6_tries_2 20 = .ok (.aload_n 0, 1) := dk_42 (dk_at dksX6_tries_2_0 20 rfl rfl)
theorem dX6_tries_2_21 : decode cX6_tries_2 21 = .ok (.aload_n 0, 1) := dk_42 (dk_at dksX6_tries_2_0 21 rfl rfl)
theorem dX6_tries_2_22 : decode cX6_tries_2 22 = .ok (.getfield 38, 3) := dk_180 0 38 (dk_at dksX6_tries_2_1 0 rfl rfl)
theorem dX6_tries_2_25 : decode cX6_tries_2 25 = .ok (.iload_n 1, 1) := dk_27 (dk_at dksX6_tries_2_1 3 rfl rfl)
theorem dX6_tries_2_26 : decode cX6_tries_2 26 = .ok (.iload_n 2, 1) := dk_28 (dk_at dksX6_tries_2_1 4 rfl rfl)
theorem dX6_tries_2_27 : decode cX6_tries_2 27 = .ok (.iload_n 3, 1) := dk_29 (dk_at dksX6_tries_2_1 5 rfl rfl)
theorem dX6_tries_2_28 : decode cX6_tries_2 28 = .ok (.iload 4, 2) := dk_21 4 (dk_at dksX6_tries_2_1 6 rfl rfl)
theorem dX6_tries_2_30 : decode cX6_tries_2 30 = .ok (.iload 5, 2) := dk_21 5 (dk_at dksX6_tries_2_1 8 rfl rfl)
theorem dX6_tries_2_32 : decode cX6_tries_2 32 = .ok (.invokevirtual 353, 3) := dk_182 1 97 (dk_at dksX6_tries_2_1 10 rfl rfl)
theorem dX6_tries_2_35 : decode cX6_tries_2 35 = .ok (.istore 6, 2) := dk_54 6 (dk_at dksX6_tries_2_1 13 rfl rfl)
theorem dX6_tries_2_37 : decode cX6_tries_2 37 = .ok (.iload 6, 2) := dk_21 6 (dk_at dksX6_tries_2_1 15 rfl rfl)
theorem dX6_tries_2_39 : decode cX6_tries_2 39 = .ok (.iconst (-1), 1) := dk_2 (dk_at dksX6_tries_2_1 17 rfl rfl)
theorem dX6_tries_2_40 : decode cX6_tries_2 40 = .ok (.if_icmp .eq 6, 3) := dk_159 0 6 (dk_at dksX6_tries_2_1 18 rfl rfl)
theorem dX6_tries_2_43 : decode cX6_tries_2 43 = .ok (.iload 6, 2) := dk_21 6 (dk_at dksX6_tries_2_1 21 rfl rfl)
theorem dX6_tries_2_45 : decode cX6_tries_2 45 = .ok (.ireturn, 1) := dk_172 (dk_at dksX6_tries_2_1 23 rfl rfl)
theorem dX6_tries_2_46 : decode cX6_tries_2 46 = .ok (.aload_n 0, 1) := dk_42 (dk_at dksX6_tries_2_2 0 rfl rfl)
theorem dX6_tries_2_47 : decode cX6_tries_2 47 = .ok (.invokevirtual 356, 3) := dk_182 1 100 (dk_at dksX6_tries_2_2 1 rfl rfl)
theorem dX6_tries_2_50 : decode cX6_tries_2 50 = .ok (.aload_n 0, 1) := dk_42 (dk_at dksX6_tries_2_2 4 rfl rfl)
theorem dX6_tries_2_51 : decode cX6_tries_2 51 = .ok (.iload_n 1, 1) := dk_27 (dk_at dksX6_tries_2_2 5 rfl rfl)
theorem dX6_tries_2_52 : decode cX6_tries_2 52 = .ok (.aload_n 0, 1) := dk_42 (dk_at dksX6_tries_2_2 6 rfl rfl)
theorem dX6_tries_2_53 : decode cX6_tries_2 53 = .ok (.getfield 38, 3) := dk_180 0 38 (dk_at dksX6_tries_2_2 7 rfl rfl)
theorem dX6_tries_2_56 : decode cX6_tries_2 56 = .ok (.invokestatic 359, 3) := dk_184 1 103 (dk_at dksX6_tries_2_2 10 rfl rfl)
theorem dX6_tries_2_59 : decode cX6_tries_2 59 = .ok (.aload_n 0, 1) := dk_42 (dk_at dksX6_tries_2_2 13 rfl rfl)
theorem dX6_tries_2_60 : decode cX6_tries_2 60 = .ok (.getfield 41, 3) := dk_180 0 41 (dk_at dksX6_tries_2_2 14 rfl rfl)
theorem dX6_tries_2_63 : decode cX6_tries_2 63 = .ok (.invokestatic 359, 3) := dk_184 1 103 (dk_at dksX6_tries_2_2 17 rfl rfl)
theorem dX6_tries_2_66 : decode cX6_tries_2 66 = .ok (.isub, 1) := dk_100 (dk_at dksX6_tries_2_2 20 rfl rfl)
theorem dX6_tries_2_67 : decode cX6_tries_2 67 = .ok (.invokevirtual 362, 3) := dk_182 1 106 (dk_at dksX6_tries_2_2 21 rfl rfl)
theorem dX6_tries_2_70 : decode cX6_tries_2 70 = .ok (.iconst (-1), 1) := dk_2 (dk_at dksX6_tries_2_3 0 rfl rfl)
theorem dX6_tries_2_71 : decode cX6_tries_2 71 = .ok (.ireturn, 1) := dk_172 (dk_at dksX6_tries_2_3 1 rfl rfl)
abbrev cX6_copyRow : ByteArray := prog_12_method_35_code
def yX6_copyRow : MethodName := ⟨RX6, "copyRow", "([II[II)V"⟩
def dkwX6_copyRow_1 : List UInt8 := [132, 4, 1, 167, 255, 233, 177]
abbrev dktX6_copyRow_1 : List UInt8 := dkwX6_copyRow_1 ++ []
def dkwX6_copyRow_0 : List UInt8 := [3, 54, 4, 21, 4, 17, 2, 104, 162, 0, 21, 44, 29, 21, 4, 96, 42, 27, 21, 4, 96, 46, 79]
abbrev dktX6_copyRow_0 : List UInt8 := dkwX6_copyRow_0 ++ dktX6_copyRow_1
theorem dksX6_copyRow_0 : cX6_copyRow.data.toList.drop 0 = dktX6_copyRow_0 := by decide +kernel
theorem dksX6_copyRow_1 : cX6_copyRow.data.toList.drop 23 = dktX6_copyRow_1 := dk_seg dksX6_copyRow_0 23 rfl rfl
theorem dX6_copyRow_0 : decode cX6_copyRow 0 = .ok (.iconst 0, 1) := dk_3 (dk_at dksX6_copyRow_0 0 rfl rfl)
theorem dX6_copyRow_1 : decode cX6_copyRow 1 = .ok (.istore 4, 2) := dk_54 4 (dk_at dksX6_copyRow_0 1 rfl rfl)
theorem dX6_copyRow_3 : decode cX6_copyRow 3 = .ok (.iload 4, 2) := dk_21 4 (dk_at dksX6_copyRow_0 3 rfl rfl)
theorem dX6_copyRow_5 : decode cX6_copyRow 5 = .ok (.sipush 616, 3) := dk_17 2 104 (dk_at dksX6_copyRow_0 5 rfl rfl)
theorem dX6_copyRow_8 : decode cX6_copyRow 8 = .ok (.if_icmp .ge 21, 3) := dk_162 0 21 (dk_at dksX6_copyRow_0 8 rfl rfl)
theorem dX6_copyRow_11 : decode cX6_copyRow 11 = .ok (.aload_n 2, 1) := dk_44 (dk_at dksX6_copyRow_0 11 rfl rfl)
theorem dX6_copyRow_12 : decode cX6_copyRow 12 = .ok (.iload_n 3, 1) := dk_29 (dk_at dksX6_copyRow_0 12 rfl rfl)
theorem dX6_copyRow_13 : decode cX6_copyRow 13 = .ok (.iload 4, 2) := dk_21 4 (dk_at dksX6_copyRow_0 13 rfl rfl)
theorem dX6_copyRow_15 : decode cX6_copyRow 15 = .ok (.iadd, 1) := dk_96 (dk_at dksX6_copyRow_0 15 rfl rfl)
theorem dX6_copyRow_16 : decode cX6_copyRow 16 = .ok (.aload_n 0, 1) := dk_42 (dk_at dksX6_copyRow_0 16 rfl rfl)
theorem dX6_copyRow_17 : decode cX6_copyRow 17 = .ok (.iload_n 1, 1) := dk_27 (dk_at dksX6_copyRow_0 17 rfl rfl)
theorem dX6_copyRow_18 : decode cX6_copyRow 18 = .ok (.iload 4, 2) := dk_21 4 (dk_at dksX6_copyRow_0 18 rfl rfl)
theorem dX6_copyRow_20 : decode cX6_copyRow 20 = .ok (.iadd, 1) := dk_96 (dk_at dksX6_copyRow_0 20 rfl rfl)
theorem dX6_copyRow_21 : decode cX6_copyRow 21 = .ok (.iaload, 1) := dk_46 (dk_at dksX6_copyRow_0 21 rfl rfl)
theorem dX6_copyRow_22 : decode cX6_copyRow 22 = .ok (.iastore, 1) := dk_79 (dk_at dksX6_copyRow_0 22 rfl rfl)
theorem dX6_copyRow_23 : decode cX6_copyRow 23 = .ok (.iinc 4 1, 3) := dk_132 4 1 (dk_at dksX6_copyRow_1 0 rfl rfl)
theorem dX6_copyRow_26 : decode cX6_copyRow 26 = .ok (.goto (-23), 3) := dk_167 255 233 (dk_at dksX6_copyRow_1 3 rfl rfl)
theorem dX6_copyRow_29 : decode cX6_copyRow 29 = .ok (.return_, 1) := dk_177 (dk_at dksX6_copyRow_1 6 rfl rfl)
abbrev cX6_does : ByteArray := prog_12_method_69_code
def yX6_does : MethodName := ⟨RX6, "does", "([IIIIII)I"⟩
def dkwX6_does_12 : List UInt8 := [182, 1, 80, 181, 1, 57, 2, 172]
abbrev dktX6_does_12 : List UInt8 := dkwX6_does_12 ++ []
def dkwX6_does_11 : List UInt8 := [181, 1, 57, 42, 42, 180, 1, 57, 181, 1, 50, 2, 172, 42, 42, 43, 29, 21, 4, 21, 5, 21, 6]
abbrev dktX6_does_11 : List UInt8 := dkwX6_does_11 ++ dktX6_does_12
def dkwX6_does_10 : List UInt8 := [182, 1, 70, 42, 43, 17, 1, 169, 46, 184, 1, 74, 181, 1, 57, 2, 172, 42, 42, 43, 182, 1, 77]
abbrev dktX6_does_10 : List UInt8 := dkwX6_does_10 ++ dktX6_does_11
def dkwX6_does_9 : List UInt8 := [43, 29, 21, 4, 21, 5, 184, 0, 206, 46, 181, 1, 57, 2, 172, 42, 43, 29, 21, 4, 21, 5]
abbrev dktX6_does_9 : List UInt8 := dkwX6_does_9 ++ dktX6_does_10
def dkwX6_does_8 : List UInt8 := [42, 43, 29, 182, 1, 67, 2, 172, 43, 29, 21, 4, 21, 5, 184, 0, 206, 92, 46, 21, 6, 130, 79, 42]
abbrev dktX6_does_8 : List UInt8 := dkwX6_does_8 ++ dktX6_does_9
def dkwX6_does_7 : List UInt8 := [43, 29, 182, 1, 64, 132, 8, 1, 167, 255, 229, 42, 43, 17, 1, 136, 29, 96, 46, 181, 1, 57, 2, 172]
abbrev dktX6_does_7 : List UInt8 := dkwX6_does_7 ++ dktX6_does_8
def dkwX6_does_6 : List UInt8 := [2, 172, 3, 54, 8, 21, 8, 21, 4, 162, 0, 26, 43, 17, 1, 128, 29, 96, 46, 5, 160, 0, 15, 42]
abbrev dktX6_does_6 : List UInt8 := dkwX6_does_6 ++ dktX6_does_7
def dkwX6_does_5 : List UInt8 := [17, 1, 128, 29, 96, 5, 79, 43, 17, 1, 136, 29, 96, 3, 79, 42, 43, 17, 1, 168, 46, 181, 1, 57]
abbrev dktX6_does_5 : List UInt8 := dkwX6_does_5 ++ dktX6_does_6
def dkwX6_does_4 : List UInt8 := [184, 1, 60, 42, 42, 43, 182, 1, 28, 181, 1, 57, 2, 172, 43, 17, 1, 168, 92, 46, 4, 100, 79, 43]
abbrev dktX6_does_4 : List UInt8 := dkwX6_does_4 ++ dktX6_does_5
def dkwX6_does_3 : List UInt8 := [42, 42, 43, 29, 182, 1, 53, 181, 1, 57, 42, 43, 29, 21, 4, 182, 0, 177, 2, 172, 43, 29]
abbrev dktX6_does_3 : List UInt8 := dkwX6_does_3 ++ dktX6_does_4
def dkwX6_does_2 : List UInt8 := [170, 0, 0, 0, 0, 246, 0, 0, 0, 0, 0, 0, 0, 7, 0, 0, 0, 46, 0, 0, 0, 66, 0, 0, 0, 82, 0, 0, 0, 118, 0, 0, 0, 164, 0, 0, 0, 172, 0, 0, 0, 203, 0, 0, 0, 227]
abbrev dktX6_does_2 : List UInt8 := dkwX6_does_2 ++ dktX6_does_3
def dkwX6_does_1 : List UInt8 := [42, 29, 181, 1, 50, 28]
abbrev dktX6_does_1 : List UInt8 := dkwX6_does_1 ++ dktX6_does_2
def dkwX6_does_0 : List UInt8 := [42, 43, 28, 29, 21, 4, 21, 5, 21, 6, 182, 1, 46, 54, 7, 21, 7, 2, 159, 0, 6, 21, 7, 172]
abbrev dktX6_does_0 : List UInt8 := dkwX6_does_0 ++ dktX6_does_1
theorem dksX6_does_0 : cX6_does.data.toList.drop 0 = dktX6_does_0 := by decide +kernel
theorem dksX6_does_1 : cX6_does.data.toList.drop 24 = dktX6_does_1 := dk_seg dksX6_does_0 24 rfl rfl
theorem dksX6_does_2 : cX6_does.data.toList.drop 30 = dktX6_does_2 := dk_seg dksX6_does_1 6 rfl rfl
theorem dksX6_does_3 : cX6_does.data.toList.drop 76 = dktX6_does_3 := dk_seg dksX6_does_2 46 rfl rfl
theorem dksX6_does_4 : cX6_does.data.toList.drop 98 = dktX6_does_4 := dk_seg dksX6_does_3 22 rfl rfl
theorem dksX6_does_5 : cX6_does.data.toList.drop 122 = dktX6_does_5 := dk_seg dksX6_does_4 24 rfl rfl
theorem dksX6_does_6 : cX6_does.data.toList.drop 146 = dktX6_does_6 := dk_seg dksX6_does_5 24 rfl rfl
theorem dksX6_does_7 : cX6_does.data.toList.drop 170 = dktX6_does_7 := dk_seg dksX6_does_6 24 rfl rfl
theorem dksX6_does_8 : cX6_does.data.toList.drop 194 = dktX6_does_8 := dk_seg dksX6_does_7 24 rfl rfl
theorem dksX6_does_9 : cX6_does.data.toList.drop 218 = dktX6_does_9 := dk_seg dksX6_does_8 24 rfl rfl
theorem dksX6_does_10 : cX6_does.data.toList.drop 240 = dktX6_does_10 := dk_seg dksX6_does_9 22 rfl rfl
theorem dksX6_does_11 : cX6_does.data.toList.drop 263 = dktX6_does_11 := dk_seg dksX6_does_10 23 rfl rfl
theorem dksX6_does_12 : cX6_does.data.toList.drop 286 = dktX6_does_12 := dk_seg dksX6_does_11 23 rfl rfl
theorem dX6_does_0 : decode cX6_does 0 = .ok (.aload_n 0, 1) := dk_42 (dk_at dksX6_does_0 0 rfl rfl)
theorem dX6_does_1 : decode cX6_does 1 = .ok (.aload_n 1, 1) := dk_43 (dk_at dksX6_does_0 1 rfl rfl)
theorem dX6_does_2 : decode cX6_does 2 = .ok (.iload_n 2, 1) := dk_28 (dk_at dksX6_does_0 2 rfl rfl)
theorem dX6_does_3 : decode cX6_does 3 = .ok (.iload_n 3, 1) := dk_29 (dk_at dksX6_does_0 3 rfl rfl)
theorem dX6_does_4 : decode cX6_does 4 = .ok (.iload 4, 2) := dk_21 4 (dk_at dksX6_does_0 4 rfl rfl)
theorem dX6_does_6 : decode cX6_does 6 = .ok (.iload 5, 2) := dk_21 5 (dk_at dksX6_does_0 6 rfl rfl)
theorem dX6_does_8 : decode cX6_does 8 = .ok (.iload 6, 2) := dk_21 6 (dk_at dksX6_does_0 8 rfl rfl)
theorem dX6_does_10 : decode cX6_does 10 = .ok (.invokevirtual 302, 3) := dk_182 1 46 (dk_at dksX6_does_0 10 rfl rfl)
theorem dX6_does_13 : decode cX6_does 13 = .ok (.istore 7, 2) := dk_54 7 (dk_at dksX6_does_0 13 rfl rfl)
theorem dX6_does_15 : decode cX6_does 15 = .ok (.iload 7, 2) := dk_21 7 (dk_at dksX6_does_0 15 rfl rfl)
theorem dX6_does_17 : decode cX6_does 17 = .ok (.iconst (-1), 1) := dk_2 (dk_at dksX6_does_0 17 rfl rfl)
theorem dX6_does_18 : decode cX6_does 18 = .ok (.if_icmp .eq 6, 3) := dk_159 0 6 (dk_at dksX6_does_0 18 rfl rfl)
theorem dX6_does_21 : decode cX6_does 21 = .ok (.iload 7, 2) := dk_21 7 (dk_at dksX6_does_0 21 rfl rfl)
theorem dX6_does_23 : decode cX6_does 23 = .ok (.ireturn, 1) := dk_172 (dk_at dksX6_does_0 23 rfl rfl)
theorem dX6_does_24 : decode cX6_does 24 = .ok (.aload_n 0, 1) := dk_42 (dk_at dksX6_does_1 0 rfl rfl)
theorem dX6_does_25 : decode cX6_does 25 = .ok (.iload_n 3, 1) := dk_29 (dk_at dksX6_does_1 1 rfl rfl)
theorem dX6_does_26 : decode cX6_does 26 = .ok (.putfield 306, 3) := dk_181 1 50 (dk_at dksX6_does_1 2 rfl rfl)
theorem dX6_does_29 : decode cX6_does 29 = .ok (.iload_n 2, 1) := dk_28 (dk_at dksX6_does_1 5 rfl rfl)
theorem dX6_does_30 : decode cX6_does 30 = .ok (.tableswitch 246 0 7 #[46, 66, 82, 118, 164, 172, 203, 227], 46) := by decide +kernel
theorem dX6_does_76 : decode cX6_does 76 = .ok (.aload_n 0, 1) := dk_42 (dk_at dksX6_does_3 0 rfl rfl)
theorem dX6_does_77 : decode cX6_does 77 = .ok (.aload_n 0, 1) := dk_42 (dk_at dksX6_does_3 1 rfl rfl)
theorem dX6_does_78 : decode cX6_does 78 = .ok (.aload_n 1, 1) := dk_43 (dk_at dksX6_does_3 2 rfl rfl)
theorem dX6_does_79 : decode cX6_does 79 = .ok (.iload_n 3, 1) := dk_29 (dk_at dksX6_does_3 3 rfl rfl)
theorem dX6_does_80 : decode cX6_does 80 = .ok (.invokevirtual 309, 3) := dk_182 1 53 (dk_at dksX6_does_3 4 rfl rfl)
theorem dX6_does_83 : decode cX6_does 83 = .ok (.putfield 313, 3) := dk_181 1 57 (dk_at dksX6_does_3 7 rfl rfl)
theorem dX6_does_86 : decode cX6_does 86 = .ok (.aload_n 0, 1) := dk_42 (dk_at dksX6_does_3 10 rfl rfl)
theorem dX6_does_87 : decode cX6_does 87 = .ok (.aload_n 1, 1) := dk_43 (dk_at dksX6_does_3 11 rfl rfl)
theorem dX6_does_88 : decode cX6_does 88 = .ok (.iload_n 3, 1) := dk_29 (dk_at dksX6_does_3 12 rfl rfl)
theorem dX6_does_89 : decode cX6_does 89 = .ok (.iload 4, 2) := dk_21 4 (dk_at dksX6_does_3 13 rfl rfl)
theorem dX6_does_91 : decode cX6_does 91 = .ok (.invokevirtual 177, 3) := dk_182 0 177 (dk_at dksX6_does_3 15 rfl rfl)
theorem dX6_does_94 : decode cX6_does 94 = .ok (.iconst (-1), 1) := dk_2 (dk_at dksX6_does_3 18 rfl rfl)
theorem dX6_does_95 : decode cX6_does 95 = .ok (.ireturn, 1) := dk_172 (dk_at dksX6_does_3 19 rfl rfl)
theorem dX6_does_96 : decode cX6_does 96 = .ok (.aload_n 1, 1) := dk_43 (dk_at dksX6_does_3 20 rfl rfl)
theorem dX6_does_97 : decode cX6_does 97 = .ok (.iload_n 3, 1) := dk_29 (dk_at dksX6_does_3 21 rfl rfl)
theorem dX6_does_98 : decode cX6_does 98 = .ok (.invokestatic 316, 3) := dk_184 1 60 (dk_at dksX6_does_4 0 rfl rfl)
theorem dX6_does_101 : decode cX6_does 101 = .ok (.aload_n 0, 1) := dk_42 (dk_at dksX6_does_4 3 rfl rfl)
theorem dX6_does_102 : decode cX6_does 102 = .ok (.aload_n 0, 1) := dk_42 (dk_at dksX6_does_4 4 rfl rfl)
theorem dX6_does_103 : decode cX6_does 103 = .ok (.aload_n 1, 1) := dk_43 (dk_at dksX6_does_4 5 rfl rfl)
theorem dX6_does_104 : decode cX6_does 104 = .ok (.invokevirtual 284, 3) := dk_182 1 28 (dk_at dksX6_does_4 6 rfl rfl)
theorem dX6_does_107 : decode cX6_does 107 = .ok (.putfield 313, 3) := dk_181 1 57 (dk_at dksX6_does_4 9 rfl rfl)
theorem dX6_does_110 : decode cX6_does 110 = .ok (.iconst (-1), 1) := dk_2 (dk_at dksX6_does_4 12 rfl rfl)
theorem dX6_does_111 : decode cX6_does 111 = .ok (.ireturn, 1) := dk_172 (dk_at dksX6_does_4 13 rfl rfl)
theorem dX6_does_112 : decode cX6_does 112 = .ok (.aload_n 1, 1) := dk_43 (dk_at dksX6_does_4 14 rfl rfl)
theorem dX6_does_113 : decode cX6_does 113 = .ok (.sipush 424, 3) := dk_17 1 168 (dk_at dksX6_does_4 15 rfl rfl)
theorem dX6_does_116 : decode cX6_does 116 = .ok (.dup2, 1) := dk_92 (dk_at dksX6_does_4 18 rfl rfl)
theorem dX6_does_117 : decode cX6_does 117 = .ok (.iaload, 1) := dk_46 (dk_at dksX6_does_4 19 rfl rfl)
theorem dX6_does_118 : decode cX6_does 118 = .ok (.iconst 1, 1) := dk_4 (dk_at dksX6_does_4 20 rfl rfl)
theorem dX6_does_119 : decode cX6_does 119 = .ok (.isub, 1) := dk_100 (dk_at dksX6_does_4 21 rfl rfl)
theorem dX6_does_120 : decode cX6_does 120 = .ok (.iastore, 1) := dk_79 (dk_at dksX6_does_4 22 rfl rfl)
theorem dX6_does_121 : decode cX6_does 121 = .ok (.aload_n 1, 1) := dk_43 (dk_at dksX6_does_4 23 rfl rfl)
theorem dX6_does_122 : decode cX6_does 122 = .ok (.sipush 384, 3) := dk_17 1 128 (dk_at dksX6_does_5 0 rfl rfl)
theorem dX6_does_125 : decode cX6_does 125 = .ok (.iload_n 3, 1) := dk_29 (dk_at dksX6_does_5 3 rfl rfl)
theorem dX6_does_126 : decode cX6_does 126 = .ok (.iadd, 1) := dk_96 (dk_at dksX6_does_5 4 rfl rfl)
theorem dX6_does_127 : decode cX6_does 127 = .ok (.iconst 2, 1) := dk_5 (dk_at dksX6_does_5 5 rfl rfl)
theorem dX6_does_128 : decode cX6_does 128 = .ok (.iastore, 1) := dk_79 (dk_at dksX6_does_5 6 rfl rfl)
theorem dX6_does_129 : decode cX6_does 129 = .ok (.aload_n 1, 1) := dk_43 (dk_at dksX6_does_5 7 rfl rfl)
theorem dX6_does_130 : decode cX6_does 130 = .ok (.sipush 392, 3) := dk_17 1 136 (dk_at dksX6_does_5 8 rfl rfl)
theorem dX6_does_133 : decode cX6_does 133 = .ok (.iload_n 3, 1) := dk_29 (dk_at dksX6_does_5 11 rfl rfl)
theorem dX6_does_134 : decode cX6_does 134 = .ok (.iadd, 1) := dk_96 (dk_at dksX6_does_5 12 rfl rfl)
theorem dX6_does_135 : decode cX6_does 135 = .ok (.iconst 0, 1) := dk_3 (dk_at dksX6_does_5 13 rfl rfl)
theorem dX6_does_136 : decode cX6_does 136 = .ok (.iastore, 1) := dk_79 (dk_at dksX6_does_5 14 rfl rfl)
theorem dX6_does_137 : decode cX6_does 137 = .ok (.aload_n 0, 1) := dk_42 (dk_at dksX6_does_5 15 rfl rfl)
theorem dX6_does_138 : decode cX6_does 138 = .ok (.aload_n 1, 1) := dk_43 (dk_at dksX6_does_5 16 rfl rfl)
theorem dX6_does_139 : decode cX6_does 139 = .ok (.sipush 424, 3) := dk_17 1 168 (dk_at dksX6_does_5 17 rfl rfl)
theorem dX6_does_142 : decode cX6_does 142 = .ok (.iaload, 1) := dk_46 (dk_at dksX6_does_5 20 rfl rfl)
theorem dX6_does_143 : decode cX6_does 143 = .ok (.putfield 313, 3) := dk_181 1 57 (dk_at dksX6_does_5 21 rfl rfl)
theorem dX6_does_146 : decode cX6_does 146 = .ok (.iconst (-1), 1) := dk_2 (dk_at dksX6_does_6 0 rfl rfl)
theorem dX6_does_147 : decode cX6_does 147 = .ok (.ireturn, 1) := dk_172 (dk_at dksX6_does_6 1 rfl rfl)
theorem dX6_does_148 : decode cX6_does 148 = .ok (.iconst 0, 1) := dk_3 (dk_at dksX6_does_6 2 rfl rfl)
theorem dX6_does_149 : decode cX6_does 149 = .ok (.istore 8, 2) := dk_54 8 (dk_at dksX6_does_6 3 rfl rfl)
theorem dX6_does_151 : decode cX6_does 151 = .ok (.iload 8, 2) := dk_21 8 (dk_at dksX6_does_6 5 rfl rfl)
theorem dX6_does_153 : decode cX6_does 153 = .ok (.iload 4, 2) := dk_21 4 (dk_at dksX6_does_6 7 rfl rfl)
theorem dX6_does_155 : decode cX6_does 155 = .ok (.if_icmp .ge 26, 3) := dk_162 0 26 (dk_at dksX6_does_6 9 rfl rfl)
theorem dX6_does_158 : decode cX6_does 158 = .ok (.aload_n 1, 1) := dk_43 (dk_at dksX6_does_6 12 rfl rfl)
theorem dX6_does_159 : decode cX6_does 159 = .ok (.sipush 384, 3) := dk_17 1 128 (dk_at dksX6_does_6 13 rfl rfl)
theorem dX6_does_162 : decode cX6_does 162 = .ok (.iload_n 3, 1) := dk_29 (dk_at dksX6_does_6 16 rfl rfl)
theorem dX6_does_163 : decode cX6_does 163 = .ok (.iadd, 1) := dk_96 (dk_at dksX6_does_6 17 rfl rfl)
theorem dX6_does_164 : decode cX6_does 164 = .ok (.iaload, 1) := dk_46 (dk_at dksX6_does_6 18 rfl rfl)
theorem dX6_does_165 : decode cX6_does 165 = .ok (.iconst 2, 1) := dk_5 (dk_at dksX6_does_6 19 rfl rfl)
theorem dX6_does_166 : decode cX6_does 166 = .ok (.if_icmp .ne 15, 3) := dk_160 0 15 (dk_at dksX6_does_6 20 rfl rfl)
theorem dX6_does_169 : decode cX6_does 169 = .ok (.aload_n 0, 1) := dk_42 (dk_at dksX6_does_6 23 rfl rfl)
theorem dX6_does_170 : decode cX6_does 170 = .ok (.aload_n 1, 1) := dk_43 (dk_at dksX6_does_7 0 rfl rfl)
theorem dX6_does_171 : decode cX6_does 171 = .ok (.iload_n 3, 1) := dk_29 (dk_at dksX6_does_7 1 rfl rfl)
theorem dX6_does_172 : decode cX6_does 172 = .ok (.invokevirtual 320, 3) := dk_182 1 64 (dk_at dksX6_does_7 2 rfl rfl)
theorem dX6_does_175 : decode cX6_does 175 = .ok (.iinc 8 1, 3) := dk_132 8 1 (dk_at dksX6_does_7 5 rfl rfl)
theorem dX6_does_178 : decode cX6_does 178 = .ok (.goto (-27), 3) := dk_167 255 229 (dk_at dksX6_does_7 8 rfl rfl)
theorem dX6_does_181 : decode cX6_does 181 = .ok (.aload_n 0, 1) := dk_42 (dk_at dksX6_does_7 11 rfl rfl)
theorem dX6_does_182 : decode cX6_does 182 = .ok (.aload_n 1, 1) := dk_43 (dk_at dksX6_does_7 12 rfl rfl)
theorem dX6_does_183 : decode cX6_does 183 = .ok (.sipush 392, 3) := dk_17 1 136 (dk_at dksX6_does_7 13 rfl rfl)
theorem dX6_does_186 : decode cX6_does 186 = .ok (.iload_n 3, 1) := dk_29 (dk_at dksX6_does_7 16 rfl rfl)
theorem dX6_does_187 : decode cX6_does 187 = .ok (.iadd, 1) := dk_96 (dk_at dksX6_does_7 17 rfl rfl)
theorem dX6_does_188 : decode cX6_does 188 = .ok (.iaload, 1) := dk_46 (dk_at dksX6_does_7 18 rfl rfl)
theorem dX6_does_189 : decode cX6_does 189 = .ok (.putfield 313, 3) := dk_181 1 57 (dk_at dksX6_does_7 19 rfl rfl)
theorem dX6_does_192 : decode cX6_does 192 = .ok (.iconst (-1), 1) := dk_2 (dk_at dksX6_does_7 22 rfl rfl)
theorem dX6_does_193 : decode cX6_does 193 = .ok (.ireturn, 1) := dk_172 (dk_at dksX6_does_7 23 rfl rfl)
theorem dX6_does_194 : decode cX6_does 194 = .ok (.aload_n 0, 1) := dk_42 (dk_at dksX6_does_8 0 rfl rfl)
theorem dX6_does_195 : decode cX6_does 195 = .ok (.aload_n 1, 1) := dk_43 (dk_at dksX6_does_8 1 rfl rfl)
theorem dX6_does_196 : decode cX6_does 196 = .ok (.iload_n 3, 1) := dk_29 (dk_at dksX6_does_8 2 rfl rfl)
theorem dX6_does_197 : decode cX6_does 197 = .ok (.invokevirtual 323, 3) := dk_182 1 67 (dk_at dksX6_does_8 3 rfl rfl)
theorem dX6_does_200 : decode cX6_does 200 = .ok (.iconst (-1), 1) := dk_2 (dk_at dksX6_does_8 6 rfl rfl)
theorem dX6_does_201 : decode cX6_does 201 = .ok (.ireturn, 1) := dk_172 (dk_at dksX6_does_8 7 rfl rfl)
theorem dX6_does_202 : decode cX6_does 202 = .ok (.aload_n 1, 1) := dk_43 (dk_at dksX6_does_8 8 rfl rfl)
theorem dX6_does_203 : decode cX6_does 203 = .ok (.iload_n 3, 1) := dk_29 (dk_at dksX6_does_8 9 rfl rfl)
theorem dX6_does_204 : decode cX6_does 204 = .ok (.iload 4, 2) := dk_21 4 (dk_at dksX6_does_8 10 rfl rfl)
theorem dX6_does_206 : decode cX6_does 206 = .ok (.iload 5, 2) := dk_21 5 (dk_at dksX6_does_8 12 rfl rfl)
theorem dX6_does_208 : decode cX6_does 208 = .ok (.invokestatic 206, 3) := dk_184 0 206 (dk_at dksX6_does_8 14 rfl rfl)
theorem dX6_does_211 : decode cX6_does 211 = .ok (.dup2, 1) := dk_92 (dk_at dksX6_does_8 17 rfl rfl)
theorem dX6_does_212 : decode cX6_does 212 = .ok (.iaload, 1) := dk_46 (dk_at dksX6_does_8 18 rfl rfl)
theorem dX6_does_213 : decode cX6_does 213 = .ok (.iload 6, 2) := dk_21 6 (dk_at dksX6_does_8 19 rfl rfl)
theorem dX6_does_215 : decode cX6_does 215 = .ok (.ixor, 1) := dk_130 (dk_at dksX6_does_8 21 rfl rfl)
theorem dX6_does_216 : decode cX6_does 216 = .ok (.iastore, 1) := dk_79 (dk_at dksX6_does_8 22 rfl rfl)
theorem dX6_does_217 : decode cX6_does 217 = .ok (.aload_n 0, 1) := dk_42 (dk_at dksX6_does_8 23 rfl rfl)
theorem dX6_does_218 : decode cX6_does 218 = .ok (.aload_n 1, 1) := dk_43 (dk_at dksX6_does_9 0 rfl rfl)
theorem dX6_does_219 : decode cX6_does 219 = .ok (.iload_n 3, 1) := dk_29 (dk_at dksX6_does_9 1 rfl rfl)
theorem dX6_does_220 : decode cX6_does 220 = .ok (.iload 4, 2) := dk_21 4 (dk_at dksX6_does_9 2 rfl rfl)
theorem dX6_does_222 : decode cX6_does 222 = .ok (.iload 5, 2) := dk_21 5 (dk_at dksX6_does_9 4 rfl rfl)
theorem dX6_does_224 : decode cX6_does 224 = .ok (.invokestatic 206, 3) := dk_184 0 206 (dk_at dksX6_does_9 6 rfl rfl)
theorem dX6_does_227 : decode cX6_does 227 = .ok (.iaload, 1) := dk_46 (dk_at dksX6_does_9 9 rfl rfl)
theorem dX6_does_228 : decode cX6_does 228 = .ok (.putfield 313, 3) := dk_181 1 57 (dk_at dksX6_does_9 10 rfl rfl)
theorem dX6_does_231 : decode cX6_does 231 = .ok (.iconst (-1), 1) := dk_2 (dk_at dksX6_does_9 13 rfl rfl)
theorem dX6_does_232 : decode cX6_does 232 = .ok (.ireturn, 1) := dk_172 (dk_at dksX6_does_9 14 rfl rfl)
theorem dX6_does_233 : decode cX6_does 233 = .ok (.aload_n 0, 1) := dk_42 (dk_at dksX6_does_9 15 rfl rfl)
theorem dX6_does_234 : decode cX6_does 234 = .ok (.aload_n 1, 1) := dk_43 (dk_at dksX6_does_9 16 rfl rfl)
theorem dX6_does_235 : decode cX6_does 235 = .ok (.iload_n 3, 1) := dk_29 (dk_at dksX6_does_9 17 rfl rfl)
theorem dX6_does_236 : decode cX6_does 236 = .ok (.iload 4, 2) := dk_21 4 (dk_at dksX6_does_9 18 rfl rfl)
theorem dX6_does_238 : decode cX6_does 238 = .ok (.iload 5, 2) := dk_21 5 (dk_at dksX6_does_9 20 rfl rfl)
theorem dX6_does_240 : decode cX6_does 240 = .ok (.invokevirtual 326, 3) := dk_182 1 70 (dk_at dksX6_does_10 0 rfl rfl)
theorem dX6_does_243 : decode cX6_does 243 = .ok (.aload_n 0, 1) := dk_42 (dk_at dksX6_does_10 3 rfl rfl)
theorem dX6_does_244 : decode cX6_does 244 = .ok (.aload_n 1, 1) := dk_43 (dk_at dksX6_does_10 4 rfl rfl)
theorem dX6_does_245 : decode cX6_does 245 = .ok (.sipush 425, 3) := dk_17 1 169 (dk_at dksX6_does_10 5 rfl rfl)
theorem dX6_does_248 : decode cX6_does 248 = .ok (.iaload, 1) := dk_46 (dk_at dksX6_does_10 8 rfl rfl)
theorem dX6_does_249 : decode cX6_does 249 = .ok (.invokestatic 330, 3) := dk_184 1 74 (dk_at dksX6_does_10 9 rfl rfl)
theorem dX6_does_252 : decode cX6_does 252 = .ok (.putfield 313, 3) := dk_181 1 57 (dk_at dksX6_does_10 12 rfl rfl)
theorem dX6_does_255 : decode cX6_does 255 = .ok (.iconst (-1), 1) := dk_2 (dk_at dksX6_does_10 15 rfl rfl)
theorem dX6_does_256 : decode cX6_does 256 = .ok (.ireturn, 1) := dk_172 (dk_at dksX6_does_10 16 rfl rfl)
theorem dX6_does_257 : decode cX6_does 257 = .ok (.aload_n 0, 1) := dk_42 (dk_at dksX6_does_10 17 rfl rfl)
theorem dX6_does_258 : decode cX6_does 258 = .ok (.aload_n 0, 1) := dk_42 (dk_at dksX6_does_10 18 rfl rfl)
theorem dX6_does_259 : decode cX6_does 259 = .ok (.aload_n 1, 1) := dk_43 (dk_at dksX6_does_10 19 rfl rfl)
theorem dX6_does_260 : decode cX6_does 260 = .ok (.invokevirtual 333, 3) := dk_182 1 77 (dk_at dksX6_does_10 20 rfl rfl)
theorem dX6_does_263 : decode cX6_does 263 = .ok (.putfield 313, 3) := dk_181 1 57 (dk_at dksX6_does_11 0 rfl rfl)
theorem dX6_does_266 : decode cX6_does 266 = .ok (.aload_n 0, 1) := dk_42 (dk_at dksX6_does_11 3 rfl rfl)
theorem dX6_does_267 : decode cX6_does 267 = .ok (.aload_n 0, 1) := dk_42 (dk_at dksX6_does_11 4 rfl rfl)
theorem dX6_does_268 : decode cX6_does 268 = .ok (.getfield 313, 3) := dk_180 1 57 (dk_at dksX6_does_11 5 rfl rfl)
theorem dX6_does_271 : decode cX6_does 271 = .ok (.putfield 306, 3) := dk_181 1 50 (dk_at dksX6_does_11 8 rfl rfl)
theorem dX6_does_274 : decode cX6_does 274 = .ok (.iconst (-1), 1) := dk_2 (dk_at dksX6_does_11 11 rfl rfl)
theorem dX6_does_275 : decode cX6_does 275 = .ok (.ireturn, 1) := dk_172 (dk_at dksX6_does_11 12 rfl rfl)
theorem dX6_does_276 : decode cX6_does 276 = .ok (.aload_n 0, 1) := dk_42 (dk_at dksX6_does_11 13 rfl rfl)
theorem dX6_does_277 : decode cX6_does 277 = .ok (.aload_n 0, 1) := dk_42 (dk_at dksX6_does_11 14 rfl rfl)
theorem dX6_does_278 : decode cX6_does 278 = .ok (.aload_n 1, 1) := dk_43 (dk_at dksX6_does_11 15 rfl rfl)
theorem dX6_does_279 : decode cX6_does 279 = .ok (.iload_n 3, 1) := dk_29 (dk_at dksX6_does_11 16 rfl rfl)
theorem dX6_does_280 : decode cX6_does 280 = .ok (.iload 4, 2) := dk_21 4 (dk_at dksX6_does_11 17 rfl rfl)
theorem dX6_does_282 : decode cX6_does 282 = .ok (.iload 5, 2) := dk_21 5 (dk_at dksX6_does_11 19 rfl rfl)
theorem dX6_does_284 : decode cX6_does 284 = .ok (.iload 6, 2) := dk_21 6 (dk_at dksX6_does_11 21 rfl rfl)
theorem dX6_does_286 : decode cX6_does 286 = .ok (.invokevirtual 336, 3) := dk_182 1 80 (dk_at dksX6_does_12 0 rfl rfl)
theorem dX6_does_289 : decode cX6_does 289 = .ok (.putfield 313, 3) := dk_181 1 57 (dk_at dksX6_does_12 3 rfl rfl)
theorem dX6_does_292 : decode cX6_does 292 = .ok (.iconst (-1), 1) := dk_2 (dk_at dksX6_does_12 6 rfl rfl)
theorem dX6_does_293 : decode cX6_does 293 = .ok (.ireturn, 1) := dk_172 (dk_at dksX6_does_12 7 rfl rfl)
abbrev cX6_stops : ByteArray := prog_12_method_68_code
def yX6_stops : MethodName := ⟨RX6, "stops", "([IIIIII)I"⟩
def dkwX6_stops_16 : List UInt8 := [184, 0, 156, 154, 0, 7, 4, 167, 0, 4, 2, 172]
abbrev dktX6_stops_16 : List UInt8 := dkwX6_stops_16 ++ []
def dkwX6_stops_15 : List UInt8 := [21, 4, 182, 1, 34, 154, 0, 7, 3, 167, 0, 24, 21, 5, 184, 0, 156, 153, 0, 11, 21, 6]
abbrev dktX6_stops_15 : List UInt8 := dkwX6_stops_15 ++ dktX6_stops_16
def dkwX6_stops_14 : List UInt8 := [2, 167, 0, 4, 5, 172, 42, 43, 182, 1, 43, 154, 0, 7, 5, 167, 0, 4, 2, 172, 42, 3, 29]
abbrev dktX6_stops_14 : List UInt8 := dkwX6_stops_14 ++ dktX6_stops_15
def dkwX6_stops_13 : List UInt8 := [133, 9, 20, 1, 38, 184, 0, 117, 154, 0, 7, 4, 167, 0, 17, 42, 43, 29, 182, 1, 40, 153, 0, 7]
abbrev dktX6_stops_13 : List UInt8 := dkwX6_stops_13 ++ dktX6_stops_14
def dkwX6_stops_12 : List UInt8 := [5, 172, 42, 29, 182, 1, 25, 154, 0, 7, 3, 167, 0, 42, 21, 4, 184, 0, 156, 153, 0, 16, 21, 5]
abbrev dktX6_stops_12 : List UInt8 := dkwX6_stops_12 ++ dktX6_stops_13
def dkwX6_stops_11 : List UInt8 := [184, 0, 117, 154, 0, 7, 4, 167, 0, 18, 43, 29, 21, 4, 184, 0, 202, 153, 0, 7, 2, 167, 0, 4]
abbrev dktX6_stops_11 : List UInt8 := dkwX6_stops_11 ++ dktX6_stops_12
def dkwX6_stops_10 : List UInt8 := [29, 21, 4, 21, 5, 182, 1, 34, 154, 0, 7, 3, 167, 0, 35, 21, 6, 133, 10, 20, 0, 169]
abbrev dktX6_stops_10 : List UInt8 := dkwX6_stops_10 ++ dktX6_stops_11
def dkwX6_stops_9 : List UInt8 := [167, 0, 4, 2, 172, 29, 133, 10, 20, 1, 32, 184, 0, 117, 153, 0, 7, 2, 167, 0, 4, 4, 172, 42]
abbrev dktX6_stops_9 : List UInt8 := dkwX6_stops_9 ++ dktX6_stops_10
def dkwX6_stops_8 : List UInt8 := [184, 0, 117, 154, 0, 7, 4, 167, 0, 19, 43, 17, 1, 128, 29, 96, 46, 5, 159, 0, 7, 5]
abbrev dktX6_stops_8 : List UInt8 := dkwX6_stops_8 ++ dktX6_stops_9
def dkwX6_stops_7 : List UInt8 := [167, 0, 4, 2, 172, 42, 29, 182, 1, 22, 154, 0, 7, 3, 167, 0, 36, 21, 4, 133, 10, 20, 1, 32]
abbrev dktX6_stops_7 : List UInt8 := dkwX6_stops_7 ++ dktX6_stops_8
def dkwX6_stops_6 : List UInt8 := [17, 1, 128, 29, 96, 46, 4, 159, 0, 7, 5, 167, 0, 16, 43, 17, 1, 168, 46, 154, 0, 7, 6]
abbrev dktX6_stops_6 : List UInt8 := dkwX6_stops_6 ++ dktX6_stops_7
def dkwX6_stops_5 : List UInt8 := [164, 0, 7, 6, 167, 0, 4, 2, 172, 42, 29, 182, 1, 22, 154, 0, 7, 3, 167, 0, 31, 43]
abbrev dktX6_stops_5 : List UInt8 := dkwX6_stops_5 ++ dktX6_stops_6
def dkwX6_stops_4 : List UInt8 := [160, 0, 7, 5, 167, 0, 27, 43, 17, 1, 128, 29, 96, 46, 154, 0, 16, 42, 43, 182, 1, 28, 4]
abbrev dktX6_stops_4 : List UInt8 := dkwX6_stops_4 ++ dktX6_stops_5
def dkwX6_stops_3 : List UInt8 := [4, 172, 42, 29, 182, 1, 22, 154, 0, 7, 3, 167, 0, 42, 43, 17, 1, 128, 29, 96, 46, 4]
abbrev dktX6_stops_3 : List UInt8 := dkwX6_stops_3 ++ dktX6_stops_4
def dkwX6_stops_2 : List UInt8 := [42, 29, 182, 1, 25, 154, 0, 7, 3, 167, 0, 16, 21, 4, 184, 0, 156, 153, 0, 7, 2, 167, 0, 4]
abbrev dktX6_stops_2 : List UInt8 := dkwX6_stops_2 ++ dktX6_stops_3
def dkwX6_stops_1 : List UInt8 := [170, 0, 0, 0, 1, 88, 0, 0, 0, 0, 0, 0, 0, 7, 0, 0, 0, 46, 0, 0, 0, 72, 0, 0, 0, 124, 0, 0, 0, 165, 0, 0, 0, 211, 0, 0, 0, 229, 0, 0, 1, 22, 0, 0, 1, 74]
abbrev dktX6_stops_1 : List UInt8 := dkwX6_stops_1 ++ dktX6_stops_2
def dkwX6_stops_0 : List UInt8 := [42, 180, 0, 153, 154, 0, 5, 3, 172, 28]
abbrev dktX6_stops_0 : List UInt8 := dkwX6_stops_0 ++ dktX6_stops_1
theorem dksX6_stops_0 : cX6_stops.data.toList.drop 0 = dktX6_stops_0 := by decide +kernel
theorem dksX6_stops_1 : cX6_stops.data.toList.drop 10 = dktX6_stops_1 := dk_seg dksX6_stops_0 10 rfl rfl
theorem dksX6_stops_2 : cX6_stops.data.toList.drop 56 = dktX6_stops_2 := dk_seg dksX6_stops_1 46 rfl rfl
theorem dksX6_stops_3 : cX6_stops.data.toList.drop 80 = dktX6_stops_3 := dk_seg dksX6_stops_2 24 rfl rfl
theorem dksX6_stops_4 : cX6_stops.data.toList.drop 102 = dktX6_stops_4 := dk_seg dksX6_stops_3 22 rfl rfl
theorem dksX6_stops_5 : cX6_stops.data.toList.drop 125 = dktX6_stops_5 := dk_seg dksX6_stops_4 23 rfl rfl
theorem dksX6_stops_6 : cX6_stops.data.toList.drop 147 = dktX6_stops_6 := dk_seg dksX6_stops_5 22 rfl rfl
theorem dksX6_stops_7 : cX6_stops.data.toList.drop 170 = dktX6_stops_7 := dk_seg dksX6_stops_6 23 rfl rfl
theorem dksX6_stops_8 : cX6_stops.data.toList.drop 194 = dktX6_stops_8 := dk_seg dksX6_stops_7 24 rfl rfl
theorem dksX6_stops_9 : cX6_stops.data.toList.drop 216 = dktX6_stops_9 := dk_seg dksX6_stops_8 22 rfl rfl
theorem dksX6_stops_10 : cX6_stops.data.toList.drop 240 = dktX6_stops_10 := dk_seg dksX6_stops_9 24 rfl rfl
theorem dksX6_stops_11 : cX6_stops.data.toList.drop 262 = dktX6_stops_11 := dk_seg dksX6_stops_10 22 rfl rfl
theorem dksX6_stops_12 : cX6_stops.data.toList.drop 286 = dktX6_stops_12 := dk_seg dksX6_stops_11 24 rfl rfl
theorem dksX6_stops_13 : cX6_stops.data.toList.drop 310 = dktX6_stops_13 := dk_seg dksX6_stops_12 24 rfl rfl
theorem dksX6_stops_14 : cX6_stops.data.toList.drop 334 = dktX6_stops_14 := dk_seg dksX6_stops_13 24 rfl rfl
theorem dksX6_stops_15 : cX6_stops.data.toList.drop 357 = dktX6_stops_15 := dk_seg dksX6_stops_14 23 rfl rfl
theorem dksX6_stops_16 : cX6_stops.data.toList.drop 379 = dktX6_stops_16 := dk_seg dksX6_stops_15 22 rfl rfl
theorem dX6_stops_0 : decode cX6_stops 0 = .ok (.aload_n 0, 1) := dk_42 (dk_at dksX6_stops_0 0 rfl rfl)
theorem dX6_stops_1 : decode cX6_stops 1 = .ok (.getfield 153, 3) := dk_180 0 153 (dk_at dksX6_stops_0 1 rfl rfl)
theorem dX6_stops_4 : decode cX6_stops 4 = .ok (.ifCond .ne 5, 3) := dk_154 0 5 (dk_at dksX6_stops_0 4 rfl rfl)
theorem dX6_stops_7 : decode cX6_stops 7 = .ok (.iconst 0, 1) := dk_3 (dk_at dksX6_stops_0 7 rfl rfl)
theorem dX6_stops_8 : decode cX6_stops 8 = .ok (.ireturn, 1) := dk_172 (dk_at dksX6_stops_0 8 rfl rfl)
theorem dX6_stops_9 : decode cX6_stops 9 = .ok (.iload_n 2, 1) := dk_28 (dk_at dksX6_stops_0 9 rfl rfl)
theorem dX6_stops_10 : decode cX6_stops 10 = .ok (.tableswitch 344 0 7 #[46, 72, 124, 165, 211, 229, 278, 330], 46) := by decide +kernel
theorem dX6_stops_56 : decode cX6_stops 56 = .ok (.aload_n 0, 1) := dk_42 (dk_at dksX6_stops_2 0 rfl rfl)
theorem dX6_stops_57 : decode cX6_stops 57 = .ok (.iload_n 3, 1) := dk_29 (dk_at dksX6_stops_2 1 rfl rfl)
theorem dX6_stops_58 : decode cX6_stops 58 = .ok (.invokevirtual 281, 3) := dk_182 1 25 (dk_at dksX6_stops_2 2 rfl rfl)
theorem dX6_stops_61 : decode cX6_stops 61 = .ok (.ifCond .ne 7, 3) := dk_154 0 7 (dk_at dksX6_stops_2 5 rfl rfl)
theorem dX6_stops_64 : decode cX6_stops 64 = .ok (.iconst 0, 1) := dk_3 (dk_at dksX6_stops_2 8 rfl rfl)
theorem dX6_stops_65 : decode cX6_stops 65 = .ok (.goto 16, 3) := dk_167 0 16 (dk_at dksX6_stops_2 9 rfl rfl)
theorem dX6_stops_68 : decode cX6_stops 68 = .ok (.iload 4, 2) := dk_21 4 (dk_at dksX6_stops_2 12 rfl rfl)
theorem dX6_stops_70 : decode cX6_stops 70 = .ok (.invokestatic 156, 3) := dk_184 0 156 (dk_at dksX6_stops_2 14 rfl rfl)
theorem dX6_stops_73 : decode cX6_stops 73 = .ok (.ifCond .eq 7, 3) := dk_153 0 7 (dk_at dksX6_stops_2 17 rfl rfl)
theorem dX6_stops_76 : decode cX6_stops 76 = .ok (.iconst (-1), 1) := dk_2 (dk_at dksX6_stops_2 20 rfl rfl)
theorem dX6_stops_77 : decode cX6_stops 77 = .ok (.goto 4, 3) := dk_167 0 4 (dk_at dksX6_stops_2 21 rfl rfl)
theorem dX6_stops_80 : decode cX6_stops 80 = .ok (.iconst 1, 1) := dk_4 (dk_at dksX6_stops_3 0 rfl rfl)
theorem dX6_stops_81 : decode cX6_stops 81 = .ok (.ireturn, 1) := dk_172 (dk_at dksX6_stops_3 1 rfl rfl)
theorem dX6_stops_82 : decode cX6_stops 82 = .ok (.aload_n 0, 1) := dk_42 (dk_at dksX6_stops_3 2 rfl rfl)
theorem dX6_stops_83 : decode cX6_stops 83 = .ok (.iload_n 3, 1) := dk_29 (dk_at dksX6_stops_3 3 rfl rfl)
theorem dX6_stops_84 : decode cX6_stops 84 = .ok (.invokevirtual 278, 3) := dk_182 1 22 (dk_at dksX6_stops_3 4 rfl rfl)
theorem dX6_stops_87 : decode cX6_stops 87 = .ok (.ifCond .ne 7, 3) := dk_154 0 7 (dk_at dksX6_stops_3 7 rfl rfl)
theorem dX6_stops_90 : decode cX6_stops 90 = .ok (.iconst 0, 1) := dk_3 (dk_at dksX6_stops_3 10 rfl rfl)
theorem dX6_stops_91 : decode cX6_stops 91 = .ok (.goto 42, 3) := dk_167 0 42 (dk_at dksX6_stops_3 11 rfl rfl)
theorem dX6_stops_94 : decode cX6_stops 94 = .ok (.aload_n 1, 1) := dk_43 (dk_at dksX6_stops_3 14 rfl rfl)
theorem dX6_stops_95 : decode cX6_stops 95 = .ok (.sipush 384, 3) := dk_17 1 128 (dk_at dksX6_stops_3 15 rfl rfl)
theorem dX6_stops_98 : decode cX6_stops 98 = .ok (.iload_n 3, 1) := dk_29 (dk_at dksX6_stops_3 18 rfl rfl)
theorem dX6_stops_99 : decode cX6_stops 99 = .ok (.iadd, 1) := dk_96 (dk_at dksX6_stops_3 19 rfl rfl)
theorem dX6_stops_100 : decode cX6_stops 100 = .ok (.iaload, 1) := dk_46 (dk_at dksX6_stops_3 20 rfl rfl)
theorem dX6_stops_101 : decode cX6_stops 101 = .ok (.iconst 1, 1) := dk_4 (dk_at dksX6_stops_3 21 rfl rfl)
theorem dX6_stops_102 : decode cX6_stops 102 = .ok (.if_icmp .ne 7, 3) := dk_160 0 7 (dk_at dksX6_stops_4 0 rfl rfl)
theorem dX6_stops_105 : decode cX6_stops 105 = .ok (.iconst 2, 1) := dk_5 (dk_at dksX6_stops_4 3 rfl rfl)
theorem dX6_stops_106 : decode cX6_stops 106 = .ok (.goto 27, 3) := dk_167 0 27 (dk_at dksX6_stops_4 4 rfl rfl)
theorem dX6_stops_109 : decode cX6_stops 109 = .ok (.aload_n 1, 1) := dk_43 (dk_at dksX6_stops_4 7 rfl rfl)
theorem dX6_stops_110 : decode cX6_stops 110 = .ok (.sipush 384, 3) := dk_17 1 128 (dk_at dksX6_stops_4 8 rfl rfl)
theorem dX6_stops_113 : decode cX6_stops 113 = .ok (.iload_n 3, 1) := dk_29 (dk_at dksX6_stops_4 11 rfl rfl)
theorem dX6_stops_114 : decode cX6_stops 114 = .ok (.iadd, 1) := dk_96 (dk_at dksX6_stops_4 12 rfl rfl)
theorem dX6_stops_115 : decode cX6_stops 115 = .ok (.iaload, 1) := dk_46 (dk_at dksX6_stops_4 13 rfl rfl)
theorem dX6_stops_116 : decode cX6_stops 116 = .ok (.ifCond .ne 16, 3) := dk_154 0 16 (dk_at dksX6_stops_4 14 rfl rfl)
theorem dX6_stops_119 : decode cX6_stops 119 = .ok (.aload_n 0, 1) := dk_42 (dk_at dksX6_stops_4 17 rfl rfl)
theorem dX6_stops_120 : decode cX6_stops 120 = .ok (.aload_n 1, 1) := dk_43 (dk_at dksX6_stops_4 18 rfl rfl)
theorem dX6_stops_121 : decode cX6_stops 121 = .ok (.invokevirtual 284, 3) := dk_182 1 28 (dk_at dksX6_stops_4 19 rfl rfl)
theorem dX6_stops_124 : decode cX6_stops 124 = .ok (.iconst 1, 1) := dk_4 (dk_at dksX6_stops_4 22 rfl rfl)
theorem dX6_stops_125 : decode cX6_stops 125 = .ok (.if_icmp .le 7, 3) := dk_164 0 7 (dk_at dksX6_stops_5 0 rfl rfl)
theorem dX6_stops_128 : decode cX6_stops 128 = .ok (.iconst 3, 1) := dk_6 (dk_at dksX6_stops_5 3 rfl rfl)
theorem dX6_stops_129 : decode cX6_stops 129 = .ok (.goto 4, 3) := dk_167 0 4 (dk_at dksX6_stops_5 4 rfl rfl)
theorem dX6_stops_132 : decode cX6_stops 132 = .ok (.iconst (-1), 1) := dk_2 (dk_at dksX6_stops_5 7 rfl rfl)
theorem dX6_stops_133 : decode cX6_stops 133 = .ok (.ireturn, 1) := dk_172 (dk_at dksX6_stops_5 8 rfl rfl)
theorem dX6_stops_134 : decode cX6_stops 134 = .ok (.aload_n 0, 1) := dk_42 (dk_at dksX6_stops_5 9 rfl rfl)
theorem dX6_stops_135 : decode cX6_stops 135 = .ok (.iload_n 3, 1) := dk_29 (dk_at dksX6_stops_5 10 rfl rfl)
theorem dX6_stops_136 : decode cX6_stops 136 = .ok (.invokevirtual 278, 3) := dk_182 1 22 (dk_at dksX6_stops_5 11 rfl rfl)
theorem dX6_stops_139 : decode cX6_stops 139 = .ok (.ifCond .ne 7, 3) := dk_154 0 7 (dk_at dksX6_stops_5 14 rfl rfl)
theorem dX6_stops_142 : decode cX6_stops 142 = .ok (.iconst 0, 1) := dk_3 (dk_at dksX6_stops_5 17 rfl rfl)
theorem dX6_stops_143 : decode cX6_stops 143 = .ok (.goto 31, 3) := dk_167 0 31 (dk_at dksX6_stops_5 18 rfl rfl)
theorem dX6_stops_146 : decode cX6_stops 146 = .ok (.aload_n 1, 1) := dk_43 (dk_at dksX6_stops_5 21 rfl rfl)
theorem dX6_stops_147 : decode cX6_stops 147 = .ok (.sipush 384, 3) := dk_17 1 128 (dk_at dksX6_stops_6 0 rfl rfl)
theorem dX6_stops_150 : decode cX6_stops 150 = .ok (.iload_n 3, 1) := dk_29 (dk_at dksX6_stops_6 3 rfl rfl)
theorem dX6_stops_151 : decode cX6_stops 151 = .ok (.iadd, 1) := dk_96 (dk_at dksX6_stops_6 4 rfl rfl)
theorem dX6_stops_152 : decode cX6_stops 152 = .ok (.iaload, 1) := dk_46 (dk_at dksX6_stops_6 5 rfl rfl)
theorem dX6_stops_153 : decode cX6_stops 153 = .ok (.iconst 1, 1) := dk_4 (dk_at dksX6_stops_6 6 rfl rfl)
theorem dX6_stops_154 : decode cX6_stops 154 = .ok (.if_icmp .eq 7, 3) := dk_159 0 7 (dk_at dksX6_stops_6 7 rfl rfl)
theorem dX6_stops_157 : decode cX6_stops 157 = .ok (.iconst 2, 1) := dk_5 (dk_at dksX6_stops_6 10 rfl rfl)
theorem dX6_stops_158 : decode cX6_stops 158 = .ok (.goto 16, 3) := dk_167 0 16 (dk_at dksX6_stops_6 11 rfl rfl)
theorem dX6_stops_161 : decode cX6_stops 161 = .ok (.aload_n 1, 1) := dk_43 (dk_at dksX6_stops_6 14 rfl rfl)
theorem dX6_stops_162 : decode cX6_stops 162 = .ok (.sipush 424, 3) := dk_17 1 168 (dk_at dksX6_stops_6 15 rfl rfl)
theorem dX6_stops_165 : decode cX6_stops 165 = .ok (.iaload, 1) := dk_46 (dk_at dksX6_stops_6 18 rfl rfl)
theorem dX6_stops_166 : decode cX6_stops 166 = .ok (.ifCond .ne 7, 3) := dk_154 0 7 (dk_at dksX6_stops_6 19 rfl rfl)
theorem dX6_stops_169 : decode cX6_stops 169 = .ok (.iconst 3, 1) := dk_6 (dk_at dksX6_stops_6 22 rfl rfl)
theorem dX6_stops_170 : decode cX6_stops 170 = .ok (.goto 4, 3) := dk_167 0 4 (dk_at dksX6_stops_7 0 rfl rfl)
theorem dX6_stops_173 : decode cX6_stops 173 = .ok (.iconst (-1), 1) := dk_2 (dk_at dksX6_stops_7 3 rfl rfl)
theorem dX6_stops_174 : decode cX6_stops 174 = .ok (.ireturn, 1) := dk_172 (dk_at dksX6_stops_7 4 rfl rfl)
theorem dX6_stops_175 : decode cX6_stops 175 = .ok (.aload_n 0, 1) := dk_42 (dk_at dksX6_stops_7 5 rfl rfl)
theorem dX6_stops_176 : decode cX6_stops 176 = .ok (.iload_n 3, 1) := dk_29 (dk_at dksX6_stops_7 6 rfl rfl)
theorem dX6_stops_177 : decode cX6_stops 177 = .ok (.invokevirtual 278, 3) := dk_182 1 22 (dk_at dksX6_stops_7 7 rfl rfl)
theorem dX6_stops_180 : decode cX6_stops 180 = .ok (.ifCond .ne 7, 3) := dk_154 0 7 (dk_at dksX6_stops_7 10 rfl rfl)
theorem dX6_stops_183 : decode cX6_stops 183 = .ok (.iconst 0, 1) := dk_3 (dk_at dksX6_stops_7 13 rfl rfl)
theorem dX6_stops_184 : decode cX6_stops 184 = .ok (.goto 36, 3) := dk_167 0 36 (dk_at dksX6_stops_7 14 rfl rfl)
theorem dX6_stops_187 : decode cX6_stops 187 = .ok (.iload 4, 2) := dk_21 4 (dk_at dksX6_stops_7 17 rfl rfl)
theorem dX6_stops_189 : decode cX6_stops 189 = .ok (.i2l, 1) := dk_133 (dk_at dksX6_stops_7 19 rfl rfl)
theorem dX6_stops_190 : decode cX6_stops 190 = .ok (.lconst 1, 1) := dk_10 (dk_at dksX6_stops_7 20 rfl rfl)
theorem dX6_stops_191 : decode cX6_stops 191 = .ok (.ldc2_w 288, 3) := dk_20 1 32 (dk_at dksX6_stops_7 21 rfl rfl)
theorem dX6_stops_194 : decode cX6_stops 194 = .ok (.invokestatic 117, 3) := dk_184 0 117 (dk_at dksX6_stops_8 0 rfl rfl)
theorem dX6_stops_197 : decode cX6_stops 197 = .ok (.ifCond .ne 7, 3) := dk_154 0 7 (dk_at dksX6_stops_8 3 rfl rfl)
theorem dX6_stops_200 : decode cX6_stops 200 = .ok (.iconst 1, 1) := dk_4 (dk_at dksX6_stops_8 6 rfl rfl)
theorem dX6_stops_201 : decode cX6_stops 201 = .ok (.goto 19, 3) := dk_167 0 19 (dk_at dksX6_stops_8 7 rfl rfl)
theorem dX6_stops_204 : decode cX6_stops 204 = .ok (.aload_n 1, 1) := dk_43 (dk_at dksX6_stops_8 10 rfl rfl)
theorem dX6_stops_205 : decode cX6_stops 205 = .ok (.sipush 384, 3) := dk_17 1 128 (dk_at dksX6_stops_8 11 rfl rfl)
theorem dX6_stops_208 : decode cX6_stops 208 = .ok (.iload_n 3, 1) := dk_29 (dk_at dksX6_stops_8 14 rfl rfl)
theorem dX6_stops_209 : decode cX6_stops 209 = .ok (.iadd, 1) := dk_96 (dk_at dksX6_stops_8 15 rfl rfl)
theorem dX6_stops_210 : decode cX6_stops 210 = .ok (.iaload, 1) := dk_46 (dk_at dksX6_stops_8 16 rfl rfl)
theorem dX6_stops_211 : decode cX6_stops 211 = .ok (.iconst 2, 1) := dk_5 (dk_at dksX6_stops_8 17 rfl rfl)
theorem dX6_stops_212 : decode cX6_stops 212 = .ok (.if_icmp .eq 7, 3) := dk_159 0 7 (dk_at dksX6_stops_8 18 rfl rfl)
theorem dX6_stops_215 : decode cX6_stops 215 = .ok (.iconst 2, 1) := dk_5 (dk_at dksX6_stops_8 21 rfl rfl)
theorem dX6_stops_216 : decode cX6_stops 216 = .ok (.goto 4, 3) := dk_167 0 4 (dk_at dksX6_stops_9 0 rfl rfl)
theorem dX6_stops_219 : decode cX6_stops 219 = .ok (.iconst (-1), 1) := dk_2 (dk_at dksX6_stops_9 3 rfl rfl)
theorem dX6_stops_220 : decode cX6_stops 220 = .ok (.ireturn, 1) := dk_172 (dk_at dksX6_stops_9 4 rfl rfl)
theorem dX6_stops_221 : decode cX6_stops 221 = .ok (.iload_n 3, 1) := dk_29 (dk_at dksX6_stops_9 5 rfl rfl)
theorem dX6_stops_222 : decode cX6_stops 222 = .ok (.i2l, 1) := dk_133 (dk_at dksX6_stops_9 6 rfl rfl)
theorem dX6_stops_223 : decode cX6_stops 223 = .ok (.lconst 1, 1) := dk_10 (dk_at dksX6_stops_9 7 rfl rfl)
theorem dX6_stops_224 : decode cX6_stops 224 = .ok (.ldc2_w 288, 3) := dk_20 1 32 (dk_at dksX6_stops_9 8 rfl rfl)
theorem dX6_stops_227 : decode cX6_stops 227 = .ok (.invokestatic 117, 3) := dk_184 0 117 (dk_at dksX6_stops_9 11 rfl rfl)
theorem dX6_stops_230 : decode cX6_stops 230 = .ok (.ifCond .eq 7, 3) := dk_153 0 7 (dk_at dksX6_stops_9 14 rfl rfl)
theorem dX6_stops_233 : decode cX6_stops 233 = .ok (.iconst (-1), 1) := dk_2 (dk_at dksX6_stops_9 17 rfl rfl)
theorem dX6_stops_234 : decode cX6_stops 234 = .ok (.goto 4, 3) := dk_167 0 4 (dk_at dksX6_stops_9 18 rfl rfl)
theorem dX6_stops_237 : decode cX6_stops 237 = .ok (.iconst 1, 1) := dk_4 (dk_at dksX6_stops_9 21 rfl rfl)
theorem dX6_stops_238 : decode cX6_stops 238 = .ok (.ireturn, 1) := dk_172 (dk_at dksX6_stops_9 22 rfl rfl)
theorem dX6_stops_239 : decode cX6_stops 239 = .ok (.aload_n 0, 1) := dk_42 (dk_at dksX6_stops_9 23 rfl rfl)
theorem dX6_stops_240 : decode cX6_stops 240 = .ok (.iload_n 3, 1) := dk_29 (dk_at dksX6_stops_10 0 rfl rfl)
theorem dX6_stops_241 : decode cX6_stops 241 = .ok (.iload 4, 2) := dk_21 4 (dk_at dksX6_stops_10 1 rfl rfl)
theorem dX6_stops_243 : decode cX6_stops 243 = .ok (.iload 5, 2) := dk_21 5 (dk_at dksX6_stops_10 3 rfl rfl)
theorem dX6_stops_245 : decode cX6_stops 245 = .ok (.invokevirtual 290, 3) := dk_182 1 34 (dk_at dksX6_stops_10 5 rfl rfl)
theorem dX6_stops_248 : decode cX6_stops 248 = .ok (.ifCond .ne 7, 3) := dk_154 0 7 (dk_at dksX6_stops_10 8 rfl rfl)
theorem dX6_stops_251 : decode cX6_stops 251 = .ok (.iconst 0, 1) := dk_3 (dk_at dksX6_stops_10 11 rfl rfl)
theorem dX6_stops_252 : decode cX6_stops 252 = .ok (.goto 35, 3) := dk_167 0 35 (dk_at dksX6_stops_10 12 rfl rfl)
theorem dX6_stops_255 : decode cX6_stops 255 = .ok (.iload 6, 2) := dk_21 6 (dk_at dksX6_stops_10 15 rfl rfl)
theorem dX6_stops_257 : decode cX6_stops 257 = .ok (.i2l, 1) := dk_133 (dk_at dksX6_stops_10 17 rfl rfl)
theorem dX6_stops_258 : decode cX6_stops 258 = .ok (.lconst 1, 1) := dk_10 (dk_at dksX6_stops_10 18 rfl rfl)
theorem dX6_stops_259 : decode cX6_stops 259 = .ok (.ldc2_w 169, 3) := dk_20 0 169 (dk_at dksX6_stops_10 19 rfl rfl)
theorem dX6_stops_262 : decode cX6_stops 262 = .ok (.invokestatic 117, 3) := dk_184 0 117 (dk_at dksX6_stops_11 0 rfl rfl)
theorem dX6_stops_265 : decode cX6_stops 265 = .ok (.ifCond .ne 7, 3) := dk_154 0 7 (dk_at dksX6_stops_11 3 rfl rfl)
theorem dX6_stops_268 : decode cX6_stops 268 = .ok (.iconst 1, 1) := dk_4 (dk_at dksX6_stops_11 6 rfl rfl)
theorem dX6_stops_269 : decode cX6_stops 269 = .ok (.goto 18, 3) := dk_167 0 18 (dk_at dksX6_stops_11 7 rfl rfl)
theorem dX6_stops_272 : decode cX6_stops 272 = .ok (.aload_n 1, 1) := dk_43 (dk_at dksX6_stops_11 10 rfl rfl)
theorem dX6_stops_273 : decode cX6_stops 273 = .ok (.iload_n 3, 1) := dk_29 (dk_at dksX6_stops_11 11 rfl rfl)
theorem dX6_stops_274 : decode cX6_stops 274 = .ok (.iload 4, 2) := dk_21 4 (dk_at dksX6_stops_11 12 rfl rfl)
theorem dX6_stops_276 : decode cX6_stops 276 = .ok (.invokestatic 202, 3) := dk_184 0 202 (dk_at dksX6_stops_11 14 rfl rfl)
theorem dX6_stops_279 : decode cX6_stops 279 = .ok (.ifCond .eq 7, 3) := dk_153 0 7 (dk_at dksX6_stops_11 17 rfl rfl)
theorem dX6_stops_282 : decode cX6_stops 282 = .ok (.iconst (-1), 1) := dk_2 (dk_at dksX6_stops_11 20 rfl rfl)
theorem dX6_stops_283 : decode cX6_stops 283 = .ok (.goto 4, 3) := dk_167 0 4 (dk_at dksX6_stops_11 21 rfl rfl)
theorem dX6_stops_286 : decode cX6_stops 286 = .ok (.iconst 2, 1) := dk_5 (dk_at dksX6_stops_12 0 rfl rfl)
theorem dX6_stops_287 : decode cX6_stops 287 = .ok (.ireturn, 1) := dk_172 (dk_at dksX6_stops_12 1 rfl rfl)
theorem dX6_stops_288 : decode cX6_stops 288 = .ok (.aload_n 0, 1) := dk_42 (dk_at dksX6_stops_12 2 rfl rfl)
theorem dX6_stops_289 : decode cX6_stops 289 = .ok (.iload_n 3, 1) := dk_29 (dk_at dksX6_stops_12 3 rfl rfl)
theorem dX6_stops_290 : decode cX6_stops 290 = .ok (.invokevirtual 281, 3) := dk_182 1 25 (dk_at dksX6_stops_12 4 rfl rfl)
theorem dX6_stops_293 : decode cX6_stops 293 = .ok (.ifCond .ne 7, 3) := dk_154 0 7 (dk_at dksX6_stops_12 7 rfl rfl)
theorem dX6_stops_296 : decode cX6_stops 296 = .ok (.iconst 0, 1) := dk_3 (dk_at dksX6_stops_12 10 rfl rfl)
theorem dX6_stops_297 : decode cX6_stops 297 = .ok (.goto 42, 3) := dk_167 0 42 (dk_at dksX6_stops_12 11 rfl rfl)
theorem dX6_stops_300 : decode cX6_stops 300 = .ok (.iload 4, 2) := dk_21 4 (dk_at dksX6_stops_12 14 rfl rfl)
theorem dX6_stops_302 : decode cX6_stops 302 = .ok (.invokestatic 156, 3) := dk_184 0 156 (dk_at dksX6_stops_12 16 rfl rfl)
theorem dX6_stops_305 : decode cX6_stops 305 = .ok (.ifCond .eq 16, 3) := dk_153 0 16 (dk_at dksX6_stops_12 19 rfl rfl)
theorem dX6_stops_308 : decode cX6_stops 308 = .ok (.iload 5, 2) := dk_21 5 (dk_at dksX6_stops_12 22 rfl rfl)
theorem dX6_stops_310 : decode cX6_stops 310 = .ok (.i2l, 1) := dk_133 (dk_at dksX6_stops_13 0 rfl rfl)
theorem dX6_stops_311 : decode cX6_stops 311 = .ok (.lconst 0, 1) := dk_9 (dk_at dksX6_stops_13 1 rfl rfl)
theorem dX6_stops_312 : decode cX6_stops 312 = .ok (.ldc2_w 294, 3) := dk_20 1 38 (dk_at dksX6_stops_13 2 rfl rfl)
theorem dX6_stops_315 : decode cX6_stops 315 = .ok (.invokestatic 117, 3) := dk_184 0 117 (dk_at dksX6_stops_13 5 rfl rfl)
theorem dX6_stops_318 : decode cX6_stops 318 = .ok (.ifCond .ne 7, 3) := dk_154 0 7 (dk_at dksX6_stops_13 8 rfl rfl)
theorem dX6_stops_321 : decode cX6_stops 321 = .ok (.iconst 1, 1) := dk_4 (dk_at dksX6_stops_13 11 rfl rfl)
theorem dX6_stops_322 : decode cX6_stops 322 = .ok (.goto 17, 3) := dk_167 0 17 (dk_at dksX6_stops_13 12 rfl rfl)
theorem dX6_stops_325 : decode cX6_stops 325 = .ok (.aload_n 0, 1) := dk_42 (dk_at dksX6_stops_13 15 rfl rfl)
theorem dX6_stops_326 : decode cX6_stops 326 = .ok (.aload_n 1, 1) := dk_43 (dk_at dksX6_stops_13 16 rfl rfl)
theorem dX6_stops_327 : decode cX6_stops 327 = .ok (.iload_n 3, 1) := dk_29 (dk_at dksX6_stops_13 17 rfl rfl)
theorem dX6_stops_328 : decode cX6_stops 328 = .ok (.invokevirtual 296, 3) := dk_182 1 40 (dk_at dksX6_stops_13 18 rfl rfl)
theorem dX6_stops_331 : decode cX6_stops 331 = .ok (.ifCond .eq 7, 3) := dk_153 0 7 (dk_at dksX6_stops_13 21 rfl rfl)
theorem dX6_stops_334 : decode cX6_stops 334 = .ok (.iconst (-1), 1) := dk_2 (dk_at dksX6_stops_14 0 rfl rfl)
theorem dX6_stops_335 : decode cX6_stops 335 = .ok (.goto 4, 3) := dk_167 0 4 (dk_at dksX6_stops_14 1 rfl rfl)
theorem dX6_stops_338 : decode cX6_stops 338 = .ok (.iconst 2, 1) := dk_5 (dk_at dksX6_stops_14 4 rfl rfl)
theorem dX6_stops_339 : decode cX6_stops 339 = .ok (.ireturn, 1) := dk_172 (dk_at dksX6_stops_14 5 rfl rfl)
theorem dX6_stops_340 : decode cX6_stops 340 = .ok (.aload_n 0, 1) := dk_42 (dk_at dksX6_stops_14 6 rfl rfl)
theorem dX6_stops_341 : decode cX6_stops 341 = .ok (.aload_n 1, 1) := dk_43 (dk_at dksX6_stops_14 7 rfl rfl)
theorem dX6_stops_342 : decode cX6_stops 342 = .ok (.invokevirtual 299, 3) := dk_182 1 43 (dk_at dksX6_stops_14 8 rfl rfl)
theorem dX6_stops_345 : decode cX6_stops 345 = .ok (.ifCond .ne 7, 3) := dk_154 0 7 (dk_at dksX6_stops_14 11 rfl rfl)
theorem dX6_stops_348 : decode cX6_stops 348 = .ok (.iconst 2, 1) := dk_5 (dk_at dksX6_stops_14 14 rfl rfl)
theorem dX6_stops_349 : decode cX6_stops 349 = .ok (.goto 4, 3) := dk_167 0 4 (dk_at dksX6_stops_14 15 rfl rfl)
theorem dX6_stops_352 : decode cX6_stops 352 = .ok (.iconst (-1), 1) := dk_2 (dk_at dksX6_stops_14 18 rfl rfl)
theorem dX6_stops_353 : decode cX6_stops 353 = .ok (.ireturn, 1) := dk_172 (dk_at dksX6_stops_14 19 rfl rfl)
theorem dX6_stops_354 : decode cX6_stops 354 = .ok (.aload_n 0, 1) := dk_42 (dk_at dksX6_stops_14 20 rfl rfl)
theorem dX6_stops_355 : decode cX6_stops 355 = .ok (.iconst 0, 1) := dk_3 (dk_at dksX6_stops_14 21 rfl rfl)
theorem dX6_stops_356 : decode cX6_stops 356 = .ok (.iload_n 3, 1) := dk_29 (dk_at dksX6_stops_14 22 rfl rfl)
theorem dX6_stops_357 : decode cX6_stops 357 = .ok (.iload 4, 2) := dk_21 4 (dk_at dksX6_stops_15 0 rfl rfl)
theorem dX6_stops_359 : decode cX6_stops 359 = .ok (.invokevirtual 290, 3) := dk_182 1 34 (dk_at dksX6_stops_15 2 rfl rfl)
theorem dX6_stops_362 : decode cX6_stops 362 = .ok (.ifCond .ne 7, 3) := dk_154 0 7 (dk_at dksX6_stops_15 5 rfl rfl)
theorem dX6_stops_365 : decode cX6_stops 365 = .ok (.iconst 0, 1) := dk_3 (dk_at dksX6_stops_15 8 rfl rfl)
theorem dX6_stops_366 : decode cX6_stops 366 = .ok (.goto 24, 3) := dk_167 0 24 (dk_at dksX6_stops_15 9 rfl rfl)
theorem dX6_stops_369 : decode cX6_stops 369 = .ok (.iload 5, 2) := dk_21 5 (dk_at dksX6_stops_15 12 rfl rfl)
theorem dX6_stops_371 : decode cX6_stops 371 = .ok (.invokestatic 156, 3) := dk_184 0 156 (dk_at dksX6_stops_15 14 rfl rfl)
theorem dX6_stops_374 : decode cX6_stops 374 = .ok (.ifCond .eq 11, 3) := dk_153 0 11 (dk_at dksX6_stops_15 17 rfl rfl)
theorem dX6_stops_377 : decode cX6_stops 377 = .ok (.iload 6, 2) := dk_21 6 (dk_at dksX6_stops_15 20 rfl rfl)
theorem dX6_stops_379 : decode cX6_stops 379 = .ok (.invokestatic 156, 3) := dk_184 0 156 (dk_at dksX6_stops_16 0 rfl rfl)
theorem dX6_stops_382 : decode cX6_stops 382 = .ok (.ifCond .ne 7, 3) := dk_154 0 7 (dk_at dksX6_stops_16 3 rfl rfl)
theorem dX6_stops_385 : decode cX6_stops 385 = .ok (.iconst 1, 1) := dk_4 (dk_at dksX6_stops_16 6 rfl rfl)
theorem dX6_stops_386 : decode cX6_stops 386 = .ok (.goto 4, 3) := dk_167 0 4 (dk_at dksX6_stops_16 7 rfl rfl)
theorem dX6_stops_389 : decode cX6_stops 389 = .ok (.iconst (-1), 1) := dk_2 (dk_at dksX6_stops_16 10 rfl rfl)
theorem dX6_stops_390 : decode cX6_stops 390 = .ok (.ireturn, 1) := dk_172 (dk_at dksX6_stops_16 11 rfl rfl)
abbrev cX6_isAddress : ByteArray := prog_12_method_61_code
def yX6_isAddress : MethodName := ⟨RX6, "isAddress", "(I)Z"⟩
def dkwX6_isAddress_0 : List UInt8 := [27, 155, 0, 15, 27, 42, 180, 0, 153, 162, 0, 7, 4, 167, 0, 4, 3, 172]
abbrev dktX6_isAddress_0 : List UInt8 := dkwX6_isAddress_0 ++ []
theorem dksX6_isAddress_0 : cX6_isAddress.data.toList.drop 0 = dktX6_isAddress_0 := by decide +kernel
theorem dX6_isAddress_0 : decode cX6_isAddress 0 = .ok (.iload_n 1, 1) := dk_27 (dk_at dksX6_isAddress_0 0 rfl rfl)
theorem dX6_isAddress_1 : decode cX6_isAddress 1 = .ok (.ifCond .lt 15, 3) := dk_155 0 15 (dk_at dksX6_isAddress_0 1 rfl rfl)
theorem dX6_isAddress_4 : decode cX6_isAddress 4 = .ok (.iload_n 1, 1) := dk_27 (dk_at dksX6_isAddress_0 4 rfl rfl)
theorem dX6_isAddress_5 : decode cX6_isAddress 5 = .ok (.aload_n 0, 1) := dk_42 (dk_at dksX6_isAddress_0 5 rfl rfl)
theorem dX6_isAddress_6 : decode cX6_isAddress 6 = .ok (.getfield 153, 3) := dk_180 0 153 (dk_at dksX6_isAddress_0 6 rfl rfl)
theorem dX6_isAddress_9 : decode cX6_isAddress 9 = .ok (.if_icmp .ge 7, 3) := dk_162 0 7 (dk_at dksX6_isAddress_0 9 rfl rfl)
theorem dX6_isAddress_12 : decode cX6_isAddress 12 = .ok (.iconst 1, 1) := dk_4 (dk_at dksX6_isAddress_0 12 rfl rfl)
theorem dX6_isAddress_13 : decode cX6_isAddress 13 = .ok (.goto 4, 3) := dk_167 0 4 (dk_at dksX6_isAddress_0 13 rfl rfl)
theorem dX6_isAddress_16 : decode cX6_isAddress 16 = .ok (.iconst 0, 1) := dk_3 (dk_at dksX6_isAddress_0 16 rfl rfl)
theorem dX6_isAddress_17 : decode cX6_isAddress 17 = .ok (.ireturn, 1) := dk_172 (dk_at dksX6_isAddress_0 17 rfl rfl)
abbrev cX6_isDisk : ByteArray := prog_12_method_62_code
def yX6_isDisk : MethodName := ⟨RX6, "isDisk", "(I)Z"⟩
def dkwX6_isDisk_1 : List UInt8 := [172]
abbrev dktX6_isDisk_1 : List UInt8 := dkwX6_isDisk_1 ++ []
def dkwX6_isDisk_0 : List UInt8 := [42, 180, 0, 153, 158, 0, 19, 27, 155, 0, 15, 27, 42, 180, 0, 171, 162, 0, 7, 4, 167, 0, 4, 3]
abbrev dktX6_isDisk_0 : List UInt8 := dkwX6_isDisk_0 ++ dktX6_isDisk_1
theorem dksX6_isDisk_0 : cX6_isDisk.data.toList.drop 0 = dktX6_isDisk_0 := by decide +kernel
theorem dksX6_isDisk_1 : cX6_isDisk.data.toList.drop 24 = dktX6_isDisk_1 := dk_seg dksX6_isDisk_0 24 rfl rfl
theorem dX6_isDisk_0 : decode cX6_isDisk 0 = .ok (.aload_n 0, 1) := dk_42 (dk_at dksX6_isDisk_0 0 rfl rfl)
theorem dX6_isDisk_1 : decode cX6_isDisk 1 = .ok (.getfield 153, 3) := dk_180 0 153 (dk_at dksX6_isDisk_0 1 rfl rfl)
theorem dX6_isDisk_4 : decode cX6_isDisk 4 = .ok (.ifCond .le 19, 3) := dk_158 0 19 (dk_at dksX6_isDisk_0 4 rfl rfl)
theorem dX6_isDisk_7 : decode cX6_isDisk 7 = .ok (.iload_n 1, 1) := dk_27 (dk_at dksX6_isDisk_0 7 rfl rfl)
theorem dX6_isDisk_8 : decode cX6_isDisk 8 = .ok (.ifCond .lt 15, 3) := dk_155 0 15 (dk_at dksX6_isDisk_0 8 rfl rfl)
theorem dX6_isDisk_11 : decode cX6_isDisk 11 = .ok (.iload_n 1, 1) := dk_27 (dk_at dksX6_isDisk_0 11 rfl rfl)
theorem dX6_isDisk_12 : decode cX6_isDisk 12 = .ok (.aload_n 0, 1) := dk_42 (dk_at dksX6_isDisk_0 12 rfl rfl)
theorem dX6_isDisk_13 : decode cX6_isDisk 13 = .ok (.getfield 171, 3) := dk_180 0 171 (dk_at dksX6_isDisk_0 13 rfl rfl)
theorem dX6_isDisk_16 : decode cX6_isDisk 16 = .ok (.if_icmp .ge 7, 3) := dk_162 0 7 (dk_at dksX6_isDisk_0 16 rfl rfl)
theorem dX6_isDisk_19 : decode cX6_isDisk 19 = .ok (.iconst 1, 1) := dk_4 (dk_at dksX6_isDisk_0 19 rfl rfl)
theorem dX6_isDisk_20 : decode cX6_isDisk 20 = .ok (.goto 4, 3) := dk_167 0 4 (dk_at dksX6_isDisk_0 20 rfl rfl)
theorem dX6_isDisk_23 : decode cX6_isDisk 23 = .ok (.iconst 0, 1) := dk_3 (dk_at dksX6_isDisk_0 23 rfl rfl)
theorem dX6_isDisk_24 : decode cX6_isDisk 24 = .ok (.ireturn, 1) := dk_172 (dk_at dksX6_isDisk_1 0 rfl rfl)
abbrev cX6_lost : ByteArray := prog_12_method_64_code
def yX6_lost : MethodName := ⟨RX6, "lost", "([I)I"⟩
def dkwX6_lost_1 : List UInt8 := [167, 0, 4, 4, 96, 61, 132, 3, 1, 167, 255, 227, 28, 172]
abbrev dktX6_lost_1 : List UInt8 := dkwX6_lost_1 ++ []
def dkwX6_lost_0 : List UInt8 := [3, 61, 3, 62, 29, 42, 180, 0, 171, 162, 0, 27, 28, 43, 17, 1, 128, 29, 96, 46, 154, 0, 7, 3]
abbrev dktX6_lost_0 : List UInt8 := dkwX6_lost_0 ++ dktX6_lost_1
theorem dksX6_lost_0 : cX6_lost.data.toList.drop 0 = dktX6_lost_0 := by decide +kernel
theorem dksX6_lost_1 : cX6_lost.data.toList.drop 24 = dktX6_lost_1 := dk_seg dksX6_lost_0 24 rfl rfl
theorem dX6_lost_0 : decode cX6_lost 0 = .ok (.iconst 0, 1) := dk_3 (dk_at dksX6_lost_0 0 rfl rfl)
theorem dX6_lost_1 : decode cX6_lost 1 = .ok (.istore_n 2, 1) := dk_61 (dk_at dksX6_lost_0 1 rfl rfl)
theorem dX6_lost_2 : decode cX6_lost 2 = .ok (.iconst 0, 1) := dk_3 (dk_at dksX6_lost_0 2 rfl rfl)
theorem dX6_lost_3 : decode cX6_lost 3 = .ok (.istore_n 3, 1) := dk_62 (dk_at dksX6_lost_0 3 rfl rfl)
theorem dX6_lost_4 : decode cX6_lost 4 = .ok (.iload_n 3, 1) := dk_29 (dk_at dksX6_lost_0 4 rfl rfl)
theorem dX6_lost_5 : decode cX6_lost 5 = .ok (.aload_n 0, 1) := dk_42 (dk_at dksX6_lost_0 5 rfl rfl)
theorem dX6_lost_6 : decode cX6_lost 6 = .ok (.getfield 171, 3) := dk_180 0 171 (dk_at dksX6_lost_0 6 rfl rfl)
theorem dX6_lost_9 : decode cX6_lost 9 = .ok (.if_icmp .ge 27, 3) := dk_162 0 27 (dk_at dksX6_lost_0 9 rfl rfl)
theorem dX6_lost_12 : decode cX6_lost 12 = .ok (.iload_n 2, 1) := dk_28 (dk_at dksX6_lost_0 12 rfl rfl)
theorem dX6_lost_13 : decode cX6_lost 13 = .ok (.aload_n 1, 1) := dk_43 (dk_at dksX6_lost_0 13 rfl rfl)
theorem dX6_lost_14 : decode cX6_lost 14 = .ok (.sipush 384, 3) := dk_17 1 128 (dk_at dksX6_lost_0 14 rfl rfl)
theorem dX6_lost_17 : decode cX6_lost 17 = .ok (.iload_n 3, 1) := dk_29 (dk_at dksX6_lost_0 17 rfl rfl)
theorem dX6_lost_18 : decode cX6_lost 18 = .ok (.iadd, 1) := dk_96 (dk_at dksX6_lost_0 18 rfl rfl)
theorem dX6_lost_19 : decode cX6_lost 19 = .ok (.iaload, 1) := dk_46 (dk_at dksX6_lost_0 19 rfl rfl)
theorem dX6_lost_20 : decode cX6_lost 20 = .ok (.ifCond .ne 7, 3) := dk_154 0 7 (dk_at dksX6_lost_0 20 rfl rfl)
theorem dX6_lost_23 : decode cX6_lost 23 = .ok (.iconst 0, 1) := dk_3 (dk_at dksX6_lost_0 23 rfl rfl)
theorem dX6_lost_24 : decode cX6_lost 24 = .ok (.goto 4, 3) := dk_167 0 4 (dk_at dksX6_lost_1 0 rfl rfl)
theorem dX6_lost_27 : decode cX6_lost 27 = .ok (.iconst 1, 1) := dk_4 (dk_at dksX6_lost_1 3 rfl rfl)
theorem dX6_lost_28 : decode cX6_lost 28 = .ok (.iadd, 1) := dk_96 (dk_at dksX6_lost_1 4 rfl rfl)
theorem dX6_lost_29 : decode cX6_lost 29 = .ok (.istore_n 2, 1) := dk_61 (dk_at dksX6_lost_1 5 rfl rfl)
theorem dX6_lost_30 : decode cX6_lost 30 = .ok (.iinc 3 1, 3) := dk_132 3 1 (dk_at dksX6_lost_1 6 rfl rfl)
theorem dX6_lost_33 : decode cX6_lost 33 = .ok (.goto (-29), 3) := dk_167 255 227 (dk_at dksX6_lost_1 9 rfl rfl)
theorem dX6_lost_36 : decode cX6_lost 36 = .ok (.iload_n 2, 1) := dk_28 (dk_at dksX6_lost_1 12 rfl rfl)
theorem dX6_lost_37 : decode cX6_lost 37 = .ok (.ireturn, 1) := dk_172 (dk_at dksX6_lost_1 13 rfl rfl)
abbrev cX6_isPlace : ByteArray := prog_12_method_63_code
def yX6_isPlace : MethodName := ⟨RX6, "isPlace", "(III)Z"⟩
def dkwX6_isPlace_2 : List UInt8 := [167, 0, 4, 3, 172]
abbrev dktX6_isPlace_2 : List UInt8 := dkwX6_isPlace_2 ++ []
def dkwX6_isPlace_1 : List UInt8 := [153, 0, 25, 29, 133, 9, 42, 180, 0, 17, 5, 46, 4, 100, 133, 184, 0, 117, 153, 0, 7, 4]
abbrev dktX6_isPlace_1 : List UInt8 := dkwX6_isPlace_1 ++ dktX6_isPlace_2
def dkwX6_isPlace_0 : List UInt8 := [42, 27, 182, 1, 22, 153, 0, 43, 28, 133, 9, 42, 180, 0, 17, 4, 46, 4, 100, 133, 184, 0, 117]
abbrev dktX6_isPlace_0 : List UInt8 := dkwX6_isPlace_0 ++ dktX6_isPlace_1
theorem dksX6_isPlace_0 : cX6_isPlace.data.toList.drop 0 = dktX6_isPlace_0 := by decide +kernel
theorem dksX6_isPlace_1 : cX6_isPlace.data.toList.drop 23 = dktX6_isPlace_1 := dk_seg dksX6_isPlace_0 23 rfl rfl
theorem dksX6_isPlace_2 : cX6_isPlace.data.toList.drop 45 = dktX6_isPlace_2 := dk_seg dksX6_isPlace_1 22 rfl rfl
theorem dX6_isPlace_0 : decode cX6_isPlace 0 = .ok (.aload_n 0, 1) := dk_42 (dk_at dksX6_isPlace_0 0 rfl rfl)
theorem dX6_isPlace_1 : decode cX6_isPlace 1 = .ok (.iload_n 1, 1) := dk_27 (dk_at dksX6_isPlace_0 1 rfl rfl)
theorem dX6_isPlace_2 : decode cX6_isPlace 2 = .ok (.invokevirtual 278, 3) := dk_182 1 22 (dk_at dksX6_isPlace_0 2 rfl rfl)
theorem dX6_isPlace_5 : decode cX6_isPlace 5 = .ok (.ifCond .eq 43, 3) := dk_153 0 43 (dk_at dksX6_isPlace_0 5 rfl rfl)
theorem dX6_isPlace_8 : decode cX6_isPlace 8 = .ok (.iload_n 2, 1) := dk_28 (dk_at dksX6_isPlace_0 8 rfl rfl)
theorem dX6_isPlace_9 : decode cX6_isPlace 9 = .ok (.i2l, 1) := dk_133 (dk_at dksX6_isPlace_0 9 rfl rfl)
theorem dX6_isPlace_10 : decode cX6_isPlace 10 = .ok (.lconst 0, 1) := dk_9 (dk_at dksX6_isPlace_0 10 rfl rfl)
theorem dX6_isPlace_11 : decode cX6_isPlace 11 = .ok (.aload_n 0, 1) := dk_42 (dk_at dksX6_isPlace_0 11 rfl rfl)
theorem dX6_isPlace_12 : decode cX6_isPlace 12 = .ok (.getfield 17, 3) := dk_180 0 17 (dk_at dksX6_isPlace_0 12 rfl rfl)
theorem dX6_isPlace_15 : decode cX6_isPlace 15 = .ok (.iconst 1, 1) := dk_4 (dk_at dksX6_isPlace_0 15 rfl rfl)
theorem dX6_isPlace_16 : decode cX6_isPlace 16 = .ok (.iaload, 1) := dk_46 (dk_at dksX6_isPlace_0 16 rfl rfl)
theorem dX6_isPlace_17 : decode cX6_isPlace 17 = .ok (.iconst 1, 1) := dk_4 (dk_at dksX6_isPlace_0 17 rfl rfl)
theorem dX6_isPlace_18 : decode cX6_isPlace 18 = .ok (.isub, 1) := dk_100 (dk_at dksX6_isPlace_0 18 rfl rfl)
theorem dX6_isPlace_19 : decode cX6_isPlace 19 = .ok (.i2l, 1) := dk_133 (dk_at dksX6_isPlace_0 19 rfl rfl)
theorem dX6_isPlace_20 : decode cX6_isPlace 20 = .ok (.invokestatic 117, 3) := dk_184 0 117 (dk_at dksX6_isPlace_0 20 rfl rfl)
theorem dX6_isPlace_23 : decode cX6_isPlace 23 = .ok (.ifCond .eq 25, 3) := dk_153 0 25 (dk_at dksX6_isPlace_1 0 rfl rfl)
theorem dX6_isPlace_26 : decode cX6_isPlace 26 = .ok (.iload_n 3, 1) := dk_29 (dk_at dksX6_isPlace_1 3 rfl rfl)
theorem dX6_isPlace_27 : decode cX6_isPlace 27 = .ok (.i2l, 1) := dk_133 (dk_at dksX6_isPlace_1 4 rfl rfl)
theorem dX6_isPlace_28 : decode cX6_isPlace 28 = .ok (.lconst 0, 1) := dk_9 (dk_at dksX6_isPlace_1 5 rfl rfl)
theorem dX6_isPlace_29 : decode cX6_isPlace 29 = .ok (.aload_n 0, 1) := dk_42 (dk_at dksX6_isPlace_1 6 rfl rfl)
theorem dX6_isPlace_30 : decode cX6_isPlace 30 = .ok (.getfield 17, 3) := dk_180 0 17 (dk_at dksX6_isPlace_1 7 rfl rfl)
theorem dX6_isPlace_33 : decode cX6_isPlace 33 = .ok (.iconst 2, 1) := dk_5 (dk_at dksX6_isPlace_1 10 rfl rfl)
theorem dX6_isPlace_34 : decode cX6_isPlace 34 = .ok (.iaload, 1) := dk_46 (dk_at dksX6_isPlace_1 11 rfl rfl)
theorem dX6_isPlace_35 : decode cX6_isPlace 35 = .ok (.iconst 1, 1) := dk_4 (dk_at dksX6_isPlace_1 12 rfl rfl)
theorem dX6_isPlace_36 : decode cX6_isPlace 36 = .ok (.isub, 1) := dk_100 (dk_at dksX6_isPlace_1 13 rfl rfl)
theorem dX6_isPlace_37 : decode cX6_isPlace 37 = .ok (.i2l, 1) := dk_133 (dk_at dksX6_isPlace_1 14 rfl rfl)
theorem dX6_isPlace_38 : decode cX6_isPlace 38 = .ok (.invokestatic 117, 3) := dk_184 0 117 (dk_at dksX6_isPlace_1 15 rfl rfl)
theorem dX6_isPlace_41 : decode cX6_isPlace 41 = .ok (.ifCond .eq 7, 3) := dk_153 0 7 (dk_at dksX6_isPlace_1 18 rfl rfl)
theorem dX6_isPlace_44 : decode cX6_isPlace 44 = .ok (.iconst 1, 1) := dk_4 (dk_at dksX6_isPlace_1 21 rfl rfl)
theorem dX6_isPlace_45 : decode cX6_isPlace 45 = .ok (.goto 4, 3) := dk_167 0 4 (dk_at dksX6_isPlace_2 0 rfl rfl)
theorem dX6_isPlace_48 : decode cX6_isPlace 48 = .ok (.iconst 0, 1) := dk_3 (dk_at dksX6_isPlace_2 3 rfl rfl)
theorem dX6_isPlace_49 : decode cX6_isPlace 49 = .ok (.ireturn, 1) := dk_172 (dk_at dksX6_isPlace_2 4 rfl rfl)
abbrev cX6_isSmall : ByteArray := prog_12_method_65_code
def yX6_isSmall : MethodName := ⟨RX6, "isSmall", "([II)Z"⟩
def dkwX6_isSmall_2 : List UInt8 := [180, 0, 17, 3, 46, 4, 96, 182, 0, 199, 29, 184, 0, 202, 153, 0, 7, 4, 167, 0, 4, 3, 172]
abbrev dktX6_isSmall_2 : List UInt8 := dkwX6_isSmall_2 ++ []
def dkwX6_isSmall_1 : List UInt8 := [43, 42, 29, 42, 180, 0, 17, 3, 46, 182, 0, 199, 29, 184, 0, 202, 153, 0, 28, 43, 42, 29, 42]
abbrev dktX6_isSmall_1 : List UInt8 := dkwX6_isSmall_1 ++ dktX6_isSmall_2
def dkwX6_isSmall_0 : List UInt8 := [42, 28, 182, 0, 217, 62, 43, 42, 29, 42, 28, 182, 0, 230, 182, 0, 199, 29, 184, 0, 202, 153, 0, 47]
abbrev dktX6_isSmall_0 : List UInt8 := dkwX6_isSmall_0 ++ dktX6_isSmall_1
theorem dksX6_isSmall_0 : cX6_isSmall.data.toList.drop 0 = dktX6_isSmall_0 := by decide +kernel
theorem dksX6_isSmall_1 : cX6_isSmall.data.toList.drop 24 = dktX6_isSmall_1 := dk_seg dksX6_isSmall_0 24 rfl rfl
theorem dksX6_isSmall_2 : cX6_isSmall.data.toList.drop 47 = dktX6_isSmall_2 := dk_seg dksX6_isSmall_1 23 rfl rfl
theorem dX6_isSmall_0 : decode cX6_isSmall 0 = .ok (.aload_n 0, 1) := dk_42 (dk_at dksX6_isSmall_0 0 rfl rfl)
theorem dX6_isSmall_1 : decode cX6_isSmall 1 = .ok (.iload_n 2, 1) := dk_28 (dk_at dksX6_isSmall_0 1 rfl rfl)
theorem dX6_isSmall_2 : decode cX6_isSmall 2 = .ok (.invokevirtual 217, 3) := dk_182 0 217 (dk_at dksX6_isSmall_0 2 rfl rfl)
theorem dX6_isSmall_5 : decode cX6_isSmall 5 = .ok (.istore_n 3, 1) := dk_62 (dk_at dksX6_isSmall_0 5 rfl rfl)
theorem dX6_isSmall_6 : decode cX6_isSmall 6 = .ok (.aload_n 1, 1) := dk_43 (dk_at dksX6_isSmall_0 6 rfl rfl)
theorem dX6_isSmall_7 : decode cX6_isSmall 7 = .ok (.aload_n 0, 1) := dk_42 (dk_at dksX6_isSmall_0 7 rfl rfl)
theorem dX6_isSmall_8 : decode cX6_isSmall 8 = .ok (.iload_n 3, 1) := dk_29 (dk_at dksX6_isSmall_0 8 rfl rfl)
theorem dX6_isSmall_9 : decode cX6_isSmall 9 = .ok (.aload_n 0, 1) := dk_42 (dk_at dksX6_isSmall_0 9 rfl rfl)
theorem dX6_isSmall_10 : decode cX6_isSmall 10 = .ok (.iload_n 2, 1) := dk_28 (dk_at dksX6_isSmall_0 10 rfl rfl)
theorem dX6_isSmall_11 : decode cX6_isSmall 11 = .ok (.invokevirtual 230, 3) := dk_182 0 230 (dk_at dksX6_isSmall_0 11 rfl rfl)
theorem dX6_isSmall_14 : decode cX6_isSmall 14 = .ok (.invokevirtual 199, 3) := dk_182 0 199 (dk_at dksX6_isSmall_0 14 rfl rfl)
theorem dX6_isSmall_17 : decode cX6_isSmall 17 = .ok (.iload_n 3, 1) := dk_29 (dk_at dksX6_isSmall_0 17 rfl rfl)
theorem dX6_isSmall_18 : decode cX6_isSmall 18 = .ok (.invokestatic 202, 3) := dk_184 0 202 (dk_at dksX6_isSmall_0 18 rfl rfl)
theorem dX6_isSmall_21 : decode cX6_isSmall 21 = .ok (.ifCond .eq 47, 3) := dk_153 0 47 (dk_at dksX6_isSmall_0 21 rfl rfl)
theorem dX6_isSmall_24 : decode cX6_isSmall 24 = .ok (.aload_n 1, 1) := dk_43 (dk_at dksX6_isSmall_1 0 rfl rfl)
theorem dX6_isSmall_25 : decode cX6_isSmall 25 = .ok (.aload_n 0, 1) := dk_42 (dk_at dksX6_isSmall_1 1 rfl rfl)
theorem dX6_isSmall_26 : decode cX6_isSmall 26 = .ok (.iload_n 3, 1) := dk_29 (dk_at dksX6_isSmall_1 2 rfl rfl)
theorem dX6_isSmall_27 : decode cX6_isSmall 27 = .ok (.aload_n 0, 1) := dk_42 (dk_at dksX6_isSmall_1 3 rfl rfl)
theorem dX6_isSmall_28 : decode cX6_isSmall 28 = .ok (.getfield 17, 3) := dk_180 0 17 (dk_at dksX6_isSmall_1 4 rfl rfl)
theorem dX6_isSmall_31 : decode cX6_isSmall 31 = .ok (.iconst 0, 1) := dk_3 (dk_at dksX6_isSmall_1 7 rfl rfl)
theorem dX6_isSmall_32 : decode cX6_isSmall 32 = .ok (.iaload, 1) := dk_46 (dk_at dksX6_isSmall_1 8 rfl rfl)
theorem dX6_isSmall_33 : decode cX6_isSmall 33 = .ok (.invokevirtual 199, 3) := dk_182 0 199 (dk_at dksX6_isSmall_1 9 rfl rfl)
theorem dX6_isSmall_36 : decode cX6_isSmall 36 = .ok (.iload_n 3, 1) := dk_29 (dk_at dksX6_isSmall_1 12 rfl rfl)
theorem dX6_isSmall_37 : decode cX6_isSmall 37 = .ok (.invokestatic 202, 3) := dk_184 0 202 (dk_at dksX6_isSmall_1 13 rfl rfl)
theorem dX6_isSmall_40 : decode cX6_isSmall 40 = .ok (.ifCond .eq 28, 3) := dk_153 0 28 (dk_at dksX6_isSmall_1 16 rfl rfl)
theorem dX6_isSmall_43 : decode cX6_isSmall 43 = .ok (.aload_n 1, 1) := dk_43 (dk_at dksX6_isSmall_1 19 rfl rfl)
theorem dX6_isSmall_44 : decode cX6_isSmall 44 = .ok (.aload_n 0, 1) := dk_42 (dk_at dksX6_isSmall_1 20 rfl rfl)
theorem dX6_isSmall_45 : decode cX6_isSmall 45 = .ok (.iload_n 3, 1) := dk_29 (dk_at dksX6_isSmall_1 21 rfl rfl)
theorem dX6_isSmall_46 : decode cX6_isSmall 46 = .ok (.aload_n 0, 1) := dk_42 (dk_at dksX6_isSmall_1 22 rfl rfl)
theorem dX6_isSmall_47 : decode cX6_isSmall 47 = .ok (.getfield 17, 3) := dk_180 0 17 (dk_at dksX6_isSmall_2 0 rfl rfl)
theorem dX6_isSmall_50 : decode cX6_isSmall 50 = .ok (.iconst 0, 1) := dk_3 (dk_at dksX6_isSmall_2 3 rfl rfl)
theorem dX6_isSmall_51 : decode cX6_isSmall 51 = .ok (.iaload, 1) := dk_46 (dk_at dksX6_isSmall_2 4 rfl rfl)
theorem dX6_isSmall_52 : decode cX6_isSmall 52 = .ok (.iconst 1, 1) := dk_4 (dk_at dksX6_isSmall_2 5 rfl rfl)
theorem dX6_isSmall_53 : decode cX6_isSmall 53 = .ok (.iadd, 1) := dk_96 (dk_at dksX6_isSmall_2 6 rfl rfl)
theorem dX6_isSmall_54 : decode cX6_isSmall 54 = .ok (.invokevirtual 199, 3) := dk_182 0 199 (dk_at dksX6_isSmall_2 7 rfl rfl)
theorem dX6_isSmall_57 : decode cX6_isSmall 57 = .ok (.iload_n 3, 1) := dk_29 (dk_at dksX6_isSmall_2 10 rfl rfl)
theorem dX6_isSmall_58 : decode cX6_isSmall 58 = .ok (.invokestatic 202, 3) := dk_184 0 202 (dk_at dksX6_isSmall_2 11 rfl rfl)
theorem dX6_isSmall_61 : decode cX6_isSmall 61 = .ok (.ifCond .eq 7, 3) := dk_153 0 7 (dk_at dksX6_isSmall_2 14 rfl rfl)
theorem dX6_isSmall_64 : decode cX6_isSmall 64 = .ok (.iconst 1, 1) := dk_4 (dk_at dksX6_isSmall_2 17 rfl rfl)
theorem dX6_isSmall_65 : decode cX6_isSmall 65 = .ok (.goto 4, 3) := dk_167 0 4 (dk_at dksX6_isSmall_2 18 rfl rfl)
theorem dX6_isSmall_68 : decode cX6_isSmall 68 = .ok (.iconst 0, 1) := dk_3 (dk_at dksX6_isSmall_2 21 rfl rfl)
theorem dX6_isSmall_69 : decode cX6_isSmall 69 = .ok (.ireturn, 1) := dk_172 (dk_at dksX6_isSmall_2 22 rfl rfl)
abbrev cX6_toClean : ByteArray := prog_12_method_66_code
def yX6_toClean : MethodName := ⟨RX6, "toClean", "([I)I"⟩
def dkwX6_toClean_2 : List UInt8 := [172]
abbrev dktX6_toClean_2 : List UInt8 := dkwX6_toClean_2 ++ []
def dkwX6_toClean_1 : List UInt8 := [43, 29, 182, 1, 11, 153, 0, 9, 4, 29, 120, 167, 0, 4, 3, 128, 61, 132, 3, 1, 167, 255, 216, 28]
abbrev dktX6_toClean_1 : List UInt8 := dkwX6_toClean_1 ++ dktX6_toClean_2
def dkwX6_toClean_0 : List UInt8 := [3, 61, 3, 62, 29, 42, 180, 0, 17, 4, 46, 162, 0, 36, 28, 43, 29, 184, 1, 15, 153, 0, 18, 42]
abbrev dktX6_toClean_0 : List UInt8 := dkwX6_toClean_0 ++ dktX6_toClean_1
theorem dksX6_toClean_0 : cX6_toClean.data.toList.drop 0 = dktX6_toClean_0 := by decide +kernel
theorem dksX6_toClean_1 : cX6_toClean.data.toList.drop 24 = dktX6_toClean_1 := dk_seg dksX6_toClean_0 24 rfl rfl
theorem dksX6_toClean_2 : cX6_toClean.data.toList.drop 48 = dktX6_toClean_2 := dk_seg dksX6_toClean_1 24 rfl rfl
theorem dX6_toClean_0 : decode cX6_toClean 0 = .ok (.iconst 0, 1) := dk_3 (dk_at dksX6_toClean_0 0 rfl rfl)
theorem dX6_toClean_1 : decode cX6_toClean 1 = .ok (.istore_n 2, 1) := dk_61 (dk_at dksX6_toClean_0 1 rfl rfl)
theorem dX6_toClean_2 : decode cX6_toClean 2 = .ok (.iconst 0, 1) := dk_3 (dk_at dksX6_toClean_0 2 rfl rfl)
theorem dX6_toClean_3 : decode cX6_toClean 3 = .ok (.istore_n 3, 1) := dk_62 (dk_at dksX6_toClean_0 3 rfl rfl)
theorem dX6_toClean_4 : decode cX6_toClean 4 = .ok (.iload_n 3, 1) := dk_29 (dk_at dksX6_toClean_0 4 rfl rfl)
theorem dX6_toClean_5 : decode cX6_toClean 5 = .ok (.aload_n 0, 1) := dk_42 (dk_at dksX6_toClean_0 5 rfl rfl)
theorem dX6_toClean_6 : decode cX6_toClean 6 = .ok (.getfield 17, 3) := dk_180 0 17 (dk_at dksX6_toClean_0 6 rfl rfl)
theorem dX6_toClean_9 : decode cX6_toClean 9 = .ok (.iconst 1, 1) := dk_4 (dk_at dksX6_toClean_0 9 rfl rfl)
theorem dX6_toClean_10 : decode cX6_toClean 10 = .ok (.iaload, 1) := dk_46 (dk_at dksX6_toClean_0 10 rfl rfl)
theorem dX6_toClean_11 : decode cX6_toClean 11 = .ok (.if_icmp .ge 36, 3) := dk_162 0 36 (dk_at dksX6_toClean_0 11 rfl rfl)
theorem dX6_toClean_14 : decode cX6_toClean 14 = .ok (.iload_n 2, 1) := dk_28 (dk_at dksX6_toClean_0 14 rfl rfl)
theorem dX6_toClean_15 : decode cX6_toClean 15 = .ok (.aload_n 1, 1) := dk_43 (dk_at dksX6_toClean_0 15 rfl rfl)
theorem dX6_toClean_16 : decode cX6_toClean 16 = .ok (.iload_n 3, 1) := dk_29 (dk_at dksX6_toClean_0 16 rfl rfl)
theorem dX6_toClean_17 : decode cX6_toClean 17 = .ok (.invokestatic 271, 3) := dk_184 1 15 (dk_at dksX6_toClean_0 17 rfl rfl)
theorem dX6_toClean_20 : decode cX6_toClean 20 = .ok (.ifCond .eq 18, 3) := dk_153 0 18 (dk_at dksX6_toClean_0 20 rfl rfl)
theorem dX6_toClean_23 : decode cX6_toClean 23 = .ok (.aload_n 0, 1) := dk_42 (dk_at dksX6_toClean_0 23 rfl rfl)
theorem dX6_toClean_24 : decode cX6_toClean 24 = .ok (.aload_n 1, 1) := dk_43 (dk_at dksX6_toClean_1 0 rfl rfl)
theorem dX6_toClean_25 : decode cX6_toClean 25 = .ok (.iload_n 3, 1) := dk_29 (dk_at dksX6_toClean_1 1 rfl rfl)
theorem dX6_toClean_26 : decode cX6_toClean 26 = .ok (.invokevirtual 267, 3) := dk_182 1 11 (dk_at dksX6_toClean_1 2 rfl rfl)
theorem dX6_toClean_29 : decode cX6_toClean 29 = .ok (.ifCond .eq 9, 3) := dk_153 0 9 (dk_at dksX6_toClean_1 5 rfl rfl)
theorem dX6_toClean_32 : decode cX6_toClean 32 = .ok (.iconst 1, 1) := dk_4 (dk_at dksX6_toClean_1 8 rfl rfl)
theorem dX6_toClean_33 : decode cX6_toClean 33 = .ok (.iload_n 3, 1) := dk_29 (dk_at dksX6_toClean_1 9 rfl rfl)
theorem dX6_toClean_34 : decode cX6_toClean 34 = .ok (.ishl, 1) := dk_120 (dk_at dksX6_toClean_1 10 rfl rfl)
theorem dX6_toClean_35 : decode cX6_toClean 35 = .ok (.goto 4, 3) := dk_167 0 4 (dk_at dksX6_toClean_1 11 rfl rfl)
theorem dX6_toClean_38 : decode cX6_toClean 38 = .ok (.iconst 0, 1) := dk_3 (dk_at dksX6_toClean_1 14 rfl rfl)
theorem dX6_toClean_39 : decode cX6_toClean 39 = .ok (.ior, 1) := dk_128 (dk_at dksX6_toClean_1 15 rfl rfl)
theorem dX6_toClean_40 : decode cX6_toClean 40 = .ok (.istore_n 2, 1) := dk_61 (dk_at dksX6_toClean_1 16 rfl rfl)
theorem dX6_toClean_41 : decode cX6_toClean 41 = .ok (.iinc 3 1, 3) := dk_132 3 1 (dk_at dksX6_toClean_1 17 rfl rfl)
theorem dX6_toClean_44 : decode cX6_toClean 44 = .ok (.goto (-40), 3) := dk_167 255 216 (dk_at dksX6_toClean_1 20 rfl rfl)
theorem dX6_toClean_47 : decode cX6_toClean 47 = .ok (.iload_n 2, 1) := dk_28 (dk_at dksX6_toClean_1 23 rfl rfl)
theorem dX6_toClean_48 : decode cX6_toClean 48 = .ok (.ireturn, 1) := dk_172 (dk_at dksX6_toClean_2 0 rfl rfl)
abbrev cX6_isDirty : ByteArray := prog_12_method_58_code
def yX6_isDirty : MethodName := ⟨RX6, "isDirty", "([II)Z"⟩
def dkwX6_isDirty_0 : List UInt8 := [42, 17, 1, 169, 46, 27, 122, 4, 126, 4, 160, 0, 7, 4, 167, 0, 4, 3, 172]
abbrev dktX6_isDirty_0 : List UInt8 := dkwX6_isDirty_0 ++ []
theorem dksX6_isDirty_0 : cX6_isDirty.data.toList.drop 0 = dktX6_isDirty_0 := by decide +kernel
theorem dX6_isDirty_0 : decode cX6_isDirty 0 = .ok (.aload_n 0, 1) := dk_42 (dk_at dksX6_isDirty_0 0 rfl rfl)
theorem dX6_isDirty_1 : decode cX6_isDirty 1 = .ok (.sipush 425, 3) := dk_17 1 169 (dk_at dksX6_isDirty_0 1 rfl rfl)
theorem dX6_isDirty_4 : decode cX6_isDirty 4 = .ok (.iaload, 1) := dk_46 (dk_at dksX6_isDirty_0 4 rfl rfl)
theorem dX6_isDirty_5 : decode cX6_isDirty 5 = .ok (.iload_n 1, 1) := dk_27 (dk_at dksX6_isDirty_0 5 rfl rfl)
theorem dX6_isDirty_6 : decode cX6_isDirty 6 = .ok (.ishr, 1) := dk_122 (dk_at dksX6_isDirty_0 6 rfl rfl)
theorem dX6_isDirty_7 : decode cX6_isDirty 7 = .ok (.iconst 1, 1) := dk_4 (dk_at dksX6_isDirty_0 7 rfl rfl)
theorem dX6_isDirty_8 : decode cX6_isDirty 8 = .ok (.iand, 1) := dk_126 (dk_at dksX6_isDirty_0 8 rfl rfl)
theorem dX6_isDirty_9 : decode cX6_isDirty 9 = .ok (.iconst 1, 1) := dk_4 (dk_at dksX6_isDirty_0 9 rfl rfl)
theorem dX6_isDirty_10 : decode cX6_isDirty 10 = .ok (.if_icmp .ne 7, 3) := dk_160 0 7 (dk_at dksX6_isDirty_0 10 rfl rfl)
theorem dX6_isDirty_13 : decode cX6_isDirty 13 = .ok (.iconst 1, 1) := dk_4 (dk_at dksX6_isDirty_0 13 rfl rfl)
theorem dX6_isDirty_14 : decode cX6_isDirty 14 = .ok (.goto 4, 3) := dk_167 0 4 (dk_at dksX6_isDirty_0 14 rfl rfl)
theorem dX6_isDirty_17 : decode cX6_isDirty 17 = .ok (.iconst 0, 1) := dk_3 (dk_at dksX6_isDirty_0 17 rfl rfl)
theorem dX6_isDirty_18 : decode cX6_isDirty 18 = .ok (.ireturn, 1) := dk_172 (dk_at dksX6_isDirty_0 18 rfl rfl)
abbrev cX6_isAll : ByteArray := prog_12_method_57_code
def yX6_isAll : MethodName := ⟨RX6, "isAll", "([II)Z"⟩
def dkwX6_isAll_1 : List UInt8 := [167, 255, 234, 4, 172]
abbrev dktX6_isAll_1 : List UInt8 := dkwX6_isAll_1 ++ []
def dkwX6_isAll_0 : List UInt8 := [3, 62, 29, 42, 180, 0, 171, 162, 0, 20, 43, 29, 28, 184, 0, 202, 154, 0, 5, 3, 172, 132, 3, 1]
abbrev dktX6_isAll_0 : List UInt8 := dkwX6_isAll_0 ++ dktX6_isAll_1
theorem dksX6_isAll_0 : cX6_isAll.data.toList.drop 0 = dktX6_isAll_0 := by decide +kernel
theorem dksX6_isAll_1 : cX6_isAll.data.toList.drop 24 = dktX6_isAll_1 := dk_seg dksX6_isAll_0 24 rfl rfl
theorem dX6_isAll_0 : decode cX6_isAll 0 = .ok (.iconst 0, 1) := dk_3 (dk_at dksX6_isAll_0 0 rfl rfl)
theorem dX6_isAll_1 : decode cX6_isAll 1 = .ok (.istore_n 3, 1) := dk_62 (dk_at dksX6_isAll_0 1 rfl rfl)
theorem dX6_isAll_2 : decode cX6_isAll 2 = .ok (.iload_n 3, 1) := dk_29 (dk_at dksX6_isAll_0 2 rfl rfl)
theorem dX6_isAll_3 : decode cX6_isAll 3 = .ok (.aload_n 0, 1) := dk_42 (dk_at dksX6_isAll_0 3 rfl rfl)
theorem dX6_isAll_4 : decode cX6_isAll 4 = .ok (.getfield 171, 3) := dk_180 0 171 (dk_at dksX6_isAll_0 4 rfl rfl)
theorem dX6_isAll_7 : decode cX6_isAll 7 = .ok (.if_icmp .ge 20, 3) := dk_162 0 20 (dk_at dksX6_isAll_0 7 rfl rfl)
theorem dX6_isAll_10 : decode cX6_isAll 10 = .ok (.aload_n 1, 1) := dk_43 (dk_at dksX6_isAll_0 10 rfl rfl)
theorem dX6_isAll_11 : decode cX6_isAll 11 = .ok (.iload_n 3, 1) := dk_29 (dk_at dksX6_isAll_0 11 rfl rfl)
theorem dX6_isAll_12 : decode cX6_isAll 12 = .ok (.iload_n 2, 1) := dk_28 (dk_at dksX6_isAll_0 12 rfl rfl)
theorem dX6_isAll_13 : decode cX6_isAll 13 = .ok (.invokestatic 202, 3) := dk_184 0 202 (dk_at dksX6_isAll_0 13 rfl rfl)
theorem dX6_isAll_16 : decode cX6_isAll 16 = .ok (.ifCond .ne 5, 3) := dk_154 0 5 (dk_at dksX6_isAll_0 16 rfl rfl)
theorem dX6_isAll_19 : decode cX6_isAll 19 = .ok (.iconst 0, 1) := dk_3 (dk_at dksX6_isAll_0 19 rfl rfl)
theorem dX6_isAll_20 : decode cX6_isAll 20 = .ok (.ireturn, 1) := dk_172 (dk_at dksX6_isAll_0 20 rfl rfl)
theorem dX6_isAll_21 : decode cX6_isAll 21 = .ok (.iinc 3 1, 3) := dk_132 3 1 (dk_at dksX6_isAll_0 21 rfl rfl)
theorem dX6_isAll_24 : decode cX6_isAll 24 = .ok (.goto (-22), 3) := dk_167 255 234 (dk_at dksX6_isAll_1 0 rfl rfl)
theorem dX6_isAll_27 : decode cX6_isAll 27 = .ok (.iconst 1, 1) := dk_4 (dk_at dksX6_isAll_1 3 rfl rfl)
theorem dX6_isAll_28 : decode cX6_isAll 28 = .ok (.ireturn, 1) := dk_172 (dk_at dksX6_isAll_1 4 rfl rfl)
abbrev cX6_reads : ByteArray := prog_12_method_48_code
def yX6_reads : MethodName := ⟨RX6, "reads", "([II)I"⟩
def dkwX6_reads_1 : List UInt8 := [180, 0, 50, 42, 28, 182, 0, 230, 46, 172]
abbrev dktX6_reads_1 : List UInt8 := dkwX6_reads_1 ++ []
def dkwX6_reads_0 : List UInt8 := [42, 43, 42, 28, 182, 0, 217, 42, 28, 182, 0, 220, 2, 2, 182, 0, 223, 42, 182, 0, 227, 42]
abbrev dktX6_reads_0 : List UInt8 := dkwX6_reads_0 ++ dktX6_reads_1
theorem dksX6_reads_0 : cX6_reads.data.toList.drop 0 = dktX6_reads_0 := by decide +kernel
theorem dksX6_reads_1 : cX6_reads.data.toList.drop 22 = dktX6_reads_1 := dk_seg dksX6_reads_0 22 rfl rfl
theorem dX6_reads_0 : decode cX6_reads 0 = .ok (.aload_n 0, 1) := dk_42 (dk_at dksX6_reads_0 0 rfl rfl)
theorem dX6_reads_1 : decode cX6_reads 1 = .ok (.aload_n 1, 1) := dk_43 (dk_at dksX6_reads_0 1 rfl rfl)
theorem dX6_reads_2 : decode cX6_reads 2 = .ok (.aload_n 0, 1) := dk_42 (dk_at dksX6_reads_0 2 rfl rfl)
theorem dX6_reads_3 : decode cX6_reads 3 = .ok (.iload_n 2, 1) := dk_28 (dk_at dksX6_reads_0 3 rfl rfl)
theorem dX6_reads_4 : decode cX6_reads 4 = .ok (.invokevirtual 217, 3) := dk_182 0 217 (dk_at dksX6_reads_0 4 rfl rfl)
theorem dX6_reads_7 : decode cX6_reads 7 = .ok (.aload_n 0, 1) := dk_42 (dk_at dksX6_reads_0 7 rfl rfl)
theorem dX6_reads_8 : decode cX6_reads 8 = .ok (.iload_n 2, 1) := dk_28 (dk_at dksX6_reads_0 8 rfl rfl)
theorem dX6_reads_9 : decode cX6_reads 9 = .ok (.invokevirtual 220, 3) := dk_182 0 220 (dk_at dksX6_reads_0 9 rfl rfl)
theorem dX6_reads_12 : decode cX6_reads 12 = .ok (.iconst (-1), 1) := dk_2 (dk_at dksX6_reads_0 12 rfl rfl)
theorem dX6_reads_13 : decode cX6_reads 13 = .ok (.iconst (-1), 1) := dk_2 (dk_at dksX6_reads_0 13 rfl rfl)
theorem dX6_reads_14 : decode cX6_reads 14 = .ok (.invokevirtual 223, 3) := dk_182 0 223 (dk_at dksX6_reads_0 14 rfl rfl)
theorem dX6_reads_17 : decode cX6_reads 17 = .ok (.aload_n 0, 1) := dk_42 (dk_at dksX6_reads_0 17 rfl rfl)
theorem dX6_reads_18 : decode cX6_reads 18 = .ok (.invokevirtual 227, 3) := dk_182 0 227 (dk_at dksX6_reads_0 18 rfl rfl)
theorem dX6_reads_21 : decode cX6_reads 21 = .ok (.aload_n 0, 1) := dk_42 (dk_at dksX6_reads_0 21 rfl rfl)
theorem dX6_reads_22 : decode cX6_reads 22 = .ok (.getfield 50, 3) := dk_180 0 50 (dk_at dksX6_reads_1 0 rfl rfl)
theorem dX6_reads_25 : decode cX6_reads 25 = .ok (.aload_n 0, 1) := dk_42 (dk_at dksX6_reads_1 3 rfl rfl)
theorem dX6_reads_26 : decode cX6_reads 26 = .ok (.iload_n 2, 1) := dk_28 (dk_at dksX6_reads_1 4 rfl rfl)
theorem dX6_reads_27 : decode cX6_reads 27 = .ok (.invokevirtual 230, 3) := dk_182 0 230 (dk_at dksX6_reads_1 5 rfl rfl)
theorem dX6_reads_30 : decode cX6_reads 30 = .ok (.iaload, 1) := dk_46 (dk_at dksX6_reads_1 8 rfl rfl)
theorem dX6_reads_31 : decode cX6_reads 31 = .ok (.ireturn, 1) := dk_172 (dk_at dksX6_reads_1 9 rfl rfl)
abbrev cX6_loses : ByteArray := prog_12_method_70_code
def yX6_loses : MethodName := ⟨RX6, "loses", "([II)V"⟩
def dkwX6_loses_1 : List UInt8 := [42, 16, 48, 27, 104, 28, 96, 3, 79, 132, 2, 1, 167, 255, 238, 177]
abbrev dktX6_loses_1 : List UInt8 := dkwX6_loses_1 ++ []
def dkwX6_loses_0 : List UInt8 := [42, 17, 1, 128, 27, 96, 4, 79, 42, 17, 1, 136, 27, 96, 3, 79, 3, 61, 28, 16, 48, 162, 0, 18]
abbrev dktX6_loses_0 : List UInt8 := dkwX6_loses_0 ++ dktX6_loses_1
theorem dksX6_loses_0 : cX6_loses.data.toList.drop 0 = dktX6_loses_0 := by decide +kernel
theorem dksX6_loses_1 : cX6_loses.data.toList.drop 24 = dktX6_loses_1 := dk_seg dksX6_loses_0 24 rfl rfl
theorem dX6_loses_0 : decode cX6_loses 0 = .ok (.aload_n 0, 1) := dk_42 (dk_at dksX6_loses_0 0 rfl rfl)
theorem dX6_loses_1 : decode cX6_loses 1 = .ok (.sipush 384, 3) := dk_17 1 128 (dk_at dksX6_loses_0 1 rfl rfl)
theorem dX6_loses_4 : decode cX6_loses 4 = .ok (.iload_n 1, 1) := dk_27 (dk_at dksX6_loses_0 4 rfl rfl)
theorem dX6_loses_5 : decode cX6_loses 5 = .ok (.iadd, 1) := dk_96 (dk_at dksX6_loses_0 5 rfl rfl)
theorem dX6_loses_6 : decode cX6_loses 6 = .ok (.iconst 1, 1) := dk_4 (dk_at dksX6_loses_0 6 rfl rfl)
theorem dX6_loses_7 : decode cX6_loses 7 = .ok (.iastore, 1) := dk_79 (dk_at dksX6_loses_0 7 rfl rfl)
theorem dX6_loses_8 : decode cX6_loses 8 = .ok (.aload_n 0, 1) := dk_42 (dk_at dksX6_loses_0 8 rfl rfl)
theorem dX6_loses_9 : decode cX6_loses 9 = .ok (.sipush 392, 3) := dk_17 1 136 (dk_at dksX6_loses_0 9 rfl rfl)
theorem dX6_loses_12 : decode cX6_loses 12 = .ok (.iload_n 1, 1) := dk_27 (dk_at dksX6_loses_0 12 rfl rfl)
theorem dX6_loses_13 : decode cX6_loses 13 = .ok (.iadd, 1) := dk_96 (dk_at dksX6_loses_0 13 rfl rfl)
theorem dX6_loses_14 : decode cX6_loses 14 = .ok (.iconst 0, 1) := dk_3 (dk_at dksX6_loses_0 14 rfl rfl)
theorem dX6_loses_15 : decode cX6_loses 15 = .ok (.iastore, 1) := dk_79 (dk_at dksX6_loses_0 15 rfl rfl)
theorem dX6_loses_16 : decode cX6_loses 16 = .ok (.iconst 0, 1) := dk_3 (dk_at dksX6_loses_0 16 rfl rfl)
theorem dX6_loses_17 : decode cX6_loses 17 = .ok (.istore_n 2, 1) := dk_61 (dk_at dksX6_loses_0 17 rfl rfl)
theorem dX6_loses_18 : decode cX6_loses 18 = .ok (.iload_n 2, 1) := dk_28 (dk_at dksX6_loses_0 18 rfl rfl)
theorem dX6_loses_19 : decode cX6_loses 19 = .ok (.bipush 48, 2) := dk_16 48 (dk_at dksX6_loses_0 19 rfl rfl)
theorem dX6_loses_21 : decode cX6_loses 21 = .ok (.if_icmp .ge 18, 3) := dk_162 0 18 (dk_at dksX6_loses_0 21 rfl rfl)
theorem dX6_loses_24 : decode cX6_loses 24 = .ok (.aload_n 0, 1) := dk_42 (dk_at dksX6_loses_1 0 rfl rfl)
theorem dX6_loses_25 : decode cX6_loses 25 = .ok (.bipush 48, 2) := dk_16 48 (dk_at dksX6_loses_1 1 rfl rfl)
theorem dX6_loses_27 : decode cX6_loses 27 = .ok (.iload_n 1, 1) := dk_27 (dk_at dksX6_loses_1 3 rfl rfl)
theorem dX6_loses_28 : decode cX6_loses 28 = .ok (.imul, 1) := dk_104 (dk_at dksX6_loses_1 4 rfl rfl)
theorem dX6_loses_29 : decode cX6_loses 29 = .ok (.iload_n 2, 1) := dk_28 (dk_at dksX6_loses_1 5 rfl rfl)
theorem dX6_loses_30 : decode cX6_loses 30 = .ok (.iadd, 1) := dk_96 (dk_at dksX6_loses_1 6 rfl rfl)
theorem dX6_loses_31 : decode cX6_loses 31 = .ok (.iconst 0, 1) := dk_3 (dk_at dksX6_loses_1 7 rfl rfl)
theorem dX6_loses_32 : decode cX6_loses 32 = .ok (.iastore, 1) := dk_79 (dk_at dksX6_loses_1 8 rfl rfl)
theorem dX6_loses_33 : decode cX6_loses 33 = .ok (.iinc 2 1, 3) := dk_132 2 1 (dk_at dksX6_loses_1 9 rfl rfl)
theorem dX6_loses_36 : decode cX6_loses 36 = .ok (.goto (-18), 3) := dk_167 255 238 (dk_at dksX6_loses_1 12 rfl rfl)
theorem dX6_loses_39 : decode cX6_loses 39 = .ok (.return_, 1) := dk_177 (dk_at dksX6_loses_1 15 rfl rfl)
abbrev cX6_rebuilds : ByteArray := prog_12_method_71_code
def yX6_rebuilds : MethodName := ⟨RX6, "rebuilds", "([II)V"⟩
def dkwX6_rebuilds_5 : List UInt8 := [17, 1, 136, 28, 96, 46, 42, 180, 0, 17, 4, 46, 160, 0, 11, 43, 17, 1, 128, 28, 96, 3, 79, 177]
abbrev dktX6_rebuilds_5 : List UInt8 := dkwX6_rebuilds_5 ++ []
def dkwX6_rebuilds_4 : List UInt8 := [21, 4, 46, 182, 1, 5, 132, 5, 1, 167, 255, 174, 43, 17, 1, 136, 28, 96, 92, 46, 4, 96, 79, 43]
abbrev dktX6_rebuilds_4 : List UInt8 := dkwX6_rebuilds_4 ++ dktX6_rebuilds_5
def dkwX6_rebuilds_3 : List UInt8 := [182, 1, 1, 132, 6, 1, 167, 255, 225, 42, 182, 0, 227, 42, 43, 29, 21, 5, 21, 4, 42, 180, 0, 50]
abbrev dktX6_rebuilds_3 : List UInt8 := dkwX6_rebuilds_3 ++ dktX6_rebuilds_4
def dkwX6_rebuilds_2 : List UInt8 := [180, 0, 171, 162, 0, 28, 42, 180, 0, 53, 21, 6, 51, 153, 0, 12, 42, 43, 29, 21, 6, 3]
abbrev dktX6_rebuilds_2 : List UInt8 := dkwX6_rebuilds_2 ++ dktX6_rebuilds_3
def dkwX6_rebuilds_1 : List UInt8 := [180, 0, 17, 5, 46, 162, 0, 77, 42, 43, 29, 21, 5, 2, 2, 182, 0, 223, 3, 54, 6, 21, 6, 42]
abbrev dktX6_rebuilds_1 : List UInt8 := dkwX6_rebuilds_1 ++ dktX6_rebuilds_2
def dkwX6_rebuilds_0 : List UInt8 := [43, 17, 1, 136, 28, 96, 46, 62, 42, 29, 28, 182, 1, 84, 54, 4, 3, 54, 5, 21, 5, 42]
abbrev dktX6_rebuilds_0 : List UInt8 := dkwX6_rebuilds_0 ++ dktX6_rebuilds_1
theorem dksX6_rebuilds_0 : cX6_rebuilds.data.toList.drop 0 = dktX6_rebuilds_0 := by decide +kernel
theorem dksX6_rebuilds_1 : cX6_rebuilds.data.toList.drop 22 = dktX6_rebuilds_1 := dk_seg dksX6_rebuilds_0 22 rfl rfl
theorem dksX6_rebuilds_2 : cX6_rebuilds.data.toList.drop 46 = dktX6_rebuilds_2 := dk_seg dksX6_rebuilds_1 24 rfl rfl
theorem dksX6_rebuilds_3 : cX6_rebuilds.data.toList.drop 68 = dktX6_rebuilds_3 := dk_seg dksX6_rebuilds_2 22 rfl rfl
theorem dksX6_rebuilds_4 : cX6_rebuilds.data.toList.drop 92 = dktX6_rebuilds_4 := dk_seg dksX6_rebuilds_3 24 rfl rfl
theorem dksX6_rebuilds_5 : cX6_rebuilds.data.toList.drop 116 = dktX6_rebuilds_5 := dk_seg dksX6_rebuilds_4 24 rfl rfl
theorem dX6_rebuilds_0 : decode cX6_rebuilds 0 = .ok (.aload_n 1, 1) := dk_43 (dk_at dksX6_rebuilds_0 0 rfl rfl)
theorem dX6_rebuilds_1 : decode cX6_rebuilds 1 = .ok (.sipush 392, 3) := dk_17 1 136 (dk_at dksX6_rebuilds_0 1 rfl rfl)
theorem dX6_rebuilds_4 : decode cX6_rebuilds 4 = .ok (.iload_n 2, 1) := dk_28 (dk_at dksX6_rebuilds_0 4 rfl rfl)
theorem dX6_rebuilds_5 : decode cX6_rebuilds 5 = .ok (.iadd, 1) := dk_96 (dk_at dksX6_rebuilds_0 5 rfl rfl)
theorem dX6_rebuilds_6 : decode cX6_rebuilds 6 = .ok (.iaload, 1) := dk_46 (dk_at dksX6_rebuilds_0 6 rfl rfl)
theorem dX6_rebuilds_7 : decode cX6_rebuilds 7 = .ok (.istore_n 3, 1) := dk_62 (dk_at dksX6_rebuilds_0 7 rfl rfl)
theorem dX6_rebuilds_8 : decode cX6_rebuilds 8 = .ok (.aload_n 0, 1) := dk_42 (dk_at dksX6_rebuilds_0 8 rfl rfl)
theorem dX6_rebuilds_9 : decode cX6_rebuilds 9 = .ok (.iload_n 3, 1) := dk_29 (dk_at dksX6_rebuilds_0 9 rfl rfl)
theorem dX6_rebuilds_10 : decode cX6_rebuilds 10 = .ok (.iload_n 2, 1) := dk_28 (dk_at dksX6_rebuilds_0 10 rfl rfl)
theorem dX6_rebuilds_11 : decode cX6_rebuilds 11 = .ok (.invokevirtual 340, 3) := dk_182 1 84 (dk_at dksX6_rebuilds_0 11 rfl rfl)
theorem dX6_rebuilds_14 : decode cX6_rebuilds 14 = .ok (.istore 4, 2) := dk_54 4 (dk_at dksX6_rebuilds_0 14 rfl rfl)
theorem dX6_rebuilds_16 : decode cX6_rebuilds 16 = .ok (.iconst 0, 1) := dk_3 (dk_at dksX6_rebuilds_0 16 rfl rfl)
theorem dX6_rebuilds_17 : decode cX6_rebuilds 17 = .ok (.istore 5, 2) := dk_54 5 (dk_at dksX6_rebuilds_0 17 rfl rfl)
theorem dX6_rebuilds_19 : decode cX6_rebuilds 19 = .ok (.iload 5, 2) := dk_21 5 (dk_at dksX6_rebuilds_0 19 rfl rfl)
theorem dX6_rebuilds_21 : decode cX6_rebuilds 21 = .ok (.aload_n 0, 1) := dk_42 (dk_at dksX6_rebuilds_0 21 rfl rfl)
theorem dX6_rebuilds_22 : decode cX6_rebuilds 22 = .ok (.getfield 17, 3) := dk_180 0 17 (dk_at dksX6_rebuilds_1 0 rfl rfl)
theorem dX6_rebuilds_25 : decode cX6_rebuilds 25 = .ok (.iconst 2, 1) := dk_5 (dk_at dksX6_rebuilds_1 3 rfl rfl)
theorem dX6_rebuilds_26 : decode cX6_rebuilds 26 = .ok (.iaload, 1) := dk_46 (dk_at dksX6_rebuilds_1 4 rfl rfl)
theorem dX6_rebuilds_27 : decode cX6_rebuilds 27 = .ok (.if_icmp .ge 77, 3) := dk_162 0 77 (dk_at dksX6_rebuilds_1 5 rfl rfl)
theorem dX6_rebuilds_30 : decode cX6_rebuilds 30 = .ok (.aload_n 0, 1) := dk_42 (dk_at dksX6_rebuilds_1 8 rfl rfl)
theorem dX6_rebuilds_31 : decode cX6_rebuilds 31 = .ok (.aload_n 1, 1) := dk_43 (dk_at dksX6_rebuilds_1 9 rfl rfl)
theorem dX6_rebuilds_32 : decode cX6_rebuilds 32 = .ok (.iload_n 3, 1) := dk_29 (dk_at dksX6_rebuilds_1 10 rfl rfl)
theorem dX6_rebuilds_33 : decode cX6_rebuilds 33 = .ok (.iload 5, 2) := dk_21 5 (dk_at dksX6_rebuilds_1 11 rfl rfl)
theorem dX6_rebuilds_35 : decode cX6_rebuilds 35 = .ok (.iconst (-1), 1) := dk_2 (dk_at dksX6_rebuilds_1 13 rfl rfl)
theorem dX6_rebuilds_36 : decode cX6_rebuilds 36 = .ok (.iconst (-1), 1) := dk_2 (dk_at dksX6_rebuilds_1 14 rfl rfl)
theorem dX6_rebuilds_37 : decode cX6_rebuilds 37 = .ok (.invokevirtual 223, 3) := dk_182 0 223 (dk_at dksX6_rebuilds_1 15 rfl rfl)
theorem dX6_rebuilds_40 : decode cX6_rebuilds 40 = .ok (.iconst 0, 1) := dk_3 (dk_at dksX6_rebuilds_1 18 rfl rfl)
theorem dX6_rebuilds_41 : decode cX6_rebuilds 41 = .ok (.istore 6, 2) := dk_54 6 (dk_at dksX6_rebuilds_1 19 rfl rfl)
theorem dX6_rebuilds_43 : decode cX6_rebuilds 43 = .ok (.iload 6, 2) := dk_21 6 (dk_at dksX6_rebuilds_1 21 rfl rfl)
theorem dX6_rebuilds_45 : decode cX6_rebuilds 45 = .ok (.aload_n 0, 1) := dk_42 (dk_at dksX6_rebuilds_1 23 rfl rfl)
theorem dX6_rebuilds_46 : decode cX6_rebuilds 46 = .ok (.getfield 171, 3) := dk_180 0 171 (dk_at dksX6_rebuilds_2 0 rfl rfl)
theorem dX6_rebuilds_49 : decode cX6_rebuilds 49 = .ok (.if_icmp .ge 28, 3) := dk_162 0 28 (dk_at dksX6_rebuilds_2 3 rfl rfl)
theorem dX6_rebuilds_52 : decode cX6_rebuilds 52 = .ok (.aload_n 0, 1) := dk_42 (dk_at dksX6_rebuilds_2 6 rfl rfl)
theorem dX6_rebuilds_53 : decode cX6_rebuilds 53 = .ok (.getfield 53, 3) := dk_180 0 53 (dk_at dksX6_rebuilds_2 7 rfl rfl)
theorem dX6_rebuilds_56 : decode cX6_rebuilds 56 = .ok (.iload 6, 2) := dk_21 6 (dk_at dksX6_rebuilds_2 10 rfl rfl)
theorem dX6_rebuilds_58 : decode cX6_rebuilds 58 = .ok (.baload, 1) := dk_51 (dk_at dksX6_rebuilds_2 12 rfl rfl)
theorem dX6_rebuilds_59 : decode cX6_rebuilds 59 = .ok (.ifCond .eq 12, 3) := dk_153 0 12 (dk_at dksX6_rebuilds_2 13 rfl rfl)
theorem dX6_rebuilds_62 : decode cX6_rebuilds 62 = .ok (.aload_n 0, 1) := dk_42 (dk_at dksX6_rebuilds_2 16 rfl rfl)
theorem dX6_rebuilds_63 : decode cX6_rebuilds 63 = .ok (.aload_n 1, 1) := dk_43 (dk_at dksX6_rebuilds_2 17 rfl rfl)
theorem dX6_rebuilds_64 : decode cX6_rebuilds 64 = .ok (.iload_n 3, 1) := dk_29 (dk_at dksX6_rebuilds_2 18 rfl rfl)
theorem dX6_rebuilds_65 : decode cX6_rebuilds 65 = .ok (.iload 6, 2) := dk_21 6 (dk_at dksX6_rebuilds_2 19 rfl rfl)
theorem dX6_rebuilds_67 : decode cX6_rebuilds 67 = .ok (.iconst 0, 1) := dk_3 (dk_at dksX6_rebuilds_2 21 rfl rfl)
theorem dX6_rebuilds_68 : decode cX6_rebuilds 68 = .ok (.invokevirtual 257, 3) := dk_182 1 1 (dk_at dksX6_rebuilds_3 0 rfl rfl)
theorem dX6_rebuilds_71 : decode cX6_rebuilds 71 = .ok (.iinc 6 1, 3) := dk_132 6 1 (dk_at dksX6_rebuilds_3 3 rfl rfl)
theorem dX6_rebuilds_74 : decode cX6_rebuilds 74 = .ok (.goto (-31), 3) := dk_167 255 225 (dk_at dksX6_rebuilds_3 6 rfl rfl)
theorem dX6_rebuilds_77 : decode cX6_rebuilds 77 = .ok (.aload_n 0, 1) := dk_42 (dk_at dksX6_rebuilds_3 9 rfl rfl)
theorem dX6_rebuilds_78 : decode cX6_rebuilds 78 = .ok (.invokevirtual 227, 3) := dk_182 0 227 (dk_at dksX6_rebuilds_3 10 rfl rfl)
theorem dX6_rebuilds_81 : decode cX6_rebuilds 81 = .ok (.aload_n 0, 1) := dk_42 (dk_at dksX6_rebuilds_3 13 rfl rfl)
theorem dX6_rebuilds_82 : decode cX6_rebuilds 82 = .ok (.aload_n 1, 1) := dk_43 (dk_at dksX6_rebuilds_3 14 rfl rfl)
theorem dX6_rebuilds_83 : decode cX6_rebuilds 83 = .ok (.iload_n 3, 1) := dk_29 (dk_at dksX6_rebuilds_3 15 rfl rfl)
theorem dX6_rebuilds_84 : decode cX6_rebuilds 84 = .ok (.iload 5, 2) := dk_21 5 (dk_at dksX6_rebuilds_3 16 rfl rfl)
theorem dX6_rebuilds_86 : decode cX6_rebuilds 86 = .ok (.iload 4, 2) := dk_21 4 (dk_at dksX6_rebuilds_3 18 rfl rfl)
theorem dX6_rebuilds_88 : decode cX6_rebuilds 88 = .ok (.aload_n 0, 1) := dk_42 (dk_at dksX6_rebuilds_3 20 rfl rfl)
theorem dX6_rebuilds_89 : decode cX6_rebuilds 89 = .ok (.getfield 50, 3) := dk_180 0 50 (dk_at dksX6_rebuilds_3 21 rfl rfl)
theorem dX6_rebuilds_92 : decode cX6_rebuilds 92 = .ok (.iload 4, 2) := dk_21 4 (dk_at dksX6_rebuilds_4 0 rfl rfl)
theorem dX6_rebuilds_94 : decode cX6_rebuilds 94 = .ok (.iaload, 1) := dk_46 (dk_at dksX6_rebuilds_4 2 rfl rfl)
theorem dX6_rebuilds_95 : decode cX6_rebuilds 95 = .ok (.invokevirtual 261, 3) := dk_182 1 5 (dk_at dksX6_rebuilds_4 3 rfl rfl)
theorem dX6_rebuilds_98 : decode cX6_rebuilds 98 = .ok (.iinc 5 1, 3) := dk_132 5 1 (dk_at dksX6_rebuilds_4 6 rfl rfl)
theorem dX6_rebuilds_101 : decode cX6_rebuilds 101 = .ok (.goto (-82), 3) := dk_167 255 174 (dk_at dksX6_rebuilds_4 9 rfl rfl)
theorem dX6_rebuilds_104 : decode cX6_rebuilds 104 = .ok (.aload_n 1, 1) := dk_43 (dk_at dksX6_rebuilds_4 12 rfl rfl)
theorem dX6_rebuilds_105 : decode cX6_rebuilds 105 = .ok (.sipush 392, 3) := dk_17 1 136 (dk_at dksX6_rebuilds_4 13 rfl rfl)
theorem dX6_rebuilds_108 : decode cX6_rebuilds 108 = .ok (.iload_n 2, 1) := dk_28 (dk_at dksX6_rebuilds_4 16 rfl rfl)
theorem dX6_rebuilds_109 : decode cX6_rebuilds 109 = .ok (.iadd, 1) := dk_96 (dk_at dksX6_rebuilds_4 17 rfl rfl)
theorem dX6_rebuilds_110 : decode cX6_rebuilds 110 = .ok (.dup2, 1) := dk_92 (dk_at dksX6_rebuilds_4 18 rfl rfl)
theorem dX6_rebuilds_111 : decode cX6_rebuilds 111 = .ok (.iaload, 1) := dk_46 (dk_at dksX6_rebuilds_4 19 rfl rfl)
theorem dX6_rebuilds_112 : decode cX6_rebuilds 112 = .ok (.iconst 1, 1) := dk_4 (dk_at dksX6_rebuilds_4 20 rfl rfl)
theorem dX6_rebuilds_113 : decode cX6_rebuilds 113 = .ok (.iadd, 1) := dk_96 (dk_at dksX6_rebuilds_4 21 rfl rfl)
theorem dX6_rebuilds_114 : decode cX6_rebuilds 114 = .ok (.iastore, 1) := dk_79 (dk_at dksX6_rebuilds_4 22 rfl rfl)
theorem dX6_rebuilds_115 : decode cX6_rebuilds 115 = .ok (.aload_n 1, 1) := dk_43 (dk_at dksX6_rebuilds_4 23 rfl rfl)
theorem dX6_rebuilds_116 : decode cX6_rebuilds 116 = .ok (.sipush 392, 3) := dk_17 1 136 (dk_at dksX6_rebuilds_5 0 rfl rfl)
theorem dX6_rebuilds_119 : decode cX6_rebuilds 119 = .ok (.iload_n 2, 1) := dk_28 (dk_at dksX6_rebuilds_5 3 rfl rfl)
theorem dX6_rebuilds_120 : decode cX6_rebuilds 120 = .ok (.iadd, 1) := dk_96 (dk_at dksX6_rebuilds_5 4 rfl rfl)
theorem dX6_rebuilds_121 : decode cX6_rebuilds 121 = .ok (.iaload, 1) := dk_46 (dk_at dksX6_rebuilds_5 5 rfl rfl)
theorem dX6_rebuilds_122 : decode cX6_rebuilds 122 = .ok (.aload_n 0, 1) := dk_42 (dk_at dksX6_rebuilds_5 6 rfl rfl)
theorem dX6_rebuilds_123 : decode cX6_rebuilds 123 = .ok (.getfield 17, 3) := dk_180 0 17 (dk_at dksX6_rebuilds_5 7 rfl rfl)
theorem dX6_rebuilds_126 : decode cX6_rebuilds 126 = .ok (.iconst 1, 1) := dk_4 (dk_at dksX6_rebuilds_5 10 rfl rfl)
theorem dX6_rebuilds_127 : decode cX6_rebuilds 127 = .ok (.iaload, 1) := dk_46 (dk_at dksX6_rebuilds_5 11 rfl rfl)
theorem dX6_rebuilds_128 : decode cX6_rebuilds 128 = .ok (.if_icmp .ne 11, 3) := dk_160 0 11 (dk_at dksX6_rebuilds_5 12 rfl rfl)
theorem dX6_rebuilds_131 : decode cX6_rebuilds 131 = .ok (.aload_n 1, 1) := dk_43 (dk_at dksX6_rebuilds_5 15 rfl rfl)
theorem dX6_rebuilds_132 : decode cX6_rebuilds 132 = .ok (.sipush 384, 3) := dk_17 1 128 (dk_at dksX6_rebuilds_5 16 rfl rfl)
theorem dX6_rebuilds_135 : decode cX6_rebuilds 135 = .ok (.iload_n 2, 1) := dk_28 (dk_at dksX6_rebuilds_5 19 rfl rfl)
theorem dX6_rebuilds_136 : decode cX6_rebuilds 136 = .ok (.iadd, 1) := dk_96 (dk_at dksX6_rebuilds_5 20 rfl rfl)
theorem dX6_rebuilds_137 : decode cX6_rebuilds 137 = .ok (.iconst 0, 1) := dk_3 (dk_at dksX6_rebuilds_5 21 rfl rfl)
theorem dX6_rebuilds_138 : decode cX6_rebuilds 138 = .ok (.iastore, 1) := dk_79 (dk_at dksX6_rebuilds_5 22 rfl rfl)
theorem dX6_rebuilds_139 : decode cX6_rebuilds 139 = .ok (.return_, 1) := dk_177 (dk_at dksX6_rebuilds_5 23 rfl rfl)
abbrev cX6_roleOf : ByteArray := prog_12_method_38_code
def yX6_roleOf : MethodName := ⟨RX6, "roleOf", "(II)I"⟩
def dkwX6_roleOf_2 : List UInt8 := [29, 5, 100, 172]
abbrev dktX6_roleOf_2 : List UInt8 := dkwX6_roleOf_2 ++ []
def dkwX6_roleOf_1 : List UInt8 := [180, 0, 17, 3, 46, 167, 0, 22, 29, 4, 160, 0, 14, 42, 180, 0, 17, 3, 46, 4, 96, 167, 0, 6]
abbrev dktX6_roleOf_1 : List UInt8 := dkwX6_roleOf_1 ++ dktX6_roleOf_2
def dkwX6_roleOf_0 : List UInt8 := [28, 42, 27, 182, 0, 196, 100, 42, 180, 0, 171, 96, 42, 180, 0, 171, 112, 62, 29, 154, 0, 12, 42]
abbrev dktX6_roleOf_0 : List UInt8 := dkwX6_roleOf_0 ++ dktX6_roleOf_1
theorem dksX6_roleOf_0 : cX6_roleOf.data.toList.drop 0 = dktX6_roleOf_0 := by decide +kernel
theorem dksX6_roleOf_1 : cX6_roleOf.data.toList.drop 23 = dktX6_roleOf_1 := dk_seg dksX6_roleOf_0 23 rfl rfl
theorem dksX6_roleOf_2 : cX6_roleOf.data.toList.drop 47 = dktX6_roleOf_2 := dk_seg dksX6_roleOf_1 24 rfl rfl
theorem dX6_roleOf_0 : decode cX6_roleOf 0 = .ok (.iload_n 2, 1) := dk_28 (dk_at dksX6_roleOf_0 0 rfl rfl)
theorem dX6_roleOf_1 : decode cX6_roleOf 1 = .ok (.aload_n 0, 1) := dk_42 (dk_at dksX6_roleOf_0 1 rfl rfl)
theorem dX6_roleOf_2 : decode cX6_roleOf 2 = .ok (.iload_n 1, 1) := dk_27 (dk_at dksX6_roleOf_0 2 rfl rfl)
theorem dX6_roleOf_3 : decode cX6_roleOf 3 = .ok (.invokevirtual 196, 3) := dk_182 0 196 (dk_at dksX6_roleOf_0 3 rfl rfl)
theorem dX6_roleOf_6 : decode cX6_roleOf 6 = .ok (.isub, 1) := dk_100 (dk_at dksX6_roleOf_0 6 rfl rfl)
theorem dX6_roleOf_7 : decode cX6_roleOf 7 = .ok (.aload_n 0, 1) := dk_42 (dk_at dksX6_roleOf_0 7 rfl rfl)
theorem dX6_roleOf_8 : decode cX6_roleOf 8 = .ok (.getfield 171, 3) := dk_180 0 171 (dk_at dksX6_roleOf_0 8 rfl rfl)
theorem dX6_roleOf_11 : decode cX6_roleOf 11 = .ok (.iadd, 1) := dk_96 (dk_at dksX6_roleOf_0 11 rfl rfl)
theorem dX6_roleOf_12 : decode cX6_roleOf 12 = .ok (.aload_n 0, 1) := dk_42 (dk_at dksX6_roleOf_0 12 rfl rfl)
theorem dX6_roleOf_13 : decode cX6_roleOf 13 = .ok (.getfield 171, 3) := dk_180 0 171 (dk_at dksX6_roleOf_0 13 rfl rfl)
theorem dX6_roleOf_16 : decode cX6_roleOf 16 = .ok (.irem, 1) := dk_112 (dk_at dksX6_roleOf_0 16 rfl rfl)
theorem dX6_roleOf_17 : decode cX6_roleOf 17 = .ok (.istore_n 3, 1) := dk_62 (dk_at dksX6_roleOf_0 17 rfl rfl)
theorem dX6_roleOf_18 : decode cX6_roleOf 18 = .ok (.iload_n 3, 1) := dk_29 (dk_at dksX6_roleOf_0 18 rfl rfl)
theorem dX6_roleOf_19 : decode cX6_roleOf 19 = .ok (.ifCond .ne 12, 3) := dk_154 0 12 (dk_at dksX6_roleOf_0 19 rfl rfl)
theorem dX6_roleOf_22 : decode cX6_roleOf 22 = .ok (.aload_n 0, 1) := dk_42 (dk_at dksX6_roleOf_0 22 rfl rfl)
theorem dX6_roleOf_23 : decode cX6_roleOf 23 = .ok (.getfield 17, 3) := dk_180 0 17 (dk_at dksX6_roleOf_1 0 rfl rfl)
theorem dX6_roleOf_26 : decode cX6_roleOf 26 = .ok (.iconst 0, 1) := dk_3 (dk_at dksX6_roleOf_1 3 rfl rfl)
theorem dX6_roleOf_27 : decode cX6_roleOf 27 = .ok (.iaload, 1) := dk_46 (dk_at dksX6_roleOf_1 4 rfl rfl)
theorem dX6_roleOf_28 : decode cX6_roleOf 28 = .ok (.goto 22, 3) := dk_167 0 22 (dk_at dksX6_roleOf_1 5 rfl rfl)
theorem dX6_roleOf_31 : decode cX6_roleOf 31 = .ok (.iload_n 3, 1) := dk_29 (dk_at dksX6_roleOf_1 8 rfl rfl)
theorem dX6_roleOf_32 : decode cX6_roleOf 32 = .ok (.iconst 1, 1) := dk_4 (dk_at dksX6_roleOf_1 9 rfl rfl)
theorem dX6_roleOf_33 : decode cX6_roleOf 33 = .ok (.if_icmp .ne 14, 3) := dk_160 0 14 (dk_at dksX6_roleOf_1 10 rfl rfl)
theorem dX6_roleOf_36 : decode cX6_roleOf 36 = .ok (.aload_n 0, 1) := dk_42 (dk_at dksX6_roleOf_1 13 rfl rfl)
theorem dX6_roleOf_37 : decode cX6_roleOf 37 = .ok (.getfield 17, 3) := dk_180 0 17 (dk_at dksX6_roleOf_1 14 rfl rfl)
theorem dX6_roleOf_40 : decode cX6_roleOf 40 = .ok (.iconst 0, 1) := dk_3 (dk_at dksX6_roleOf_1 17 rfl rfl)
theorem dX6_roleOf_41 : decode cX6_roleOf 41 = .ok (.iaload, 1) := dk_46 (dk_at dksX6_roleOf_1 18 rfl rfl)
theorem dX6_roleOf_42 : decode cX6_roleOf 42 = .ok (.iconst 1, 1) := dk_4 (dk_at dksX6_roleOf_1 19 rfl rfl)
theorem dX6_roleOf_43 : decode cX6_roleOf 43 = .ok (.iadd, 1) := dk_96 (dk_at dksX6_roleOf_1 20 rfl rfl)
theorem dX6_roleOf_44 : decode cX6_roleOf 44 = .ok (.goto 6, 3) := dk_167 0 6 (dk_at dksX6_roleOf_1 21 rfl rfl)
theorem dX6_roleOf_47 : decode cX6_roleOf 47 = .ok (.iload_n 3, 1) := dk_29 (dk_at dksX6_roleOf_2 0 rfl rfl)
theorem dX6_roleOf_48 : decode cX6_roleOf 48 = .ok (.iconst 2, 1) := dk_5 (dk_at dksX6_roleOf_2 1 rfl rfl)
theorem dX6_roleOf_49 : decode cX6_roleOf 49 = .ok (.isub, 1) := dk_100 (dk_at dksX6_roleOf_2 2 rfl rfl)
theorem dX6_roleOf_50 : decode cX6_roleOf 50 = .ok (.ireturn, 1) := dk_172 (dk_at dksX6_roleOf_2 3 rfl rfl)
abbrev cX6_scrubsOn : ByteArray := prog_12_method_72_code
def yX6_scrubsOn : MethodName := ⟨RX6, "scrubsOn", "([II)V"⟩
def dkwX6_scrubsOn_2 : List UInt8 := [167, 255, 215, 42, 29, 181, 1, 57, 177]
abbrev dktX6_scrubsOn_2 : List UInt8 := dkwX6_scrubsOn_2 ++ []
def dkwX6_scrubsOn_1 : List UInt8 := [43, 17, 1, 170, 43, 17, 1, 170, 46, 4, 96, 42, 180, 0, 17, 4, 46, 112, 79, 132, 4, 1]
abbrev dktX6_scrubsOn_1 : List UInt8 := dkwX6_scrubsOn_1 ++ dktX6_scrubsOn_2
def dkwX6_scrubsOn_0 : List UInt8 := [3, 62, 3, 54, 4, 21, 4, 28, 162, 0, 41, 29, 42, 43, 43, 17, 1, 170, 46, 182, 1, 87, 96, 62]
abbrev dktX6_scrubsOn_0 : List UInt8 := dkwX6_scrubsOn_0 ++ dktX6_scrubsOn_1
theorem dksX6_scrubsOn_0 : cX6_scrubsOn.data.toList.drop 0 = dktX6_scrubsOn_0 := by decide +kernel
theorem dksX6_scrubsOn_1 : cX6_scrubsOn.data.toList.drop 24 = dktX6_scrubsOn_1 := dk_seg dksX6_scrubsOn_0 24 rfl rfl
theorem dksX6_scrubsOn_2 : cX6_scrubsOn.data.toList.drop 46 = dktX6_scrubsOn_2 := dk_seg dksX6_scrubsOn_1 22 rfl rfl
theorem dX6_scrubsOn_0 : decode cX6_scrubsOn 0 = .ok (.iconst 0, 1) := dk_3 (dk_at dksX6_scrubsOn_0 0 rfl rfl)
theorem dX6_scrubsOn_1 : decode cX6_scrubsOn 1 = .ok (.istore_n 3, 1) := dk_62 (dk_at dksX6_scrubsOn_0 1 rfl rfl)
theorem dX6_scrubsOn_2 : decode cX6_scrubsOn 2 = .ok (.iconst 0, 1) := dk_3 (dk_at dksX6_scrubsOn_0 2 rfl rfl)
theorem dX6_scrubsOn_3 : decode cX6_scrubsOn 3 = .ok (.istore 4, 2) := dk_54 4 (dk_at dksX6_scrubsOn_0 3 rfl rfl)
theorem dX6_scrubsOn_5 : decode cX6_scrubsOn 5 = .ok (.iload 4, 2) := dk_21 4 (dk_at dksX6_scrubsOn_0 5 rfl rfl)
theorem dX6_scrubsOn_7 : decode cX6_scrubsOn 7 = .ok (.iload_n 2, 1) := dk_28 (dk_at dksX6_scrubsOn_0 7 rfl rfl)
theorem dX6_scrubsOn_8 : decode cX6_scrubsOn 8 = .ok (.if_icmp .ge 41, 3) := dk_162 0 41 (dk_at dksX6_scrubsOn_0 8 rfl rfl)
theorem dX6_scrubsOn_11 : decode cX6_scrubsOn 11 = .ok (.iload_n 3, 1) := dk_29 (dk_at dksX6_scrubsOn_0 11 rfl rfl)
theorem dX6_scrubsOn_12 : decode cX6_scrubsOn 12 = .ok (.aload_n 0, 1) := dk_42 (dk_at dksX6_scrubsOn_0 12 rfl rfl)
theorem dX6_scrubsOn_13 : decode cX6_scrubsOn 13 = .ok (.aload_n 1, 1) := dk_43 (dk_at dksX6_scrubsOn_0 13 rfl rfl)
theorem dX6_scrubsOn_14 : decode cX6_scrubsOn 14 = .ok (.aload_n 1, 1) := dk_43 (dk_at dksX6_scrubsOn_0 14 rfl rfl)
theorem dX6_scrubsOn_15 : decode cX6_scrubsOn 15 = .ok (.sipush 426, 3) := dk_17 1 170 (dk_at dksX6_scrubsOn_0 15 rfl rfl)
theorem dX6_scrubsOn_18 : decode cX6_scrubsOn 18 = .ok (.iaload, 1) := dk_46 (dk_at dksX6_scrubsOn_0 18 rfl rfl)
theorem dX6_scrubsOn_19 : decode cX6_scrubsOn 19 = .ok (.invokevirtual 343, 3) := dk_182 1 87 (dk_at dksX6_scrubsOn_0 19 rfl rfl)
theorem dX6_scrubsOn_22 : decode cX6_scrubsOn 22 = .ok (.iadd, 1) := dk_96 (dk_at dksX6_scrubsOn_0 22 rfl rfl)
theorem dX6_scrubsOn_23 : decode cX6_scrubsOn 23 = .ok (.istore_n 3, 1) := dk_62 (dk_at dksX6_scrubsOn_0 23 rfl rfl)
theorem dX6_scrubsOn_24 : decode cX6_scrubsOn 24 = .ok (.aload_n 1, 1) := dk_43 (dk_at dksX6_scrubsOn_1 0 rfl rfl)
theorem dX6_scrubsOn_25 : decode cX6_scrubsOn 25 = .ok (.sipush 426, 3) := dk_17 1 170 (dk_at dksX6_scrubsOn_1 1 rfl rfl)
theorem dX6_scrubsOn_28 : decode cX6_scrubsOn 28 = .ok (.aload_n 1, 1) := dk_43 (dk_at dksX6_scrubsOn_1 4 rfl rfl)
theorem dX6_scrubsOn_29 : decode cX6_scrubsOn 29 = .ok (.sipush 426, 3) := dk_17 1 170 (dk_at dksX6_scrubsOn_1 5 rfl rfl)
theorem dX6_scrubsOn_32 : decode cX6_scrubsOn 32 = .ok (.iaload, 1) := dk_46 (dk_at dksX6_scrubsOn_1 8 rfl rfl)
theorem dX6_scrubsOn_33 : decode cX6_scrubsOn 33 = .ok (.iconst 1, 1) := dk_4 (dk_at dksX6_scrubsOn_1 9 rfl rfl)
theorem dX6_scrubsOn_34 : decode cX6_scrubsOn 34 = .ok (.iadd, 1) := dk_96 (dk_at dksX6_scrubsOn_1 10 rfl rfl)
theorem dX6_scrubsOn_35 : decode cX6_scrubsOn 35 = .ok (.aload_n 0, 1) := dk_42 (dk_at dksX6_scrubsOn_1 11 rfl rfl)
theorem dX6_scrubsOn_36 : decode cX6_scrubsOn 36 = .ok (.getfield 17, 3) := dk_180 0 17 (dk_at dksX6_scrubsOn_1 12 rfl rfl)
theorem dX6_scrubsOn_39 : decode cX6_scrubsOn 39 = .ok (.iconst 1, 1) := dk_4 (dk_at dksX6_scrubsOn_1 15 rfl rfl)
theorem dX6_scrubsOn_40 : decode cX6_scrubsOn 40 = .ok (.iaload, 1) := dk_46 (dk_at dksX6_scrubsOn_1 16 rfl rfl)
theorem dX6_scrubsOn_41 : decode cX6_scrubsOn 41 = .ok (.irem, 1) := dk_112 (dk_at dksX6_scrubsOn_1 17 rfl rfl)
theorem dX6_scrubsOn_42 : decode cX6_scrubsOn 42 = .ok (.iastore, 1) := dk_79 (dk_at dksX6_scrubsOn_1 18 rfl rfl)
theorem dX6_scrubsOn_43 : decode cX6_scrubsOn 43 = .ok (.iinc 4 1, 3) := dk_132 4 1 (dk_at dksX6_scrubsOn_1 19 rfl rfl)
theorem dX6_scrubsOn_46 : decode cX6_scrubsOn 46 = .ok (.goto (-41), 3) := dk_167 255 215 (dk_at dksX6_scrubsOn_2 0 rfl rfl)
theorem dX6_scrubsOn_49 : decode cX6_scrubsOn 49 = .ok (.aload_n 0, 1) := dk_42 (dk_at dksX6_scrubsOn_2 3 rfl rfl)
theorem dX6_scrubsOn_50 : decode cX6_scrubsOn 50 = .ok (.iload_n 3, 1) := dk_29 (dk_at dksX6_scrubsOn_2 4 rfl rfl)
theorem dX6_scrubsOn_51 : decode cX6_scrubsOn 51 = .ok (.putfield 313, 3) := dk_181 1 57 (dk_at dksX6_scrubsOn_2 5 rfl rfl)
theorem dX6_scrubsOn_54 : decode cX6_scrubsOn 54 = .ok (.return_, 1) := dk_177 (dk_at dksX6_scrubsOn_2 8 rfl rfl)
abbrev cX6_scrubs : ByteArray := prog_12_method_60_code
def yX6_scrubs : MethodName := ⟨RX6, "scrubs", "([II)I"⟩
def dkwX6_scrubs_3 : List UInt8 := [42, 43, 28, 21, 4, 182, 1, 18, 96, 62, 132, 4, 1, 167, 255, 205, 29, 172]
abbrev dktX6_scrubs_3 : List UInt8 := dkwX6_scrubs_3 ++ []
def dkwX6_scrubs_2 : List UInt8 := [21, 5, 42, 180, 0, 171, 162, 0, 17, 42, 43, 21, 5, 3, 182, 0, 233, 132, 5, 1, 167, 255, 236, 29]
abbrev dktX6_scrubs_2 : List UInt8 := dkwX6_scrubs_2 ++ dktX6_scrubs_3
def dkwX6_scrubs_1 : List UInt8 := [96, 79, 3, 172, 3, 62, 3, 54, 4, 21, 4, 42, 180, 0, 17, 5, 46, 162, 0, 46, 3, 54, 5]
abbrev dktX6_scrubs_1 : List UInt8 := dkwX6_scrubs_1 ++ dktX6_scrubs_2
def dkwX6_scrubs_0 : List UInt8 := [42, 43, 28, 182, 1, 11, 153, 0, 11, 43, 28, 184, 1, 15, 153, 0, 14, 43, 17, 1, 175, 92, 46, 4]
abbrev dktX6_scrubs_0 : List UInt8 := dkwX6_scrubs_0 ++ dktX6_scrubs_1
theorem dksX6_scrubs_0 : cX6_scrubs.data.toList.drop 0 = dktX6_scrubs_0 := by decide +kernel
theorem dksX6_scrubs_1 : cX6_scrubs.data.toList.drop 24 = dktX6_scrubs_1 := dk_seg dksX6_scrubs_0 24 rfl rfl
theorem dksX6_scrubs_2 : cX6_scrubs.data.toList.drop 47 = dktX6_scrubs_2 := dk_seg dksX6_scrubs_1 23 rfl rfl
theorem dksX6_scrubs_3 : cX6_scrubs.data.toList.drop 71 = dktX6_scrubs_3 := dk_seg dksX6_scrubs_2 24 rfl rfl
theorem dX6_scrubs_0 : decode cX6_scrubs 0 = .ok (.aload_n 0, 1) := dk_42 (dk_at dksX6_scrubs_0 0 rfl rfl)
theorem dX6_scrubs_1 : decode cX6_scrubs 1 = .ok (.aload_n 1, 1) := dk_43 (dk_at dksX6_scrubs_0 1 rfl rfl)
theorem dX6_scrubs_2 : decode cX6_scrubs 2 = .ok (.iload_n 2, 1) := dk_28 (dk_at dksX6_scrubs_0 2 rfl rfl)
theorem dX6_scrubs_3 : decode cX6_scrubs 3 = .ok (.invokevirtual 267, 3) := dk_182 1 11 (dk_at dksX6_scrubs_0 3 rfl rfl)
theorem dX6_scrubs_6 : decode cX6_scrubs 6 = .ok (.ifCond .eq 11, 3) := dk_153 0 11 (dk_at dksX6_scrubs_0 6 rfl rfl)
theorem dX6_scrubs_9 : decode cX6_scrubs 9 = .ok (.aload_n 1, 1) := dk_43 (dk_at dksX6_scrubs_0 9 rfl rfl)
theorem dX6_scrubs_10 : decode cX6_scrubs 10 = .ok (.iload_n 2, 1) := dk_28 (dk_at dksX6_scrubs_0 10 rfl rfl)
theorem dX6_scrubs_11 : decode cX6_scrubs 11 = .ok (.invokestatic 271, 3) := dk_184 1 15 (dk_at dksX6_scrubs_0 11 rfl rfl)
theorem dX6_scrubs_14 : decode cX6_scrubs 14 = .ok (.ifCond .eq 14, 3) := dk_153 0 14 (dk_at dksX6_scrubs_0 14 rfl rfl)
theorem dX6_scrubs_17 : decode cX6_scrubs 17 = .ok (.aload_n 1, 1) := dk_43 (dk_at dksX6_scrubs_0 17 rfl rfl)
theorem dX6_scrubs_18 : decode cX6_scrubs 18 = .ok (.sipush 431, 3) := dk_17 1 175 (dk_at dksX6_scrubs_0 18 rfl rfl)
theorem dX6_scrubs_21 : decode cX6_scrubs 21 = .ok (.dup2, 1) := dk_92 (dk_at dksX6_scrubs_0 21 rfl rfl)
theorem dX6_scrubs_22 : decode cX6_scrubs 22 = .ok (.iaload, 1) := dk_46 (dk_at dksX6_scrubs_0 22 rfl rfl)
theorem dX6_scrubs_23 : decode cX6_scrubs 23 = .ok (.iconst 1, 1) := dk_4 (dk_at dksX6_scrubs_0 23 rfl rfl)
theorem dX6_scrubs_24 : decode cX6_scrubs 24 = .ok (.iadd, 1) := dk_96 (dk_at dksX6_scrubs_1 0 rfl rfl)
theorem dX6_scrubs_25 : decode cX6_scrubs 25 = .ok (.iastore, 1) := dk_79 (dk_at dksX6_scrubs_1 1 rfl rfl)
theorem dX6_scrubs_26 : decode cX6_scrubs 26 = .ok (.iconst 0, 1) := dk_3 (dk_at dksX6_scrubs_1 2 rfl rfl)
theorem dX6_scrubs_27 : decode cX6_scrubs 27 = .ok (.ireturn, 1) := dk_172 (dk_at dksX6_scrubs_1 3 rfl rfl)
theorem dX6_scrubs_28 : decode cX6_scrubs 28 = .ok (.iconst 0, 1) := dk_3 (dk_at dksX6_scrubs_1 4 rfl rfl)
theorem dX6_scrubs_29 : decode cX6_scrubs 29 = .ok (.istore_n 3, 1) := dk_62 (dk_at dksX6_scrubs_1 5 rfl rfl)
theorem dX6_scrubs_30 : decode cX6_scrubs 30 = .ok (.iconst 0, 1) := dk_3 (dk_at dksX6_scrubs_1 6 rfl rfl)
theorem dX6_scrubs_31 : decode cX6_scrubs 31 = .ok (.istore 4, 2) := dk_54 4 (dk_at dksX6_scrubs_1 7 rfl rfl)
theorem dX6_scrubs_33 : decode cX6_scrubs 33 = .ok (.iload 4, 2) := dk_21 4 (dk_at dksX6_scrubs_1 9 rfl rfl)
theorem dX6_scrubs_35 : decode cX6_scrubs 35 = .ok (.aload_n 0, 1) := dk_42 (dk_at dksX6_scrubs_1 11 rfl rfl)
theorem dX6_scrubs_36 : decode cX6_scrubs 36 = .ok (.getfield 17, 3) := dk_180 0 17 (dk_at dksX6_scrubs_1 12 rfl rfl)
theorem dX6_scrubs_39 : decode cX6_scrubs 39 = .ok (.iconst 2, 1) := dk_5 (dk_at dksX6_scrubs_1 15 rfl rfl)
theorem dX6_scrubs_40 : decode cX6_scrubs 40 = .ok (.iaload, 1) := dk_46 (dk_at dksX6_scrubs_1 16 rfl rfl)
theorem dX6_scrubs_41 : decode cX6_scrubs 41 = .ok (.if_icmp .ge 46, 3) := dk_162 0 46 (dk_at dksX6_scrubs_1 17 rfl rfl)
theorem dX6_scrubs_44 : decode cX6_scrubs 44 = .ok (.iconst 0, 1) := dk_3 (dk_at dksX6_scrubs_1 20 rfl rfl)
theorem dX6_scrubs_45 : decode cX6_scrubs 45 = .ok (.istore 5, 2) := dk_54 5 (dk_at dksX6_scrubs_1 21 rfl rfl)
theorem dX6_scrubs_47 : decode cX6_scrubs 47 = .ok (.iload 5, 2) := dk_21 5 (dk_at dksX6_scrubs_2 0 rfl rfl)
theorem dX6_scrubs_49 : decode cX6_scrubs 49 = .ok (.aload_n 0, 1) := dk_42 (dk_at dksX6_scrubs_2 2 rfl rfl)
theorem dX6_scrubs_50 : decode cX6_scrubs 50 = .ok (.getfield 171, 3) := dk_180 0 171 (dk_at dksX6_scrubs_2 3 rfl rfl)
theorem dX6_scrubs_53 : decode cX6_scrubs 53 = .ok (.if_icmp .ge 17, 3) := dk_162 0 17 (dk_at dksX6_scrubs_2 6 rfl rfl)
theorem dX6_scrubs_56 : decode cX6_scrubs 56 = .ok (.aload_n 0, 1) := dk_42 (dk_at dksX6_scrubs_2 9 rfl rfl)
theorem dX6_scrubs_57 : decode cX6_scrubs 57 = .ok (.aload_n 1, 1) := dk_43 (dk_at dksX6_scrubs_2 10 rfl rfl)
theorem dX6_scrubs_58 : decode cX6_scrubs 58 = .ok (.iload 5, 2) := dk_21 5 (dk_at dksX6_scrubs_2 11 rfl rfl)
theorem dX6_scrubs_60 : decode cX6_scrubs 60 = .ok (.iconst 0, 1) := dk_3 (dk_at dksX6_scrubs_2 13 rfl rfl)
theorem dX6_scrubs_61 : decode cX6_scrubs 61 = .ok (.invokevirtual 233, 3) := dk_182 0 233 (dk_at dksX6_scrubs_2 14 rfl rfl)
theorem dX6_scrubs_64 : decode cX6_scrubs 64 = .ok (.iinc 5 1, 3) := dk_132 5 1 (dk_at dksX6_scrubs_2 17 rfl rfl)
theorem dX6_scrubs_67 : decode cX6_scrubs 67 = .ok (.goto (-20), 3) := dk_167 255 236 (dk_at dksX6_scrubs_2 20 rfl rfl)
theorem dX6_scrubs_70 : decode cX6_scrubs 70 = .ok (.iload_n 3, 1) := dk_29 (dk_at dksX6_scrubs_2 23 rfl rfl)
theorem dX6_scrubs_71 : decode cX6_scrubs 71 = .ok (.aload_n 0, 1) := dk_42 (dk_at dksX6_scrubs_3 0 rfl rfl)
theorem dX6_scrubs_72 : decode cX6_scrubs 72 = .ok (.aload_n 1, 1) := dk_43 (dk_at dksX6_scrubs_3 1 rfl rfl)
theorem dX6_scrubs_73 : decode cX6_scrubs 73 = .ok (.iload_n 2, 1) := dk_28 (dk_at dksX6_scrubs_3 2 rfl rfl)
theorem dX6_scrubs_74 : decode cX6_scrubs 74 = .ok (.iload 4, 2) := dk_21 4 (dk_at dksX6_scrubs_3 3 rfl rfl)
theorem dX6_scrubs_76 : decode cX6_scrubs 76 = .ok (.invokevirtual 274, 3) := dk_182 1 18 (dk_at dksX6_scrubs_3 5 rfl rfl)
theorem dX6_scrubs_79 : decode cX6_scrubs 79 = .ok (.iadd, 1) := dk_96 (dk_at dksX6_scrubs_3 8 rfl rfl)
theorem dX6_scrubs_80 : decode cX6_scrubs 80 = .ok (.istore_n 3, 1) := dk_62 (dk_at dksX6_scrubs_3 9 rfl rfl)
theorem dX6_scrubs_81 : decode cX6_scrubs 81 = .ok (.iinc 4 1, 3) := dk_132 4 1 (dk_at dksX6_scrubs_3 10 rfl rfl)
theorem dX6_scrubs_84 : decode cX6_scrubs 84 = .ok (.goto (-51), 3) := dk_167 255 205 (dk_at dksX6_scrubs_3 13 rfl rfl)
theorem dX6_scrubs_87 : decode cX6_scrubs 87 = .ok (.iload_n 3, 1) := dk_29 (dk_at dksX6_scrubs_3 16 rfl rfl)
theorem dX6_scrubs_88 : decode cX6_scrubs 88 = .ok (.ireturn, 1) := dk_172 (dk_at dksX6_scrubs_3 17 rfl rfl)
abbrev cX6_mends : ByteArray := prog_12_method_59_code
def yX6_mends : MethodName := ⟨RX6, "mends", "([III)I"⟩
def dkwX6_mends_7 : List UInt8 := [172]
abbrev dktX6_mends_7 : List UInt8 := dkwX6_mends_7 ++ []
def dkwX6_mends_6 : List UInt8 := [17, 1, 176, 42, 28, 21, 5, 182, 0, 199, 79, 43, 17, 1, 177, 28, 79, 43, 17, 1, 178, 29, 79, 4]
abbrev dktX6_mends_6 : List UInt8 := dkwX6_mends_6 ++ dktX6_mends_7
def dkwX6_mends_5 : List UInt8 := [28, 21, 5, 182, 0, 199, 96, 92, 46, 4, 96, 79, 43, 17, 1, 173, 92, 46, 4, 96, 79, 43]
abbrev dktX6_mends_5 : List UInt8 := dkwX6_mends_5 ++ dktX6_mends_6
def dkwX6_mends_4 : List UInt8 := [42, 43, 28, 29, 21, 5, 42, 180, 0, 50, 21, 5, 46, 21, 6, 130, 182, 1, 5, 43, 17, 1, 160, 42]
abbrev dktX6_mends_4 : List UInt8 := dkwX6_mends_4 ++ dktX6_mends_5
def dkwX6_mends_3 : List UInt8 := [182, 0, 213, 130, 167, 0, 18, 42, 180, 0, 50, 21, 4, 46, 42, 3, 2, 2, 182, 0, 213, 130, 54, 6]
abbrev dktX6_mends_3 : List UInt8 := dkwX6_mends_3 ++ dktX6_mends_4
def dkwX6_mends_2 : List UInt8 := [21, 5, 21, 4, 4, 96, 160, 0, 23, 42, 180, 0, 50, 21, 4, 4, 96, 46, 42, 4, 2, 2]
abbrev dktX6_mends_2 : List UInt8 := dkwX6_mends_2 ++ dktX6_mends_3
def dkwX6_mends_1 : List UInt8 := [21, 5, 16, 254, 160, 0, 12, 43, 17, 1, 174, 92, 46, 4, 96, 79, 21, 5, 156, 0, 5, 3, 172]
abbrev dktX6_mends_1 : List UInt8 := dkwX6_mends_1 ++ dktX6_mends_2
def dkwX6_mends_0 : List UInt8 := [42, 43, 28, 29, 2, 2, 182, 0, 223, 42, 180, 0, 17, 3, 46, 54, 4, 42, 182, 1, 8, 54, 5]
abbrev dktX6_mends_0 : List UInt8 := dkwX6_mends_0 ++ dktX6_mends_1
theorem dksX6_mends_0 : cX6_mends.data.toList.drop 0 = dktX6_mends_0 := by decide +kernel
theorem dksX6_mends_1 : cX6_mends.data.toList.drop 23 = dktX6_mends_1 := dk_seg dksX6_mends_0 23 rfl rfl
theorem dksX6_mends_2 : cX6_mends.data.toList.drop 46 = dktX6_mends_2 := dk_seg dksX6_mends_1 23 rfl rfl
theorem dksX6_mends_3 : cX6_mends.data.toList.drop 68 = dktX6_mends_3 := dk_seg dksX6_mends_2 22 rfl rfl
theorem dksX6_mends_4 : cX6_mends.data.toList.drop 92 = dktX6_mends_4 := dk_seg dksX6_mends_3 24 rfl rfl
theorem dksX6_mends_5 : cX6_mends.data.toList.drop 116 = dktX6_mends_5 := dk_seg dksX6_mends_4 24 rfl rfl
theorem dksX6_mends_6 : cX6_mends.data.toList.drop 138 = dktX6_mends_6 := dk_seg dksX6_mends_5 22 rfl rfl
theorem dksX6_mends_7 : cX6_mends.data.toList.drop 162 = dktX6_mends_7 := dk_seg dksX6_mends_6 24 rfl rfl
theorem dX6_mends_0 : decode cX6_mends 0 = .ok (.aload_n 0, 1) := dk_42 (dk_at dksX6_mends_0 0 rfl rfl)
theorem dX6_mends_1 : decode cX6_mends 1 = .ok (.aload_n 1, 1) := dk_43 (dk_at dksX6_mends_0 1 rfl rfl)
theorem dX6_mends_2 : decode cX6_mends 2 = .ok (.iload_n 2, 1) := dk_28 (dk_at dksX6_mends_0 2 rfl rfl)
theorem dX6_mends_3 : decode cX6_mends 3 = .ok (.iload_n 3, 1) := dk_29 (dk_at dksX6_mends_0 3 rfl rfl)
theorem dX6_mends_4 : decode cX6_mends 4 = .ok (.iconst (-1), 1) := dk_2 (dk_at dksX6_mends_0 4 rfl rfl)
theorem dX6_mends_5 : decode cX6_mends 5 = .ok (.iconst (-1), 1) := dk_2 (dk_at dksX6_mends_0 5 rfl rfl)
theorem dX6_mends_6 : decode cX6_mends 6 = .ok (.invokevirtual 223, 3) := dk_182 0 223 (dk_at dksX6_mends_0 6 rfl rfl)
theorem dX6_mends_9 : decode cX6_mends 9 = .ok (.aload_n 0, 1) := dk_42 (dk_at dksX6_mends_0 9 rfl rfl)
theorem dX6_mends_10 : decode cX6_mends 10 = .ok (.getfield 17, 3) := dk_180 0 17 (dk_at dksX6_mends_0 10 rfl rfl)
theorem dX6_mends_13 : decode cX6_mends 13 = .ok (.iconst 0, 1) := dk_3 (dk_at dksX6_mends_0 13 rfl rfl)
theorem dX6_mends_14 : decode cX6_mends 14 = .ok (.iaload, 1) := dk_46 (dk_at dksX6_mends_0 14 rfl rfl)
theorem dX6_mends_15 : decode cX6_mends 15 = .ok (.istore 4, 2) := dk_54 4 (dk_at dksX6_mends_0 15 rfl rfl)
theorem dX6_mends_17 : decode cX6_mends 17 = .ok (.aload_n 0, 1) := dk_42 (dk_at dksX6_mends_0 17 rfl rfl)
theorem dX6_mends_18 : decode cX6_mends 18 = .ok (.invokevirtual 264, 3) := dk_182 1 8 (dk_at dksX6_mends_0 18 rfl rfl)
theorem dX6_mends_21 : decode cX6_mends 21 = .ok (.istore 5, 2) := dk_54 5 (dk_at dksX6_mends_0 21 rfl rfl)
theorem dX6_mends_23 : decode cX6_mends 23 = .ok (.iload 5, 2) := dk_21 5 (dk_at dksX6_mends_1 0 rfl rfl)
theorem dX6_mends_25 : decode cX6_mends 25 = .ok (.bipush (-2), 2) := dk_16 254 (dk_at dksX6_mends_1 2 rfl rfl)
theorem dX6_mends_27 : decode cX6_mends 27 = .ok (.if_icmp .ne 12, 3) := dk_160 0 12 (dk_at dksX6_mends_1 4 rfl rfl)
theorem dX6_mends_30 : decode cX6_mends 30 = .ok (.aload_n 1, 1) := dk_43 (dk_at dksX6_mends_1 7 rfl rfl)
theorem dX6_mends_31 : decode cX6_mends 31 = .ok (.sipush 430, 3) := dk_17 1 174 (dk_at dksX6_mends_1 8 rfl rfl)
theorem dX6_mends_34 : decode cX6_mends 34 = .ok (.dup2, 1) := dk_92 (dk_at dksX6_mends_1 11 rfl rfl)
theorem dX6_mends_35 : decode cX6_mends 35 = .ok (.iaload, 1) := dk_46 (dk_at dksX6_mends_1 12 rfl rfl)
theorem dX6_mends_36 : decode cX6_mends 36 = .ok (.iconst 1, 1) := dk_4 (dk_at dksX6_mends_1 13 rfl rfl)
theorem dX6_mends_37 : decode cX6_mends 37 = .ok (.iadd, 1) := dk_96 (dk_at dksX6_mends_1 14 rfl rfl)
theorem dX6_mends_38 : decode cX6_mends 38 = .ok (.iastore, 1) := dk_79 (dk_at dksX6_mends_1 15 rfl rfl)
theorem dX6_mends_39 : decode cX6_mends 39 = .ok (.iload 5, 2) := dk_21 5 (dk_at dksX6_mends_1 16 rfl rfl)
theorem dX6_mends_41 : decode cX6_mends 41 = .ok (.ifCond .ge 5, 3) := dk_156 0 5 (dk_at dksX6_mends_1 18 rfl rfl)
theorem dX6_mends_44 : decode cX6_mends 44 = .ok (.iconst 0, 1) := dk_3 (dk_at dksX6_mends_1 21 rfl rfl)
theorem dX6_mends_45 : decode cX6_mends 45 = .ok (.ireturn, 1) := dk_172 (dk_at dksX6_mends_1 22 rfl rfl)
theorem dX6_mends_46 : decode cX6_mends 46 = .ok (.iload 5, 2) := dk_21 5 (dk_at dksX6_mends_2 0 rfl rfl)
theorem dX6_mends_48 : decode cX6_mends 48 = .ok (.iload 4, 2) := dk_21 4 (dk_at dksX6_mends_2 2 rfl rfl)
theorem dX6_mends_50 : decode cX6_mends 50 = .ok (.iconst 1, 1) := dk_4 (dk_at dksX6_mends_2 4 rfl rfl)
theorem dX6_mends_51 : decode cX6_mends 51 = .ok (.iadd, 1) := dk_96 (dk_at dksX6_mends_2 5 rfl rfl)
theorem dX6_mends_52 : decode cX6_mends 52 = .ok (.if_icmp .ne 23, 3) := dk_160 0 23 (dk_at dksX6_mends_2 6 rfl rfl)
theorem dX6_mends_55 : decode cX6_mends 55 = .ok (.aload_n 0, 1) := dk_42 (dk_at dksX6_mends_2 9 rfl rfl)
theorem dX6_mends_56 : decode cX6_mends 56 = .ok (.getfield 50, 3) := dk_180 0 50 (dk_at dksX6_mends_2 10 rfl rfl)
theorem dX6_mends_59 : decode cX6_mends 59 = .ok (.iload 4, 2) := dk_21 4 (dk_at dksX6_mends_2 13 rfl rfl)
theorem dX6_mends_61 : decode cX6_mends 61 = .ok (.iconst 1, 1) := dk_4 (dk_at dksX6_mends_2 15 rfl rfl)
theorem dX6_mends_62 : decode cX6_mends 62 = .ok (.iadd, 1) := dk_96 (dk_at dksX6_mends_2 16 rfl rfl)
theorem dX6_mends_63 : decode cX6_mends 63 = .ok (.iaload, 1) := dk_46 (dk_at dksX6_mends_2 17 rfl rfl)
theorem dX6_mends_64 : decode cX6_mends 64 = .ok (.aload_n 0, 1) := dk_42 (dk_at dksX6_mends_2 18 rfl rfl)
theorem dX6_mends_65 : decode cX6_mends 65 = .ok (.iconst 1, 1) := dk_4 (dk_at dksX6_mends_2 19 rfl rfl)
theorem dX6_mends_66 : decode cX6_mends 66 = .ok (.iconst (-1), 1) := dk_2 (dk_at dksX6_mends_2 20 rfl rfl)
theorem dX6_mends_67 : decode cX6_mends 67 = .ok (.iconst (-1), 1) := dk_2 (dk_at dksX6_mends_2 21 rfl rfl)
theorem dX6_mends_68 : decode cX6_mends 68 = .ok (.invokevirtual 213, 3) := dk_182 0 213 (dk_at dksX6_mends_3 0 rfl rfl)
theorem dX6_mends_71 : decode cX6_mends 71 = .ok (.ixor, 1) := dk_130 (dk_at dksX6_mends_3 3 rfl rfl)
theorem dX6_mends_72 : decode cX6_mends 72 = .ok (.goto 18, 3) := dk_167 0 18 (dk_at dksX6_mends_3 4 rfl rfl)
theorem dX6_mends_75 : decode cX6_mends 75 = .ok (.aload_n 0, 1) := dk_42 (dk_at dksX6_mends_3 7 rfl rfl)
theorem dX6_mends_76 : decode cX6_mends 76 = .ok (.getfield 50, 3) := dk_180 0 50 (dk_at dksX6_mends_3 8 rfl rfl)
theorem dX6_mends_79 : decode cX6_mends 79 = .ok (.iload 4, 2) := dk_21 4 (dk_at dksX6_mends_3 11 rfl rfl)
theorem dX6_mends_81 : decode cX6_mends 81 = .ok (.iaload, 1) := dk_46 (dk_at dksX6_mends_3 13 rfl rfl)
theorem dX6_mends_82 : decode cX6_mends 82 = .ok (.aload_n 0, 1) := dk_42 (dk_at dksX6_mends_3 14 rfl rfl)
theorem dX6_mends_83 : decode cX6_mends 83 = .ok (.iconst 0, 1) := dk_3 (dk_at dksX6_mends_3 15 rfl rfl)
theorem dX6_mends_84 : decode cX6_mends 84 = .ok (.iconst (-1), 1) := dk_2 (dk_at dksX6_mends_3 16 rfl rfl)
theorem dX6_mends_85 : decode cX6_mends 85 = .ok (.iconst (-1), 1) := dk_2 (dk_at dksX6_mends_3 17 rfl rfl)
theorem dX6_mends_86 : decode cX6_mends 86 = .ok (.invokevirtual 213, 3) := dk_182 0 213 (dk_at dksX6_mends_3 18 rfl rfl)
theorem dX6_mends_89 : decode cX6_mends 89 = .ok (.ixor, 1) := dk_130 (dk_at dksX6_mends_3 21 rfl rfl)
theorem dX6_mends_90 : decode cX6_mends 90 = .ok (.istore 6, 2) := dk_54 6 (dk_at dksX6_mends_3 22 rfl rfl)
theorem dX6_mends_92 : decode cX6_mends 92 = .ok (.aload_n 0, 1) := dk_42 (dk_at dksX6_mends_4 0 rfl rfl)
theorem dX6_mends_93 : decode cX6_mends 93 = .ok (.aload_n 1, 1) := dk_43 (dk_at dksX6_mends_4 1 rfl rfl)
theorem dX6_mends_94 : decode cX6_mends 94 = .ok (.iload_n 2, 1) := dk_28 (dk_at dksX6_mends_4 2 rfl rfl)
theorem dX6_mends_95 : decode cX6_mends 95 = .ok (.iload_n 3, 1) := dk_29 (dk_at dksX6_mends_4 3 rfl rfl)
theorem dX6_mends_96 : decode cX6_mends 96 = .ok (.iload 5, 2) := dk_21 5 (dk_at dksX6_mends_4 4 rfl rfl)
theorem dX6_mends_98 : decode cX6_mends 98 = .ok (.aload_n 0, 1) := dk_42 (dk_at dksX6_mends_4 6 rfl rfl)
theorem dX6_mends_99 : decode cX6_mends 99 = .ok (.getfield 50, 3) := dk_180 0 50 (dk_at dksX6_mends_4 7 rfl rfl)
theorem dX6_mends_102 : decode cX6_mends 102 = .ok (.iload 5, 2) := dk_21 5 (dk_at dksX6_mends_4 10 rfl rfl)
theorem dX6_mends_104 : decode cX6_mends 104 = .ok (.iaload, 1) := dk_46 (dk_at dksX6_mends_4 12 rfl rfl)
theorem dX6_mends_105 : decode cX6_mends 105 = .ok (.iload 6, 2) := dk_21 6 (dk_at dksX6_mends_4 13 rfl rfl)
theorem dX6_mends_107 : decode cX6_mends 107 = .ok (.ixor, 1) := dk_130 (dk_at dksX6_mends_4 15 rfl rfl)
theorem dX6_mends_108 : decode cX6_mends 108 = .ok (.invokevirtual 261, 3) := dk_182 1 5 (dk_at dksX6_mends_4 16 rfl rfl)
theorem dX6_mends_111 : decode cX6_mends 111 = .ok (.aload_n 1, 1) := dk_43 (dk_at dksX6_mends_4 19 rfl rfl)
theorem dX6_mends_112 : decode cX6_mends 112 = .ok (.sipush 416, 3) := dk_17 1 160 (dk_at dksX6_mends_4 20 rfl rfl)
theorem dX6_mends_115 : decode cX6_mends 115 = .ok (.aload_n 0, 1) := dk_42 (dk_at dksX6_mends_4 23 rfl rfl)
theorem dX6_mends_116 : decode cX6_mends 116 = .ok (.iload_n 2, 1) := dk_28 (dk_at dksX6_mends_5 0 rfl rfl)
theorem dX6_mends_117 : decode cX6_mends 117 = .ok (.iload 5, 2) := dk_21 5 (dk_at dksX6_mends_5 1 rfl rfl)
theorem dX6_mends_119 : decode cX6_mends 119 = .ok (.invokevirtual 199, 3) := dk_182 0 199 (dk_at dksX6_mends_5 3 rfl rfl)
theorem dX6_mends_122 : decode cX6_mends 122 = .ok (.iadd, 1) := dk_96 (dk_at dksX6_mends_5 6 rfl rfl)
theorem dX6_mends_123 : decode cX6_mends 123 = .ok (.dup2, 1) := dk_92 (dk_at dksX6_mends_5 7 rfl rfl)
theorem dX6_mends_124 : decode cX6_mends 124 = .ok (.iaload, 1) := dk_46 (dk_at dksX6_mends_5 8 rfl rfl)
theorem dX6_mends_125 : decode cX6_mends 125 = .ok (.iconst 1, 1) := dk_4 (dk_at dksX6_mends_5 9 rfl rfl)
theorem dX6_mends_126 : decode cX6_mends 126 = .ok (.iadd, 1) := dk_96 (dk_at dksX6_mends_5 10 rfl rfl)
theorem dX6_mends_127 : decode cX6_mends 127 = .ok (.iastore, 1) := dk_79 (dk_at dksX6_mends_5 11 rfl rfl)
theorem dX6_mends_128 : decode cX6_mends 128 = .ok (.aload_n 1, 1) := dk_43 (dk_at dksX6_mends_5 12 rfl rfl)
theorem dX6_mends_129 : decode cX6_mends 129 = .ok (.sipush 429, 3) := dk_17 1 173 (dk_at dksX6_mends_5 13 rfl rfl)
theorem dX6_mends_132 : decode cX6_mends 132 = .ok (.dup2, 1) := dk_92 (dk_at dksX6_mends_5 16 rfl rfl)
theorem dX6_mends_133 : decode cX6_mends 133 = .ok (.iaload, 1) := dk_46 (dk_at dksX6_mends_5 17 rfl rfl)
theorem dX6_mends_134 : decode cX6_mends 134 = .ok (.iconst 1, 1) := dk_4 (dk_at dksX6_mends_5 18 rfl rfl)
theorem dX6_mends_135 : decode cX6_mends 135 = .ok (.iadd, 1) := dk_96 (dk_at dksX6_mends_5 19 rfl rfl)
theorem dX6_mends_136 : decode cX6_mends 136 = .ok (.iastore, 1) := dk_79 (dk_at dksX6_mends_5 20 rfl rfl)
theorem dX6_mends_137 : decode cX6_mends 137 = .ok (.aload_n 1, 1) := dk_43 (dk_at dksX6_mends_5 21 rfl rfl)
theorem dX6_mends_138 : decode cX6_mends 138 = .ok (.sipush 432, 3) := dk_17 1 176 (dk_at dksX6_mends_6 0 rfl rfl)
theorem dX6_mends_141 : decode cX6_mends 141 = .ok (.aload_n 0, 1) := dk_42 (dk_at dksX6_mends_6 3 rfl rfl)
theorem dX6_mends_142 : decode cX6_mends 142 = .ok (.iload_n 2, 1) := dk_28 (dk_at dksX6_mends_6 4 rfl rfl)
theorem dX6_mends_143 : decode cX6_mends 143 = .ok (.iload 5, 2) := dk_21 5 (dk_at dksX6_mends_6 5 rfl rfl)
theorem dX6_mends_145 : decode cX6_mends 145 = .ok (.invokevirtual 199, 3) := dk_182 0 199 (dk_at dksX6_mends_6 7 rfl rfl)
theorem dX6_mends_148 : decode cX6_mends 148 = .ok (.iastore, 1) := dk_79 (dk_at dksX6_mends_6 10 rfl rfl)
theorem dX6_mends_149 : decode cX6_mends 149 = .ok (.aload_n 1, 1) := dk_43 (dk_at dksX6_mends_6 11 rfl rfl)
theorem dX6_mends_150 : decode cX6_mends 150 = .ok (.sipush 433, 3) := dk_17 1 177 (dk_at dksX6_mends_6 12 rfl rfl)
theorem dX6_mends_153 : decode cX6_mends 153 = .ok (.iload_n 2, 1) := dk_28 (dk_at dksX6_mends_6 15 rfl rfl)
theorem dX6_mends_154 : decode cX6_mends 154 = .ok (.iastore, 1) := dk_79 (dk_at dksX6_mends_6 16 rfl rfl)
theorem dX6_mends_155 : decode cX6_mends 155 = .ok (.aload_n 1, 1) := dk_43 (dk_at dksX6_mends_6 17 rfl rfl)
theorem dX6_mends_156 : decode cX6_mends 156 = .ok (.sipush 434, 3) := dk_17 1 178 (dk_at dksX6_mends_6 18 rfl rfl)
theorem dX6_mends_159 : decode cX6_mends 159 = .ok (.iload_n 3, 1) := dk_29 (dk_at dksX6_mends_6 21 rfl rfl)
theorem dX6_mends_160 : decode cX6_mends 160 = .ok (.iastore, 1) := dk_79 (dk_at dksX6_mends_6 22 rfl rfl)
theorem dX6_mends_161 : decode cX6_mends 161 = .ok (.iconst 1, 1) := dk_4 (dk_at dksX6_mends_6 23 rfl rfl)
theorem dX6_mends_162 : decode cX6_mends 162 = .ok (.ireturn, 1) := dk_172 (dk_at dksX6_mends_7 0 rfl rfl)
abbrev cX6_wrong : ByteArray := prog_12_method_56_code
def yX6_wrong : MethodName := ⟨RX6, "wrong", "()I"⟩
def dkwX6_wrong_3 : List UInt8 := [182, 0, 164, 46, 54, 4, 21, 4, 27, 162, 0, 8, 21, 4, 167, 0, 5, 16, 254, 172]
abbrev dktX6_wrong_3 : List UInt8 := dkwX6_wrong_3 ++ []
def dkwX6_wrong_2 : List UInt8 := [2, 172, 29, 154, 0, 5, 27, 172, 28, 154, 0, 7, 27, 4, 96, 172, 42, 180, 0, 35, 42, 29, 28]
abbrev dktX6_wrong_2 : List UInt8 := dkwX6_wrong_2 ++ dktX6_wrong_3
def dkwX6_wrong_1 : List UInt8 := [180, 0, 50, 27, 4, 96, 46, 42, 4, 2, 2, 182, 0, 213, 130, 62, 28, 154, 0, 9, 29, 154, 0, 5]
abbrev dktX6_wrong_1 : List UInt8 := dkwX6_wrong_1 ++ dktX6_wrong_2
def dkwX6_wrong_0 : List UInt8 := [42, 180, 0, 17, 3, 46, 60, 42, 180, 0, 50, 27, 46, 42, 3, 2, 2, 182, 0, 213, 130, 61, 42]
abbrev dktX6_wrong_0 : List UInt8 := dkwX6_wrong_0 ++ dktX6_wrong_1
theorem dksX6_wrong_0 : cX6_wrong.data.toList.drop 0 = dktX6_wrong_0 := by decide +kernel
theorem dksX6_wrong_1 : cX6_wrong.data.toList.drop 23 = dktX6_wrong_1 := dk_seg dksX6_wrong_0 23 rfl rfl
theorem dksX6_wrong_2 : cX6_wrong.data.toList.drop 47 = dktX6_wrong_2 := dk_seg dksX6_wrong_1 24 rfl rfl
theorem dksX6_wrong_3 : cX6_wrong.data.toList.drop 70 = dktX6_wrong_3 := dk_seg dksX6_wrong_2 23 rfl rfl
theorem dX6_wrong_0 : decode cX6_wrong 0 = .ok (.aload_n 0, 1) := dk_42 (dk_at dksX6_wrong_0 0 rfl rfl)
theorem dX6_wrong_1 : decode cX6_wrong 1 = .ok (.getfield 17, 3) := dk_180 0 17 (dk_at dksX6_wrong_0 1 rfl rfl)
theorem dX6_wrong_4 : decode cX6_wrong 4 = .ok (.iconst 0, 1) := dk_3 (dk_at dksX6_wrong_0 4 rfl rfl)
theorem dX6_wrong_5 : decode cX6_wrong 5 = .ok (.iaload, 1) := dk_46 (dk_at dksX6_wrong_0 5 rfl rfl)
theorem dX6_wrong_6 : decode cX6_wrong 6 = .ok (.istore_n 1, 1) := dk_60 (dk_at dksX6_wrong_0 6 rfl rfl)
theorem dX6_wrong_7 : decode cX6_wrong 7 = .ok (.aload_n 0, 1) := dk_42 (dk_at dksX6_wrong_0 7 rfl rfl)
theorem dX6_wrong_8 : decode cX6_wrong 8 = .ok (.getfield 50, 3) := dk_180 0 50 (dk_at dksX6_wrong_0 8 rfl rfl)
theorem dX6_wrong_11 : decode cX6_wrong 11 = .ok (.iload_n 1, 1) := dk_27 (dk_at dksX6_wrong_0 11 rfl rfl)
theorem dX6_wrong_12 : decode cX6_wrong 12 = .ok (.iaload, 1) := dk_46 (dk_at dksX6_wrong_0 12 rfl rfl)
theorem dX6_wrong_13 : decode cX6_wrong 13 = .ok (.aload_n 0, 1) := dk_42 (dk_at dksX6_wrong_0 13 rfl rfl)
theorem dX6_wrong_14 : decode cX6_wrong 14 = .ok (.iconst 0, 1) := dk_3 (dk_at dksX6_wrong_0 14 rfl rfl)
theorem dX6_wrong_15 : decode cX6_wrong 15 = .ok (.iconst (-1), 1) := dk_2 (dk_at dksX6_wrong_0 15 rfl rfl)
theorem dX6_wrong_16 : decode cX6_wrong 16 = .ok (.iconst (-1), 1) := dk_2 (dk_at dksX6_wrong_0 16 rfl rfl)
theorem dX6_wrong_17 : decode cX6_wrong 17 = .ok (.invokevirtual 213, 3) := dk_182 0 213 (dk_at dksX6_wrong_0 17 rfl rfl)
theorem dX6_wrong_20 : decode cX6_wrong 20 = .ok (.ixor, 1) := dk_130 (dk_at dksX6_wrong_0 20 rfl rfl)
theorem dX6_wrong_21 : decode cX6_wrong 21 = .ok (.istore_n 2, 1) := dk_61 (dk_at dksX6_wrong_0 21 rfl rfl)
theorem dX6_wrong_22 : decode cX6_wrong 22 = .ok (.aload_n 0, 1) := dk_42 (dk_at dksX6_wrong_0 22 rfl rfl)
theorem dX6_wrong_23 : decode cX6_wrong 23 = .ok (.getfield 50, 3) := dk_180 0 50 (dk_at dksX6_wrong_1 0 rfl rfl)
theorem dX6_wrong_26 : decode cX6_wrong 26 = .ok (.iload_n 1, 1) := dk_27 (dk_at dksX6_wrong_1 3 rfl rfl)
theorem dX6_wrong_27 : decode cX6_wrong 27 = .ok (.iconst 1, 1) := dk_4 (dk_at dksX6_wrong_1 4 rfl rfl)
theorem dX6_wrong_28 : decode cX6_wrong 28 = .ok (.iadd, 1) := dk_96 (dk_at dksX6_wrong_1 5 rfl rfl)
theorem dX6_wrong_29 : decode cX6_wrong 29 = .ok (.iaload, 1) := dk_46 (dk_at dksX6_wrong_1 6 rfl rfl)
theorem dX6_wrong_30 : decode cX6_wrong 30 = .ok (.aload_n 0, 1) := dk_42 (dk_at dksX6_wrong_1 7 rfl rfl)
theorem dX6_wrong_31 : decode cX6_wrong 31 = .ok (.iconst 1, 1) := dk_4 (dk_at dksX6_wrong_1 8 rfl rfl)
theorem dX6_wrong_32 : decode cX6_wrong 32 = .ok (.iconst (-1), 1) := dk_2 (dk_at dksX6_wrong_1 9 rfl rfl)
theorem dX6_wrong_33 : decode cX6_wrong 33 = .ok (.iconst (-1), 1) := dk_2 (dk_at dksX6_wrong_1 10 rfl rfl)
theorem dX6_wrong_34 : decode cX6_wrong 34 = .ok (.invokevirtual 213, 3) := dk_182 0 213 (dk_at dksX6_wrong_1 11 rfl rfl)
theorem dX6_wrong_37 : decode cX6_wrong 37 = .ok (.ixor, 1) := dk_130 (dk_at dksX6_wrong_1 14 rfl rfl)
theorem dX6_wrong_38 : decode cX6_wrong 38 = .ok (.istore_n 3, 1) := dk_62 (dk_at dksX6_wrong_1 15 rfl rfl)
theorem dX6_wrong_39 : decode cX6_wrong 39 = .ok (.iload_n 2, 1) := dk_28 (dk_at dksX6_wrong_1 16 rfl rfl)
theorem dX6_wrong_40 : decode cX6_wrong 40 = .ok (.ifCond .ne 9, 3) := dk_154 0 9 (dk_at dksX6_wrong_1 17 rfl rfl)
theorem dX6_wrong_43 : decode cX6_wrong 43 = .ok (.iload_n 3, 1) := dk_29 (dk_at dksX6_wrong_1 20 rfl rfl)
theorem dX6_wrong_44 : decode cX6_wrong 44 = .ok (.ifCond .ne 5, 3) := dk_154 0 5 (dk_at dksX6_wrong_1 21 rfl rfl)
theorem dX6_wrong_47 : decode cX6_wrong 47 = .ok (.iconst (-1), 1) := dk_2 (dk_at dksX6_wrong_2 0 rfl rfl)
theorem dX6_wrong_48 : decode cX6_wrong 48 = .ok (.ireturn, 1) := dk_172 (dk_at dksX6_wrong_2 1 rfl rfl)
theorem dX6_wrong_49 : decode cX6_wrong 49 = .ok (.iload_n 3, 1) := dk_29 (dk_at dksX6_wrong_2 2 rfl rfl)
theorem dX6_wrong_50 : decode cX6_wrong 50 = .ok (.ifCond .ne 5, 3) := dk_154 0 5 (dk_at dksX6_wrong_2 3 rfl rfl)
theorem dX6_wrong_53 : decode cX6_wrong 53 = .ok (.iload_n 1, 1) := dk_27 (dk_at dksX6_wrong_2 6 rfl rfl)
theorem dX6_wrong_54 : decode cX6_wrong 54 = .ok (.ireturn, 1) := dk_172 (dk_at dksX6_wrong_2 7 rfl rfl)
theorem dX6_wrong_55 : decode cX6_wrong 55 = .ok (.iload_n 2, 1) := dk_28 (dk_at dksX6_wrong_2 8 rfl rfl)
theorem dX6_wrong_56 : decode cX6_wrong 56 = .ok (.ifCond .ne 7, 3) := dk_154 0 7 (dk_at dksX6_wrong_2 9 rfl rfl)
theorem dX6_wrong_59 : decode cX6_wrong 59 = .ok (.iload_n 1, 1) := dk_27 (dk_at dksX6_wrong_2 12 rfl rfl)
theorem dX6_wrong_60 : decode cX6_wrong 60 = .ok (.iconst 1, 1) := dk_4 (dk_at dksX6_wrong_2 13 rfl rfl)
theorem dX6_wrong_61 : decode cX6_wrong 61 = .ok (.iadd, 1) := dk_96 (dk_at dksX6_wrong_2 14 rfl rfl)
theorem dX6_wrong_62 : decode cX6_wrong 62 = .ok (.ireturn, 1) := dk_172 (dk_at dksX6_wrong_2 15 rfl rfl)
theorem dX6_wrong_63 : decode cX6_wrong 63 = .ok (.aload_n 0, 1) := dk_42 (dk_at dksX6_wrong_2 16 rfl rfl)
theorem dX6_wrong_64 : decode cX6_wrong 64 = .ok (.getfield 35, 3) := dk_180 0 35 (dk_at dksX6_wrong_2 17 rfl rfl)
theorem dX6_wrong_67 : decode cX6_wrong 67 = .ok (.aload_n 0, 1) := dk_42 (dk_at dksX6_wrong_2 20 rfl rfl)
theorem dX6_wrong_68 : decode cX6_wrong 68 = .ok (.iload_n 3, 1) := dk_29 (dk_at dksX6_wrong_2 21 rfl rfl)
theorem dX6_wrong_69 : decode cX6_wrong 69 = .ok (.iload_n 2, 1) := dk_28 (dk_at dksX6_wrong_2 22 rfl rfl)
theorem dX6_wrong_70 : decode cX6_wrong 70 = .ok (.invokevirtual 164, 3) := dk_182 0 164 (dk_at dksX6_wrong_3 0 rfl rfl)
theorem dX6_wrong_73 : decode cX6_wrong 73 = .ok (.iaload, 1) := dk_46 (dk_at dksX6_wrong_3 3 rfl rfl)
theorem dX6_wrong_74 : decode cX6_wrong 74 = .ok (.istore 4, 2) := dk_54 4 (dk_at dksX6_wrong_3 4 rfl rfl)
theorem dX6_wrong_76 : decode cX6_wrong 76 = .ok (.iload 4, 2) := dk_21 4 (dk_at dksX6_wrong_3 6 rfl rfl)
theorem dX6_wrong_78 : decode cX6_wrong 78 = .ok (.iload_n 1, 1) := dk_27 (dk_at dksX6_wrong_3 8 rfl rfl)
theorem dX6_wrong_79 : decode cX6_wrong 79 = .ok (.if_icmp .ge 8, 3) := dk_162 0 8 (dk_at dksX6_wrong_3 9 rfl rfl)
theorem dX6_wrong_82 : decode cX6_wrong 82 = .ok (.iload 4, 2) := dk_21 4 (dk_at dksX6_wrong_3 12 rfl rfl)
theorem dX6_wrong_84 : decode cX6_wrong 84 = .ok (.goto 5, 3) := dk_167 0 5 (dk_at dksX6_wrong_3 14 rfl rfl)
theorem dX6_wrong_87 : decode cX6_wrong 87 = .ok (.bipush (-2), 2) := dk_16 254 (dk_at dksX6_wrong_3 17 rfl rfl)
theorem dX6_wrong_89 : decode cX6_wrong 89 = .ok (.ireturn, 1) := dk_172 (dk_at dksX6_wrong_3 19 rfl rfl)
abbrev cX6_tears : ByteArray := prog_12_method_73_code
def yX6_tears : MethodName := ⟨RX6, "tears", "([IIII)V"⟩
def dkwX6_tears_5 : List UInt8 := [46, 130, 29, 130, 182, 1, 5, 43, 17, 1, 169, 92, 46, 4, 21, 5, 120, 128, 79, 177]
abbrev dktX6_tears_5 : List UInt8 := dkwX6_tears_5 ++ []
def dkwX6_tears_4 : List UInt8 := [164, 0, 31, 42, 43, 21, 5, 21, 6, 21, 8, 42, 180, 0, 50, 21, 8, 46, 42, 180, 0, 50, 21, 7]
abbrev dktX6_tears_4 : List UInt8 := dkwX6_tears_4 ++ dktX6_tears_5
def dkwX6_tears_3 : List UInt8 := [182, 1, 1, 21, 4, 158, 0, 15, 42, 43, 21, 5, 21, 6, 21, 7, 29, 182, 1, 5, 21, 4, 4]
abbrev dktX6_tears_3 : List UInt8 := dkwX6_tears_3 ++ dktX6_tears_4
def dkwX6_tears_2 : List UInt8 := [3, 182, 1, 1, 42, 43, 21, 5, 21, 8, 3, 182, 1, 1, 42, 43, 21, 5, 21, 8, 4, 96, 3]
abbrev dktX6_tears_2 : List UInt8 := dkwX6_tears_2 ++ dktX6_tears_3
def dkwX6_tears_1 : List UInt8 := [180, 0, 17, 3, 46, 54, 8, 42, 43, 21, 5, 21, 6, 2, 2, 182, 0, 223, 42, 43, 21, 5, 21, 7]
abbrev dktX6_tears_1 : List UInt8 := dkwX6_tears_1 ++ dktX6_tears_2
def dkwX6_tears_0 : List UInt8 := [42, 28, 182, 0, 217, 54, 5, 42, 28, 182, 0, 220, 54, 6, 42, 28, 182, 0, 230, 54, 7, 42]
abbrev dktX6_tears_0 : List UInt8 := dkwX6_tears_0 ++ dktX6_tears_1
theorem dksX6_tears_0 : cX6_tears.data.toList.drop 0 = dktX6_tears_0 := by decide +kernel
theorem dksX6_tears_1 : cX6_tears.data.toList.drop 22 = dktX6_tears_1 := dk_seg dksX6_tears_0 22 rfl rfl
theorem dksX6_tears_2 : cX6_tears.data.toList.drop 46 = dktX6_tears_2 := dk_seg dksX6_tears_1 24 rfl rfl
theorem dksX6_tears_3 : cX6_tears.data.toList.drop 69 = dktX6_tears_3 := dk_seg dksX6_tears_2 23 rfl rfl
theorem dksX6_tears_4 : cX6_tears.data.toList.drop 92 = dktX6_tears_4 := dk_seg dksX6_tears_3 23 rfl rfl
theorem dksX6_tears_5 : cX6_tears.data.toList.drop 116 = dktX6_tears_5 := dk_seg dksX6_tears_4 24 rfl rfl
theorem dX6_tears_0 : decode cX6_tears 0 = .ok (.aload_n 0, 1) := dk_42 (dk_at dksX6_tears_0 0 rfl rfl)
theorem dX6_tears_1 : decode cX6_tears 1 = .ok (.iload_n 2, 1) := dk_28 (dk_at dksX6_tears_0 1 rfl rfl)
theorem dX6_tears_2 : decode cX6_tears 2 = .ok (.invokevirtual 217, 3) := dk_182 0 217 (dk_at dksX6_tears_0 2 rfl rfl)
theorem dX6_tears_5 : decode cX6_tears 5 = .ok (.istore 5, 2) := dk_54 5 (dk_at dksX6_tears_0 5 rfl rfl)
theorem dX6_tears_7 : decode cX6_tears 7 = .ok (.aload_n 0, 1) := dk_42 (dk_at dksX6_tears_0 7 rfl rfl)
theorem dX6_tears_8 : decode cX6_tears 8 = .ok (.iload_n 2, 1) := dk_28 (dk_at dksX6_tears_0 8 rfl rfl)
theorem dX6_tears_9 : decode cX6_tears 9 = .ok (.invokevirtual 220, 3) := dk_182 0 220 (dk_at dksX6_tears_0 9 rfl rfl)
theorem dX6_tears_12 : decode cX6_tears 12 = .ok (.istore 6, 2) := dk_54 6 (dk_at dksX6_tears_0 12 rfl rfl)
theorem dX6_tears_14 : decode cX6_tears 14 = .ok (.aload_n 0, 1) := dk_42 (dk_at dksX6_tears_0 14 rfl rfl)
theorem dX6_tears_15 : decode cX6_tears 15 = .ok (.iload_n 2, 1) := dk_28 (dk_at dksX6_tears_0 15 rfl rfl)
theorem dX6_tears_16 : decode cX6_tears 16 = .ok (.invokevirtual 230, 3) := dk_182 0 230 (dk_at dksX6_tears_0 16 rfl rfl)
theorem dX6_tears_19 : decode cX6_tears 19 = .ok (.istore 7, 2) := dk_54 7 (dk_at dksX6_tears_0 19 rfl rfl)
theorem dX6_tears_21 : decode cX6_tears 21 = .ok (.aload_n 0, 1) := dk_42 (dk_at dksX6_tears_0 21 rfl rfl)
theorem dX6_tears_22 : decode cX6_tears 22 = .ok (.getfield 17, 3) := dk_180 0 17 (dk_at dksX6_tears_1 0 rfl rfl)
theorem dX6_tears_25 : decode cX6_tears 25 = .ok (.iconst 0, 1) := dk_3 (dk_at dksX6_tears_1 3 rfl rfl)
theorem dX6_tears_26 : decode cX6_tears 26 = .ok (.iaload, 1) := dk_46 (dk_at dksX6_tears_1 4 rfl rfl)
theorem dX6_tears_27 : decode cX6_tears 27 = .ok (.istore 8, 2) := dk_54 8 (dk_at dksX6_tears_1 5 rfl rfl)
theorem dX6_tears_29 : decode cX6_tears 29 = .ok (.aload_n 0, 1) := dk_42 (dk_at dksX6_tears_1 7 rfl rfl)
theorem dX6_tears_30 : decode cX6_tears 30 = .ok (.aload_n 1, 1) := dk_43 (dk_at dksX6_tears_1 8 rfl rfl)
theorem dX6_tears_31 : decode cX6_tears 31 = .ok (.iload 5, 2) := dk_21 5 (dk_at dksX6_tears_1 9 rfl rfl)
theorem dX6_tears_33 : decode cX6_tears 33 = .ok (.iload 6, 2) := dk_21 6 (dk_at dksX6_tears_1 11 rfl rfl)
theorem dX6_tears_35 : decode cX6_tears 35 = .ok (.iconst (-1), 1) := dk_2 (dk_at dksX6_tears_1 13 rfl rfl)
theorem dX6_tears_36 : decode cX6_tears 36 = .ok (.iconst (-1), 1) := dk_2 (dk_at dksX6_tears_1 14 rfl rfl)
theorem dX6_tears_37 : decode cX6_tears 37 = .ok (.invokevirtual 223, 3) := dk_182 0 223 (dk_at dksX6_tears_1 15 rfl rfl)
theorem dX6_tears_40 : decode cX6_tears 40 = .ok (.aload_n 0, 1) := dk_42 (dk_at dksX6_tears_1 18 rfl rfl)
theorem dX6_tears_41 : decode cX6_tears 41 = .ok (.aload_n 1, 1) := dk_43 (dk_at dksX6_tears_1 19 rfl rfl)
theorem dX6_tears_42 : decode cX6_tears 42 = .ok (.iload 5, 2) := dk_21 5 (dk_at dksX6_tears_1 20 rfl rfl)
theorem dX6_tears_44 : decode cX6_tears 44 = .ok (.iload 7, 2) := dk_21 7 (dk_at dksX6_tears_1 22 rfl rfl)
theorem dX6_tears_46 : decode cX6_tears 46 = .ok (.iconst 0, 1) := dk_3 (dk_at dksX6_tears_2 0 rfl rfl)
theorem dX6_tears_47 : decode cX6_tears 47 = .ok (.invokevirtual 257, 3) := dk_182 1 1 (dk_at dksX6_tears_2 1 rfl rfl)
theorem dX6_tears_50 : decode cX6_tears 50 = .ok (.aload_n 0, 1) := dk_42 (dk_at dksX6_tears_2 4 rfl rfl)
theorem dX6_tears_51 : decode cX6_tears 51 = .ok (.aload_n 1, 1) := dk_43 (dk_at dksX6_tears_2 5 rfl rfl)
theorem dX6_tears_52 : decode cX6_tears 52 = .ok (.iload 5, 2) := dk_21 5 (dk_at dksX6_tears_2 6 rfl rfl)
theorem dX6_tears_54 : decode cX6_tears 54 = .ok (.iload 8, 2) := dk_21 8 (dk_at dksX6_tears_2 8 rfl rfl)
theorem dX6_tears_56 : decode cX6_tears 56 = .ok (.iconst 0, 1) := dk_3 (dk_at dksX6_tears_2 10 rfl rfl)
theorem dX6_tears_57 : decode cX6_tears 57 = .ok (.invokevirtual 257, 3) := dk_182 1 1 (dk_at dksX6_tears_2 11 rfl rfl)
theorem dX6_tears_60 : decode cX6_tears 60 = .ok (.aload_n 0, 1) := dk_42 (dk_at dksX6_tears_2 14 rfl rfl)
theorem dX6_tears_61 : decode cX6_tears 61 = .ok (.aload_n 1, 1) := dk_43 (dk_at dksX6_tears_2 15 rfl rfl)
theorem dX6_tears_62 : decode cX6_tears 62 = .ok (.iload 5, 2) := dk_21 5 (dk_at dksX6_tears_2 16 rfl rfl)
theorem dX6_tears_64 : decode cX6_tears 64 = .ok (.iload 8, 2) := dk_21 8 (dk_at dksX6_tears_2 18 rfl rfl)
theorem dX6_tears_66 : decode cX6_tears 66 = .ok (.iconst 1, 1) := dk_4 (dk_at dksX6_tears_2 20 rfl rfl)
theorem dX6_tears_67 : decode cX6_tears 67 = .ok (.iadd, 1) := dk_96 (dk_at dksX6_tears_2 21 rfl rfl)
theorem dX6_tears_68 : decode cX6_tears 68 = .ok (.iconst 0, 1) := dk_3 (dk_at dksX6_tears_2 22 rfl rfl)
theorem dX6_tears_69 : decode cX6_tears 69 = .ok (.invokevirtual 257, 3) := dk_182 1 1 (dk_at dksX6_tears_3 0 rfl rfl)
theorem dX6_tears_72 : decode cX6_tears 72 = .ok (.iload 4, 2) := dk_21 4 (dk_at dksX6_tears_3 3 rfl rfl)
theorem dX6_tears_74 : decode cX6_tears 74 = .ok (.ifCond .le 15, 3) := dk_158 0 15 (dk_at dksX6_tears_3 5 rfl rfl)
theorem dX6_tears_77 : decode cX6_tears 77 = .ok (.aload_n 0, 1) := dk_42 (dk_at dksX6_tears_3 8 rfl rfl)
theorem dX6_tears_78 : decode cX6_tears 78 = .ok (.aload_n 1, 1) := dk_43 (dk_at dksX6_tears_3 9 rfl rfl)
theorem dX6_tears_79 : decode cX6_tears 79 = .ok (.iload 5, 2) := dk_21 5 (dk_at dksX6_tears_3 10 rfl rfl)
theorem dX6_tears_81 : decode cX6_tears 81 = .ok (.iload 6, 2) := dk_21 6 (dk_at dksX6_tears_3 12 rfl rfl)
theorem dX6_tears_83 : decode cX6_tears 83 = .ok (.iload 7, 2) := dk_21 7 (dk_at dksX6_tears_3 14 rfl rfl)
theorem dX6_tears_85 : decode cX6_tears 85 = .ok (.iload_n 3, 1) := dk_29 (dk_at dksX6_tears_3 16 rfl rfl)
theorem dX6_tears_86 : decode cX6_tears 86 = .ok (.invokevirtual 261, 3) := dk_182 1 5 (dk_at dksX6_tears_3 17 rfl rfl)
theorem dX6_tears_89 : decode cX6_tears 89 = .ok (.iload 4, 2) := dk_21 4 (dk_at dksX6_tears_3 20 rfl rfl)
theorem dX6_tears_91 : decode cX6_tears 91 = .ok (.iconst 1, 1) := dk_4 (dk_at dksX6_tears_3 22 rfl rfl)
theorem dX6_tears_92 : decode cX6_tears 92 = .ok (.if_icmp .le 31, 3) := dk_164 0 31 (dk_at dksX6_tears_4 0 rfl rfl)
theorem dX6_tears_95 : decode cX6_tears 95 = .ok (.aload_n 0, 1) := dk_42 (dk_at dksX6_tears_4 3 rfl rfl)
theorem dX6_tears_96 : decode cX6_tears 96 = .ok (.aload_n 1, 1) := dk_43 (dk_at dksX6_tears_4 4 rfl rfl)
theorem dX6_tears_97 : decode cX6_tears 97 = .ok (.iload 5, 2) := dk_21 5 (dk_at dksX6_tears_4 5 rfl rfl)
theorem dX6_tears_99 : decode cX6_tears 99 = .ok (.iload 6, 2) := dk_21 6 (dk_at dksX6_tears_4 7 rfl rfl)
theorem dX6_tears_101 : decode cX6_tears 101 = .ok (.iload 8, 2) := dk_21 8 (dk_at dksX6_tears_4 9 rfl rfl)
theorem dX6_tears_103 : decode cX6_tears 103 = .ok (.aload_n 0, 1) := dk_42 (dk_at dksX6_tears_4 11 rfl rfl)
theorem dX6_tears_104 : decode cX6_tears 104 = .ok (.getfield 50, 3) := dk_180 0 50 (dk_at dksX6_tears_4 12 rfl rfl)
theorem dX6_tears_107 : decode cX6_tears 107 = .ok (.iload 8, 2) := dk_21 8 (dk_at dksX6_tears_4 15 rfl rfl)
theorem dX6_tears_109 : decode cX6_tears 109 = .ok (.iaload, 1) := dk_46 (dk_at dksX6_tears_4 17 rfl rfl)
theorem dX6_tears_110 : decode cX6_tears 110 = .ok (.aload_n 0, 1) := dk_42 (dk_at dksX6_tears_4 18 rfl rfl)
theorem dX6_tears_111 : decode cX6_tears 111 = .ok (.getfield 50, 3) := dk_180 0 50 (dk_at dksX6_tears_4 19 rfl rfl)
theorem dX6_tears_114 : decode cX6_tears 114 = .ok (.iload 7, 2) := dk_21 7 (dk_at dksX6_tears_4 22 rfl rfl)
theorem dX6_tears_116 : decode cX6_tears 116 = .ok (.iaload, 1) := dk_46 (dk_at dksX6_tears_5 0 rfl rfl)
theorem dX6_tears_117 : decode cX6_tears 117 = .ok (.ixor, 1) := dk_130 (dk_at dksX6_tears_5 1 rfl rfl)
theorem dX6_tears_118 : decode cX6_tears 118 = .ok (.iload_n 3, 1) := dk_29 (dk_at dksX6_tears_5 2 rfl rfl)
theorem dX6_tears_119 : decode cX6_tears 119 = .ok (.ixor, 1) := dk_130 (dk_at dksX6_tears_5 3 rfl rfl)
theorem dX6_tears_120 : decode cX6_tears 120 = .ok (.invokevirtual 261, 3) := dk_182 1 5 (dk_at dksX6_tears_5 4 rfl rfl)
theorem dX6_tears_123 : decode cX6_tears 123 = .ok (.aload_n 1, 1) := dk_43 (dk_at dksX6_tears_5 7 rfl rfl)
theorem dX6_tears_124 : decode cX6_tears 124 = .ok (.sipush 425, 3) := dk_17 1 169 (dk_at dksX6_tears_5 8 rfl rfl)
theorem dX6_tears_127 : decode cX6_tears 127 = .ok (.dup2, 1) := dk_92 (dk_at dksX6_tears_5 11 rfl rfl)
theorem dX6_tears_128 : decode cX6_tears 128 = .ok (.iaload, 1) := dk_46 (dk_at dksX6_tears_5 12 rfl rfl)
theorem dX6_tears_129 : decode cX6_tears 129 = .ok (.iconst 1, 1) := dk_4 (dk_at dksX6_tears_5 13 rfl rfl)
theorem dX6_tears_130 : decode cX6_tears 130 = .ok (.iload 5, 2) := dk_21 5 (dk_at dksX6_tears_5 14 rfl rfl)
theorem dX6_tears_132 : decode cX6_tears 132 = .ok (.ishl, 1) := dk_120 (dk_at dksX6_tears_5 16 rfl rfl)
theorem dX6_tears_133 : decode cX6_tears 133 = .ok (.ior, 1) := dk_128 (dk_at dksX6_tears_5 17 rfl rfl)
theorem dX6_tears_134 : decode cX6_tears 134 = .ok (.iastore, 1) := dk_79 (dk_at dksX6_tears_5 18 rfl rfl)
theorem dX6_tears_135 : decode cX6_tears 135 = .ok (.return_, 1) := dk_177 (dk_at dksX6_tears_5 19 rfl rfl)
abbrev cX6_bitsOf : ByteArray := prog_12_method_67_code
def yX6_bitsOf : MethodName := ⟨RX6, "bitsOf", "(I)I"⟩
def dkwX6_bitsOf_1 : List UInt8 := [27, 172]
abbrev dktX6_bitsOf_1 : List UInt8 := dkwX6_bitsOf_1 ++ []
def dkwX6_bitsOf_0 : List UInt8 := [3, 60, 3, 61, 28, 16, 31, 162, 0, 17, 27, 26, 28, 122, 4, 126, 96, 60, 132, 2, 1, 167, 255, 239]
abbrev dktX6_bitsOf_0 : List UInt8 := dkwX6_bitsOf_0 ++ dktX6_bitsOf_1
theorem dksX6_bitsOf_0 : cX6_bitsOf.data.toList.drop 0 = dktX6_bitsOf_0 := by decide +kernel
theorem dksX6_bitsOf_1 : cX6_bitsOf.data.toList.drop 24 = dktX6_bitsOf_1 := dk_seg dksX6_bitsOf_0 24 rfl rfl
theorem dX6_bitsOf_0 : decode cX6_bitsOf 0 = .ok (.iconst 0, 1) := dk_3 (dk_at dksX6_bitsOf_0 0 rfl rfl)
theorem dX6_bitsOf_1 : decode cX6_bitsOf 1 = .ok (.istore_n 1, 1) := dk_60 (dk_at dksX6_bitsOf_0 1 rfl rfl)
theorem dX6_bitsOf_2 : decode cX6_bitsOf 2 = .ok (.iconst 0, 1) := dk_3 (dk_at dksX6_bitsOf_0 2 rfl rfl)
theorem dX6_bitsOf_3 : decode cX6_bitsOf 3 = .ok (.istore_n 2, 1) := dk_61 (dk_at dksX6_bitsOf_0 3 rfl rfl)
theorem dX6_bitsOf_4 : decode cX6_bitsOf 4 = .ok (.iload_n 2, 1) := dk_28 (dk_at dksX6_bitsOf_0 4 rfl rfl)
theorem dX6_bitsOf_5 : decode cX6_bitsOf 5 = .ok (.bipush 31, 2) := dk_16 31 (dk_at dksX6_bitsOf_0 5 rfl rfl)
theorem dX6_bitsOf_7 : decode cX6_bitsOf 7 = .ok (.if_icmp .ge 17, 3) := dk_162 0 17 (dk_at dksX6_bitsOf_0 7 rfl rfl)
theorem dX6_bitsOf_10 : decode cX6_bitsOf 10 = .ok (.iload_n 1, 1) := dk_27 (dk_at dksX6_bitsOf_0 10 rfl rfl)
theorem dX6_bitsOf_11 : decode cX6_bitsOf 11 = .ok (.iload_n 0, 1) := dk_26 (dk_at dksX6_bitsOf_0 11 rfl rfl)
theorem dX6_bitsOf_12 : decode cX6_bitsOf 12 = .ok (.iload_n 2, 1) := dk_28 (dk_at dksX6_bitsOf_0 12 rfl rfl)
theorem dX6_bitsOf_13 : decode cX6_bitsOf 13 = .ok (.ishr, 1) := dk_122 (dk_at dksX6_bitsOf_0 13 rfl rfl)
theorem dX6_bitsOf_14 : decode cX6_bitsOf 14 = .ok (.iconst 1, 1) := dk_4 (dk_at dksX6_bitsOf_0 14 rfl rfl)
theorem dX6_bitsOf_15 : decode cX6_bitsOf 15 = .ok (.iand, 1) := dk_126 (dk_at dksX6_bitsOf_0 15 rfl rfl)
theorem dX6_bitsOf_16 : decode cX6_bitsOf 16 = .ok (.iadd, 1) := dk_96 (dk_at dksX6_bitsOf_0 16 rfl rfl)
theorem dX6_bitsOf_17 : decode cX6_bitsOf 17 = .ok (.istore_n 1, 1) := dk_60 (dk_at dksX6_bitsOf_0 17 rfl rfl)
theorem dX6_bitsOf_18 : decode cX6_bitsOf 18 = .ok (.iinc 2 1, 3) := dk_132 2 1 (dk_at dksX6_bitsOf_0 18 rfl rfl)
theorem dX6_bitsOf_21 : decode cX6_bitsOf 21 = .ok (.goto (-17), 3) := dk_167 255 239 (dk_at dksX6_bitsOf_0 21 rfl rfl)
theorem dX6_bitsOf_24 : decode cX6_bitsOf 24 = .ok (.iload_n 1, 1) := dk_27 (dk_at dksX6_bitsOf_1 0 rfl rfl)
theorem dX6_bitsOf_25 : decode cX6_bitsOf 25 = .ok (.ireturn, 1) := dk_172 (dk_at dksX6_bitsOf_1 1 rfl rfl)
abbrev cX6_cleans : ByteArray := prog_12_method_74_code
def yX6_cleans : MethodName := ⟨RX6, "cleans", "([I)I"⟩
def dkwX6_cleans_6 : List UInt8 := [92, 46, 28, 2, 130, 126, 79, 28, 184, 1, 74, 172]
abbrev dktX6_cleans_6 : List UInt8 := dkwX6_cleans_6 ++ []
def dkwX6_cleans_5 : List UInt8 := [2, 2, 182, 0, 213, 182, 1, 5, 132, 5, 1, 167, 255, 170, 132, 4, 1, 167, 255, 138, 43, 17, 1, 169]
abbrev dktX6_cleans_5 : List UInt8 := dkwX6_cleans_5 ++ dktX6_cleans_6
def dkwX6_cleans_4 : List UInt8 := [21, 5, 29, 42, 3, 2, 2, 182, 0, 213, 182, 1, 5, 42, 43, 21, 4, 21, 5, 29, 4, 96, 42, 4]
abbrev dktX6_cleans_4 : List UInt8 := dkwX6_cleans_4 ++ dktX6_cleans_5
def dkwX6_cleans_3 : List UInt8 := [162, 0, 19, 42, 43, 21, 4, 21, 6, 3, 182, 1, 1, 132, 6, 1, 167, 255, 237, 42, 43, 21, 4]
abbrev dktX6_cleans_3 : List UInt8 := dkwX6_cleans_3 ++ dktX6_cleans_4
def dkwX6_cleans_2 : List UInt8 := [5, 46, 162, 0, 81, 42, 43, 21, 4, 21, 5, 2, 2, 182, 0, 223, 3, 54, 6, 21, 6, 29]
abbrev dktX6_cleans_2 : List UInt8 := dkwX6_cleans_2 ++ dktX6_cleans_3
def dkwX6_cleans_1 : List UInt8 := [162, 0, 113, 28, 21, 4, 122, 4, 126, 154, 0, 6, 167, 0, 95, 3, 54, 5, 21, 5, 42, 180, 0, 17]
abbrev dktX6_cleans_1 : List UInt8 := dkwX6_cleans_1 ++ dktX6_cleans_2
def dkwX6_cleans_0 : List UInt8 := [42, 43, 182, 1, 43, 61, 42, 180, 0, 17, 3, 46, 62, 3, 54, 4, 21, 4, 42, 180, 0, 17, 4, 46]
abbrev dktX6_cleans_0 : List UInt8 := dkwX6_cleans_0 ++ dktX6_cleans_1
theorem dksX6_cleans_0 : cX6_cleans.data.toList.drop 0 = dktX6_cleans_0 := by decide +kernel
theorem dksX6_cleans_1 : cX6_cleans.data.toList.drop 24 = dktX6_cleans_1 := dk_seg dksX6_cleans_0 24 rfl rfl
theorem dksX6_cleans_2 : cX6_cleans.data.toList.drop 48 = dktX6_cleans_2 := dk_seg dksX6_cleans_1 24 rfl rfl
theorem dksX6_cleans_3 : cX6_cleans.data.toList.drop 70 = dktX6_cleans_3 := dk_seg dksX6_cleans_2 22 rfl rfl
theorem dksX6_cleans_4 : cX6_cleans.data.toList.drop 93 = dktX6_cleans_4 := dk_seg dksX6_cleans_3 23 rfl rfl
theorem dksX6_cleans_5 : cX6_cleans.data.toList.drop 117 = dktX6_cleans_5 := dk_seg dksX6_cleans_4 24 rfl rfl
theorem dksX6_cleans_6 : cX6_cleans.data.toList.drop 141 = dktX6_cleans_6 := dk_seg dksX6_cleans_5 24 rfl rfl
theorem dX6_cleans_0 : decode cX6_cleans 0 = .ok (.aload_n 0, 1) := dk_42 (dk_at dksX6_cleans_0 0 rfl rfl)
theorem dX6_cleans_1 : decode cX6_cleans 1 = .ok (.aload_n 1, 1) := dk_43 (dk_at dksX6_cleans_0 1 rfl rfl)
theorem dX6_cleans_2 : decode cX6_cleans 2 = .ok (.invokevirtual 299, 3) := dk_182 1 43 (dk_at dksX6_cleans_0 2 rfl rfl)
theorem dX6_cleans_5 : decode cX6_cleans 5 = .ok (.istore_n 2, 1) := dk_61 (dk_at dksX6_cleans_0 5 rfl rfl)
theorem dX6_cleans_6 : decode cX6_cleans 6 = .ok (.aload_n 0, 1) := dk_42 (dk_at dksX6_cleans_0 6 rfl rfl)
theorem dX6_cleans_7 : decode cX6_cleans 7 = .ok (.getfield 17, 3) := dk_180 0 17 (dk_at dksX6_cleans_0 7 rfl rfl)
theorem dX6_cleans_10 : decode cX6_cleans 10 = .ok (.iconst 0, 1) := dk_3 (dk_at dksX6_cleans_0 10 rfl rfl)
theorem dX6_cleans_11 : decode cX6_cleans 11 = .ok (.iaload, 1) := dk_46 (dk_at dksX6_cleans_0 11 rfl rfl)
theorem dX6_cleans_12 : decode cX6_cleans 12 = .ok (.istore_n 3, 1) := dk_62 (dk_at dksX6_cleans_0 12 rfl rfl)
theorem dX6_cleans_13 : decode cX6_cleans 13 = .ok (.iconst 0, 1) := dk_3 (dk_at dksX6_cleans_0 13 rfl rfl)
theorem dX6_cleans_14 : decode cX6_cleans 14 = .ok (.istore 4, 2) := dk_54 4 (dk_at dksX6_cleans_0 14 rfl rfl)
theorem dX6_cleans_16 : decode cX6_cleans 16 = .ok (.iload 4, 2) := dk_21 4 (dk_at dksX6_cleans_0 16 rfl rfl)
theorem dX6_cleans_18 : decode cX6_cleans 18 = .ok (.aload_n 0, 1) := dk_42 (dk_at dksX6_cleans_0 18 rfl rfl)
theorem dX6_cleans_19 : decode cX6_cleans 19 = .ok (.getfield 17, 3) := dk_180 0 17 (dk_at dksX6_cleans_0 19 rfl rfl)
theorem dX6_cleans_22 : decode cX6_cleans 22 = .ok (.iconst 1, 1) := dk_4 (dk_at dksX6_cleans_0 22 rfl rfl)
theorem dX6_cleans_23 : decode cX6_cleans 23 = .ok (.iaload, 1) := dk_46 (dk_at dksX6_cleans_0 23 rfl rfl)
theorem dX6_cleans_24 : decode cX6_cleans 24 = .ok (.if_icmp .ge 113, 3) := dk_162 0 113 (dk_at dksX6_cleans_1 0 rfl rfl)
theorem dX6_cleans_27 : decode cX6_cleans 27 = .ok (.iload_n 2, 1) := dk_28 (dk_at dksX6_cleans_1 3 rfl rfl)
theorem dX6_cleans_28 : decode cX6_cleans 28 = .ok (.iload 4, 2) := dk_21 4 (dk_at dksX6_cleans_1 4 rfl rfl)
theorem dX6_cleans_30 : decode cX6_cleans 30 = .ok (.ishr, 1) := dk_122 (dk_at dksX6_cleans_1 6 rfl rfl)
theorem dX6_cleans_31 : decode cX6_cleans 31 = .ok (.iconst 1, 1) := dk_4 (dk_at dksX6_cleans_1 7 rfl rfl)
theorem dX6_cleans_32 : decode cX6_cleans 32 = .ok (.iand, 1) := dk_126 (dk_at dksX6_cleans_1 8 rfl rfl)
theorem dX6_cleans_33 : decode cX6_cleans 33 = .ok (.ifCond .ne 6, 3) := dk_154 0 6 (dk_at dksX6_cleans_1 9 rfl rfl)
theorem dX6_cleans_36 : decode cX6_cleans 36 = .ok (.goto 95, 3) := dk_167 0 95 (dk_at dksX6_cleans_1 12 rfl rfl)
theorem dX6_cleans_39 : decode cX6_cleans 39 = .ok (.iconst 0, 1) := dk_3 (dk_at dksX6_cleans_1 15 rfl rfl)
theorem dX6_cleans_40 : decode cX6_cleans 40 = .ok (.istore 5, 2) := dk_54 5 (dk_at dksX6_cleans_1 16 rfl rfl)
theorem dX6_cleans_42 : decode cX6_cleans 42 = .ok (.iload 5, 2) := dk_21 5 (dk_at dksX6_cleans_1 18 rfl rfl)
theorem dX6_cleans_44 : decode cX6_cleans 44 = .ok (.aload_n 0, 1) := dk_42 (dk_at dksX6_cleans_1 20 rfl rfl)
theorem dX6_cleans_45 : decode cX6_cleans 45 = .ok (.getfield 17, 3) := dk_180 0 17 (dk_at dksX6_cleans_1 21 rfl rfl)
theorem dX6_cleans_48 : decode cX6_cleans 48 = .ok (.iconst 2, 1) := dk_5 (dk_at dksX6_cleans_2 0 rfl rfl)
theorem dX6_cleans_49 : decode cX6_cleans 49 = .ok (.iaload, 1) := dk_46 (dk_at dksX6_cleans_2 1 rfl rfl)
theorem dX6_cleans_50 : decode cX6_cleans 50 = .ok (.if_icmp .ge 81, 3) := dk_162 0 81 (dk_at dksX6_cleans_2 2 rfl rfl)
theorem dX6_cleans_53 : decode cX6_cleans 53 = .ok (.aload_n 0, 1) := dk_42 (dk_at dksX6_cleans_2 5 rfl rfl)
theorem dX6_cleans_54 : decode cX6_cleans 54 = .ok (.aload_n 1, 1) := dk_43 (dk_at dksX6_cleans_2 6 rfl rfl)
theorem dX6_cleans_55 : decode cX6_cleans 55 = .ok (.iload 4, 2) := dk_21 4 (dk_at dksX6_cleans_2 7 rfl rfl)
theorem dX6_cleans_57 : decode cX6_cleans 57 = .ok (.iload 5, 2) := dk_21 5 (dk_at dksX6_cleans_2 9 rfl rfl)
theorem dX6_cleans_59 : decode cX6_cleans 59 = .ok (.iconst (-1), 1) := dk_2 (dk_at dksX6_cleans_2 11 rfl rfl)
theorem dX6_cleans_60 : decode cX6_cleans 60 = .ok (.iconst (-1), 1) := dk_2 (dk_at dksX6_cleans_2 12 rfl rfl)
theorem dX6_cleans_61 : decode cX6_cleans 61 = .ok (.invokevirtual 223, 3) := dk_182 0 223 (dk_at dksX6_cleans_2 13 rfl rfl)
theorem dX6_cleans_64 : decode cX6_cleans 64 = .ok (.iconst 0, 1) := dk_3 (dk_at dksX6_cleans_2 16 rfl rfl)
theorem dX6_cleans_65 : decode cX6_cleans 65 = .ok (.istore 6, 2) := dk_54 6 (dk_at dksX6_cleans_2 17 rfl rfl)
theorem dX6_cleans_67 : decode cX6_cleans 67 = .ok (.iload 6, 2) := dk_21 6 (dk_at dksX6_cleans_2 19 rfl rfl)
theorem dX6_cleans_69 : decode cX6_cleans 69 = .ok (.iload_n 3, 1) := dk_29 (dk_at dksX6_cleans_2 21 rfl rfl)
theorem dX6_cleans_70 : decode cX6_cleans 70 = .ok (.if_icmp .ge 19, 3) := dk_162 0 19 (dk_at dksX6_cleans_3 0 rfl rfl)
theorem dX6_cleans_73 : decode cX6_cleans 73 = .ok (.aload_n 0, 1) := dk_42 (dk_at dksX6_cleans_3 3 rfl rfl)
theorem dX6_cleans_74 : decode cX6_cleans 74 = .ok (.aload_n 1, 1) := dk_43 (dk_at dksX6_cleans_3 4 rfl rfl)
theorem dX6_cleans_75 : decode cX6_cleans 75 = .ok (.iload 4, 2) := dk_21 4 (dk_at dksX6_cleans_3 5 rfl rfl)
theorem dX6_cleans_77 : decode cX6_cleans 77 = .ok (.iload 6, 2) := dk_21 6 (dk_at dksX6_cleans_3 7 rfl rfl)
theorem dX6_cleans_79 : decode cX6_cleans 79 = .ok (.iconst 0, 1) := dk_3 (dk_at dksX6_cleans_3 9 rfl rfl)
theorem dX6_cleans_80 : decode cX6_cleans 80 = .ok (.invokevirtual 257, 3) := dk_182 1 1 (dk_at dksX6_cleans_3 10 rfl rfl)
theorem dX6_cleans_83 : decode cX6_cleans 83 = .ok (.iinc 6 1, 3) := dk_132 6 1 (dk_at dksX6_cleans_3 13 rfl rfl)
theorem dX6_cleans_86 : decode cX6_cleans 86 = .ok (.goto (-19), 3) := dk_167 255 237 (dk_at dksX6_cleans_3 16 rfl rfl)
theorem dX6_cleans_89 : decode cX6_cleans 89 = .ok (.aload_n 0, 1) := dk_42 (dk_at dksX6_cleans_3 19 rfl rfl)
theorem dX6_cleans_90 : decode cX6_cleans 90 = .ok (.aload_n 1, 1) := dk_43 (dk_at dksX6_cleans_3 20 rfl rfl)
theorem dX6_cleans_91 : decode cX6_cleans 91 = .ok (.iload 4, 2) := dk_21 4 (dk_at dksX6_cleans_3 21 rfl rfl)
theorem dX6_cleans_93 : decode cX6_cleans 93 = .ok (.iload 5, 2) := dk_21 5 (dk_at dksX6_cleans_4 0 rfl rfl)
theorem dX6_cleans_95 : decode cX6_cleans 95 = .ok (.iload_n 3, 1) := dk_29 (dk_at dksX6_cleans_4 2 rfl rfl)
theorem dX6_cleans_96 : decode cX6_cleans 96 = .ok (.aload_n 0, 1) := dk_42 (dk_at dksX6_cleans_4 3 rfl rfl)
theorem dX6_cleans_97 : decode cX6_cleans 97 = .ok (.iconst 0, 1) := dk_3 (dk_at dksX6_cleans_4 4 rfl rfl)
theorem dX6_cleans_98 : decode cX6_cleans 98 = .ok (.iconst (-1), 1) := dk_2 (dk_at dksX6_cleans_4 5 rfl rfl)
theorem dX6_cleans_99 : decode cX6_cleans 99 = .ok (.iconst (-1), 1) := dk_2 (dk_at dksX6_cleans_4 6 rfl rfl)
theorem dX6_cleans_100 : decode cX6_cleans 100 = .ok (.invokevirtual 213, 3) := dk_182 0 213 (dk_at dksX6_cleans_4 7 rfl rfl)
theorem dX6_cleans_103 : decode cX6_cleans 103 = .ok (.invokevirtual 261, 3) := dk_182 1 5 (dk_at dksX6_cleans_4 10 rfl rfl)
theorem dX6_cleans_106 : decode cX6_cleans 106 = .ok (.aload_n 0, 1) := dk_42 (dk_at dksX6_cleans_4 13 rfl rfl)
theorem dX6_cleans_107 : decode cX6_cleans 107 = .ok (.aload_n 1, 1) := dk_43 (dk_at dksX6_cleans_4 14 rfl rfl)
theorem dX6_cleans_108 : decode cX6_cleans 108 = .ok (.iload 4, 2) := dk_21 4 (dk_at dksX6_cleans_4 15 rfl rfl)
theorem dX6_cleans_110 : decode cX6_cleans 110 = .ok (.iload 5, 2) := dk_21 5 (dk_at dksX6_cleans_4 17 rfl rfl)
theorem dX6_cleans_112 : decode cX6_cleans 112 = .ok (.iload_n 3, 1) := dk_29 (dk_at dksX6_cleans_4 19 rfl rfl)
theorem dX6_cleans_113 : decode cX6_cleans 113 = .ok (.iconst 1, 1) := dk_4 (dk_at dksX6_cleans_4 20 rfl rfl)
theorem dX6_cleans_114 : decode cX6_cleans 114 = .ok (.iadd, 1) := dk_96 (dk_at dksX6_cleans_4 21 rfl rfl)
theorem dX6_cleans_115 : decode cX6_cleans 115 = .ok (.aload_n 0, 1) := dk_42 (dk_at dksX6_cleans_4 22 rfl rfl)
theorem dX6_cleans_116 : decode cX6_cleans 116 = .ok (.iconst 1, 1) := dk_4 (dk_at dksX6_cleans_4 23 rfl rfl)
theorem dX6_cleans_117 : decode cX6_cleans 117 = .ok (.iconst (-1), 1) := dk_2 (dk_at dksX6_cleans_5 0 rfl rfl)
theorem dX6_cleans_118 : decode cX6_cleans 118 = .ok (.iconst (-1), 1) := dk_2 (dk_at dksX6_cleans_5 1 rfl rfl)
theorem dX6_cleans_119 : decode cX6_cleans 119 = .ok (.invokevirtual 213, 3) := dk_182 0 213 (dk_at dksX6_cleans_5 2 rfl rfl)
theorem dX6_cleans_122 : decode cX6_cleans 122 = .ok (.invokevirtual 261, 3) := dk_182 1 5 (dk_at dksX6_cleans_5 5 rfl rfl)
theorem dX6_cleans_125 : decode cX6_cleans 125 = .ok (.iinc 5 1, 3) := dk_132 5 1 (dk_at dksX6_cleans_5 8 rfl rfl)
theorem dX6_cleans_128 : decode cX6_cleans 128 = .ok (.goto (-86), 3) := dk_167 255 170 (dk_at dksX6_cleans_5 11 rfl rfl)
theorem dX6_cleans_131 : decode cX6_cleans 131 = .ok (.iinc 4 1, 3) := dk_132 4 1 (dk_at dksX6_cleans_5 14 rfl rfl)
theorem dX6_cleans_134 : decode cX6_cleans 134 = .ok (.goto (-118), 3) := dk_167 255 138 (dk_at dksX6_cleans_5 17 rfl rfl)
theorem dX6_cleans_137 : decode cX6_cleans 137 = .ok (.aload_n 1, 1) := dk_43 (dk_at dksX6_cleans_5 20 rfl rfl)
theorem dX6_cleans_138 : decode cX6_cleans 138 = .ok (.sipush 425, 3) := dk_17 1 169 (dk_at dksX6_cleans_5 21 rfl rfl)
theorem dX6_cleans_141 : decode cX6_cleans 141 = .ok (.dup2, 1) := dk_92 (dk_at dksX6_cleans_6 0 rfl rfl)
theorem dX6_cleans_142 : decode cX6_cleans 142 = .ok (.iaload, 1) := dk_46 (dk_at dksX6_cleans_6 1 rfl rfl)
theorem dX6_cleans_143 : decode cX6_cleans 143 = .ok (.iload_n 2, 1) := dk_28 (dk_at dksX6_cleans_6 2 rfl rfl)
theorem dX6_cleans_144 : decode cX6_cleans 144 = .ok (.iconst (-1), 1) := dk_2 (dk_at dksX6_cleans_6 3 rfl rfl)
theorem dX6_cleans_145 : decode cX6_cleans 145 = .ok (.ixor, 1) := dk_130 (dk_at dksX6_cleans_6 4 rfl rfl)
theorem dX6_cleans_146 : decode cX6_cleans 146 = .ok (.iand, 1) := dk_126 (dk_at dksX6_cleans_6 5 rfl rfl)
theorem dX6_cleans_147 : decode cX6_cleans 147 = .ok (.iastore, 1) := dk_79 (dk_at dksX6_cleans_6 6 rfl rfl)
theorem dX6_cleans_148 : decode cX6_cleans 148 = .ok (.iload_n 2, 1) := dk_28 (dk_at dksX6_cleans_6 7 rfl rfl)
theorem dX6_cleans_149 : decode cX6_cleans 149 = .ok (.invokestatic 330, 3) := dk_184 1 74 (dk_at dksX6_cleans_6 8 rfl rfl)
theorem dX6_cleans_152 : decode cX6_cleans 152 = .ok (.ireturn, 1) := dk_172 (dk_at dksX6_cleans_6 11 rfl rfl)
abbrev cX6_fills : ByteArray := prog_12_method_75_code
def yX6_fills : MethodName := ⟨RX6, "fills", "([IIIII)I"⟩
def dkwX6_fills_5 : List UInt8 := [21, 7, 42, 180, 0, 50, 21, 7, 46, 182, 1, 5, 132, 6, 1, 132, 7, 1, 167, 255, 212, 21, 6, 172]
abbrev dktX6_fills_5 : List UInt8 := dkwX6_fills_5 ++ []
def dkwX6_fills_4 : List UInt8 := [180, 0, 171, 162, 0, 41, 42, 180, 0, 53, 21, 7, 51, 154, 0, 6, 167, 0, 22, 42, 43, 28, 29]
abbrev dktX6_fills_4 : List UInt8 := dkwX6_fills_4 ++ dktX6_fills_5
def dkwX6_fills_3 : List UInt8 := [180, 0, 17, 3, 46, 4, 96, 42, 4, 2, 2, 182, 0, 213, 79, 3, 54, 6, 3, 54, 7, 21, 7, 42]
abbrev dktX6_fills_3 : List UInt8 := dkwX6_fills_3 ++ dktX6_fills_4
def dkwX6_fills_2 : List UInt8 := [42, 180, 0, 50, 42, 180, 0, 17, 3, 46, 42, 3, 2, 2, 182, 0, 213, 79, 42, 180, 0, 50, 42]
abbrev dktX6_fills_2 : List UInt8 := dkwX6_fills_2 ++ dktX6_fills_3
def dkwX6_fills_1 : List UInt8 := [180, 0, 50, 21, 6, 21, 4, 21, 6, 21, 5, 104, 96, 17, 1, 0, 112, 79, 132, 6, 1, 167, 255, 223]
abbrev dktX6_fills_1 : List UInt8 := dkwX6_fills_1 ++ dktX6_fills_2
def dkwX6_fills_0 : List UInt8 := [42, 43, 28, 29, 2, 2, 182, 0, 223, 3, 54, 6, 21, 6, 42, 180, 0, 17, 3, 46, 162, 0, 28, 42]
abbrev dktX6_fills_0 : List UInt8 := dkwX6_fills_0 ++ dktX6_fills_1
theorem dksX6_fills_0 : cX6_fills.data.toList.drop 0 = dktX6_fills_0 := by decide +kernel
theorem dksX6_fills_1 : cX6_fills.data.toList.drop 24 = dktX6_fills_1 := dk_seg dksX6_fills_0 24 rfl rfl
theorem dksX6_fills_2 : cX6_fills.data.toList.drop 48 = dktX6_fills_2 := dk_seg dksX6_fills_1 24 rfl rfl
theorem dksX6_fills_3 : cX6_fills.data.toList.drop 71 = dktX6_fills_3 := dk_seg dksX6_fills_2 23 rfl rfl
theorem dksX6_fills_4 : cX6_fills.data.toList.drop 95 = dktX6_fills_4 := dk_seg dksX6_fills_3 24 rfl rfl
theorem dksX6_fills_5 : cX6_fills.data.toList.drop 118 = dktX6_fills_5 := dk_seg dksX6_fills_4 23 rfl rfl
theorem dX6_fills_0 : decode cX6_fills 0 = .ok (.aload_n 0, 1) := dk_42 (dk_at dksX6_fills_0 0 rfl rfl)
theorem dX6_fills_1 : decode cX6_fills 1 = .ok (.aload_n 1, 1) := dk_43 (dk_at dksX6_fills_0 1 rfl rfl)
theorem dX6_fills_2 : decode cX6_fills 2 = .ok (.iload_n 2, 1) := dk_28 (dk_at dksX6_fills_0 2 rfl rfl)
theorem dX6_fills_3 : decode cX6_fills 3 = .ok (.iload_n 3, 1) := dk_29 (dk_at dksX6_fills_0 3 rfl rfl)
theorem dX6_fills_4 : decode cX6_fills 4 = .ok (.iconst (-1), 1) := dk_2 (dk_at dksX6_fills_0 4 rfl rfl)
theorem dX6_fills_5 : decode cX6_fills 5 = .ok (.iconst (-1), 1) := dk_2 (dk_at dksX6_fills_0 5 rfl rfl)
theorem dX6_fills_6 : decode cX6_fills 6 = .ok (.invokevirtual 223, 3) := dk_182 0 223 (dk_at dksX6_fills_0 6 rfl rfl)
theorem dX6_fills_9 : decode cX6_fills 9 = .ok (.iconst 0, 1) := dk_3 (dk_at dksX6_fills_0 9 rfl rfl)
theorem dX6_fills_10 : decode cX6_fills 10 = .ok (.istore 6, 2) := dk_54 6 (dk_at dksX6_fills_0 10 rfl rfl)
theorem dX6_fills_12 : decode cX6_fills 12 = .ok (.iload 6, 2) := dk_21 6 (dk_at dksX6_fills_0 12 rfl rfl)
theorem dX6_fills_14 : decode cX6_fills 14 = .ok (.aload_n 0, 1) := dk_42 (dk_at dksX6_fills_0 14 rfl rfl)
theorem dX6_fills_15 : decode cX6_fills 15 = .ok (.getfield 17, 3) := dk_180 0 17 (dk_at dksX6_fills_0 15 rfl rfl)
theorem dX6_fills_18 : decode cX6_fills 18 = .ok (.iconst 0, 1) := dk_3 (dk_at dksX6_fills_0 18 rfl rfl)
theorem dX6_fills_19 : decode cX6_fills 19 = .ok (.iaload, 1) := dk_46 (dk_at dksX6_fills_0 19 rfl rfl)
theorem dX6_fills_20 : decode cX6_fills 20 = .ok (.if_icmp .ge 28, 3) := dk_162 0 28 (dk_at dksX6_fills_0 20 rfl rfl)
theorem dX6_fills_23 : decode cX6_fills 23 = .ok (.aload_n 0, 1) := dk_42 (dk_at dksX6_fills_0 23 rfl rfl)
theorem dX6_fills_24 : decode cX6_fills 24 = .ok (.getfield 50, 3) := dk_180 0 50 (dk_at dksX6_fills_1 0 rfl rfl)
theorem dX6_fills_27 : decode cX6_fills 27 = .ok (.iload 6, 2) := dk_21 6 (dk_at dksX6_fills_1 3 rfl rfl)
theorem dX6_fills_29 : decode cX6_fills 29 = .ok (.iload 4, 2) := dk_21 4 (dk_at dksX6_fills_1 5 rfl rfl)
theorem dX6_fills_31 : decode cX6_fills 31 = .ok (.iload 6, 2) := dk_21 6 (dk_at dksX6_fills_1 7 rfl rfl)
theorem dX6_fills_33 : decode cX6_fills 33 = .ok (.iload 5, 2) := dk_21 5 (dk_at dksX6_fills_1 9 rfl rfl)
theorem dX6_fills_35 : decode cX6_fills 35 = .ok (.imul, 1) := dk_104 (dk_at dksX6_fills_1 11 rfl rfl)
theorem dX6_fills_36 : decode cX6_fills 36 = .ok (.iadd, 1) := dk_96 (dk_at dksX6_fills_1 12 rfl rfl)
theorem dX6_fills_37 : decode cX6_fills 37 = .ok (.sipush 256, 3) := dk_17 1 0 (dk_at dksX6_fills_1 13 rfl rfl)
theorem dX6_fills_40 : decode cX6_fills 40 = .ok (.irem, 1) := dk_112 (dk_at dksX6_fills_1 16 rfl rfl)
theorem dX6_fills_41 : decode cX6_fills 41 = .ok (.iastore, 1) := dk_79 (dk_at dksX6_fills_1 17 rfl rfl)
theorem dX6_fills_42 : decode cX6_fills 42 = .ok (.iinc 6 1, 3) := dk_132 6 1 (dk_at dksX6_fills_1 18 rfl rfl)
theorem dX6_fills_45 : decode cX6_fills 45 = .ok (.goto (-33), 3) := dk_167 255 223 (dk_at dksX6_fills_1 21 rfl rfl)
theorem dX6_fills_48 : decode cX6_fills 48 = .ok (.aload_n 0, 1) := dk_42 (dk_at dksX6_fills_2 0 rfl rfl)
theorem dX6_fills_49 : decode cX6_fills 49 = .ok (.getfield 50, 3) := dk_180 0 50 (dk_at dksX6_fills_2 1 rfl rfl)
theorem dX6_fills_52 : decode cX6_fills 52 = .ok (.aload_n 0, 1) := dk_42 (dk_at dksX6_fills_2 4 rfl rfl)
theorem dX6_fills_53 : decode cX6_fills 53 = .ok (.getfield 17, 3) := dk_180 0 17 (dk_at dksX6_fills_2 5 rfl rfl)
theorem dX6_fills_56 : decode cX6_fills 56 = .ok (.iconst 0, 1) := dk_3 (dk_at dksX6_fills_2 8 rfl rfl)
theorem dX6_fills_57 : decode cX6_fills 57 = .ok (.iaload, 1) := dk_46 (dk_at dksX6_fills_2 9 rfl rfl)
theorem dX6_fills_58 : decode cX6_fills 58 = .ok (.aload_n 0, 1) := dk_42 (dk_at dksX6_fills_2 10 rfl rfl)
theorem dX6_fills_59 : decode cX6_fills 59 = .ok (.iconst 0, 1) := dk_3 (dk_at dksX6_fills_2 11 rfl rfl)
theorem dX6_fills_60 : decode cX6_fills 60 = .ok (.iconst (-1), 1) := dk_2 (dk_at dksX6_fills_2 12 rfl rfl)
theorem dX6_fills_61 : decode cX6_fills 61 = .ok (.iconst (-1), 1) := dk_2 (dk_at dksX6_fills_2 13 rfl rfl)
theorem dX6_fills_62 : decode cX6_fills 62 = .ok (.invokevirtual 213, 3) := dk_182 0 213 (dk_at dksX6_fills_2 14 rfl rfl)
theorem dX6_fills_65 : decode cX6_fills 65 = .ok (.iastore, 1) := dk_79 (dk_at dksX6_fills_2 17 rfl rfl)
theorem dX6_fills_66 : decode cX6_fills 66 = .ok (.aload_n 0, 1) := dk_42 (dk_at dksX6_fills_2 18 rfl rfl)
theorem dX6_fills_67 : decode cX6_fills 67 = .ok (.getfield 50, 3) := dk_180 0 50 (dk_at dksX6_fills_2 19 rfl rfl)
theorem dX6_fills_70 : decode cX6_fills 70 = .ok (.aload_n 0, 1) := dk_42 (dk_at dksX6_fills_2 22 rfl rfl)
theorem dX6_fills_71 : decode cX6_fills 71 = .ok (.getfield 17, 3) := dk_180 0 17 (dk_at dksX6_fills_3 0 rfl rfl)
theorem dX6_fills_74 : decode cX6_fills 74 = .ok (.iconst 0, 1) := dk_3 (dk_at dksX6_fills_3 3 rfl rfl)
theorem dX6_fills_75 : decode cX6_fills 75 = .ok (.iaload, 1) := dk_46 (dk_at dksX6_fills_3 4 rfl rfl)
theorem dX6_fills_76 : decode cX6_fills 76 = .ok (.iconst 1, 1) := dk_4 (dk_at dksX6_fills_3 5 rfl rfl)
theorem dX6_fills_77 : decode cX6_fills 77 = .ok (.iadd, 1) := dk_96 (dk_at dksX6_fills_3 6 rfl rfl)
theorem dX6_fills_78 : decode cX6_fills 78 = .ok (.aload_n 0, 1) := dk_42 (dk_at dksX6_fills_3 7 rfl rfl)
theorem dX6_fills_79 : decode cX6_fills 79 = .ok (.iconst 1, 1) := dk_4 (dk_at dksX6_fills_3 8 rfl rfl)
theorem dX6_fills_80 : decode cX6_fills 80 = .ok (.iconst (-1), 1) := dk_2 (dk_at dksX6_fills_3 9 rfl rfl)
theorem dX6_fills_81 : decode cX6_fills 81 = .ok (.iconst (-1), 1) := dk_2 (dk_at dksX6_fills_3 10 rfl rfl)
theorem dX6_fills_82 : decode cX6_fills 82 = .ok (.invokevirtual 213, 3) := dk_182 0 213 (dk_at dksX6_fills_3 11 rfl rfl)
theorem dX6_fills_85 : decode cX6_fills 85 = .ok (.iastore, 1) := dk_79 (dk_at dksX6_fills_3 14 rfl rfl)
theorem dX6_fills_86 : decode cX6_fills 86 = .ok (.iconst 0, 1) := dk_3 (dk_at dksX6_fills_3 15 rfl rfl)
theorem dX6_fills_87 : decode cX6_fills 87 = .ok (.istore 6, 2) := dk_54 6 (dk_at dksX6_fills_3 16 rfl rfl)
theorem dX6_fills_89 : decode cX6_fills 89 = .ok (.iconst 0, 1) := dk_3 (dk_at dksX6_fills_3 18 rfl rfl)
theorem dX6_fills_90 : decode cX6_fills 90 = .ok (.istore 7, 2) := dk_54 7 (dk_at dksX6_fills_3 19 rfl rfl)
theorem dX6_fills_92 : decode cX6_fills 92 = .ok (.iload 7, 2) := dk_21 7 (dk_at dksX6_fills_3 21 rfl rfl)
theorem dX6_fills_94 : decode cX6_fills 94 = .ok (.aload_n 0, 1) := dk_42 (dk_at dksX6_fills_3 23 rfl rfl)
theorem dX6_fills_95 : decode cX6_fills 95 = .ok (.getfield 171, 3) := dk_180 0 171 (dk_at dksX6_fills_4 0 rfl rfl)
theorem dX6_fills_98 : decode cX6_fills 98 = .ok (.if_icmp .ge 41, 3) := dk_162 0 41 (dk_at dksX6_fills_4 3 rfl rfl)
theorem dX6_fills_101 : decode cX6_fills 101 = .ok (.aload_n 0, 1) := dk_42 (dk_at dksX6_fills_4 6 rfl rfl)
theorem dX6_fills_102 : decode cX6_fills 102 = .ok (.getfield 53, 3) := dk_180 0 53 (dk_at dksX6_fills_4 7 rfl rfl)
theorem dX6_fills_105 : decode cX6_fills 105 = .ok (.iload 7, 2) := dk_21 7 (dk_at dksX6_fills_4 10 rfl rfl)
theorem dX6_fills_107 : decode cX6_fills 107 = .ok (.baload, 1) := dk_51 (dk_at dksX6_fills_4 12 rfl rfl)
theorem dX6_fills_108 : decode cX6_fills 108 = .ok (.ifCond .ne 6, 3) := dk_154 0 6 (dk_at dksX6_fills_4 13 rfl rfl)
theorem dX6_fills_111 : decode cX6_fills 111 = .ok (.goto 22, 3) := dk_167 0 22 (dk_at dksX6_fills_4 16 rfl rfl)
theorem dX6_fills_114 : decode cX6_fills 114 = .ok (.aload_n 0, 1) := dk_42 (dk_at dksX6_fills_4 19 rfl rfl)
theorem dX6_fills_115 : decode cX6_fills 115 = .ok (.aload_n 1, 1) := dk_43 (dk_at dksX6_fills_4 20 rfl rfl)
theorem dX6_fills_116 : decode cX6_fills 116 = .ok (.iload_n 2, 1) := dk_28 (dk_at dksX6_fills_4 21 rfl rfl)
theorem dX6_fills_117 : decode cX6_fills 117 = .ok (.iload_n 3, 1) := dk_29 (dk_at dksX6_fills_4 22 rfl rfl)
theorem dX6_fills_118 : decode cX6_fills 118 = .ok (.iload 7, 2) := dk_21 7 (dk_at dksX6_fills_5 0 rfl rfl)
theorem dX6_fills_120 : decode cX6_fills 120 = .ok (.aload_n 0, 1) := dk_42 (dk_at dksX6_fills_5 2 rfl rfl)
theorem dX6_fills_121 : decode cX6_fills 121 = .ok (.getfield 50, 3) := dk_180 0 50 (dk_at dksX6_fills_5 3 rfl rfl)
theorem dX6_fills_124 : decode cX6_fills 124 = .ok (.iload 7, 2) := dk_21 7 (dk_at dksX6_fills_5 6 rfl rfl)
theorem dX6_fills_126 : decode cX6_fills 126 = .ok (.iaload, 1) := dk_46 (dk_at dksX6_fills_5 8 rfl rfl)
theorem dX6_fills_127 : decode cX6_fills 127 = .ok (.invokevirtual 261, 3) := dk_182 1 5 (dk_at dksX6_fills_5 9 rfl rfl)
theorem dX6_fills_130 : decode cX6_fills 130 = .ok (.iinc 6 1, 3) := dk_132 6 1 (dk_at dksX6_fills_5 12 rfl rfl)
theorem dX6_fills_133 : decode cX6_fills 133 = .ok (.iinc 7 1, 3) := dk_132 7 1 (dk_at dksX6_fills_5 15 rfl rfl)
theorem dX6_fills_136 : decode cX6_fills 136 = .ok (.goto (-44), 3) := dk_167 255 212 (dk_at dksX6_fills_5 18 rfl rfl)
theorem dX6_fills_139 : decode cX6_fills 139 = .ok (.iload 6, 2) := dk_21 6 (dk_at dksX6_fills_5 21 rfl rfl)
theorem dX6_fills_141 : decode cX6_fills 141 = .ok (.ireturn, 1) := dk_172 (dk_at dksX6_fills_5 23 rfl rfl)
abbrev cX6_remember : ByteArray := prog_12_method_77_code
def yX6_remember : MethodName := ⟨RX6, "remember", "()V"⟩
def dkwX6_remember_2 : List UInt8 := [17, 2, 104, 42, 180, 1, 90, 42, 180, 0, 181, 96, 4, 100, 16, 40, 112, 104, 184, 1, 93, 177]
abbrev dktX6_remember_2 : List UInt8 := dkwX6_remember_2 ++ []
def dkwX6_remember_1 : List UInt8 := [167, 0, 13, 42, 89, 180, 0, 181, 4, 96, 181, 0, 181, 42, 180, 0, 41, 3, 42, 180, 0, 47]
abbrev dktX6_remember_1 : List UInt8 := dkwX6_remember_1 ++ dktX6_remember_2
def dkwX6_remember_0 : List UInt8 := [42, 180, 0, 181, 16, 40, 160, 0, 19, 42, 42, 180, 1, 90, 4, 96, 16, 40, 112, 181, 1, 90]
abbrev dktX6_remember_0 : List UInt8 := dkwX6_remember_0 ++ dktX6_remember_1
theorem dksX6_remember_0 : cX6_remember.data.toList.drop 0 = dktX6_remember_0 := by decide +kernel
theorem dksX6_remember_1 : cX6_remember.data.toList.drop 22 = dktX6_remember_1 := dk_seg dksX6_remember_0 22 rfl rfl
theorem dksX6_remember_2 : cX6_remember.data.toList.drop 44 = dktX6_remember_2 := dk_seg dksX6_remember_1 22 rfl rfl
theorem dX6_remember_0 : decode cX6_remember 0 = .ok (.aload_n 0, 1) := dk_42 (dk_at dksX6_remember_0 0 rfl rfl)
theorem dX6_remember_1 : decode cX6_remember 1 = .ok (.getfield 181, 3) := dk_180 0 181 (dk_at dksX6_remember_0 1 rfl rfl)
theorem dX6_remember_4 : decode cX6_remember 4 = .ok (.bipush 40, 2) := dk_16 40 (dk_at dksX6_remember_0 4 rfl rfl)
theorem dX6_remember_6 : decode cX6_remember 6 = .ok (.if_icmp .ne 19, 3) := dk_160 0 19 (dk_at dksX6_remember_0 6 rfl rfl)
theorem dX6_remember_9 : decode cX6_remember 9 = .ok (.aload_n 0, 1) := dk_42 (dk_at dksX6_remember_0 9 rfl rfl)
theorem dX6_remember_10 : decode cX6_remember 10 = .ok (.aload_n 0, 1) := dk_42 (dk_at dksX6_remember_0 10 rfl rfl)
theorem dX6_remember_11 : decode cX6_remember 11 = .ok (.getfield 346, 3) := dk_180 1 90 (dk_at dksX6_remember_0 11 rfl rfl)
theorem dX6_remember_14 : decode cX6_remember 14 = .ok (.iconst 1, 1) := dk_4 (dk_at dksX6_remember_0 14 rfl rfl)
theorem dX6_remember_15 : decode cX6_remember 15 = .ok (.iadd, 1) := dk_96 (dk_at dksX6_remember_0 15 rfl rfl)
theorem dX6_remember_16 : decode cX6_remember 16 = .ok (.bipush 40, 2) := dk_16 40 (dk_at dksX6_remember_0 16 rfl rfl)
theorem dX6_remember_18 : decode cX6_remember 18 = .ok (.irem, 1) := dk_112 (dk_at dksX6_remember_0 18 rfl rfl)
theorem dX6_remember_19 : decode cX6_remember 19 = .ok (.putfield 346, 3) := dk_181 1 90 (dk_at dksX6_remember_0 19 rfl rfl)
theorem dX6_remember_22 : decode cX6_remember 22 = .ok (.goto 13, 3) := dk_167 0 13 (dk_at dksX6_remember_1 0 rfl rfl)
theorem dX6_remember_25 : decode cX6_remember 25 = .ok (.aload_n 0, 1) := dk_42 (dk_at dksX6_remember_1 3 rfl rfl)
theorem dX6_remember_26 : decode cX6_remember 26 = .ok (.dup, 1) := dk_89 (dk_at dksX6_remember_1 4 rfl rfl)
theorem dX6_remember_27 : decode cX6_remember 27 = .ok (.getfield 181, 3) := dk_180 0 181 (dk_at dksX6_remember_1 5 rfl rfl)
theorem dX6_remember_30 : decode cX6_remember 30 = .ok (.iconst 1, 1) := dk_4 (dk_at dksX6_remember_1 8 rfl rfl)
theorem dX6_remember_31 : decode cX6_remember 31 = .ok (.iadd, 1) := dk_96 (dk_at dksX6_remember_1 9 rfl rfl)
theorem dX6_remember_32 : decode cX6_remember 32 = .ok (.putfield 181, 3) := dk_181 0 181 (dk_at dksX6_remember_1 10 rfl rfl)
theorem dX6_remember_35 : decode cX6_remember 35 = .ok (.aload_n 0, 1) := dk_42 (dk_at dksX6_remember_1 13 rfl rfl)
theorem dX6_remember_36 : decode cX6_remember 36 = .ok (.getfield 41, 3) := dk_180 0 41 (dk_at dksX6_remember_1 14 rfl rfl)
theorem dX6_remember_39 : decode cX6_remember 39 = .ok (.iconst 0, 1) := dk_3 (dk_at dksX6_remember_1 17 rfl rfl)
theorem dX6_remember_40 : decode cX6_remember 40 = .ok (.aload_n 0, 1) := dk_42 (dk_at dksX6_remember_1 18 rfl rfl)
theorem dX6_remember_41 : decode cX6_remember 41 = .ok (.getfield 47, 3) := dk_180 0 47 (dk_at dksX6_remember_1 19 rfl rfl)
theorem dX6_remember_44 : decode cX6_remember 44 = .ok (.sipush 616, 3) := dk_17 2 104 (dk_at dksX6_remember_2 0 rfl rfl)
theorem dX6_remember_47 : decode cX6_remember 47 = .ok (.aload_n 0, 1) := dk_42 (dk_at dksX6_remember_2 3 rfl rfl)
theorem dX6_remember_48 : decode cX6_remember 48 = .ok (.getfield 346, 3) := dk_180 1 90 (dk_at dksX6_remember_2 4 rfl rfl)
theorem dX6_remember_51 : decode cX6_remember 51 = .ok (.aload_n 0, 1) := dk_42 (dk_at dksX6_remember_2 7 rfl rfl)
theorem dX6_remember_52 : decode cX6_remember 52 = .ok (.getfield 181, 3) := dk_180 0 181 (dk_at dksX6_remember_2 8 rfl rfl)
theorem dX6_remember_55 : decode cX6_remember 55 = .ok (.iadd, 1) := dk_96 (dk_at dksX6_remember_2 11 rfl rfl)
theorem dX6_remember_56 : decode cX6_remember 56 = .ok (.iconst 1, 1) := dk_4 (dk_at dksX6_remember_2 12 rfl rfl)
theorem dX6_remember_57 : decode cX6_remember 57 = .ok (.isub, 1) := dk_100 (dk_at dksX6_remember_2 13 rfl rfl)
theorem dX6_remember_58 : decode cX6_remember 58 = .ok (.bipush 40, 2) := dk_16 40 (dk_at dksX6_remember_2 14 rfl rfl)
theorem dX6_remember_60 : decode cX6_remember 60 = .ok (.irem, 1) := dk_112 (dk_at dksX6_remember_2 16 rfl rfl)
theorem dX6_remember_61 : decode cX6_remember 61 = .ok (.imul, 1) := dk_104 (dk_at dksX6_remember_2 17 rfl rfl)
theorem dX6_remember_62 : decode cX6_remember 62 = .ok (.invokestatic 349, 3) := dk_184 1 93 (dk_at dksX6_remember_2 18 rfl rfl)
theorem dX6_remember_65 : decode cX6_remember 65 = .ok (.return_, 1) := dk_177 (dk_at dksX6_remember_2 21 rfl rfl)
abbrev cX6_costs : ByteArray := prog_12_method_76_code
def yX6_costs : MethodName := ⟨RX6, "costs", "([I)I"⟩
def dkwX6_costs_0 : List UInt8 := [42, 17, 1, 171, 46, 42, 17, 1, 172, 46, 96, 172]
abbrev dktX6_costs_0 : List UInt8 := dkwX6_costs_0 ++ []
theorem dksX6_costs_0 : cX6_costs.data.toList.drop 0 = dktX6_costs_0 := by decide +kernel
theorem dX6_costs_0 : decode cX6_costs 0 = .ok (.aload_n 0, 1) := dk_42 (dk_at dksX6_costs_0 0 rfl rfl)
theorem dX6_costs_1 : decode cX6_costs 1 = .ok (.sipush 427, 3) := dk_17 1 171 (dk_at dksX6_costs_0 1 rfl rfl)
theorem dX6_costs_4 : decode cX6_costs 4 = .ok (.iaload, 1) := dk_46 (dk_at dksX6_costs_0 4 rfl rfl)
theorem dX6_costs_5 : decode cX6_costs 5 = .ok (.aload_n 0, 1) := dk_42 (dk_at dksX6_costs_0 5 rfl rfl)
theorem dX6_costs_6 : decode cX6_costs 6 = .ok (.sipush 428, 3) := dk_17 1 172 (dk_at dksX6_costs_0 6 rfl rfl)
theorem dX6_costs_9 : decode cX6_costs 9 = .ok (.iaload, 1) := dk_46 (dk_at dksX6_costs_0 9 rfl rfl)
theorem dX6_costs_10 : decode cX6_costs 10 = .ok (.iadd, 1) := dk_96 (dk_at dksX6_costs_0 10 rfl rfl)
theorem dX6_costs_11 : decode cX6_costs 11 = .ok (.ireturn, 1) := dk_172 (dk_at dksX6_costs_0 11 rfl rfl)
abbrev cX6_notes : ByteArray := prog_12_method_78_code
def yX6_notes : MethodName := ⟨RX6, "notes", "(II)V"⟩
def dkwX6_notes_5 : List UInt8 := [79, 177]
abbrev dktX6_notes_5 : List UInt8 := dkwX6_notes_5 ++ []
def dkwX6_notes_4 : List UInt8 := [180, 1, 50, 79, 42, 180, 0, 38, 29, 5, 96, 28, 79, 42, 180, 0, 38, 17, 1, 179, 92, 46, 4, 96]
abbrev dktX6_notes_4 : List UInt8 := dkwX6_notes_4 ++ dktX6_notes_5
def dkwX6_notes_3 : List UInt8 := [17, 1, 179, 46, 104, 96, 62, 42, 180, 0, 38, 29, 27, 79, 42, 180, 0, 38, 29, 4, 96, 42]
abbrev dktX6_notes_3 : List UInt8 := dkwX6_notes_3 ++ dktX6_notes_4
def dkwX6_notes_2 : List UInt8 := [167, 255, 224, 42, 180, 0, 38, 17, 1, 179, 92, 46, 4, 100, 79, 17, 1, 180, 6, 42, 180, 0, 38]
abbrev dktX6_notes_2 : List UInt8 := dkwX6_notes_2 ++ dktX6_notes_3
def dkwX6_notes_1 : List UInt8 := [180, 0, 38, 17, 1, 179, 29, 96, 42, 180, 0, 38, 17, 1, 179, 29, 96, 6, 96, 46, 79, 132, 3, 1]
abbrev dktX6_notes_1 : List UInt8 := dkwX6_notes_1 ++ dktX6_notes_2
def dkwX6_notes_0 : List UInt8 := [42, 180, 0, 38, 17, 1, 179, 46, 16, 60, 160, 0, 52, 4, 62, 29, 17, 0, 177, 163, 0, 31, 42]
abbrev dktX6_notes_0 : List UInt8 := dkwX6_notes_0 ++ dktX6_notes_1
theorem dksX6_notes_0 : cX6_notes.data.toList.drop 0 = dktX6_notes_0 := by decide +kernel
theorem dksX6_notes_1 : cX6_notes.data.toList.drop 23 = dktX6_notes_1 := dk_seg dksX6_notes_0 23 rfl rfl
theorem dksX6_notes_2 : cX6_notes.data.toList.drop 47 = dktX6_notes_2 := dk_seg dksX6_notes_1 24 rfl rfl
theorem dksX6_notes_3 : cX6_notes.data.toList.drop 70 = dktX6_notes_3 := dk_seg dksX6_notes_2 23 rfl rfl
theorem dksX6_notes_4 : cX6_notes.data.toList.drop 92 = dktX6_notes_4 := dk_seg dksX6_notes_3 22 rfl rfl
theorem dksX6_notes_5 : cX6_notes.data.toList.drop 116 = dktX6_notes_5 := dk_seg dksX6_notes_4 24 rfl rfl
theorem dX6_notes_0 : decode cX6_notes 0 = .ok (.aload_n 0, 1) := dk_42 (dk_at dksX6_notes_0 0 rfl rfl)
theorem dX6_notes_1 : decode cX6_notes 1 = .ok (.getfield 38, 3) := dk_180 0 38 (dk_at dksX6_notes_0 1 rfl rfl)
theorem dX6_notes_4 : decode cX6_notes 4 = .ok (.sipush 435, 3) := dk_17 1 179 (dk_at dksX6_notes_0 4 rfl rfl)
theorem dX6_notes_7 : decode cX6_notes 7 = .ok (.iaload, 1) := dk_46 (dk_at dksX6_notes_0 7 rfl rfl)
theorem dX6_notes_8 : decode cX6_notes 8 = .ok (.bipush 60, 2) := dk_16 60 (dk_at dksX6_notes_0 8 rfl rfl)
theorem dX6_notes_10 : decode cX6_notes 10 = .ok (.if_icmp .ne 52, 3) := dk_160 0 52 (dk_at dksX6_notes_0 10 rfl rfl)
theorem dX6_notes_13 : decode cX6_notes 13 = .ok (.iconst 1, 1) := dk_4 (dk_at dksX6_notes_0 13 rfl rfl)
theorem dX6_notes_14 : decode cX6_notes 14 = .ok (.istore_n 3, 1) := dk_62 (dk_at dksX6_notes_0 14 rfl rfl)
theorem dX6_notes_15 : decode cX6_notes 15 = .ok (.iload_n 3, 1) := dk_29 (dk_at dksX6_notes_0 15 rfl rfl)
theorem dX6_notes_16 : decode cX6_notes 16 = .ok (.sipush 177, 3) := dk_17 0 177 (dk_at dksX6_notes_0 16 rfl rfl)
theorem dX6_notes_19 : decode cX6_notes 19 = .ok (.if_icmp .gt 31, 3) := dk_163 0 31 (dk_at dksX6_notes_0 19 rfl rfl)
theorem dX6_notes_22 : decode cX6_notes 22 = .ok (.aload_n 0, 1) := dk_42 (dk_at dksX6_notes_0 22 rfl rfl)
theorem dX6_notes_23 : decode cX6_notes 23 = .ok (.getfield 38, 3) := dk_180 0 38 (dk_at dksX6_notes_1 0 rfl rfl)
theorem dX6_notes_26 : decode cX6_notes 26 = .ok (.sipush 435, 3) := dk_17 1 179 (dk_at dksX6_notes_1 3 rfl rfl)
theorem dX6_notes_29 : decode cX6_notes 29 = .ok (.iload_n 3, 1) := dk_29 (dk_at dksX6_notes_1 6 rfl rfl)
theorem dX6_notes_30 : decode cX6_notes 30 = .ok (.iadd, 1) := dk_96 (dk_at dksX6_notes_1 7 rfl rfl)
theorem dX6_notes_31 : decode cX6_notes 31 = .ok (.aload_n 0, 1) := dk_42 (dk_at dksX6_notes_1 8 rfl rfl)
theorem dX6_notes_32 : decode cX6_notes 32 = .ok (.getfield 38, 3) := dk_180 0 38 (dk_at dksX6_notes_1 9 rfl rfl)
theorem dX6_notes_35 : decode cX6_notes 35 = .ok (.sipush 435, 3) := dk_17 1 179 (dk_at dksX6_notes_1 12 rfl rfl)
theorem dX6_notes_38 : decode cX6_notes 38 = .ok (.iload_n 3, 1) := dk_29 (dk_at dksX6_notes_1 15 rfl rfl)
theorem dX6_notes_39 : decode cX6_notes 39 = .ok (.iadd, 1) := dk_96 (dk_at dksX6_notes_1 16 rfl rfl)
theorem dX6_notes_40 : decode cX6_notes 40 = .ok (.iconst 3, 1) := dk_6 (dk_at dksX6_notes_1 17 rfl rfl)
theorem dX6_notes_41 : decode cX6_notes 41 = .ok (.iadd, 1) := dk_96 (dk_at dksX6_notes_1 18 rfl rfl)
theorem dX6_notes_42 : decode cX6_notes 42 = .ok (.iaload, 1) := dk_46 (dk_at dksX6_notes_1 19 rfl rfl)
theorem dX6_notes_43 : decode cX6_notes 43 = .ok (.iastore, 1) := dk_79 (dk_at dksX6_notes_1 20 rfl rfl)
theorem dX6_notes_44 : decode cX6_notes 44 = .ok (.iinc 3 1, 3) := dk_132 3 1 (dk_at dksX6_notes_1 21 rfl rfl)
theorem dX6_notes_47 : decode cX6_notes 47 = .ok (.goto (-32), 3) := dk_167 255 224 (dk_at dksX6_notes_2 0 rfl rfl)
theorem dX6_notes_50 : decode cX6_notes 50 = .ok (.aload_n 0, 1) := dk_42 (dk_at dksX6_notes_2 3 rfl rfl)
theorem dX6_notes_51 : decode cX6_notes 51 = .ok (.getfield 38, 3) := dk_180 0 38 (dk_at dksX6_notes_2 4 rfl rfl)
theorem dX6_notes_54 : decode cX6_notes 54 = .ok (.sipush 435, 3) := dk_17 1 179 (dk_at dksX6_notes_2 7 rfl rfl)
theorem dX6_notes_57 : decode cX6_notes 57 = .ok (.dup2, 1) := dk_92 (dk_at dksX6_notes_2 10 rfl rfl)
theorem dX6_notes_58 : decode cX6_notes 58 = .ok (.iaload, 1) := dk_46 (dk_at dksX6_notes_2 11 rfl rfl)
theorem dX6_notes_59 : decode cX6_notes 59 = .ok (.iconst 1, 1) := dk_4 (dk_at dksX6_notes_2 12 rfl rfl)
theorem dX6_notes_60 : decode cX6_notes 60 = .ok (.isub, 1) := dk_100 (dk_at dksX6_notes_2 13 rfl rfl)
theorem dX6_notes_61 : decode cX6_notes 61 = .ok (.iastore, 1) := dk_79 (dk_at dksX6_notes_2 14 rfl rfl)
theorem dX6_notes_62 : decode cX6_notes 62 = .ok (.sipush 436, 3) := dk_17 1 180 (dk_at dksX6_notes_2 15 rfl rfl)
theorem dX6_notes_65 : decode cX6_notes 65 = .ok (.iconst 3, 1) := dk_6 (dk_at dksX6_notes_2 18 rfl rfl)
theorem dX6_notes_66 : decode cX6_notes 66 = .ok (.aload_n 0, 1) := dk_42 (dk_at dksX6_notes_2 19 rfl rfl)
theorem dX6_notes_67 : decode cX6_notes 67 = .ok (.getfield 38, 3) := dk_180 0 38 (dk_at dksX6_notes_2 20 rfl rfl)
theorem dX6_notes_70 : decode cX6_notes 70 = .ok (.sipush 435, 3) := dk_17 1 179 (dk_at dksX6_notes_3 0 rfl rfl)
theorem dX6_notes_73 : decode cX6_notes 73 = .ok (.iaload, 1) := dk_46 (dk_at dksX6_notes_3 3 rfl rfl)
theorem dX6_notes_74 : decode cX6_notes 74 = .ok (.imul, 1) := dk_104 (dk_at dksX6_notes_3 4 rfl rfl)
theorem dX6_notes_75 : decode cX6_notes 75 = .ok (.iadd, 1) := dk_96 (dk_at dksX6_notes_3 5 rfl rfl)
theorem dX6_notes_76 : decode cX6_notes 76 = .ok (.istore_n 3, 1) := dk_62 (dk_at dksX6_notes_3 6 rfl rfl)
theorem dX6_notes_77 : decode cX6_notes 77 = .ok (.aload_n 0, 1) := dk_42 (dk_at dksX6_notes_3 7 rfl rfl)
theorem dX6_notes_78 : decode cX6_notes 78 = .ok (.getfield 38, 3) := dk_180 0 38 (dk_at dksX6_notes_3 8 rfl rfl)
theorem dX6_notes_81 : decode cX6_notes 81 = .ok (.iload_n 3, 1) := dk_29 (dk_at dksX6_notes_3 11 rfl rfl)
theorem dX6_notes_82 : decode cX6_notes 82 = .ok (.iload_n 1, 1) := dk_27 (dk_at dksX6_notes_3 12 rfl rfl)
theorem dX6_notes_83 : decode cX6_notes 83 = .ok (.iastore, 1) := dk_79 (dk_at dksX6_notes_3 13 rfl rfl)
theorem dX6_notes_84 : decode cX6_notes 84 = .ok (.aload_n 0, 1) := dk_42 (dk_at dksX6_notes_3 14 rfl rfl)
theorem dX6_notes_85 : decode cX6_notes 85 = .ok (.getfield 38, 3) := dk_180 0 38 (dk_at dksX6_notes_3 15 rfl rfl)
theorem dX6_notes_88 : decode cX6_notes 88 = .ok (.iload_n 3, 1) := dk_29 (dk_at dksX6_notes_3 18 rfl rfl)
theorem dX6_notes_89 : decode cX6_notes 89 = .ok (.iconst 1, 1) := dk_4 (dk_at dksX6_notes_3 19 rfl rfl)
theorem dX6_notes_90 : decode cX6_notes 90 = .ok (.iadd, 1) := dk_96 (dk_at dksX6_notes_3 20 rfl rfl)
theorem dX6_notes_91 : decode cX6_notes 91 = .ok (.aload_n 0, 1) := dk_42 (dk_at dksX6_notes_3 21 rfl rfl)
theorem dX6_notes_92 : decode cX6_notes 92 = .ok (.getfield 306, 3) := dk_180 1 50 (dk_at dksX6_notes_4 0 rfl rfl)
theorem dX6_notes_95 : decode cX6_notes 95 = .ok (.iastore, 1) := dk_79 (dk_at dksX6_notes_4 3 rfl rfl)
theorem dX6_notes_96 : decode cX6_notes 96 = .ok (.aload_n 0, 1) := dk_42 (dk_at dksX6_notes_4 4 rfl rfl)
theorem dX6_notes_97 : decode cX6_notes 97 = .ok (.getfield 38, 3) := dk_180 0 38 (dk_at dksX6_notes_4 5 rfl rfl)
theorem dX6_notes_100 : decode cX6_notes 100 = .ok (.iload_n 3, 1) := dk_29 (dk_at dksX6_notes_4 8 rfl rfl)
theorem dX6_notes_101 : decode cX6_notes 101 = .ok (.iconst 2, 1) := dk_5 (dk_at dksX6_notes_4 9 rfl rfl)
theorem dX6_notes_102 : decode cX6_notes 102 = .ok (.iadd, 1) := dk_96 (dk_at dksX6_notes_4 10 rfl rfl)
theorem dX6_notes_103 : decode cX6_notes 103 = .ok (.iload_n 2, 1) := dk_28 (dk_at dksX6_notes_4 11 rfl rfl)
theorem dX6_notes_104 : decode cX6_notes 104 = .ok (.iastore, 1) := dk_79 (dk_at dksX6_notes_4 12 rfl rfl)
theorem dX6_notes_105 : decode cX6_notes 105 = .ok (.aload_n 0, 1) := dk_42 (dk_at dksX6_notes_4 13 rfl rfl)
theorem dX6_notes_106 : decode cX6_notes 106 = .ok (.getfield 38, 3) := dk_180 0 38 (dk_at dksX6_notes_4 14 rfl rfl)
theorem dX6_notes_109 : decode cX6_notes 109 = .ok (.sipush 435, 3) := dk_17 1 179 (dk_at dksX6_notes_4 17 rfl rfl)
theorem dX6_notes_112 : decode cX6_notes 112 = .ok (.dup2, 1) := dk_92 (dk_at dksX6_notes_4 20 rfl rfl)
theorem dX6_notes_113 : decode cX6_notes 113 = .ok (.iaload, 1) := dk_46 (dk_at dksX6_notes_4 21 rfl rfl)
theorem dX6_notes_114 : decode cX6_notes 114 = .ok (.iconst 1, 1) := dk_4 (dk_at dksX6_notes_4 22 rfl rfl)
theorem dX6_notes_115 : decode cX6_notes 115 = .ok (.iadd, 1) := dk_96 (dk_at dksX6_notes_4 23 rfl rfl)
theorem dX6_notes_116 : decode cX6_notes 116 = .ok (.iastore, 1) := dk_79 (dk_at dksX6_notes_5 0 rfl rfl)
theorem dX6_notes_117 : decode cX6_notes 117 = .ok (.return_, 1) := dk_177 (dk_at dksX6_notes_5 1 rfl rfl)
abbrev cX6_lose : ByteArray := prog_12_method_82_code
def yX6_lose : MethodName := ⟨RX6, "lose", "(I)I"⟩
def dkwX6_lose_0 : List UInt8 := [42, 4, 27, 3, 3, 3, 182, 1, 113, 172]
abbrev dktX6_lose_0 : List UInt8 := dkwX6_lose_0 ++ []
theorem dksX6_lose_0 : cX6_lose.data.toList.drop 0 = dktX6_lose_0 := by decide +kernel
theorem dX6_lose_0 : decode cX6_lose 0 = .ok (.aload_n 0, 1) := dk_42 (dk_at dksX6_lose_0 0 rfl rfl)
theorem dX6_lose_1 : decode cX6_lose 1 = .ok (.iconst 1, 1) := dk_4 (dk_at dksX6_lose_0 1 rfl rfl)
theorem dX6_lose_2 : decode cX6_lose 2 = .ok (.iload_n 1, 1) := dk_27 (dk_at dksX6_lose_0 2 rfl rfl)
theorem dX6_lose_3 : decode cX6_lose 3 = .ok (.iconst 0, 1) := dk_3 (dk_at dksX6_lose_0 3 rfl rfl)
theorem dX6_lose_4 : decode cX6_lose 4 = .ok (.iconst 0, 1) := dk_3 (dk_at dksX6_lose_0 4 rfl rfl)
theorem dX6_lose_5 : decode cX6_lose 5 = .ok (.iconst 0, 1) := dk_3 (dk_at dksX6_lose_0 5 rfl rfl)
theorem dX6_lose_6 : decode cX6_lose 6 = .ok (.invokevirtual 369, 3) := dk_182 1 113 (dk_at dksX6_lose_0 6 rfl rfl)
theorem dX6_lose_9 : decode cX6_lose 9 = .ok (.ireturn, 1) := dk_172 (dk_at dksX6_lose_0 9 rfl rfl)
abbrev cX6_replace : ByteArray := prog_12_method_83_code
def yX6_replace : MethodName := ⟨RX6, "replace", "(I)I"⟩
def dkwX6_replace_0 : List UInt8 := [42, 5, 27, 3, 3, 3, 182, 1, 113, 172]
abbrev dktX6_replace_0 : List UInt8 := dkwX6_replace_0 ++ []
theorem dksX6_replace_0 : cX6_replace.data.toList.drop 0 = dktX6_replace_0 := by decide +kernel
theorem dX6_replace_0 : decode cX6_replace 0 = .ok (.aload_n 0, 1) := dk_42 (dk_at dksX6_replace_0 0 rfl rfl)
theorem dX6_replace_1 : decode cX6_replace 1 = .ok (.iconst 2, 1) := dk_5 (dk_at dksX6_replace_0 1 rfl rfl)
theorem dX6_replace_2 : decode cX6_replace 2 = .ok (.iload_n 1, 1) := dk_27 (dk_at dksX6_replace_0 2 rfl rfl)
theorem dX6_replace_3 : decode cX6_replace 3 = .ok (.iconst 0, 1) := dk_3 (dk_at dksX6_replace_0 3 rfl rfl)
theorem dX6_replace_4 : decode cX6_replace 4 = .ok (.iconst 0, 1) := dk_3 (dk_at dksX6_replace_0 4 rfl rfl)
theorem dX6_replace_5 : decode cX6_replace 5 = .ok (.iconst 0, 1) := dk_3 (dk_at dksX6_replace_0 5 rfl rfl)
theorem dX6_replace_6 : decode cX6_replace 6 = .ok (.invokevirtual 369, 3) := dk_182 1 113 (dk_at dksX6_replace_0 6 rfl rfl)
theorem dX6_replace_9 : decode cX6_replace 9 = .ok (.ireturn, 1) := dk_172 (dk_at dksX6_replace_0 9 rfl rfl)
abbrev cX6_rebuild : ByteArray := prog_12_method_84_code
def yX6_rebuild : MethodName := ⟨RX6, "rebuild", "(II)I"⟩
def dkwX6_rebuild_0 : List UInt8 := [42, 6, 27, 28, 3, 3, 182, 1, 113, 172]
abbrev dktX6_rebuild_0 : List UInt8 := dkwX6_rebuild_0 ++ []
theorem dksX6_rebuild_0 : cX6_rebuild.data.toList.drop 0 = dktX6_rebuild_0 := by decide +kernel
theorem dX6_rebuild_0 : decode cX6_rebuild 0 = .ok (.aload_n 0, 1) := dk_42 (dk_at dksX6_rebuild_0 0 rfl rfl)
theorem dX6_rebuild_1 : decode cX6_rebuild 1 = .ok (.iconst 3, 1) := dk_6 (dk_at dksX6_rebuild_0 1 rfl rfl)
theorem dX6_rebuild_2 : decode cX6_rebuild 2 = .ok (.iload_n 1, 1) := dk_27 (dk_at dksX6_rebuild_0 2 rfl rfl)
theorem dX6_rebuild_3 : decode cX6_rebuild 3 = .ok (.iload_n 2, 1) := dk_28 (dk_at dksX6_rebuild_0 3 rfl rfl)
theorem dX6_rebuild_4 : decode cX6_rebuild 4 = .ok (.iconst 0, 1) := dk_3 (dk_at dksX6_rebuild_0 4 rfl rfl)
theorem dX6_rebuild_5 : decode cX6_rebuild 5 = .ok (.iconst 0, 1) := dk_3 (dk_at dksX6_rebuild_0 5 rfl rfl)
theorem dX6_rebuild_6 : decode cX6_rebuild 6 = .ok (.invokevirtual 369, 3) := dk_182 1 113 (dk_at dksX6_rebuild_0 6 rfl rfl)
theorem dX6_rebuild_9 : decode cX6_rebuild 9 = .ok (.ireturn, 1) := dk_172 (dk_at dksX6_rebuild_0 9 rfl rfl)
abbrev cX6_scrub : ByteArray := prog_12_method_85_code
def yX6_scrub : MethodName := ⟨RX6, "scrub", "(I)I"⟩
def dkwX6_scrub_0 : List UInt8 := [42, 7, 27, 3, 3, 3, 182, 1, 113, 172]
abbrev dktX6_scrub_0 : List UInt8 := dkwX6_scrub_0 ++ []
theorem dksX6_scrub_0 : cX6_scrub.data.toList.drop 0 = dktX6_scrub_0 := by decide +kernel
theorem dX6_scrub_0 : decode cX6_scrub 0 = .ok (.aload_n 0, 1) := dk_42 (dk_at dksX6_scrub_0 0 rfl rfl)
theorem dX6_scrub_1 : decode cX6_scrub 1 = .ok (.iconst 4, 1) := dk_7 (dk_at dksX6_scrub_0 1 rfl rfl)
theorem dX6_scrub_2 : decode cX6_scrub 2 = .ok (.iload_n 1, 1) := dk_27 (dk_at dksX6_scrub_0 2 rfl rfl)
theorem dX6_scrub_3 : decode cX6_scrub 3 = .ok (.iconst 0, 1) := dk_3 (dk_at dksX6_scrub_0 3 rfl rfl)
theorem dX6_scrub_4 : decode cX6_scrub 4 = .ok (.iconst 0, 1) := dk_3 (dk_at dksX6_scrub_0 4 rfl rfl)
theorem dX6_scrub_5 : decode cX6_scrub 5 = .ok (.iconst 0, 1) := dk_3 (dk_at dksX6_scrub_0 5 rfl rfl)
theorem dX6_scrub_6 : decode cX6_scrub 6 = .ok (.invokevirtual 369, 3) := dk_182 1 113 (dk_at dksX6_scrub_0 6 rfl rfl)
theorem dX6_scrub_9 : decode cX6_scrub 9 = .ok (.ireturn, 1) := dk_172 (dk_at dksX6_scrub_0 9 rfl rfl)
abbrev cX6_spoil : ByteArray := prog_12_method_86_code
def yX6_spoil : MethodName := ⟨RX6, "spoil", "(IIII)I"⟩
def dkwX6_spoil_0 : List UInt8 := [42, 8, 27, 28, 29, 21, 4, 182, 1, 113, 172]
abbrev dktX6_spoil_0 : List UInt8 := dkwX6_spoil_0 ++ []
theorem dksX6_spoil_0 : cX6_spoil.data.toList.drop 0 = dktX6_spoil_0 := by decide +kernel
theorem dX6_spoil_0 : decode cX6_spoil 0 = .ok (.aload_n 0, 1) := dk_42 (dk_at dksX6_spoil_0 0 rfl rfl)
theorem dX6_spoil_1 : decode cX6_spoil 1 = .ok (.iconst 5, 1) := dk_8 (dk_at dksX6_spoil_0 1 rfl rfl)
theorem dX6_spoil_2 : decode cX6_spoil 2 = .ok (.iload_n 1, 1) := dk_27 (dk_at dksX6_spoil_0 2 rfl rfl)
theorem dX6_spoil_3 : decode cX6_spoil 3 = .ok (.iload_n 2, 1) := dk_28 (dk_at dksX6_spoil_0 3 rfl rfl)
theorem dX6_spoil_4 : decode cX6_spoil 4 = .ok (.iload_n 3, 1) := dk_29 (dk_at dksX6_spoil_0 4 rfl rfl)
theorem dX6_spoil_5 : decode cX6_spoil 5 = .ok (.iload 4, 2) := dk_21 4 (dk_at dksX6_spoil_0 5 rfl rfl)
theorem dX6_spoil_7 : decode cX6_spoil 7 = .ok (.invokevirtual 369, 3) := dk_182 1 113 (dk_at dksX6_spoil_0 7 rfl rfl)
theorem dX6_spoil_10 : decode cX6_spoil 10 = .ok (.ireturn, 1) := dk_172 (dk_at dksX6_spoil_0 10 rfl rfl)
abbrev cX6_tear : ByteArray := prog_12_method_87_code
def yX6_tear : MethodName := ⟨RX6, "tear", "(III)I"⟩
def dkwX6_tear_0 : List UInt8 := [42, 16, 6, 27, 28, 29, 3, 182, 1, 113, 172]
abbrev dktX6_tear_0 : List UInt8 := dkwX6_tear_0 ++ []
theorem dksX6_tear_0 : cX6_tear.data.toList.drop 0 = dktX6_tear_0 := by decide +kernel
theorem dX6_tear_0 : decode cX6_tear 0 = .ok (.aload_n 0, 1) := dk_42 (dk_at dksX6_tear_0 0 rfl rfl)
theorem dX6_tear_1 : decode cX6_tear 1 = .ok (.bipush 6, 2) := dk_16 6 (dk_at dksX6_tear_0 1 rfl rfl)
theorem dX6_tear_3 : decode cX6_tear 3 = .ok (.iload_n 1, 1) := dk_27 (dk_at dksX6_tear_0 3 rfl rfl)
theorem dX6_tear_4 : decode cX6_tear 4 = .ok (.iload_n 2, 1) := dk_28 (dk_at dksX6_tear_0 4 rfl rfl)
theorem dX6_tear_5 : decode cX6_tear 5 = .ok (.iload_n 3, 1) := dk_29 (dk_at dksX6_tear_0 5 rfl rfl)
theorem dX6_tear_6 : decode cX6_tear 6 = .ok (.iconst 0, 1) := dk_3 (dk_at dksX6_tear_0 6 rfl rfl)
theorem dX6_tear_7 : decode cX6_tear 7 = .ok (.invokevirtual 369, 3) := dk_182 1 113 (dk_at dksX6_tear_0 7 rfl rfl)
theorem dX6_tear_10 : decode cX6_tear 10 = .ok (.ireturn, 1) := dk_172 (dk_at dksX6_tear_0 10 rfl rfl)
abbrev cX6_clean : ByteArray := prog_12_method_88_code
def yX6_clean : MethodName := ⟨RX6, "clean", "()I"⟩
def dkwX6_clean_0 : List UInt8 := [42, 16, 7, 3, 3, 3, 3, 182, 1, 113, 172]
abbrev dktX6_clean_0 : List UInt8 := dkwX6_clean_0 ++ []
theorem dksX6_clean_0 : cX6_clean.data.toList.drop 0 = dktX6_clean_0 := by decide +kernel
theorem dX6_clean_0 : decode cX6_clean 0 = .ok (.aload_n 0, 1) := dk_42 (dk_at dksX6_clean_0 0 rfl rfl)
theorem dX6_clean_1 : decode cX6_clean 1 = .ok (.bipush 7, 2) := dk_16 7 (dk_at dksX6_clean_0 1 rfl rfl)
theorem dX6_clean_3 : decode cX6_clean 3 = .ok (.iconst 0, 1) := dk_3 (dk_at dksX6_clean_0 3 rfl rfl)
theorem dX6_clean_4 : decode cX6_clean 4 = .ok (.iconst 0, 1) := dk_3 (dk_at dksX6_clean_0 4 rfl rfl)
theorem dX6_clean_5 : decode cX6_clean 5 = .ok (.iconst 0, 1) := dk_3 (dk_at dksX6_clean_0 5 rfl rfl)
theorem dX6_clean_6 : decode cX6_clean 6 = .ok (.iconst 0, 1) := dk_3 (dk_at dksX6_clean_0 6 rfl rfl)
theorem dX6_clean_7 : decode cX6_clean 7 = .ok (.invokevirtual 369, 3) := dk_182 1 113 (dk_at dksX6_clean_0 7 rfl rfl)
theorem dX6_clean_10 : decode cX6_clean 10 = .ok (.ireturn, 1) := dk_172 (dk_at dksX6_clean_0 10 rfl rfl)
abbrev cX6_full : ByteArray := prog_12_method_89_code
def yX6_full : MethodName := ⟨RX6, "full", "(IIII)I"⟩
def dkwX6_full_0 : List UInt8 := [42, 16, 8, 27, 28, 29, 21, 4, 182, 1, 113, 172]
abbrev dktX6_full_0 : List UInt8 := dkwX6_full_0 ++ []
theorem dksX6_full_0 : cX6_full.data.toList.drop 0 = dktX6_full_0 := by decide +kernel
theorem dX6_full_0 : decode cX6_full 0 = .ok (.aload_n 0, 1) := dk_42 (dk_at dksX6_full_0 0 rfl rfl)
theorem dX6_full_1 : decode cX6_full 1 = .ok (.bipush 8, 2) := dk_16 8 (dk_at dksX6_full_0 1 rfl rfl)
theorem dX6_full_3 : decode cX6_full 3 = .ok (.iload_n 1, 1) := dk_27 (dk_at dksX6_full_0 3 rfl rfl)
theorem dX6_full_4 : decode cX6_full 4 = .ok (.iload_n 2, 1) := dk_28 (dk_at dksX6_full_0 4 rfl rfl)
theorem dX6_full_5 : decode cX6_full 5 = .ok (.iload_n 3, 1) := dk_29 (dk_at dksX6_full_0 5 rfl rfl)
theorem dX6_full_6 : decode cX6_full 6 = .ok (.iload 4, 2) := dk_21 4 (dk_at dksX6_full_0 6 rfl rfl)
theorem dX6_full_8 : decode cX6_full 8 = .ok (.invokevirtual 369, 3) := dk_182 1 113 (dk_at dksX6_full_0 8 rfl rfl)
theorem dX6_full_11 : decode cX6_full 11 = .ok (.ireturn, 1) := dk_172 (dk_at dksX6_full_0 11 rfl rfl)
abbrev cX6_years : ByteArray := prog_12_method_93_code
def yX6_years : MethodName := ⟨RX6, "years", "(IJ)I"⟩
def dkwX6_years_2 : List UInt8 := [132, 4, 1, 167, 255, 241, 42, 180, 0, 38, 184, 1, 103, 172]
abbrev dktX6_years_2 : List UInt8 := dkwX6_years_2 ++ []
def dkwX6_years_1 : List UInt8 := [2, 172, 42, 32, 181, 1, 116, 3, 54, 4, 21, 4, 27, 162, 0, 15, 42, 182, 1, 132, 54, 5]
abbrev dktX6_years_1 : List UInt8 := dkwX6_years_1 ++ dktX6_years_2
def dkwX6_years_0 : List UInt8 := [42, 3, 181, 0, 57, 42, 180, 0, 153, 153, 0, 15, 27, 133, 10, 20, 1, 130, 184, 0, 117, 154, 0, 5]
abbrev dktX6_years_0 : List UInt8 := dkwX6_years_0 ++ dktX6_years_1
theorem dksX6_years_0 : cX6_years.data.toList.drop 0 = dktX6_years_0 := by decide +kernel
theorem dksX6_years_1 : cX6_years.data.toList.drop 24 = dktX6_years_1 := dk_seg dksX6_years_0 24 rfl rfl
theorem dksX6_years_2 : cX6_years.data.toList.drop 46 = dktX6_years_2 := dk_seg dksX6_years_1 22 rfl rfl
theorem dX6_years_0 : decode cX6_years 0 = .ok (.aload_n 0, 1) := dk_42 (dk_at dksX6_years_0 0 rfl rfl)
theorem dX6_years_1 : decode cX6_years 1 = .ok (.iconst 0, 1) := dk_3 (dk_at dksX6_years_0 1 rfl rfl)
theorem dX6_years_2 : decode cX6_years 2 = .ok (.putfield 57, 3) := dk_181 0 57 (dk_at dksX6_years_0 2 rfl rfl)
theorem dX6_years_5 : decode cX6_years 5 = .ok (.aload_n 0, 1) := dk_42 (dk_at dksX6_years_0 5 rfl rfl)
theorem dX6_years_6 : decode cX6_years 6 = .ok (.getfield 153, 3) := dk_180 0 153 (dk_at dksX6_years_0 6 rfl rfl)
theorem dX6_years_9 : decode cX6_years 9 = .ok (.ifCond .eq 15, 3) := dk_153 0 15 (dk_at dksX6_years_0 9 rfl rfl)
theorem dX6_years_12 : decode cX6_years 12 = .ok (.iload_n 1, 1) := dk_27 (dk_at dksX6_years_0 12 rfl rfl)
theorem dX6_years_13 : decode cX6_years 13 = .ok (.i2l, 1) := dk_133 (dk_at dksX6_years_0 13 rfl rfl)
theorem dX6_years_14 : decode cX6_years 14 = .ok (.lconst 1, 1) := dk_10 (dk_at dksX6_years_0 14 rfl rfl)
theorem dX6_years_15 : decode cX6_years 15 = .ok (.ldc2_w 386, 3) := dk_20 1 130 (dk_at dksX6_years_0 15 rfl rfl)
theorem dX6_years_18 : decode cX6_years 18 = .ok (.invokestatic 117, 3) := dk_184 0 117 (dk_at dksX6_years_0 18 rfl rfl)
theorem dX6_years_21 : decode cX6_years 21 = .ok (.ifCond .ne 5, 3) := dk_154 0 5 (dk_at dksX6_years_0 21 rfl rfl)
theorem dX6_years_24 : decode cX6_years 24 = .ok (.iconst (-1), 1) := dk_2 (dk_at dksX6_years_1 0 rfl rfl)
theorem dX6_years_25 : decode cX6_years 25 = .ok (.ireturn, 1) := dk_172 (dk_at dksX6_years_1 1 rfl rfl)
theorem dX6_years_26 : decode cX6_years 26 = .ok (.aload_n 0, 1) := dk_42 (dk_at dksX6_years_1 2 rfl rfl)
theorem dX6_years_27 : decode cX6_years 27 = .ok (.lload_n 2, 1) := dk_32 (dk_at dksX6_years_1 3 rfl rfl)
theorem dX6_years_28 : decode cX6_years 28 = .ok (.putfield 372, 3) := dk_181 1 116 (dk_at dksX6_years_1 4 rfl rfl)
theorem dX6_years_31 : decode cX6_years 31 = .ok (.iconst 0, 1) := dk_3 (dk_at dksX6_years_1 7 rfl rfl)
theorem dX6_years_32 : decode cX6_years 32 = .ok (.istore 4, 2) := dk_54 4 (dk_at dksX6_years_1 8 rfl rfl)
theorem dX6_years_34 : decode cX6_years 34 = .ok (.iload 4, 2) := dk_21 4 (dk_at dksX6_years_1 10 rfl rfl)
theorem dX6_years_36 : decode cX6_years 36 = .ok (.iload_n 1, 1) := dk_27 (dk_at dksX6_years_1 12 rfl rfl)
theorem dX6_years_37 : decode cX6_years 37 = .ok (.if_icmp .ge 15, 3) := dk_162 0 15 (dk_at dksX6_years_1 13 rfl rfl)
theorem dX6_years_40 : decode cX6_years 40 = .ok (.aload_n 0, 1) := dk_42 (dk_at dksX6_years_1 16 rfl rfl)
theorem dX6_years_41 : decode cX6_years 41 = .ok (.invokevirtual 388, 3) := dk_182 1 132 (dk_at dksX6_years_1 17 rfl rfl)
theorem dX6_years_44 : decode cX6_years 44 = .ok (.istore 5, 2) := dk_54 5 (dk_at dksX6_years_1 20 rfl rfl)
theorem dX6_years_46 : decode cX6_years 46 = .ok (.iinc 4 1, 3) := dk_132 4 1 (dk_at dksX6_years_2 0 rfl rfl)
theorem dX6_years_49 : decode cX6_years 49 = .ok (.goto (-15), 3) := dk_167 255 241 (dk_at dksX6_years_2 3 rfl rfl)
theorem dX6_years_52 : decode cX6_years 52 = .ok (.aload_n 0, 1) := dk_42 (dk_at dksX6_years_2 6 rfl rfl)
theorem dX6_years_53 : decode cX6_years 53 = .ok (.getfield 38, 3) := dk_180 0 38 (dk_at dksX6_years_2 7 rfl rfl)
theorem dX6_years_56 : decode cX6_years 56 = .ok (.invokestatic 359, 3) := dk_184 1 103 (dk_at dksX6_years_2 10 rfl rfl)
theorem dX6_years_59 : decode cX6_years 59 = .ok (.ireturn, 1) := dk_172 (dk_at dksX6_years_2 13 rfl rfl)
abbrev cX6_happens : ByteArray := prog_12_method_91_code
def yX6_happens : MethodName := ⟨RX6, "happens", "()I"⟩
def dkwX6_happens_6 : List UInt8 := [42, 8, 28, 29, 21, 4, 42, 17, 0, 255, 182, 1, 124, 4, 96, 182, 1, 110, 172]
abbrev dktX6_happens_6 : List UInt8 := dkwX6_happens_6 ++ []
def dkwX6_happens_5 : List UInt8 := [42, 6, 28, 29, 4, 96, 3, 3, 182, 1, 110, 172, 42, 42, 180, 0, 17, 5, 46, 182, 1, 124, 54, 4]
abbrev dktX6_happens_5 : List UInt8 := dkwX6_happens_5 ++ dktX6_happens_6
def dkwX6_happens_4 : List UInt8 := [3, 3, 3, 182, 1, 110, 172, 42, 42, 180, 0, 17, 4, 46, 182, 1, 124, 62, 27, 16, 9, 162, 0, 15]
abbrev dktX6_happens_4 : List UInt8 := dkwX6_happens_4 ++ dktX6_happens_5
def dkwX6_happens_3 : List UInt8 := [182, 1, 127, 172, 42, 42, 180, 0, 171, 182, 1, 124, 61, 27, 16, 7, 162, 0, 15, 42, 27, 7, 100, 28]
abbrev dktX6_happens_3 : List UInt8 := dkwX6_happens_3 ++ dktX6_happens_4
def dkwX6_happens_2 : List UInt8 := [180, 0, 17, 4, 46, 182, 1, 124, 4, 96, 3, 3, 3, 182, 1, 110, 172, 27, 16, 11, 160, 0, 8, 42]
abbrev dktX6_happens_2 : List UInt8 := dkwX6_happens_2 ++ dktX6_happens_3
def dkwX6_happens_1 : List UInt8 := [42, 17, 1, 0, 182, 1, 124, 3, 3, 182, 1, 110, 172, 27, 16, 9, 160, 0, 24, 42, 7, 42, 42]
abbrev dktX6_happens_1 : List UInt8 := dkwX6_happens_1 ++ dktX6_happens_2
def dkwX6_happens_0 : List UInt8 := [42, 16, 12, 182, 1, 124, 60, 27, 8, 162, 0, 28, 42, 42, 180, 0, 153, 182, 1, 124, 61, 42, 3, 28]
abbrev dktX6_happens_0 : List UInt8 := dkwX6_happens_0 ++ dktX6_happens_1
theorem dksX6_happens_0 : cX6_happens.data.toList.drop 0 = dktX6_happens_0 := by decide +kernel
theorem dksX6_happens_1 : cX6_happens.data.toList.drop 24 = dktX6_happens_1 := dk_seg dksX6_happens_0 24 rfl rfl
theorem dksX6_happens_2 : cX6_happens.data.toList.drop 47 = dktX6_happens_2 := dk_seg dksX6_happens_1 23 rfl rfl
theorem dksX6_happens_3 : cX6_happens.data.toList.drop 71 = dktX6_happens_3 := dk_seg dksX6_happens_2 24 rfl rfl
theorem dksX6_happens_4 : cX6_happens.data.toList.drop 95 = dktX6_happens_4 := dk_seg dksX6_happens_3 24 rfl rfl
theorem dksX6_happens_5 : cX6_happens.data.toList.drop 119 = dktX6_happens_5 := dk_seg dksX6_happens_4 24 rfl rfl
theorem dksX6_happens_6 : cX6_happens.data.toList.drop 143 = dktX6_happens_6 := dk_seg dksX6_happens_5 24 rfl rfl
theorem dX6_happens_0 : decode cX6_happens 0 = .ok (.aload_n 0, 1) := dk_42 (dk_at dksX6_happens_0 0 rfl rfl)
theorem dX6_happens_1 : decode cX6_happens 1 = .ok (.bipush 12, 2) := dk_16 12 (dk_at dksX6_happens_0 1 rfl rfl)
theorem dX6_happens_3 : decode cX6_happens 3 = .ok (.invokevirtual 380, 3) := dk_182 1 124 (dk_at dksX6_happens_0 3 rfl rfl)
theorem dX6_happens_6 : decode cX6_happens 6 = .ok (.istore_n 1, 1) := dk_60 (dk_at dksX6_happens_0 6 rfl rfl)
theorem dX6_happens_7 : decode cX6_happens 7 = .ok (.iload_n 1, 1) := dk_27 (dk_at dksX6_happens_0 7 rfl rfl)
theorem dX6_happens_8 : decode cX6_happens 8 = .ok (.iconst 5, 1) := dk_8 (dk_at dksX6_happens_0 8 rfl rfl)
theorem dX6_happens_9 : decode cX6_happens 9 = .ok (.if_icmp .ge 28, 3) := dk_162 0 28 (dk_at dksX6_happens_0 9 rfl rfl)
theorem dX6_happens_12 : decode cX6_happens 12 = .ok (.aload_n 0, 1) := dk_42 (dk_at dksX6_happens_0 12 rfl rfl)
theorem dX6_happens_13 : decode cX6_happens 13 = .ok (.aload_n 0, 1) := dk_42 (dk_at dksX6_happens_0 13 rfl rfl)
theorem dX6_happens_14 : decode cX6_happens 14 = .ok (.getfield 153, 3) := dk_180 0 153 (dk_at dksX6_happens_0 14 rfl rfl)
theorem dX6_happens_17 : decode cX6_happens 17 = .ok (.invokevirtual 380, 3) := dk_182 1 124 (dk_at dksX6_happens_0 17 rfl rfl)
theorem dX6_happens_20 : decode cX6_happens 20 = .ok (.istore_n 2, 1) := dk_61 (dk_at dksX6_happens_0 20 rfl rfl)
theorem dX6_happens_21 : decode cX6_happens 21 = .ok (.aload_n 0, 1) := dk_42 (dk_at dksX6_happens_0 21 rfl rfl)
theorem dX6_happens_22 : decode cX6_happens 22 = .ok (.iconst 0, 1) := dk_3 (dk_at dksX6_happens_0 22 rfl rfl)
theorem dX6_happens_23 : decode cX6_happens 23 = .ok (.iload_n 2, 1) := dk_28 (dk_at dksX6_happens_0 23 rfl rfl)
theorem dX6_happens_24 : decode cX6_happens 24 = .ok (.aload_n 0, 1) := dk_42 (dk_at dksX6_happens_1 0 rfl rfl)
theorem dX6_happens_25 : decode cX6_happens 25 = .ok (.sipush 256, 3) := dk_17 1 0 (dk_at dksX6_happens_1 1 rfl rfl)
theorem dX6_happens_28 : decode cX6_happens 28 = .ok (.invokevirtual 380, 3) := dk_182 1 124 (dk_at dksX6_happens_1 4 rfl rfl)
theorem dX6_happens_31 : decode cX6_happens 31 = .ok (.iconst 0, 1) := dk_3 (dk_at dksX6_happens_1 7 rfl rfl)
theorem dX6_happens_32 : decode cX6_happens 32 = .ok (.iconst 0, 1) := dk_3 (dk_at dksX6_happens_1 8 rfl rfl)
theorem dX6_happens_33 : decode cX6_happens 33 = .ok (.invokevirtual 366, 3) := dk_182 1 110 (dk_at dksX6_happens_1 9 rfl rfl)
theorem dX6_happens_36 : decode cX6_happens 36 = .ok (.ireturn, 1) := dk_172 (dk_at dksX6_happens_1 12 rfl rfl)
theorem dX6_happens_37 : decode cX6_happens 37 = .ok (.iload_n 1, 1) := dk_27 (dk_at dksX6_happens_1 13 rfl rfl)
theorem dX6_happens_38 : decode cX6_happens 38 = .ok (.bipush 9, 2) := dk_16 9 (dk_at dksX6_happens_1 14 rfl rfl)
theorem dX6_happens_40 : decode cX6_happens 40 = .ok (.if_icmp .ne 24, 3) := dk_160 0 24 (dk_at dksX6_happens_1 16 rfl rfl)
theorem dX6_happens_43 : decode cX6_happens 43 = .ok (.aload_n 0, 1) := dk_42 (dk_at dksX6_happens_1 19 rfl rfl)
theorem dX6_happens_44 : decode cX6_happens 44 = .ok (.iconst 4, 1) := dk_7 (dk_at dksX6_happens_1 20 rfl rfl)
theorem dX6_happens_45 : decode cX6_happens 45 = .ok (.aload_n 0, 1) := dk_42 (dk_at dksX6_happens_1 21 rfl rfl)
theorem dX6_happens_46 : decode cX6_happens 46 = .ok (.aload_n 0, 1) := dk_42 (dk_at dksX6_happens_1 22 rfl rfl)
theorem dX6_happens_47 : decode cX6_happens 47 = .ok (.getfield 17, 3) := dk_180 0 17 (dk_at dksX6_happens_2 0 rfl rfl)
theorem dX6_happens_50 : decode cX6_happens 50 = .ok (.iconst 1, 1) := dk_4 (dk_at dksX6_happens_2 3 rfl rfl)
theorem dX6_happens_51 : decode cX6_happens 51 = .ok (.iaload, 1) := dk_46 (dk_at dksX6_happens_2 4 rfl rfl)
theorem dX6_happens_52 : decode cX6_happens 52 = .ok (.invokevirtual 380, 3) := dk_182 1 124 (dk_at dksX6_happens_2 5 rfl rfl)
theorem dX6_happens_55 : decode cX6_happens 55 = .ok (.iconst 1, 1) := dk_4 (dk_at dksX6_happens_2 8 rfl rfl)
theorem dX6_happens_56 : decode cX6_happens 56 = .ok (.iadd, 1) := dk_96 (dk_at dksX6_happens_2 9 rfl rfl)
theorem dX6_happens_57 : decode cX6_happens 57 = .ok (.iconst 0, 1) := dk_3 (dk_at dksX6_happens_2 10 rfl rfl)
theorem dX6_happens_58 : decode cX6_happens 58 = .ok (.iconst 0, 1) := dk_3 (dk_at dksX6_happens_2 11 rfl rfl)
theorem dX6_happens_59 : decode cX6_happens 59 = .ok (.iconst 0, 1) := dk_3 (dk_at dksX6_happens_2 12 rfl rfl)
theorem dX6_happens_60 : decode cX6_happens 60 = .ok (.invokevirtual 366, 3) := dk_182 1 110 (dk_at dksX6_happens_2 13 rfl rfl)
theorem dX6_happens_63 : decode cX6_happens 63 = .ok (.ireturn, 1) := dk_172 (dk_at dksX6_happens_2 16 rfl rfl)
theorem dX6_happens_64 : decode cX6_happens 64 = .ok (.iload_n 1, 1) := dk_27 (dk_at dksX6_happens_2 17 rfl rfl)
theorem dX6_happens_65 : decode cX6_happens 65 = .ok (.bipush 11, 2) := dk_16 11 (dk_at dksX6_happens_2 18 rfl rfl)
theorem dX6_happens_67 : decode cX6_happens 67 = .ok (.if_icmp .ne 8, 3) := dk_160 0 8 (dk_at dksX6_happens_2 20 rfl rfl)
theorem dX6_happens_70 : decode cX6_happens 70 = .ok (.aload_n 0, 1) := dk_42 (dk_at dksX6_happens_2 23 rfl rfl)
theorem dX6_happens_71 : decode cX6_happens 71 = .ok (.invokevirtual 383, 3) := dk_182 1 127 (dk_at dksX6_happens_3 0 rfl rfl)
theorem dX6_happens_74 : decode cX6_happens 74 = .ok (.ireturn, 1) := dk_172 (dk_at dksX6_happens_3 3 rfl rfl)
theorem dX6_happens_75 : decode cX6_happens 75 = .ok (.aload_n 0, 1) := dk_42 (dk_at dksX6_happens_3 4 rfl rfl)
theorem dX6_happens_76 : decode cX6_happens 76 = .ok (.aload_n 0, 1) := dk_42 (dk_at dksX6_happens_3 5 rfl rfl)
theorem dX6_happens_77 : decode cX6_happens 77 = .ok (.getfield 171, 3) := dk_180 0 171 (dk_at dksX6_happens_3 6 rfl rfl)
theorem dX6_happens_80 : decode cX6_happens 80 = .ok (.invokevirtual 380, 3) := dk_182 1 124 (dk_at dksX6_happens_3 9 rfl rfl)
theorem dX6_happens_83 : decode cX6_happens 83 = .ok (.istore_n 2, 1) := dk_61 (dk_at dksX6_happens_3 12 rfl rfl)
theorem dX6_happens_84 : decode cX6_happens 84 = .ok (.iload_n 1, 1) := dk_27 (dk_at dksX6_happens_3 13 rfl rfl)
theorem dX6_happens_85 : decode cX6_happens 85 = .ok (.bipush 7, 2) := dk_16 7 (dk_at dksX6_happens_3 14 rfl rfl)
theorem dX6_happens_87 : decode cX6_happens 87 = .ok (.if_icmp .ge 15, 3) := dk_162 0 15 (dk_at dksX6_happens_3 16 rfl rfl)
theorem dX6_happens_90 : decode cX6_happens 90 = .ok (.aload_n 0, 1) := dk_42 (dk_at dksX6_happens_3 19 rfl rfl)
theorem dX6_happens_91 : decode cX6_happens 91 = .ok (.iload_n 1, 1) := dk_27 (dk_at dksX6_happens_3 20 rfl rfl)
theorem dX6_happens_92 : decode cX6_happens 92 = .ok (.iconst 4, 1) := dk_7 (dk_at dksX6_happens_3 21 rfl rfl)
theorem dX6_happens_93 : decode cX6_happens 93 = .ok (.isub, 1) := dk_100 (dk_at dksX6_happens_3 22 rfl rfl)
theorem dX6_happens_94 : decode cX6_happens 94 = .ok (.iload_n 2, 1) := dk_28 (dk_at dksX6_happens_3 23 rfl rfl)
theorem dX6_happens_95 : decode cX6_happens 95 = .ok (.iconst 0, 1) := dk_3 (dk_at dksX6_happens_4 0 rfl rfl)
theorem dX6_happens_96 : decode cX6_happens 96 = .ok (.iconst 0, 1) := dk_3 (dk_at dksX6_happens_4 1 rfl rfl)
theorem dX6_happens_97 : decode cX6_happens 97 = .ok (.iconst 0, 1) := dk_3 (dk_at dksX6_happens_4 2 rfl rfl)
theorem dX6_happens_98 : decode cX6_happens 98 = .ok (.invokevirtual 366, 3) := dk_182 1 110 (dk_at dksX6_happens_4 3 rfl rfl)
theorem dX6_happens_101 : decode cX6_happens 101 = .ok (.ireturn, 1) := dk_172 (dk_at dksX6_happens_4 6 rfl rfl)
theorem dX6_happens_102 : decode cX6_happens 102 = .ok (.aload_n 0, 1) := dk_42 (dk_at dksX6_happens_4 7 rfl rfl)
theorem dX6_happens_103 : decode cX6_happens 103 = .ok (.aload_n 0, 1) := dk_42 (dk_at dksX6_happens_4 8 rfl rfl)
theorem dX6_happens_104 : decode cX6_happens 104 = .ok (.getfield 17, 3) := dk_180 0 17 (dk_at dksX6_happens_4 9 rfl rfl)
theorem dX6_happens_107 : decode cX6_happens 107 = .ok (.iconst 1, 1) := dk_4 (dk_at dksX6_happens_4 12 rfl rfl)
theorem dX6_happens_108 : decode cX6_happens 108 = .ok (.iaload, 1) := dk_46 (dk_at dksX6_happens_4 13 rfl rfl)
theorem dX6_happens_109 : decode cX6_happens 109 = .ok (.invokevirtual 380, 3) := dk_182 1 124 (dk_at dksX6_happens_4 14 rfl rfl)
theorem dX6_happens_112 : decode cX6_happens 112 = .ok (.istore_n 3, 1) := dk_62 (dk_at dksX6_happens_4 17 rfl rfl)
theorem dX6_happens_113 : decode cX6_happens 113 = .ok (.iload_n 1, 1) := dk_27 (dk_at dksX6_happens_4 18 rfl rfl)
theorem dX6_happens_114 : decode cX6_happens 114 = .ok (.bipush 9, 2) := dk_16 9 (dk_at dksX6_happens_4 19 rfl rfl)
theorem dX6_happens_116 : decode cX6_happens 116 = .ok (.if_icmp .ge 15, 3) := dk_162 0 15 (dk_at dksX6_happens_4 21 rfl rfl)
theorem dX6_happens_119 : decode cX6_happens 119 = .ok (.aload_n 0, 1) := dk_42 (dk_at dksX6_happens_5 0 rfl rfl)
theorem dX6_happens_120 : decode cX6_happens 120 = .ok (.iconst 3, 1) := dk_6 (dk_at dksX6_happens_5 1 rfl rfl)
theorem dX6_happens_121 : decode cX6_happens 121 = .ok (.iload_n 2, 1) := dk_28 (dk_at dksX6_happens_5 2 rfl rfl)
theorem dX6_happens_122 : decode cX6_happens 122 = .ok (.iload_n 3, 1) := dk_29 (dk_at dksX6_happens_5 3 rfl rfl)
theorem dX6_happens_123 : decode cX6_happens 123 = .ok (.iconst 1, 1) := dk_4 (dk_at dksX6_happens_5 4 rfl rfl)
theorem dX6_happens_124 : decode cX6_happens 124 = .ok (.iadd, 1) := dk_96 (dk_at dksX6_happens_5 5 rfl rfl)
theorem dX6_happens_125 : decode cX6_happens 125 = .ok (.iconst 0, 1) := dk_3 (dk_at dksX6_happens_5 6 rfl rfl)
theorem dX6_happens_126 : decode cX6_happens 126 = .ok (.iconst 0, 1) := dk_3 (dk_at dksX6_happens_5 7 rfl rfl)
theorem dX6_happens_127 : decode cX6_happens 127 = .ok (.invokevirtual 366, 3) := dk_182 1 110 (dk_at dksX6_happens_5 8 rfl rfl)
theorem dX6_happens_130 : decode cX6_happens 130 = .ok (.ireturn, 1) := dk_172 (dk_at dksX6_happens_5 11 rfl rfl)
theorem dX6_happens_131 : decode cX6_happens 131 = .ok (.aload_n 0, 1) := dk_42 (dk_at dksX6_happens_5 12 rfl rfl)
theorem dX6_happens_132 : decode cX6_happens 132 = .ok (.aload_n 0, 1) := dk_42 (dk_at dksX6_happens_5 13 rfl rfl)
theorem dX6_happens_133 : decode cX6_happens 133 = .ok (.getfield 17, 3) := dk_180 0 17 (dk_at dksX6_happens_5 14 rfl rfl)
theorem dX6_happens_136 : decode cX6_happens 136 = .ok (.iconst 2, 1) := dk_5 (dk_at dksX6_happens_5 17 rfl rfl)
theorem dX6_happens_137 : decode cX6_happens 137 = .ok (.iaload, 1) := dk_46 (dk_at dksX6_happens_5 18 rfl rfl)
theorem dX6_happens_138 : decode cX6_happens 138 = .ok (.invokevirtual 380, 3) := dk_182 1 124 (dk_at dksX6_happens_5 19 rfl rfl)
theorem dX6_happens_141 : decode cX6_happens 141 = .ok (.istore 4, 2) := dk_54 4 (dk_at dksX6_happens_5 22 rfl rfl)
theorem dX6_happens_143 : decode cX6_happens 143 = .ok (.aload_n 0, 1) := dk_42 (dk_at dksX6_happens_6 0 rfl rfl)
theorem dX6_happens_144 : decode cX6_happens 144 = .ok (.iconst 5, 1) := dk_8 (dk_at dksX6_happens_6 1 rfl rfl)
theorem dX6_happens_145 : decode cX6_happens 145 = .ok (.iload_n 2, 1) := dk_28 (dk_at dksX6_happens_6 2 rfl rfl)
theorem dX6_happens_146 : decode cX6_happens 146 = .ok (.iload_n 3, 1) := dk_29 (dk_at dksX6_happens_6 3 rfl rfl)
theorem dX6_happens_147 : decode cX6_happens 147 = .ok (.iload 4, 2) := dk_21 4 (dk_at dksX6_happens_6 4 rfl rfl)
theorem dX6_happens_149 : decode cX6_happens 149 = .ok (.aload_n 0, 1) := dk_42 (dk_at dksX6_happens_6 6 rfl rfl)
theorem dX6_happens_150 : decode cX6_happens 150 = .ok (.sipush 255, 3) := dk_17 0 255 (dk_at dksX6_happens_6 7 rfl rfl)
theorem dX6_happens_153 : decode cX6_happens 153 = .ok (.invokevirtual 380, 3) := dk_182 1 124 (dk_at dksX6_happens_6 10 rfl rfl)
theorem dX6_happens_156 : decode cX6_happens 156 = .ok (.iconst 1, 1) := dk_4 (dk_at dksX6_happens_6 13 rfl rfl)
theorem dX6_happens_157 : decode cX6_happens 157 = .ok (.iadd, 1) := dk_96 (dk_at dksX6_happens_6 14 rfl rfl)
theorem dX6_happens_158 : decode cX6_happens 158 = .ok (.invokevirtual 366, 3) := dk_182 1 110 (dk_at dksX6_happens_6 15 rfl rfl)
theorem dX6_happens_161 : decode cX6_happens 161 = .ok (.ireturn, 1) := dk_172 (dk_at dksX6_happens_6 18 rfl rfl)
abbrev cX6_draw : ByteArray := prog_12_method_90_code
def yX6_draw : MethodName := ⟨RX6, "draw", "(I)I"⟩
def dkwX6_draw_1 : List UInt8 := [133, 113, 136, 172]
abbrev dktX6_draw_1 : List UInt8 := dkwX6_draw_1 ++ []
def dkwX6_draw_0 : List UInt8 := [42, 42, 180, 1, 116, 20, 1, 120, 105, 20, 1, 122, 97, 181, 1, 116, 42, 180, 1, 116, 16, 33, 125, 27]
abbrev dktX6_draw_0 : List UInt8 := dkwX6_draw_0 ++ dktX6_draw_1
theorem dksX6_draw_0 : cX6_draw.data.toList.drop 0 = dktX6_draw_0 := by decide +kernel
theorem dksX6_draw_1 : cX6_draw.data.toList.drop 24 = dktX6_draw_1 := dk_seg dksX6_draw_0 24 rfl rfl
theorem dX6_draw_0 : decode cX6_draw 0 = .ok (.aload_n 0, 1) := dk_42 (dk_at dksX6_draw_0 0 rfl rfl)
theorem dX6_draw_1 : decode cX6_draw 1 = .ok (.aload_n 0, 1) := dk_42 (dk_at dksX6_draw_0 1 rfl rfl)
theorem dX6_draw_2 : decode cX6_draw 2 = .ok (.getfield 372, 3) := dk_180 1 116 (dk_at dksX6_draw_0 2 rfl rfl)
theorem dX6_draw_5 : decode cX6_draw 5 = .ok (.ldc2_w 376, 3) := dk_20 1 120 (dk_at dksX6_draw_0 5 rfl rfl)
theorem dX6_draw_8 : decode cX6_draw 8 = .ok (.lmul, 1) := dk_105 (dk_at dksX6_draw_0 8 rfl rfl)
theorem dX6_draw_9 : decode cX6_draw 9 = .ok (.ldc2_w 378, 3) := dk_20 1 122 (dk_at dksX6_draw_0 9 rfl rfl)
theorem dX6_draw_12 : decode cX6_draw 12 = .ok (.ladd, 1) := dk_97 (dk_at dksX6_draw_0 12 rfl rfl)
theorem dX6_draw_13 : decode cX6_draw 13 = .ok (.putfield 372, 3) := dk_181 1 116 (dk_at dksX6_draw_0 13 rfl rfl)
theorem dX6_draw_16 : decode cX6_draw 16 = .ok (.aload_n 0, 1) := dk_42 (dk_at dksX6_draw_0 16 rfl rfl)
theorem dX6_draw_17 : decode cX6_draw 17 = .ok (.getfield 372, 3) := dk_180 1 116 (dk_at dksX6_draw_0 17 rfl rfl)
theorem dX6_draw_20 : decode cX6_draw 20 = .ok (.bipush 33, 2) := dk_16 33 (dk_at dksX6_draw_0 20 rfl rfl)
theorem dX6_draw_22 : decode cX6_draw 22 = .ok (.lushr, 1) := dk_125 (dk_at dksX6_draw_0 22 rfl rfl)
theorem dX6_draw_23 : decode cX6_draw 23 = .ok (.iload_n 1, 1) := dk_27 (dk_at dksX6_draw_0 23 rfl rfl)
theorem dX6_draw_24 : decode cX6_draw 24 = .ok (.i2l, 1) := dk_133 (dk_at dksX6_draw_1 0 rfl rfl)
theorem dX6_draw_25 : decode cX6_draw 25 = .ok (.lrem, 1) := dk_113 (dk_at dksX6_draw_1 1 rfl rfl)
theorem dX6_draw_26 : decode cX6_draw 26 = .ok (.l2i, 1) := dk_136 (dk_at dksX6_draw_1 2 rfl rfl)
theorem dX6_draw_27 : decode cX6_draw 27 = .ok (.ireturn, 1) := dk_172 (dk_at dksX6_draw_1 3 rfl rfl)
abbrev cX6_happensTorn : ByteArray := prog_12_method_92_code
def yX6_happensTorn : MethodName := ⟨RX6, "happensTorn", "()I"⟩
def dkwX6_happensTorn_1 : List UInt8 := [182, 1, 124, 3, 182, 1, 110, 62, 42, 16, 7, 3, 3, 3, 3, 182, 1, 110, 172]
abbrev dktX6_happensTorn_1 : List UInt8 := dkwX6_happensTorn_1 ++ []
def dkwX6_happensTorn_0 : List UInt8 := [42, 42, 180, 0, 153, 182, 1, 124, 60, 42, 17, 1, 0, 182, 1, 124, 61, 42, 16, 6, 27, 28, 42, 6]
abbrev dktX6_happensTorn_0 : List UInt8 := dkwX6_happensTorn_0 ++ dktX6_happensTorn_1
theorem dksX6_happensTorn_0 : cX6_happensTorn.data.toList.drop 0 = dktX6_happensTorn_0 := by decide +kernel
theorem dksX6_happensTorn_1 : cX6_happensTorn.data.toList.drop 24 = dktX6_happensTorn_1 := dk_seg dksX6_happensTorn_0 24 rfl rfl
theorem dX6_happensTorn_0 : decode cX6_happensTorn 0 = .ok (.aload_n 0, 1) := dk_42 (dk_at dksX6_happensTorn_0 0 rfl rfl)
theorem dX6_happensTorn_1 : decode cX6_happensTorn 1 = .ok (.aload_n 0, 1) := dk_42 (dk_at dksX6_happensTorn_0 1 rfl rfl)
theorem dX6_happensTorn_2 : decode cX6_happensTorn 2 = .ok (.getfield 153, 3) := dk_180 0 153 (dk_at dksX6_happensTorn_0 2 rfl rfl)
theorem dX6_happensTorn_5 : decode cX6_happensTorn 5 = .ok (.invokevirtual 380, 3) := dk_182 1 124 (dk_at dksX6_happensTorn_0 5 rfl rfl)
theorem dX6_happensTorn_8 : decode cX6_happensTorn 8 = .ok (.istore_n 1, 1) := dk_60 (dk_at dksX6_happensTorn_0 8 rfl rfl)
theorem dX6_happensTorn_9 : decode cX6_happensTorn 9 = .ok (.aload_n 0, 1) := dk_42 (dk_at dksX6_happensTorn_0 9 rfl rfl)
theorem dX6_happensTorn_10 : decode cX6_happensTorn 10 = .ok (.sipush 256, 3) := dk_17 1 0 (dk_at dksX6_happensTorn_0 10 rfl rfl)
theorem dX6_happensTorn_13 : decode cX6_happensTorn 13 = .ok (.invokevirtual 380, 3) := dk_182 1 124 (dk_at dksX6_happensTorn_0 13 rfl rfl)
theorem dX6_happensTorn_16 : decode cX6_happensTorn 16 = .ok (.istore_n 2, 1) := dk_61 (dk_at dksX6_happensTorn_0 16 rfl rfl)
theorem dX6_happensTorn_17 : decode cX6_happensTorn 17 = .ok (.aload_n 0, 1) := dk_42 (dk_at dksX6_happensTorn_0 17 rfl rfl)
theorem dX6_happensTorn_18 : decode cX6_happensTorn 18 = .ok (.bipush 6, 2) := dk_16 6 (dk_at dksX6_happensTorn_0 18 rfl rfl)
theorem dX6_happensTorn_20 : decode cX6_happensTorn 20 = .ok (.iload_n 1, 1) := dk_27 (dk_at dksX6_happensTorn_0 20 rfl rfl)
theorem dX6_happensTorn_21 : decode cX6_happensTorn 21 = .ok (.iload_n 2, 1) := dk_28 (dk_at dksX6_happensTorn_0 21 rfl rfl)
theorem dX6_happensTorn_22 : decode cX6_happensTorn 22 = .ok (.aload_n 0, 1) := dk_42 (dk_at dksX6_happensTorn_0 22 rfl rfl)
theorem dX6_happensTorn_23 : decode cX6_happensTorn 23 = .ok (.iconst 3, 1) := dk_6 (dk_at dksX6_happensTorn_0 23 rfl rfl)
theorem dX6_happensTorn_24 : decode cX6_happensTorn 24 = .ok (.invokevirtual 380, 3) := dk_182 1 124 (dk_at dksX6_happensTorn_1 0 rfl rfl)
theorem dX6_happensTorn_27 : decode cX6_happensTorn 27 = .ok (.iconst 0, 1) := dk_3 (dk_at dksX6_happensTorn_1 3 rfl rfl)
theorem dX6_happensTorn_28 : decode cX6_happensTorn 28 = .ok (.invokevirtual 366, 3) := dk_182 1 110 (dk_at dksX6_happensTorn_1 4 rfl rfl)
theorem dX6_happensTorn_31 : decode cX6_happensTorn 31 = .ok (.istore_n 3, 1) := dk_62 (dk_at dksX6_happensTorn_1 7 rfl rfl)
theorem dX6_happensTorn_32 : decode cX6_happensTorn 32 = .ok (.aload_n 0, 1) := dk_42 (dk_at dksX6_happensTorn_1 8 rfl rfl)
theorem dX6_happensTorn_33 : decode cX6_happensTorn 33 = .ok (.bipush 7, 2) := dk_16 7 (dk_at dksX6_happensTorn_1 9 rfl rfl)
theorem dX6_happensTorn_35 : decode cX6_happensTorn 35 = .ok (.iconst 0, 1) := dk_3 (dk_at dksX6_happensTorn_1 11 rfl rfl)
theorem dX6_happensTorn_36 : decode cX6_happensTorn 36 = .ok (.iconst 0, 1) := dk_3 (dk_at dksX6_happensTorn_1 12 rfl rfl)
theorem dX6_happensTorn_37 : decode cX6_happensTorn 37 = .ok (.iconst 0, 1) := dk_3 (dk_at dksX6_happensTorn_1 13 rfl rfl)
theorem dX6_happensTorn_38 : decode cX6_happensTorn 38 = .ok (.iconst 0, 1) := dk_3 (dk_at dksX6_happensTorn_1 14 rfl rfl)
theorem dX6_happensTorn_39 : decode cX6_happensTorn 39 = .ok (.invokevirtual 366, 3) := dk_182 1 110 (dk_at dksX6_happensTorn_1 15 rfl rfl)
theorem dX6_happensTorn_42 : decode cX6_happensTorn 42 = .ok (.ireturn, 1) := dk_172 (dk_at dksX6_happensTorn_1 18 rfl rfl)
abbrev cX6_status : ByteArray := prog_12_method_94_code
def yX6_status : MethodName := ⟨RX6, "status", "(I)I"⟩
def dkwX6_status_1 : List UInt8 := [167, 0, 4, 2, 172]
abbrev dktX6_status_1 : List UInt8 := dkwX6_status_1 ++ []
def dkwX6_status_0 : List UInt8 := [42, 3, 181, 0, 57, 27, 133, 9, 20, 1, 135, 184, 0, 117, 153, 0, 12, 42, 180, 0, 23, 27, 46]
abbrev dktX6_status_0 : List UInt8 := dkwX6_status_0 ++ dktX6_status_1
theorem dksX6_status_0 : cX6_status.data.toList.drop 0 = dktX6_status_0 := by decide +kernel
theorem dksX6_status_1 : cX6_status.data.toList.drop 23 = dktX6_status_1 := dk_seg dksX6_status_0 23 rfl rfl
theorem dX6_status_0 : decode cX6_status 0 = .ok (.aload_n 0, 1) := dk_42 (dk_at dksX6_status_0 0 rfl rfl)
theorem dX6_status_1 : decode cX6_status 1 = .ok (.iconst 0, 1) := dk_3 (dk_at dksX6_status_0 1 rfl rfl)
theorem dX6_status_2 : decode cX6_status 2 = .ok (.putfield 57, 3) := dk_181 0 57 (dk_at dksX6_status_0 2 rfl rfl)
theorem dX6_status_5 : decode cX6_status 5 = .ok (.iload_n 1, 1) := dk_27 (dk_at dksX6_status_0 5 rfl rfl)
theorem dX6_status_6 : decode cX6_status 6 = .ok (.i2l, 1) := dk_133 (dk_at dksX6_status_0 6 rfl rfl)
theorem dX6_status_7 : decode cX6_status 7 = .ok (.lconst 0, 1) := dk_9 (dk_at dksX6_status_0 7 rfl rfl)
theorem dX6_status_8 : decode cX6_status 8 = .ok (.ldc2_w 391, 3) := dk_20 1 135 (dk_at dksX6_status_0 8 rfl rfl)
theorem dX6_status_11 : decode cX6_status 11 = .ok (.invokestatic 117, 3) := dk_184 0 117 (dk_at dksX6_status_0 11 rfl rfl)
theorem dX6_status_14 : decode cX6_status 14 = .ok (.ifCond .eq 12, 3) := dk_153 0 12 (dk_at dksX6_status_0 14 rfl rfl)
theorem dX6_status_17 : decode cX6_status 17 = .ok (.aload_n 0, 1) := dk_42 (dk_at dksX6_status_0 17 rfl rfl)
theorem dX6_status_18 : decode cX6_status 18 = .ok (.getfield 23, 3) := dk_180 0 23 (dk_at dksX6_status_0 18 rfl rfl)
theorem dX6_status_21 : decode cX6_status 21 = .ok (.iload_n 1, 1) := dk_27 (dk_at dksX6_status_0 21 rfl rfl)
theorem dX6_status_22 : decode cX6_status 22 = .ok (.iaload, 1) := dk_46 (dk_at dksX6_status_0 22 rfl rfl)
theorem dX6_status_23 : decode cX6_status 23 = .ok (.goto 4, 3) := dk_167 0 4 (dk_at dksX6_status_1 0 rfl rfl)
theorem dX6_status_26 : decode cX6_status 26 = .ok (.iconst (-1), 1) := dk_2 (dk_at dksX6_status_1 3 rfl rfl)
theorem dX6_status_27 : decode cX6_status 27 = .ok (.ireturn, 1) := dk_172 (dk_at dksX6_status_1 4 rfl rfl)
abbrev cX6_undo : ByteArray := prog_12_method_95_code
def yX6_undo : MethodName := ⟨RX6, "undo", "()I"⟩
def dkwX6_undo_2 : List UInt8 := [3, 184, 1, 93, 42, 180, 0, 181, 172]
abbrev dktX6_undo_2 : List UInt8 := dkwX6_undo_2 ++ []
def dkwX6_undo_1 : List UInt8 := [42, 180, 0, 47, 17, 2, 104, 42, 180, 1, 90, 42, 180, 0, 181, 96, 16, 40, 112, 104, 42, 180, 0, 38]
abbrev dktX6_undo_1 : List UInt8 := dkwX6_undo_1 ++ dktX6_undo_2
def dkwX6_undo_0 : List UInt8 := [42, 3, 181, 0, 57, 42, 180, 0, 181, 154, 0, 5, 2, 172, 42, 89, 180, 0, 181, 4, 100, 181, 0, 181]
abbrev dktX6_undo_0 : List UInt8 := dkwX6_undo_0 ++ dktX6_undo_1
theorem dksX6_undo_0 : cX6_undo.data.toList.drop 0 = dktX6_undo_0 := by decide +kernel
theorem dksX6_undo_1 : cX6_undo.data.toList.drop 24 = dktX6_undo_1 := dk_seg dksX6_undo_0 24 rfl rfl
theorem dksX6_undo_2 : cX6_undo.data.toList.drop 48 = dktX6_undo_2 := dk_seg dksX6_undo_1 24 rfl rfl
theorem dX6_undo_0 : decode cX6_undo 0 = .ok (.aload_n 0, 1) := dk_42 (dk_at dksX6_undo_0 0 rfl rfl)
theorem dX6_undo_1 : decode cX6_undo 1 = .ok (.iconst 0, 1) := dk_3 (dk_at dksX6_undo_0 1 rfl rfl)
theorem dX6_undo_2 : decode cX6_undo 2 = .ok (.putfield 57, 3) := dk_181 0 57 (dk_at dksX6_undo_0 2 rfl rfl)
theorem dX6_undo_5 : decode cX6_undo 5 = .ok (.aload_n 0, 1) := dk_42 (dk_at dksX6_undo_0 5 rfl rfl)
theorem dX6_undo_6 : decode cX6_undo 6 = .ok (.getfield 181, 3) := dk_180 0 181 (dk_at dksX6_undo_0 6 rfl rfl)
theorem dX6_undo_9 : decode cX6_undo 9 = .ok (.ifCond .ne 5, 3) := dk_154 0 5 (dk_at dksX6_undo_0 9 rfl rfl)
theorem dX6_undo_12 : decode cX6_undo 12 = .ok (.iconst (-1), 1) := dk_2 (dk_at dksX6_undo_0 12 rfl rfl)
theorem dX6_undo_13 : decode cX6_undo 13 = .ok (.ireturn, 1) := dk_172 (dk_at dksX6_undo_0 13 rfl rfl)
theorem dX6_undo_14 : decode cX6_undo 14 = .ok (.aload_n 0, 1) := dk_42 (dk_at dksX6_undo_0 14 rfl rfl)
theorem dX6_undo_15 : decode cX6_undo 15 = .ok (.dup, 1) := dk_89 (dk_at dksX6_undo_0 15 rfl rfl)
theorem dX6_undo_16 : decode cX6_undo 16 = .ok (.getfield 181, 3) := dk_180 0 181 (dk_at dksX6_undo_0 16 rfl rfl)
theorem dX6_undo_19 : decode cX6_undo 19 = .ok (.iconst 1, 1) := dk_4 (dk_at dksX6_undo_0 19 rfl rfl)
theorem dX6_undo_20 : decode cX6_undo 20 = .ok (.isub, 1) := dk_100 (dk_at dksX6_undo_0 20 rfl rfl)
theorem dX6_undo_21 : decode cX6_undo 21 = .ok (.putfield 181, 3) := dk_181 0 181 (dk_at dksX6_undo_0 21 rfl rfl)
theorem dX6_undo_24 : decode cX6_undo 24 = .ok (.aload_n 0, 1) := dk_42 (dk_at dksX6_undo_1 0 rfl rfl)
theorem dX6_undo_25 : decode cX6_undo 25 = .ok (.getfield 47, 3) := dk_180 0 47 (dk_at dksX6_undo_1 1 rfl rfl)
theorem dX6_undo_28 : decode cX6_undo 28 = .ok (.sipush 616, 3) := dk_17 2 104 (dk_at dksX6_undo_1 4 rfl rfl)
theorem dX6_undo_31 : decode cX6_undo 31 = .ok (.aload_n 0, 1) := dk_42 (dk_at dksX6_undo_1 7 rfl rfl)
theorem dX6_undo_32 : decode cX6_undo 32 = .ok (.getfield 346, 3) := dk_180 1 90 (dk_at dksX6_undo_1 8 rfl rfl)
theorem dX6_undo_35 : decode cX6_undo 35 = .ok (.aload_n 0, 1) := dk_42 (dk_at dksX6_undo_1 11 rfl rfl)
theorem dX6_undo_36 : decode cX6_undo 36 = .ok (.getfield 181, 3) := dk_180 0 181 (dk_at dksX6_undo_1 12 rfl rfl)
theorem dX6_undo_39 : decode cX6_undo 39 = .ok (.iadd, 1) := dk_96 (dk_at dksX6_undo_1 15 rfl rfl)
theorem dX6_undo_40 : decode cX6_undo 40 = .ok (.bipush 40, 2) := dk_16 40 (dk_at dksX6_undo_1 16 rfl rfl)
theorem dX6_undo_42 : decode cX6_undo 42 = .ok (.irem, 1) := dk_112 (dk_at dksX6_undo_1 18 rfl rfl)
theorem dX6_undo_43 : decode cX6_undo 43 = .ok (.imul, 1) := dk_104 (dk_at dksX6_undo_1 19 rfl rfl)
theorem dX6_undo_44 : decode cX6_undo 44 = .ok (.aload_n 0, 1) := dk_42 (dk_at dksX6_undo_1 20 rfl rfl)
theorem dX6_undo_45 : decode cX6_undo 45 = .ok (.getfield 38, 3) := dk_180 0 38 (dk_at dksX6_undo_1 21 rfl rfl)
theorem dX6_undo_48 : decode cX6_undo 48 = .ok (.iconst 0, 1) := dk_3 (dk_at dksX6_undo_2 0 rfl rfl)
theorem dX6_undo_49 : decode cX6_undo 49 = .ok (.invokestatic 349, 3) := dk_184 1 93 (dk_at dksX6_undo_2 1 rfl rfl)
theorem dX6_undo_52 : decode cX6_undo 52 = .ok (.aload_n 0, 1) := dk_42 (dk_at dksX6_undo_2 4 rfl rfl)
theorem dX6_undo_53 : decode cX6_undo 53 = .ok (.getfield 181, 3) := dk_180 0 181 (dk_at dksX6_undo_2 5 rfl rfl)
theorem dX6_undo_56 : decode cX6_undo 56 = .ok (.ireturn, 1) := dk_172 (dk_at dksX6_undo_2 8 rfl rfl)
abbrev cX6_log : ByteArray := prog_12_method_96_code
def yX6_log : MethodName := ⟨RX6, "log", "(II)I"⟩
def dkwX6_log_2 : List UInt8 := [180, 0, 38, 17, 1, 179, 46, 4, 100, 27, 100, 104, 96, 28, 96, 46, 172]
abbrev dktX6_log_2 : List UInt8 := dkwX6_log_2 ++ []
def dkwX6_log_1 : List UInt8 := [20, 1, 38, 184, 0, 117, 154, 0, 7, 19, 1, 137, 172, 42, 180, 0, 38, 17, 1, 180, 6, 42]
abbrev dktX6_log_1 : List UInt8 := dkwX6_log_1 ++ dktX6_log_2
def dkwX6_log_0 : List UInt8 := [42, 3, 181, 0, 57, 27, 155, 0, 27, 27, 42, 180, 0, 38, 17, 1, 179, 46, 162, 0, 15, 28, 133, 9]
abbrev dktX6_log_0 : List UInt8 := dkwX6_log_0 ++ dktX6_log_1
theorem dksX6_log_0 : cX6_log.data.toList.drop 0 = dktX6_log_0 := by decide +kernel
theorem dksX6_log_1 : cX6_log.data.toList.drop 24 = dktX6_log_1 := dk_seg dksX6_log_0 24 rfl rfl
theorem dksX6_log_2 : cX6_log.data.toList.drop 46 = dktX6_log_2 := dk_seg dksX6_log_1 22 rfl rfl
theorem dX6_log_0 : decode cX6_log 0 = .ok (.aload_n 0, 1) := dk_42 (dk_at dksX6_log_0 0 rfl rfl)
theorem dX6_log_1 : decode cX6_log 1 = .ok (.iconst 0, 1) := dk_3 (dk_at dksX6_log_0 1 rfl rfl)
theorem dX6_log_2 : decode cX6_log 2 = .ok (.putfield 57, 3) := dk_181 0 57 (dk_at dksX6_log_0 2 rfl rfl)
theorem dX6_log_5 : decode cX6_log 5 = .ok (.iload_n 1, 1) := dk_27 (dk_at dksX6_log_0 5 rfl rfl)
theorem dX6_log_6 : decode cX6_log 6 = .ok (.ifCond .lt 27, 3) := dk_155 0 27 (dk_at dksX6_log_0 6 rfl rfl)
theorem dX6_log_9 : decode cX6_log 9 = .ok (.iload_n 1, 1) := dk_27 (dk_at dksX6_log_0 9 rfl rfl)
theorem dX6_log_10 : decode cX6_log 10 = .ok (.aload_n 0, 1) := dk_42 (dk_at dksX6_log_0 10 rfl rfl)
theorem dX6_log_11 : decode cX6_log 11 = .ok (.getfield 38, 3) := dk_180 0 38 (dk_at dksX6_log_0 11 rfl rfl)
theorem dX6_log_14 : decode cX6_log 14 = .ok (.sipush 435, 3) := dk_17 1 179 (dk_at dksX6_log_0 14 rfl rfl)
theorem dX6_log_17 : decode cX6_log 17 = .ok (.iaload, 1) := dk_46 (dk_at dksX6_log_0 17 rfl rfl)
theorem dX6_log_18 : decode cX6_log 18 = .ok (.if_icmp .ge 15, 3) := dk_162 0 15 (dk_at dksX6_log_0 18 rfl rfl)
theorem dX6_log_21 : decode cX6_log 21 = .ok (.iload_n 2, 1) := dk_28 (dk_at dksX6_log_0 21 rfl rfl)
theorem dX6_log_22 : decode cX6_log 22 = .ok (.i2l, 1) := dk_133 (dk_at dksX6_log_0 22 rfl rfl)
theorem dX6_log_23 : decode cX6_log 23 = .ok (.lconst 0, 1) := dk_9 (dk_at dksX6_log_0 23 rfl rfl)
theorem dX6_log_24 : decode cX6_log 24 = .ok (.ldc2_w 294, 3) := dk_20 1 38 (dk_at dksX6_log_1 0 rfl rfl)
theorem dX6_log_27 : decode cX6_log 27 = .ok (.invokestatic 117, 3) := dk_184 0 117 (dk_at dksX6_log_1 3 rfl rfl)
theorem dX6_log_30 : decode cX6_log 30 = .ok (.ifCond .ne 7, 3) := dk_154 0 7 (dk_at dksX6_log_1 6 rfl rfl)
theorem dX6_log_33 : decode cX6_log 33 = .ok (.ldc_w 393, 3) := dk_19 1 137 (dk_at dksX6_log_1 9 rfl rfl)
theorem dX6_log_36 : decode cX6_log 36 = .ok (.ireturn, 1) := dk_172 (dk_at dksX6_log_1 12 rfl rfl)
theorem dX6_log_37 : decode cX6_log 37 = .ok (.aload_n 0, 1) := dk_42 (dk_at dksX6_log_1 13 rfl rfl)
theorem dX6_log_38 : decode cX6_log 38 = .ok (.getfield 38, 3) := dk_180 0 38 (dk_at dksX6_log_1 14 rfl rfl)
theorem dX6_log_41 : decode cX6_log 41 = .ok (.sipush 436, 3) := dk_17 1 180 (dk_at dksX6_log_1 17 rfl rfl)
theorem dX6_log_44 : decode cX6_log 44 = .ok (.iconst 3, 1) := dk_6 (dk_at dksX6_log_1 20 rfl rfl)
theorem dX6_log_45 : decode cX6_log 45 = .ok (.aload_n 0, 1) := dk_42 (dk_at dksX6_log_1 21 rfl rfl)
theorem dX6_log_46 : decode cX6_log 46 = .ok (.getfield 38, 3) := dk_180 0 38 (dk_at dksX6_log_2 0 rfl rfl)
theorem dX6_log_49 : decode cX6_log 49 = .ok (.sipush 435, 3) := dk_17 1 179 (dk_at dksX6_log_2 3 rfl rfl)
theorem dX6_log_52 : decode cX6_log 52 = .ok (.iaload, 1) := dk_46 (dk_at dksX6_log_2 6 rfl rfl)
theorem dX6_log_53 : decode cX6_log 53 = .ok (.iconst 1, 1) := dk_4 (dk_at dksX6_log_2 7 rfl rfl)
theorem dX6_log_54 : decode cX6_log 54 = .ok (.isub, 1) := dk_100 (dk_at dksX6_log_2 8 rfl rfl)
theorem dX6_log_55 : decode cX6_log 55 = .ok (.iload_n 1, 1) := dk_27 (dk_at dksX6_log_2 9 rfl rfl)
theorem dX6_log_56 : decode cX6_log 56 = .ok (.isub, 1) := dk_100 (dk_at dksX6_log_2 10 rfl rfl)
theorem dX6_log_57 : decode cX6_log 57 = .ok (.imul, 1) := dk_104 (dk_at dksX6_log_2 11 rfl rfl)
theorem dX6_log_58 : decode cX6_log 58 = .ok (.iadd, 1) := dk_96 (dk_at dksX6_log_2 12 rfl rfl)
theorem dX6_log_59 : decode cX6_log 59 = .ok (.iload_n 2, 1) := dk_28 (dk_at dksX6_log_2 13 rfl rfl)
theorem dX6_log_60 : decode cX6_log 60 = .ok (.iadd, 1) := dk_96 (dk_at dksX6_log_2 14 rfl rfl)
theorem dX6_log_61 : decode cX6_log 61 = .ok (.iaload, 1) := dk_46 (dk_at dksX6_log_2 15 rfl rfl)
theorem dX6_log_62 : decode cX6_log 62 = .ok (.ireturn, 1) := dk_172 (dk_at dksX6_log_2 16 rfl rfl)
abbrev cX6_image : ByteArray := prog_12_method_97_code
def yX6_image : MethodName := ⟨RX6, "image", "()I"⟩
def dkwX6_image_1 : List UInt8 := [184, 1, 93, 42, 4, 181, 0, 184, 42, 180, 0, 38, 184, 1, 103, 172]
abbrev dktX6_image_1 : List UInt8 := dkwX6_image_1 ++ []
def dkwX6_image_0 : List UInt8 := [42, 3, 181, 0, 57, 42, 180, 0, 153, 154, 0, 5, 2, 172, 42, 180, 0, 38, 3, 42, 180, 0, 44, 3]
abbrev dktX6_image_0 : List UInt8 := dkwX6_image_0 ++ dktX6_image_1
theorem dksX6_image_0 : cX6_image.data.toList.drop 0 = dktX6_image_0 := by decide +kernel
theorem dksX6_image_1 : cX6_image.data.toList.drop 24 = dktX6_image_1 := dk_seg dksX6_image_0 24 rfl rfl
theorem dX6_image_0 : decode cX6_image 0 = .ok (.aload_n 0, 1) := dk_42 (dk_at dksX6_image_0 0 rfl rfl)
theorem dX6_image_1 : decode cX6_image 1 = .ok (.iconst 0, 1) := dk_3 (dk_at dksX6_image_0 1 rfl rfl)
theorem dX6_image_2 : decode cX6_image 2 = .ok (.putfield 57, 3) := dk_181 0 57 (dk_at dksX6_image_0 2 rfl rfl)
theorem dX6_image_5 : decode cX6_image 5 = .ok (.aload_n 0, 1) := dk_42 (dk_at dksX6_image_0 5 rfl rfl)
theorem dX6_image_6 : decode cX6_image 6 = .ok (.getfield 153, 3) := dk_180 0 153 (dk_at dksX6_image_0 6 rfl rfl)
theorem dX6_image_9 : decode cX6_image 9 = .ok (.ifCond .ne 5, 3) := dk_154 0 5 (dk_at dksX6_image_0 9 rfl rfl)
theorem dX6_image_12 : decode cX6_image 12 = .ok (.iconst (-1), 1) := dk_2 (dk_at dksX6_image_0 12 rfl rfl)
theorem dX6_image_13 : decode cX6_image 13 = .ok (.ireturn, 1) := dk_172 (dk_at dksX6_image_0 13 rfl rfl)
theorem dX6_image_14 : decode cX6_image 14 = .ok (.aload_n 0, 1) := dk_42 (dk_at dksX6_image_0 14 rfl rfl)
theorem dX6_image_15 : decode cX6_image 15 = .ok (.getfield 38, 3) := dk_180 0 38 (dk_at dksX6_image_0 15 rfl rfl)
theorem dX6_image_18 : decode cX6_image 18 = .ok (.iconst 0, 1) := dk_3 (dk_at dksX6_image_0 18 rfl rfl)
theorem dX6_image_19 : decode cX6_image 19 = .ok (.aload_n 0, 1) := dk_42 (dk_at dksX6_image_0 19 rfl rfl)
theorem dX6_image_20 : decode cX6_image 20 = .ok (.getfield 44, 3) := dk_180 0 44 (dk_at dksX6_image_0 20 rfl rfl)
theorem dX6_image_23 : decode cX6_image 23 = .ok (.iconst 0, 1) := dk_3 (dk_at dksX6_image_0 23 rfl rfl)
theorem dX6_image_24 : decode cX6_image 24 = .ok (.invokestatic 349, 3) := dk_184 1 93 (dk_at dksX6_image_1 0 rfl rfl)
theorem dX6_image_27 : decode cX6_image 27 = .ok (.aload_n 0, 1) := dk_42 (dk_at dksX6_image_1 3 rfl rfl)
theorem dX6_image_28 : decode cX6_image 28 = .ok (.iconst 1, 1) := dk_4 (dk_at dksX6_image_1 4 rfl rfl)
theorem dX6_image_29 : decode cX6_image 29 = .ok (.putfield 184, 3) := dk_181 0 184 (dk_at dksX6_image_1 5 rfl rfl)
theorem dX6_image_32 : decode cX6_image 32 = .ok (.aload_n 0, 1) := dk_42 (dk_at dksX6_image_1 8 rfl rfl)
theorem dX6_image_33 : decode cX6_image 33 = .ok (.getfield 38, 3) := dk_180 0 38 (dk_at dksX6_image_1 9 rfl rfl)
theorem dX6_image_36 : decode cX6_image 36 = .ok (.invokestatic 359, 3) := dk_184 1 103 (dk_at dksX6_image_1 12 rfl rfl)
theorem dX6_image_39 : decode cX6_image 39 = .ok (.ireturn, 1) := dk_172 (dk_at dksX6_image_1 15 rfl rfl)
abbrev cX6_back : ByteArray := prog_12_method_98_code
def yX6_back : MethodName := ⟨RX6, "back", "()I"⟩
def dkwX6_back_1 : List UInt8 := [184, 1, 93, 42, 3, 181, 0, 181, 42, 180, 0, 38, 184, 1, 103, 172]
abbrev dktX6_back_1 : List UInt8 := dkwX6_back_1 ++ []
def dkwX6_back_0 : List UInt8 := [42, 3, 181, 0, 57, 42, 180, 0, 184, 154, 0, 5, 2, 172, 42, 180, 0, 44, 3, 42, 180, 0, 38, 3]
abbrev dktX6_back_0 : List UInt8 := dkwX6_back_0 ++ dktX6_back_1
theorem dksX6_back_0 : cX6_back.data.toList.drop 0 = dktX6_back_0 := by decide +kernel
theorem dksX6_back_1 : cX6_back.data.toList.drop 24 = dktX6_back_1 := dk_seg dksX6_back_0 24 rfl rfl
theorem dX6_back_0 : decode cX6_back 0 = .ok (.aload_n 0, 1) := dk_42 (dk_at dksX6_back_0 0 rfl rfl)
theorem dX6_back_1 : decode cX6_back 1 = .ok (.iconst 0, 1) := dk_3 (dk_at dksX6_back_0 1 rfl rfl)
theorem dX6_back_2 : decode cX6_back 2 = .ok (.putfield 57, 3) := dk_181 0 57 (dk_at dksX6_back_0 2 rfl rfl)
theorem dX6_back_5 : decode cX6_back 5 = .ok (.aload_n 0, 1) := dk_42 (dk_at dksX6_back_0 5 rfl rfl)
theorem dX6_back_6 : decode cX6_back 6 = .ok (.getfield 184, 3) := dk_180 0 184 (dk_at dksX6_back_0 6 rfl rfl)
theorem dX6_back_9 : decode cX6_back 9 = .ok (.ifCond .ne 5, 3) := dk_154 0 5 (dk_at dksX6_back_0 9 rfl rfl)
theorem dX6_back_12 : decode cX6_back 12 = .ok (.iconst (-1), 1) := dk_2 (dk_at dksX6_back_0 12 rfl rfl)
theorem dX6_back_13 : decode cX6_back 13 = .ok (.ireturn, 1) := dk_172 (dk_at dksX6_back_0 13 rfl rfl)
theorem dX6_back_14 : decode cX6_back 14 = .ok (.aload_n 0, 1) := dk_42 (dk_at dksX6_back_0 14 rfl rfl)
theorem dX6_back_15 : decode cX6_back 15 = .ok (.getfield 44, 3) := dk_180 0 44 (dk_at dksX6_back_0 15 rfl rfl)
theorem dX6_back_18 : decode cX6_back 18 = .ok (.iconst 0, 1) := dk_3 (dk_at dksX6_back_0 18 rfl rfl)
theorem dX6_back_19 : decode cX6_back 19 = .ok (.aload_n 0, 1) := dk_42 (dk_at dksX6_back_0 19 rfl rfl)
theorem dX6_back_20 : decode cX6_back 20 = .ok (.getfield 38, 3) := dk_180 0 38 (dk_at dksX6_back_0 20 rfl rfl)
theorem dX6_back_23 : decode cX6_back 23 = .ok (.iconst 0, 1) := dk_3 (dk_at dksX6_back_0 23 rfl rfl)
theorem dX6_back_24 : decode cX6_back 24 = .ok (.invokestatic 349, 3) := dk_184 1 93 (dk_at dksX6_back_1 0 rfl rfl)
theorem dX6_back_27 : decode cX6_back 27 = .ok (.aload_n 0, 1) := dk_42 (dk_at dksX6_back_1 3 rfl rfl)
theorem dX6_back_28 : decode cX6_back 28 = .ok (.iconst 0, 1) := dk_3 (dk_at dksX6_back_1 4 rfl rfl)
theorem dX6_back_29 : decode cX6_back 29 = .ok (.putfield 181, 3) := dk_181 0 181 (dk_at dksX6_back_1 5 rfl rfl)
theorem dX6_back_32 : decode cX6_back 32 = .ok (.aload_n 0, 1) := dk_42 (dk_at dksX6_back_1 8 rfl rfl)
theorem dX6_back_33 : decode cX6_back 33 = .ok (.getfield 38, 3) := dk_180 0 38 (dk_at dksX6_back_1 9 rfl rfl)
theorem dX6_back_36 : decode cX6_back 36 = .ok (.invokestatic 359, 3) := dk_184 1 103 (dk_at dksX6_back_1 12 rfl rfl)
theorem dX6_back_39 : decode cX6_back 39 = .ok (.ireturn, 1) := dk_172 (dk_at dksX6_back_1 15 rfl rfl)
abbrev cX6_rule : ByteArray := prog_12_method_99_code
def yX6_rule : MethodName := ⟨RX6, "rule", "(I)I"⟩
def dkwX6_rule_3 : List UInt8 := [180, 0, 153, 172, 2, 172]
abbrev dktX6_rule_3 : List UInt8 := dkwX6_rule_3 ++ []
def dkwX6_rule_2 : List UInt8 := [42, 180, 0, 17, 27, 46, 172, 42, 180, 0, 38, 17, 1, 168, 46, 172, 42, 180, 0, 171, 172, 42]
abbrev dktX6_rule_2 : List UInt8 := dkwX6_rule_2 ++ dktX6_rule_3
def dkwX6_rule_1 : List UInt8 := [170, 0, 0, 0, 67, 0, 0, 0, 0, 0, 0, 0, 6, 0, 0, 0, 41, 0, 0, 0, 41, 0, 0, 0, 41, 0, 0, 0, 41, 0, 0, 0, 48, 0, 0, 0, 57, 0, 0, 0, 62]
abbrev dktX6_rule_1 : List UInt8 := dkwX6_rule_1 ++ dktX6_rule_2
def dkwX6_rule_0 : List UInt8 := [42, 3, 181, 0, 57, 42, 180, 0, 153, 154, 0, 5, 2, 172, 27]
abbrev dktX6_rule_0 : List UInt8 := dkwX6_rule_0 ++ dktX6_rule_1
theorem dksX6_rule_0 : cX6_rule.data.toList.drop 0 = dktX6_rule_0 := by decide +kernel
theorem dksX6_rule_1 : cX6_rule.data.toList.drop 15 = dktX6_rule_1 := dk_seg dksX6_rule_0 15 rfl rfl
theorem dksX6_rule_2 : cX6_rule.data.toList.drop 56 = dktX6_rule_2 := dk_seg dksX6_rule_1 41 rfl rfl
theorem dksX6_rule_3 : cX6_rule.data.toList.drop 78 = dktX6_rule_3 := dk_seg dksX6_rule_2 22 rfl rfl
theorem dX6_rule_0 : decode cX6_rule 0 = .ok (.aload_n 0, 1) := dk_42 (dk_at dksX6_rule_0 0 rfl rfl)
theorem dX6_rule_1 : decode cX6_rule 1 = .ok (.iconst 0, 1) := dk_3 (dk_at dksX6_rule_0 1 rfl rfl)
theorem dX6_rule_2 : decode cX6_rule 2 = .ok (.putfield 57, 3) := dk_181 0 57 (dk_at dksX6_rule_0 2 rfl rfl)
theorem dX6_rule_5 : decode cX6_rule 5 = .ok (.aload_n 0, 1) := dk_42 (dk_at dksX6_rule_0 5 rfl rfl)
theorem dX6_rule_6 : decode cX6_rule 6 = .ok (.getfield 153, 3) := dk_180 0 153 (dk_at dksX6_rule_0 6 rfl rfl)
theorem dX6_rule_9 : decode cX6_rule 9 = .ok (.ifCond .ne 5, 3) := dk_154 0 5 (dk_at dksX6_rule_0 9 rfl rfl)
theorem dX6_rule_12 : decode cX6_rule 12 = .ok (.iconst (-1), 1) := dk_2 (dk_at dksX6_rule_0 12 rfl rfl)
theorem dX6_rule_13 : decode cX6_rule 13 = .ok (.ireturn, 1) := dk_172 (dk_at dksX6_rule_0 13 rfl rfl)
theorem dX6_rule_14 : decode cX6_rule 14 = .ok (.iload_n 1, 1) := dk_27 (dk_at dksX6_rule_0 14 rfl rfl)
theorem dX6_rule_15 : decode cX6_rule 15 = .ok (.tableswitch 67 0 6 #[41, 41, 41, 41, 48, 57, 62], 41) := by decide +kernel
theorem dX6_rule_56 : decode cX6_rule 56 = .ok (.aload_n 0, 1) := dk_42 (dk_at dksX6_rule_2 0 rfl rfl)
theorem dX6_rule_57 : decode cX6_rule 57 = .ok (.getfield 17, 3) := dk_180 0 17 (dk_at dksX6_rule_2 1 rfl rfl)
theorem dX6_rule_60 : decode cX6_rule 60 = .ok (.iload_n 1, 1) := dk_27 (dk_at dksX6_rule_2 4 rfl rfl)
theorem dX6_rule_61 : decode cX6_rule 61 = .ok (.iaload, 1) := dk_46 (dk_at dksX6_rule_2 5 rfl rfl)
theorem dX6_rule_62 : decode cX6_rule 62 = .ok (.ireturn, 1) := dk_172 (dk_at dksX6_rule_2 6 rfl rfl)
theorem dX6_rule_63 : decode cX6_rule 63 = .ok (.aload_n 0, 1) := dk_42 (dk_at dksX6_rule_2 7 rfl rfl)
theorem dX6_rule_64 : decode cX6_rule 64 = .ok (.getfield 38, 3) := dk_180 0 38 (dk_at dksX6_rule_2 8 rfl rfl)
theorem dX6_rule_67 : decode cX6_rule 67 = .ok (.sipush 424, 3) := dk_17 1 168 (dk_at dksX6_rule_2 11 rfl rfl)
theorem dX6_rule_70 : decode cX6_rule 70 = .ok (.iaload, 1) := dk_46 (dk_at dksX6_rule_2 14 rfl rfl)
theorem dX6_rule_71 : decode cX6_rule 71 = .ok (.ireturn, 1) := dk_172 (dk_at dksX6_rule_2 15 rfl rfl)
theorem dX6_rule_72 : decode cX6_rule 72 = .ok (.aload_n 0, 1) := dk_42 (dk_at dksX6_rule_2 16 rfl rfl)
theorem dX6_rule_73 : decode cX6_rule 73 = .ok (.getfield 171, 3) := dk_180 0 171 (dk_at dksX6_rule_2 17 rfl rfl)
theorem dX6_rule_76 : decode cX6_rule 76 = .ok (.ireturn, 1) := dk_172 (dk_at dksX6_rule_2 20 rfl rfl)
theorem dX6_rule_77 : decode cX6_rule 77 = .ok (.aload_n 0, 1) := dk_42 (dk_at dksX6_rule_2 21 rfl rfl)
theorem dX6_rule_78 : decode cX6_rule 78 = .ok (.getfield 153, 3) := dk_180 0 153 (dk_at dksX6_rule_3 0 rfl rfl)
theorem dX6_rule_81 : decode cX6_rule 81 = .ok (.ireturn, 1) := dk_172 (dk_at dksX6_rule_3 3 rfl rfl)
theorem dX6_rule_82 : decode cX6_rule 82 = .ok (.iconst (-1), 1) := dk_2 (dk_at dksX6_rule_3 4 rfl rfl)
theorem dX6_rule_83 : decode cX6_rule 83 = .ok (.ireturn, 1) := dk_172 (dk_at dksX6_rule_3 5 rfl rfl)
abbrev cX6_place : ByteArray := prog_12_method_100_code
def yX6_place : MethodName := ⟨RX6, "place", "(II)I"⟩
def dkwX6_place_3 : List UInt8 := [182, 0, 220, 172, 42, 27, 182, 0, 230, 172, 2, 172]
abbrev dktX6_place_3 : List UInt8 := dkwX6_place_3 ++ []
def dkwX6_place_2 : List UInt8 := [42, 42, 27, 182, 0, 217, 42, 27, 182, 0, 230, 182, 0, 199, 172, 42, 27, 182, 0, 217, 172, 42, 27]
abbrev dktX6_place_2 : List UInt8 := dkwX6_place_2 ++ dktX6_place_3
def dkwX6_place_1 : List UInt8 := [170, 0, 0, 0, 0, 0, 0, 65, 0, 0, 0, 0, 0, 0, 0, 3, 0, 0, 0, 32, 0, 0, 0, 47, 0, 0, 0, 53, 0, 0, 0, 59]
abbrev dktX6_place_1 : List UInt8 := dkwX6_place_1 ++ dktX6_place_2
def dkwX6_place_0 : List UInt8 := [42, 3, 181, 0, 57, 42, 27, 182, 1, 25, 154, 0, 5, 2, 172, 28]
abbrev dktX6_place_0 : List UInt8 := dkwX6_place_0 ++ dktX6_place_1
theorem dksX6_place_0 : cX6_place.data.toList.drop 0 = dktX6_place_0 := by decide +kernel
theorem dksX6_place_1 : cX6_place.data.toList.drop 16 = dktX6_place_1 := dk_seg dksX6_place_0 16 rfl rfl
theorem dksX6_place_2 : cX6_place.data.toList.drop 48 = dktX6_place_2 := dk_seg dksX6_place_1 32 rfl rfl
theorem dksX6_place_3 : cX6_place.data.toList.drop 71 = dktX6_place_3 := dk_seg dksX6_place_2 23 rfl rfl
theorem dX6_place_0 : decode cX6_place 0 = .ok (.aload_n 0, 1) := dk_42 (dk_at dksX6_place_0 0 rfl rfl)
theorem dX6_place_1 : decode cX6_place 1 = .ok (.iconst 0, 1) := dk_3 (dk_at dksX6_place_0 1 rfl rfl)
theorem dX6_place_2 : decode cX6_place 2 = .ok (.putfield 57, 3) := dk_181 0 57 (dk_at dksX6_place_0 2 rfl rfl)
theorem dX6_place_5 : decode cX6_place 5 = .ok (.aload_n 0, 1) := dk_42 (dk_at dksX6_place_0 5 rfl rfl)
theorem dX6_place_6 : decode cX6_place 6 = .ok (.iload_n 1, 1) := dk_27 (dk_at dksX6_place_0 6 rfl rfl)
theorem dX6_place_7 : decode cX6_place 7 = .ok (.invokevirtual 281, 3) := dk_182 1 25 (dk_at dksX6_place_0 7 rfl rfl)
theorem dX6_place_10 : decode cX6_place 10 = .ok (.ifCond .ne 5, 3) := dk_154 0 5 (dk_at dksX6_place_0 10 rfl rfl)
theorem dX6_place_13 : decode cX6_place 13 = .ok (.iconst (-1), 1) := dk_2 (dk_at dksX6_place_0 13 rfl rfl)
theorem dX6_place_14 : decode cX6_place 14 = .ok (.ireturn, 1) := dk_172 (dk_at dksX6_place_0 14 rfl rfl)
theorem dX6_place_15 : decode cX6_place 15 = .ok (.iload_n 2, 1) := dk_28 (dk_at dksX6_place_0 15 rfl rfl)
theorem dX6_place_16 : decode cX6_place 16 = .ok (.tableswitch 65 0 3 #[32, 47, 53, 59], 32) := by decide +kernel
theorem dX6_place_48 : decode cX6_place 48 = .ok (.aload_n 0, 1) := dk_42 (dk_at dksX6_place_2 0 rfl rfl)
theorem dX6_place_49 : decode cX6_place 49 = .ok (.aload_n 0, 1) := dk_42 (dk_at dksX6_place_2 1 rfl rfl)
theorem dX6_place_50 : decode cX6_place 50 = .ok (.iload_n 1, 1) := dk_27 (dk_at dksX6_place_2 2 rfl rfl)
theorem dX6_place_51 : decode cX6_place 51 = .ok (.invokevirtual 217, 3) := dk_182 0 217 (dk_at dksX6_place_2 3 rfl rfl)
theorem dX6_place_54 : decode cX6_place 54 = .ok (.aload_n 0, 1) := dk_42 (dk_at dksX6_place_2 6 rfl rfl)
theorem dX6_place_55 : decode cX6_place 55 = .ok (.iload_n 1, 1) := dk_27 (dk_at dksX6_place_2 7 rfl rfl)
theorem dX6_place_56 : decode cX6_place 56 = .ok (.invokevirtual 230, 3) := dk_182 0 230 (dk_at dksX6_place_2 8 rfl rfl)
theorem dX6_place_59 : decode cX6_place 59 = .ok (.invokevirtual 199, 3) := dk_182 0 199 (dk_at dksX6_place_2 11 rfl rfl)
theorem dX6_place_62 : decode cX6_place 62 = .ok (.ireturn, 1) := dk_172 (dk_at dksX6_place_2 14 rfl rfl)
theorem dX6_place_63 : decode cX6_place 63 = .ok (.aload_n 0, 1) := dk_42 (dk_at dksX6_place_2 15 rfl rfl)
theorem dX6_place_64 : decode cX6_place 64 = .ok (.iload_n 1, 1) := dk_27 (dk_at dksX6_place_2 16 rfl rfl)
theorem dX6_place_65 : decode cX6_place 65 = .ok (.invokevirtual 217, 3) := dk_182 0 217 (dk_at dksX6_place_2 17 rfl rfl)
theorem dX6_place_68 : decode cX6_place 68 = .ok (.ireturn, 1) := dk_172 (dk_at dksX6_place_2 20 rfl rfl)
theorem dX6_place_69 : decode cX6_place 69 = .ok (.aload_n 0, 1) := dk_42 (dk_at dksX6_place_2 21 rfl rfl)
theorem dX6_place_70 : decode cX6_place 70 = .ok (.iload_n 1, 1) := dk_27 (dk_at dksX6_place_2 22 rfl rfl)
theorem dX6_place_71 : decode cX6_place 71 = .ok (.invokevirtual 220, 3) := dk_182 0 220 (dk_at dksX6_place_3 0 rfl rfl)
theorem dX6_place_74 : decode cX6_place 74 = .ok (.ireturn, 1) := dk_172 (dk_at dksX6_place_3 3 rfl rfl)
theorem dX6_place_75 : decode cX6_place 75 = .ok (.aload_n 0, 1) := dk_42 (dk_at dksX6_place_3 4 rfl rfl)
theorem dX6_place_76 : decode cX6_place 76 = .ok (.iload_n 1, 1) := dk_27 (dk_at dksX6_place_3 5 rfl rfl)
theorem dX6_place_77 : decode cX6_place 77 = .ok (.invokevirtual 230, 3) := dk_182 0 230 (dk_at dksX6_place_3 6 rfl rfl)
theorem dX6_place_80 : decode cX6_place 80 = .ok (.ireturn, 1) := dk_172 (dk_at dksX6_place_3 9 rfl rfl)
theorem dX6_place_81 : decode cX6_place 81 = .ok (.iconst (-1), 1) := dk_2 (dk_at dksX6_place_3 10 rfl rfl)
theorem dX6_place_82 : decode cX6_place 82 = .ok (.ireturn, 1) := dk_172 (dk_at dksX6_place_3 11 rfl rfl)
abbrev cX6_part : ByteArray := prog_12_method_101_code
def yX6_part : MethodName := ⟨RX6, "part", "(II)I"⟩
def dkwX6_part_1 : List UInt8 := [2, 172]
abbrev dktX6_part_1 : List UInt8 := dkwX6_part_1 ++ []
def dkwX6_part_0 : List UInt8 := [42, 3, 181, 0, 57, 42, 27, 28, 3, 182, 1, 34, 153, 0, 12, 42, 28, 27, 182, 1, 84, 167, 0, 4]
abbrev dktX6_part_0 : List UInt8 := dkwX6_part_0 ++ dktX6_part_1
theorem dksX6_part_0 : cX6_part.data.toList.drop 0 = dktX6_part_0 := by decide +kernel
theorem dksX6_part_1 : cX6_part.data.toList.drop 24 = dktX6_part_1 := dk_seg dksX6_part_0 24 rfl rfl
theorem dX6_part_0 : decode cX6_part 0 = .ok (.aload_n 0, 1) := dk_42 (dk_at dksX6_part_0 0 rfl rfl)
theorem dX6_part_1 : decode cX6_part 1 = .ok (.iconst 0, 1) := dk_3 (dk_at dksX6_part_0 1 rfl rfl)
theorem dX6_part_2 : decode cX6_part 2 = .ok (.putfield 57, 3) := dk_181 0 57 (dk_at dksX6_part_0 2 rfl rfl)
theorem dX6_part_5 : decode cX6_part 5 = .ok (.aload_n 0, 1) := dk_42 (dk_at dksX6_part_0 5 rfl rfl)
theorem dX6_part_6 : decode cX6_part 6 = .ok (.iload_n 1, 1) := dk_27 (dk_at dksX6_part_0 6 rfl rfl)
theorem dX6_part_7 : decode cX6_part 7 = .ok (.iload_n 2, 1) := dk_28 (dk_at dksX6_part_0 7 rfl rfl)
theorem dX6_part_8 : decode cX6_part 8 = .ok (.iconst 0, 1) := dk_3 (dk_at dksX6_part_0 8 rfl rfl)
theorem dX6_part_9 : decode cX6_part 9 = .ok (.invokevirtual 290, 3) := dk_182 1 34 (dk_at dksX6_part_0 9 rfl rfl)
theorem dX6_part_12 : decode cX6_part 12 = .ok (.ifCond .eq 12, 3) := dk_153 0 12 (dk_at dksX6_part_0 12 rfl rfl)
theorem dX6_part_15 : decode cX6_part 15 = .ok (.aload_n 0, 1) := dk_42 (dk_at dksX6_part_0 15 rfl rfl)
theorem dX6_part_16 : decode cX6_part 16 = .ok (.iload_n 2, 1) := dk_28 (dk_at dksX6_part_0 16 rfl rfl)
theorem dX6_part_17 : decode cX6_part 17 = .ok (.iload_n 1, 1) := dk_27 (dk_at dksX6_part_0 17 rfl rfl)
theorem dX6_part_18 : decode cX6_part 18 = .ok (.invokevirtual 340, 3) := dk_182 1 84 (dk_at dksX6_part_0 18 rfl rfl)
theorem dX6_part_21 : decode cX6_part 21 = .ok (.goto 4, 3) := dk_167 0 4 (dk_at dksX6_part_0 21 rfl rfl)
theorem dX6_part_24 : decode cX6_part 24 = .ok (.iconst (-1), 1) := dk_2 (dk_at dksX6_part_1 0 rfl rfl)
theorem dX6_part_25 : decode cX6_part 25 = .ok (.ireturn, 1) := dk_172 (dk_at dksX6_part_1 1 rfl rfl)
abbrev cX6_read : ByteArray := prog_12_method_102_code
def yX6_read : MethodName := ⟨RX6, "read", "(I)I"⟩
def dkwX6_read_1 : List UInt8 := [3, 167, 0, 12, 42, 42, 180, 0, 38, 27, 182, 1, 53, 172]
abbrev dktX6_read_1 : List UInt8 := dkwX6_read_1 ++ []
def dkwX6_read_0 : List UInt8 := [42, 42, 27, 182, 1, 25, 153, 0, 7, 3, 167, 0, 4, 4, 181, 0, 57, 42, 180, 0, 57, 158, 0, 7]
abbrev dktX6_read_0 : List UInt8 := dkwX6_read_0 ++ dktX6_read_1
theorem dksX6_read_0 : cX6_read.data.toList.drop 0 = dktX6_read_0 := by decide +kernel
theorem dksX6_read_1 : cX6_read.data.toList.drop 24 = dktX6_read_1 := dk_seg dksX6_read_0 24 rfl rfl
theorem dX6_read_0 : decode cX6_read 0 = .ok (.aload_n 0, 1) := dk_42 (dk_at dksX6_read_0 0 rfl rfl)
theorem dX6_read_1 : decode cX6_read 1 = .ok (.aload_n 0, 1) := dk_42 (dk_at dksX6_read_0 1 rfl rfl)
theorem dX6_read_2 : decode cX6_read 2 = .ok (.iload_n 1, 1) := dk_27 (dk_at dksX6_read_0 2 rfl rfl)
theorem dX6_read_3 : decode cX6_read 3 = .ok (.invokevirtual 281, 3) := dk_182 1 25 (dk_at dksX6_read_0 3 rfl rfl)
theorem dX6_read_6 : decode cX6_read 6 = .ok (.ifCond .eq 7, 3) := dk_153 0 7 (dk_at dksX6_read_0 6 rfl rfl)
theorem dX6_read_9 : decode cX6_read 9 = .ok (.iconst 0, 1) := dk_3 (dk_at dksX6_read_0 9 rfl rfl)
theorem dX6_read_10 : decode cX6_read 10 = .ok (.goto 4, 3) := dk_167 0 4 (dk_at dksX6_read_0 10 rfl rfl)
theorem dX6_read_13 : decode cX6_read 13 = .ok (.iconst 1, 1) := dk_4 (dk_at dksX6_read_0 13 rfl rfl)
theorem dX6_read_14 : decode cX6_read 14 = .ok (.putfield 57, 3) := dk_181 0 57 (dk_at dksX6_read_0 14 rfl rfl)
theorem dX6_read_17 : decode cX6_read 17 = .ok (.aload_n 0, 1) := dk_42 (dk_at dksX6_read_0 17 rfl rfl)
theorem dX6_read_18 : decode cX6_read 18 = .ok (.getfield 57, 3) := dk_180 0 57 (dk_at dksX6_read_0 18 rfl rfl)
theorem dX6_read_21 : decode cX6_read 21 = .ok (.ifCond .le 7, 3) := dk_158 0 7 (dk_at dksX6_read_0 21 rfl rfl)
theorem dX6_read_24 : decode cX6_read 24 = .ok (.iconst 0, 1) := dk_3 (dk_at dksX6_read_1 0 rfl rfl)
theorem dX6_read_25 : decode cX6_read 25 = .ok (.goto 12, 3) := dk_167 0 12 (dk_at dksX6_read_1 1 rfl rfl)
theorem dX6_read_28 : decode cX6_read 28 = .ok (.aload_n 0, 1) := dk_42 (dk_at dksX6_read_1 4 rfl rfl)
theorem dX6_read_29 : decode cX6_read 29 = .ok (.aload_n 0, 1) := dk_42 (dk_at dksX6_read_1 5 rfl rfl)
theorem dX6_read_30 : decode cX6_read 30 = .ok (.getfield 38, 3) := dk_180 0 38 (dk_at dksX6_read_1 6 rfl rfl)
theorem dX6_read_33 : decode cX6_read 33 = .ok (.iload_n 1, 1) := dk_27 (dk_at dksX6_read_1 9 rfl rfl)
theorem dX6_read_34 : decode cX6_read 34 = .ok (.invokevirtual 309, 3) := dk_182 1 53 (dk_at dksX6_read_1 10 rfl rfl)
theorem dX6_read_37 : decode cX6_read 37 = .ok (.ireturn, 1) := dk_172 (dk_at dksX6_read_1 13 rfl rfl)
abbrev cX6_cell : ByteArray := prog_12_method_103_code
def yX6_cell : MethodName := ⟨RX6, "cell", "(III)I"⟩
def dkwX6_cell_1 : List UInt8 := [184, 0, 202, 153, 0, 17, 42, 180, 0, 38, 27, 28, 29, 184, 0, 206, 46, 167, 0, 6, 19, 1, 137, 172]
abbrev dktX6_cell_1 : List UInt8 := dkwX6_cell_1 ++ []
def dkwX6_cell_0 : List UInt8 := [42, 3, 181, 0, 57, 42, 27, 28, 29, 182, 1, 34, 154, 0, 5, 2, 172, 42, 180, 0, 38, 27, 28]
abbrev dktX6_cell_0 : List UInt8 := dkwX6_cell_0 ++ dktX6_cell_1
theorem dksX6_cell_0 : cX6_cell.data.toList.drop 0 = dktX6_cell_0 := by decide +kernel
theorem dksX6_cell_1 : cX6_cell.data.toList.drop 23 = dktX6_cell_1 := dk_seg dksX6_cell_0 23 rfl rfl
theorem dX6_cell_0 : decode cX6_cell 0 = .ok (.aload_n 0, 1) := dk_42 (dk_at dksX6_cell_0 0 rfl rfl)
theorem dX6_cell_1 : decode cX6_cell 1 = .ok (.iconst 0, 1) := dk_3 (dk_at dksX6_cell_0 1 rfl rfl)
theorem dX6_cell_2 : decode cX6_cell 2 = .ok (.putfield 57, 3) := dk_181 0 57 (dk_at dksX6_cell_0 2 rfl rfl)
theorem dX6_cell_5 : decode cX6_cell 5 = .ok (.aload_n 0, 1) := dk_42 (dk_at dksX6_cell_0 5 rfl rfl)
theorem dX6_cell_6 : decode cX6_cell 6 = .ok (.iload_n 1, 1) := dk_27 (dk_at dksX6_cell_0 6 rfl rfl)
theorem dX6_cell_7 : decode cX6_cell 7 = .ok (.iload_n 2, 1) := dk_28 (dk_at dksX6_cell_0 7 rfl rfl)
theorem dX6_cell_8 : decode cX6_cell 8 = .ok (.iload_n 3, 1) := dk_29 (dk_at dksX6_cell_0 8 rfl rfl)
theorem dX6_cell_9 : decode cX6_cell 9 = .ok (.invokevirtual 290, 3) := dk_182 1 34 (dk_at dksX6_cell_0 9 rfl rfl)
theorem dX6_cell_12 : decode cX6_cell 12 = .ok (.ifCond .ne 5, 3) := dk_154 0 5 (dk_at dksX6_cell_0 12 rfl rfl)
theorem dX6_cell_15 : decode cX6_cell 15 = .ok (.iconst (-1), 1) := dk_2 (dk_at dksX6_cell_0 15 rfl rfl)
theorem dX6_cell_16 : decode cX6_cell 16 = .ok (.ireturn, 1) := dk_172 (dk_at dksX6_cell_0 16 rfl rfl)
theorem dX6_cell_17 : decode cX6_cell 17 = .ok (.aload_n 0, 1) := dk_42 (dk_at dksX6_cell_0 17 rfl rfl)
theorem dX6_cell_18 : decode cX6_cell 18 = .ok (.getfield 38, 3) := dk_180 0 38 (dk_at dksX6_cell_0 18 rfl rfl)
theorem dX6_cell_21 : decode cX6_cell 21 = .ok (.iload_n 1, 1) := dk_27 (dk_at dksX6_cell_0 21 rfl rfl)
theorem dX6_cell_22 : decode cX6_cell 22 = .ok (.iload_n 2, 1) := dk_28 (dk_at dksX6_cell_0 22 rfl rfl)
theorem dX6_cell_23 : decode cX6_cell 23 = .ok (.invokestatic 202, 3) := dk_184 0 202 (dk_at dksX6_cell_1 0 rfl rfl)
theorem dX6_cell_26 : decode cX6_cell 26 = .ok (.ifCond .eq 17, 3) := dk_153 0 17 (dk_at dksX6_cell_1 3 rfl rfl)
theorem dX6_cell_29 : decode cX6_cell 29 = .ok (.aload_n 0, 1) := dk_42 (dk_at dksX6_cell_1 6 rfl rfl)
theorem dX6_cell_30 : decode cX6_cell 30 = .ok (.getfield 38, 3) := dk_180 0 38 (dk_at dksX6_cell_1 7 rfl rfl)
theorem dX6_cell_33 : decode cX6_cell 33 = .ok (.iload_n 1, 1) := dk_27 (dk_at dksX6_cell_1 10 rfl rfl)
theorem dX6_cell_34 : decode cX6_cell 34 = .ok (.iload_n 2, 1) := dk_28 (dk_at dksX6_cell_1 11 rfl rfl)
theorem dX6_cell_35 : decode cX6_cell 35 = .ok (.iload_n 3, 1) := dk_29 (dk_at dksX6_cell_1 12 rfl rfl)
theorem dX6_cell_36 : decode cX6_cell 36 = .ok (.invokestatic 206, 3) := dk_184 0 206 (dk_at dksX6_cell_1 13 rfl rfl)
theorem dX6_cell_39 : decode cX6_cell 39 = .ok (.iaload, 1) := dk_46 (dk_at dksX6_cell_1 16 rfl rfl)
theorem dX6_cell_40 : decode cX6_cell 40 = .ok (.goto 6, 3) := dk_167 0 6 (dk_at dksX6_cell_1 17 rfl rfl)
theorem dX6_cell_43 : decode cX6_cell 43 = .ok (.ldc_w 393, 3) := dk_19 1 137 (dk_at dksX6_cell_1 20 rfl rfl)
theorem dX6_cell_46 : decode cX6_cell 46 = .ok (.ireturn, 1) := dk_172 (dk_at dksX6_cell_1 23 rfl rfl)
abbrev cX6_disk : ByteArray := prog_12_method_104_code
def yX6_disk : MethodName := ⟨RX6, "disk", "(II)I"⟩
def dkwX6_disk_5 : List UInt8 := [17, 1, 160, 27, 96, 46, 172, 2, 172]
abbrev dktX6_disk_5 : List UInt8 := dkwX6_disk_5 ++ []
def dkwX6_disk_4 : List UInt8 := [17, 1, 144, 27, 96, 46, 172, 42, 180, 0, 38, 17, 1, 152, 27, 96, 46, 172, 42, 180, 0, 38]
abbrev dktX6_disk_4 : List UInt8 := dkwX6_disk_4 ++ dktX6_disk_5
def dkwX6_disk_3 : List UInt8 := [42, 180, 0, 17, 4, 46, 167, 0, 13, 42, 180, 0, 38, 17, 1, 136, 27, 96, 46, 172, 42, 180, 0, 38]
abbrev dktX6_disk_3 : List UInt8 := dkwX6_disk_3 ++ dktX6_disk_4
def dkwX6_disk_2 : List UInt8 := [42, 180, 0, 38, 17, 1, 128, 27, 96, 46, 172, 42, 180, 0, 38, 17, 1, 128, 27, 96, 46, 154, 0, 12]
abbrev dktX6_disk_2 : List UInt8 := dkwX6_disk_2 ++ dktX6_disk_3
def dkwX6_disk_1 : List UInt8 := [170, 0, 0, 0, 0, 0, 0, 113, 0, 0, 0, 0, 0, 0, 0, 4, 0, 0, 0, 36, 0, 0, 0, 47, 0, 0, 0, 80, 0, 0, 0, 91, 0, 0, 0, 102]
abbrev dktX6_disk_1 : List UInt8 := dkwX6_disk_1 ++ dktX6_disk_2
def dkwX6_disk_0 : List UInt8 := [42, 3, 181, 0, 57, 42, 27, 182, 1, 22, 154, 0, 5, 2, 172, 28]
abbrev dktX6_disk_0 : List UInt8 := dkwX6_disk_0 ++ dktX6_disk_1
theorem dksX6_disk_0 : cX6_disk.data.toList.drop 0 = dktX6_disk_0 := by decide +kernel
theorem dksX6_disk_1 : cX6_disk.data.toList.drop 16 = dktX6_disk_1 := dk_seg dksX6_disk_0 16 rfl rfl
theorem dksX6_disk_2 : cX6_disk.data.toList.drop 52 = dktX6_disk_2 := dk_seg dksX6_disk_1 36 rfl rfl
theorem dksX6_disk_3 : cX6_disk.data.toList.drop 76 = dktX6_disk_3 := dk_seg dksX6_disk_2 24 rfl rfl
theorem dksX6_disk_4 : cX6_disk.data.toList.drop 100 = dktX6_disk_4 := dk_seg dksX6_disk_3 24 rfl rfl
theorem dksX6_disk_5 : cX6_disk.data.toList.drop 122 = dktX6_disk_5 := dk_seg dksX6_disk_4 22 rfl rfl
theorem dX6_disk_0 : decode cX6_disk 0 = .ok (.aload_n 0, 1) := dk_42 (dk_at dksX6_disk_0 0 rfl rfl)
theorem dX6_disk_1 : decode cX6_disk 1 = .ok (.iconst 0, 1) := dk_3 (dk_at dksX6_disk_0 1 rfl rfl)
theorem dX6_disk_2 : decode cX6_disk 2 = .ok (.putfield 57, 3) := dk_181 0 57 (dk_at dksX6_disk_0 2 rfl rfl)
theorem dX6_disk_5 : decode cX6_disk 5 = .ok (.aload_n 0, 1) := dk_42 (dk_at dksX6_disk_0 5 rfl rfl)
theorem dX6_disk_6 : decode cX6_disk 6 = .ok (.iload_n 1, 1) := dk_27 (dk_at dksX6_disk_0 6 rfl rfl)
theorem dX6_disk_7 : decode cX6_disk 7 = .ok (.invokevirtual 278, 3) := dk_182 1 22 (dk_at dksX6_disk_0 7 rfl rfl)
theorem dX6_disk_10 : decode cX6_disk 10 = .ok (.ifCond .ne 5, 3) := dk_154 0 5 (dk_at dksX6_disk_0 10 rfl rfl)
theorem dX6_disk_13 : decode cX6_disk 13 = .ok (.iconst (-1), 1) := dk_2 (dk_at dksX6_disk_0 13 rfl rfl)
theorem dX6_disk_14 : decode cX6_disk 14 = .ok (.ireturn, 1) := dk_172 (dk_at dksX6_disk_0 14 rfl rfl)
theorem dX6_disk_15 : decode cX6_disk 15 = .ok (.iload_n 2, 1) := dk_28 (dk_at dksX6_disk_0 15 rfl rfl)
theorem dX6_disk_16 : decode cX6_disk 16 = .ok (.tableswitch 113 0 4 #[36, 47, 80, 91, 102], 36) := by decide +kernel
theorem dX6_disk_52 : decode cX6_disk 52 = .ok (.aload_n 0, 1) := dk_42 (dk_at dksX6_disk_2 0 rfl rfl)
theorem dX6_disk_53 : decode cX6_disk 53 = .ok (.getfield 38, 3) := dk_180 0 38 (dk_at dksX6_disk_2 1 rfl rfl)
theorem dX6_disk_56 : decode cX6_disk 56 = .ok (.sipush 384, 3) := dk_17 1 128 (dk_at dksX6_disk_2 4 rfl rfl)
theorem dX6_disk_59 : decode cX6_disk 59 = .ok (.iload_n 1, 1) := dk_27 (dk_at dksX6_disk_2 7 rfl rfl)
theorem dX6_disk_60 : decode cX6_disk 60 = .ok (.iadd, 1) := dk_96 (dk_at dksX6_disk_2 8 rfl rfl)
theorem dX6_disk_61 : decode cX6_disk 61 = .ok (.iaload, 1) := dk_46 (dk_at dksX6_disk_2 9 rfl rfl)
theorem dX6_disk_62 : decode cX6_disk 62 = .ok (.ireturn, 1) := dk_172 (dk_at dksX6_disk_2 10 rfl rfl)
theorem dX6_disk_63 : decode cX6_disk 63 = .ok (.aload_n 0, 1) := dk_42 (dk_at dksX6_disk_2 11 rfl rfl)
theorem dX6_disk_64 : decode cX6_disk 64 = .ok (.getfield 38, 3) := dk_180 0 38 (dk_at dksX6_disk_2 12 rfl rfl)
theorem dX6_disk_67 : decode cX6_disk 67 = .ok (.sipush 384, 3) := dk_17 1 128 (dk_at dksX6_disk_2 15 rfl rfl)
theorem dX6_disk_70 : decode cX6_disk 70 = .ok (.iload_n 1, 1) := dk_27 (dk_at dksX6_disk_2 18 rfl rfl)
theorem dX6_disk_71 : decode cX6_disk 71 = .ok (.iadd, 1) := dk_96 (dk_at dksX6_disk_2 19 rfl rfl)
theorem dX6_disk_72 : decode cX6_disk 72 = .ok (.iaload, 1) := dk_46 (dk_at dksX6_disk_2 20 rfl rfl)
theorem dX6_disk_73 : decode cX6_disk 73 = .ok (.ifCond .ne 12, 3) := dk_154 0 12 (dk_at dksX6_disk_2 21 rfl rfl)
theorem dX6_disk_76 : decode cX6_disk 76 = .ok (.aload_n 0, 1) := dk_42 (dk_at dksX6_disk_3 0 rfl rfl)
theorem dX6_disk_77 : decode cX6_disk 77 = .ok (.getfield 17, 3) := dk_180 0 17 (dk_at dksX6_disk_3 1 rfl rfl)
theorem dX6_disk_80 : decode cX6_disk 80 = .ok (.iconst 1, 1) := dk_4 (dk_at dksX6_disk_3 4 rfl rfl)
theorem dX6_disk_81 : decode cX6_disk 81 = .ok (.iaload, 1) := dk_46 (dk_at dksX6_disk_3 5 rfl rfl)
theorem dX6_disk_82 : decode cX6_disk 82 = .ok (.goto 13, 3) := dk_167 0 13 (dk_at dksX6_disk_3 6 rfl rfl)
theorem dX6_disk_85 : decode cX6_disk 85 = .ok (.aload_n 0, 1) := dk_42 (dk_at dksX6_disk_3 9 rfl rfl)
theorem dX6_disk_86 : decode cX6_disk 86 = .ok (.getfield 38, 3) := dk_180 0 38 (dk_at dksX6_disk_3 10 rfl rfl)
theorem dX6_disk_89 : decode cX6_disk 89 = .ok (.sipush 392, 3) := dk_17 1 136 (dk_at dksX6_disk_3 13 rfl rfl)
theorem dX6_disk_92 : decode cX6_disk 92 = .ok (.iload_n 1, 1) := dk_27 (dk_at dksX6_disk_3 16 rfl rfl)
theorem dX6_disk_93 : decode cX6_disk 93 = .ok (.iadd, 1) := dk_96 (dk_at dksX6_disk_3 17 rfl rfl)
theorem dX6_disk_94 : decode cX6_disk 94 = .ok (.iaload, 1) := dk_46 (dk_at dksX6_disk_3 18 rfl rfl)
theorem dX6_disk_95 : decode cX6_disk 95 = .ok (.ireturn, 1) := dk_172 (dk_at dksX6_disk_3 19 rfl rfl)
theorem dX6_disk_96 : decode cX6_disk 96 = .ok (.aload_n 0, 1) := dk_42 (dk_at dksX6_disk_3 20 rfl rfl)
theorem dX6_disk_97 : decode cX6_disk 97 = .ok (.getfield 38, 3) := dk_180 0 38 (dk_at dksX6_disk_3 21 rfl rfl)
theorem dX6_disk_100 : decode cX6_disk 100 = .ok (.sipush 400, 3) := dk_17 1 144 (dk_at dksX6_disk_4 0 rfl rfl)
theorem dX6_disk_103 : decode cX6_disk 103 = .ok (.iload_n 1, 1) := dk_27 (dk_at dksX6_disk_4 3 rfl rfl)
theorem dX6_disk_104 : decode cX6_disk 104 = .ok (.iadd, 1) := dk_96 (dk_at dksX6_disk_4 4 rfl rfl)
theorem dX6_disk_105 : decode cX6_disk 105 = .ok (.iaload, 1) := dk_46 (dk_at dksX6_disk_4 5 rfl rfl)
theorem dX6_disk_106 : decode cX6_disk 106 = .ok (.ireturn, 1) := dk_172 (dk_at dksX6_disk_4 6 rfl rfl)
theorem dX6_disk_107 : decode cX6_disk 107 = .ok (.aload_n 0, 1) := dk_42 (dk_at dksX6_disk_4 7 rfl rfl)
theorem dX6_disk_108 : decode cX6_disk 108 = .ok (.getfield 38, 3) := dk_180 0 38 (dk_at dksX6_disk_4 8 rfl rfl)
theorem dX6_disk_111 : decode cX6_disk 111 = .ok (.sipush 408, 3) := dk_17 1 152 (dk_at dksX6_disk_4 11 rfl rfl)
theorem dX6_disk_114 : decode cX6_disk 114 = .ok (.iload_n 1, 1) := dk_27 (dk_at dksX6_disk_4 14 rfl rfl)
theorem dX6_disk_115 : decode cX6_disk 115 = .ok (.iadd, 1) := dk_96 (dk_at dksX6_disk_4 15 rfl rfl)
theorem dX6_disk_116 : decode cX6_disk 116 = .ok (.iaload, 1) := dk_46 (dk_at dksX6_disk_4 16 rfl rfl)
theorem dX6_disk_117 : decode cX6_disk 117 = .ok (.ireturn, 1) := dk_172 (dk_at dksX6_disk_4 17 rfl rfl)
theorem dX6_disk_118 : decode cX6_disk 118 = .ok (.aload_n 0, 1) := dk_42 (dk_at dksX6_disk_4 18 rfl rfl)
theorem dX6_disk_119 : decode cX6_disk 119 = .ok (.getfield 38, 3) := dk_180 0 38 (dk_at dksX6_disk_4 19 rfl rfl)
theorem dX6_disk_122 : decode cX6_disk 122 = .ok (.sipush 416, 3) := dk_17 1 160 (dk_at dksX6_disk_5 0 rfl rfl)
theorem dX6_disk_125 : decode cX6_disk 125 = .ok (.iload_n 1, 1) := dk_27 (dk_at dksX6_disk_5 3 rfl rfl)
theorem dX6_disk_126 : decode cX6_disk 126 = .ok (.iadd, 1) := dk_96 (dk_at dksX6_disk_5 4 rfl rfl)
theorem dX6_disk_127 : decode cX6_disk 127 = .ok (.iaload, 1) := dk_46 (dk_at dksX6_disk_5 5 rfl rfl)
theorem dX6_disk_128 : decode cX6_disk 128 = .ok (.ireturn, 1) := dk_172 (dk_at dksX6_disk_5 6 rfl rfl)
theorem dX6_disk_129 : decode cX6_disk 129 = .ok (.iconst (-1), 1) := dk_2 (dk_at dksX6_disk_5 7 rfl rfl)
theorem dX6_disk_130 : decode cX6_disk 130 = .ok (.ireturn, 1) := dk_172 (dk_at dksX6_disk_5 8 rfl rfl)
abbrev cX6_cost : ByteArray := prog_12_method_105_code
def yX6_cost : MethodName := ⟨RX6, "cost", "(II)I"⟩
def dkwX6_cost_3 : List UInt8 := [4, 160, 0, 10, 42, 180, 0, 243, 167, 0, 7, 42, 180, 0, 237, 172]
abbrev dktX6_cost_3 : List UInt8 := dkwX6_cost_3 ++ []
def dkwX6_cost_2 : List UInt8 := [182, 0, 223, 42, 42, 27, 182, 0, 230, 182, 0, 250, 28, 154, 0, 10, 42, 180, 0, 240, 167, 0, 19, 28]
abbrev dktX6_cost_2 : List UInt8 := dkwX6_cost_2 ++ dktX6_cost_3
def dkwX6_cost_1 : List UInt8 := [154, 0, 5, 2, 172, 42, 42, 180, 0, 38, 42, 27, 182, 0, 217, 42, 27, 182, 0, 220, 2, 2]
abbrev dktX6_cost_1 : List UInt8 := dkwX6_cost_1 ++ dktX6_cost_2
def dkwX6_cost_0 : List UInt8 := [42, 3, 181, 0, 57, 42, 27, 182, 1, 25, 153, 0, 15, 28, 133, 9, 20, 1, 38, 184, 0, 117]
abbrev dktX6_cost_0 : List UInt8 := dkwX6_cost_0 ++ dktX6_cost_1
theorem dksX6_cost_0 : cX6_cost.data.toList.drop 0 = dktX6_cost_0 := by decide +kernel
theorem dksX6_cost_1 : cX6_cost.data.toList.drop 22 = dktX6_cost_1 := dk_seg dksX6_cost_0 22 rfl rfl
theorem dksX6_cost_2 : cX6_cost.data.toList.drop 44 = dktX6_cost_2 := dk_seg dksX6_cost_1 22 rfl rfl
theorem dksX6_cost_3 : cX6_cost.data.toList.drop 68 = dktX6_cost_3 := dk_seg dksX6_cost_2 24 rfl rfl
theorem dX6_cost_0 : decode cX6_cost 0 = .ok (.aload_n 0, 1) := dk_42 (dk_at dksX6_cost_0 0 rfl rfl)
theorem dX6_cost_1 : decode cX6_cost 1 = .ok (.iconst 0, 1) := dk_3 (dk_at dksX6_cost_0 1 rfl rfl)
theorem dX6_cost_2 : decode cX6_cost 2 = .ok (.putfield 57, 3) := dk_181 0 57 (dk_at dksX6_cost_0 2 rfl rfl)
theorem dX6_cost_5 : decode cX6_cost 5 = .ok (.aload_n 0, 1) := dk_42 (dk_at dksX6_cost_0 5 rfl rfl)
theorem dX6_cost_6 : decode cX6_cost 6 = .ok (.iload_n 1, 1) := dk_27 (dk_at dksX6_cost_0 6 rfl rfl)
theorem dX6_cost_7 : decode cX6_cost 7 = .ok (.invokevirtual 281, 3) := dk_182 1 25 (dk_at dksX6_cost_0 7 rfl rfl)
theorem dX6_cost_10 : decode cX6_cost 10 = .ok (.ifCond .eq 15, 3) := dk_153 0 15 (dk_at dksX6_cost_0 10 rfl rfl)
theorem dX6_cost_13 : decode cX6_cost 13 = .ok (.iload_n 2, 1) := dk_28 (dk_at dksX6_cost_0 13 rfl rfl)
theorem dX6_cost_14 : decode cX6_cost 14 = .ok (.i2l, 1) := dk_133 (dk_at dksX6_cost_0 14 rfl rfl)
theorem dX6_cost_15 : decode cX6_cost 15 = .ok (.lconst 0, 1) := dk_9 (dk_at dksX6_cost_0 15 rfl rfl)
theorem dX6_cost_16 : decode cX6_cost 16 = .ok (.ldc2_w 294, 3) := dk_20 1 38 (dk_at dksX6_cost_0 16 rfl rfl)
theorem dX6_cost_19 : decode cX6_cost 19 = .ok (.invokestatic 117, 3) := dk_184 0 117 (dk_at dksX6_cost_0 19 rfl rfl)
theorem dX6_cost_22 : decode cX6_cost 22 = .ok (.ifCond .ne 5, 3) := dk_154 0 5 (dk_at dksX6_cost_1 0 rfl rfl)
theorem dX6_cost_25 : decode cX6_cost 25 = .ok (.iconst (-1), 1) := dk_2 (dk_at dksX6_cost_1 3 rfl rfl)
theorem dX6_cost_26 : decode cX6_cost 26 = .ok (.ireturn, 1) := dk_172 (dk_at dksX6_cost_1 4 rfl rfl)
theorem dX6_cost_27 : decode cX6_cost 27 = .ok (.aload_n 0, 1) := dk_42 (dk_at dksX6_cost_1 5 rfl rfl)
theorem dX6_cost_28 : decode cX6_cost 28 = .ok (.aload_n 0, 1) := dk_42 (dk_at dksX6_cost_1 6 rfl rfl)
theorem dX6_cost_29 : decode cX6_cost 29 = .ok (.getfield 38, 3) := dk_180 0 38 (dk_at dksX6_cost_1 7 rfl rfl)
theorem dX6_cost_32 : decode cX6_cost 32 = .ok (.aload_n 0, 1) := dk_42 (dk_at dksX6_cost_1 10 rfl rfl)
theorem dX6_cost_33 : decode cX6_cost 33 = .ok (.iload_n 1, 1) := dk_27 (dk_at dksX6_cost_1 11 rfl rfl)
theorem dX6_cost_34 : decode cX6_cost 34 = .ok (.invokevirtual 217, 3) := dk_182 0 217 (dk_at dksX6_cost_1 12 rfl rfl)
theorem dX6_cost_37 : decode cX6_cost 37 = .ok (.aload_n 0, 1) := dk_42 (dk_at dksX6_cost_1 15 rfl rfl)
theorem dX6_cost_38 : decode cX6_cost 38 = .ok (.iload_n 1, 1) := dk_27 (dk_at dksX6_cost_1 16 rfl rfl)
theorem dX6_cost_39 : decode cX6_cost 39 = .ok (.invokevirtual 220, 3) := dk_182 0 220 (dk_at dksX6_cost_1 17 rfl rfl)
theorem dX6_cost_42 : decode cX6_cost 42 = .ok (.iconst (-1), 1) := dk_2 (dk_at dksX6_cost_1 20 rfl rfl)
theorem dX6_cost_43 : decode cX6_cost 43 = .ok (.iconst (-1), 1) := dk_2 (dk_at dksX6_cost_1 21 rfl rfl)
theorem dX6_cost_44 : decode cX6_cost 44 = .ok (.invokevirtual 223, 3) := dk_182 0 223 (dk_at dksX6_cost_2 0 rfl rfl)
theorem dX6_cost_47 : decode cX6_cost 47 = .ok (.aload_n 0, 1) := dk_42 (dk_at dksX6_cost_2 3 rfl rfl)
theorem dX6_cost_48 : decode cX6_cost 48 = .ok (.aload_n 0, 1) := dk_42 (dk_at dksX6_cost_2 4 rfl rfl)
theorem dX6_cost_49 : decode cX6_cost 49 = .ok (.iload_n 1, 1) := dk_27 (dk_at dksX6_cost_2 5 rfl rfl)
theorem dX6_cost_50 : decode cX6_cost 50 = .ok (.invokevirtual 230, 3) := dk_182 0 230 (dk_at dksX6_cost_2 6 rfl rfl)
theorem dX6_cost_53 : decode cX6_cost 53 = .ok (.invokevirtual 250, 3) := dk_182 0 250 (dk_at dksX6_cost_2 9 rfl rfl)
theorem dX6_cost_56 : decode cX6_cost 56 = .ok (.iload_n 2, 1) := dk_28 (dk_at dksX6_cost_2 12 rfl rfl)
theorem dX6_cost_57 : decode cX6_cost 57 = .ok (.ifCond .ne 10, 3) := dk_154 0 10 (dk_at dksX6_cost_2 13 rfl rfl)
theorem dX6_cost_60 : decode cX6_cost 60 = .ok (.aload_n 0, 1) := dk_42 (dk_at dksX6_cost_2 16 rfl rfl)
theorem dX6_cost_61 : decode cX6_cost 61 = .ok (.getfield 240, 3) := dk_180 0 240 (dk_at dksX6_cost_2 17 rfl rfl)
theorem dX6_cost_64 : decode cX6_cost 64 = .ok (.goto 19, 3) := dk_167 0 19 (dk_at dksX6_cost_2 20 rfl rfl)
theorem dX6_cost_67 : decode cX6_cost 67 = .ok (.iload_n 2, 1) := dk_28 (dk_at dksX6_cost_2 23 rfl rfl)
theorem dX6_cost_68 : decode cX6_cost 68 = .ok (.iconst 1, 1) := dk_4 (dk_at dksX6_cost_3 0 rfl rfl)
theorem dX6_cost_69 : decode cX6_cost 69 = .ok (.if_icmp .ne 10, 3) := dk_160 0 10 (dk_at dksX6_cost_3 1 rfl rfl)
theorem dX6_cost_72 : decode cX6_cost 72 = .ok (.aload_n 0, 1) := dk_42 (dk_at dksX6_cost_3 4 rfl rfl)
theorem dX6_cost_73 : decode cX6_cost 73 = .ok (.getfield 243, 3) := dk_180 0 243 (dk_at dksX6_cost_3 5 rfl rfl)
theorem dX6_cost_76 : decode cX6_cost 76 = .ok (.goto 7, 3) := dk_167 0 7 (dk_at dksX6_cost_3 8 rfl rfl)
theorem dX6_cost_79 : decode cX6_cost 79 = .ok (.aload_n 0, 1) := dk_42 (dk_at dksX6_cost_3 11 rfl rfl)
theorem dX6_cost_80 : decode cX6_cost 80 = .ok (.getfield 237, 3) := dk_180 0 237 (dk_at dksX6_cost_3 12 rfl rfl)
theorem dX6_cost_83 : decode cX6_cost 83 = .ok (.ireturn, 1) := dk_172 (dk_at dksX6_cost_3 15 rfl rfl)
abbrev cX6_told : ByteArray := prog_12_method_106_code
def yX6_told : MethodName := ⟨RX6, "told", "(IIIII)I"⟩
def dkwX6_told_5 : List UInt8 := [180, 0, 50, 42, 28, 27, 182, 1, 84, 46, 172]
abbrev dktX6_told_5 : List UInt8 := dkwX6_told_5 ++ []
def dkwX6_told_4 : List UInt8 := [167, 255, 213, 42, 42, 180, 0, 38, 28, 29, 21, 4, 21, 5, 182, 0, 223, 42, 182, 0, 227, 42]
abbrev dktX6_told_4 : List UInt8 := dkwX6_told_4 ++ dktX6_told_5
def dkwX6_told_3 : List UInt8 := [159, 0, 20, 42, 180, 0, 38, 21, 6, 28, 184, 0, 202, 154, 0, 7, 19, 1, 137, 172, 132, 6, 1]
abbrev dktX6_told_3 : List UInt8 := dkwX6_told_3 ++ dktX6_told_4
def dkwX6_told_2 : List UInt8 := [54, 6, 21, 6, 42, 180, 0, 171, 162, 0, 40, 21, 6, 21, 4, 159, 0, 27, 21, 6, 21, 5]
abbrev dktX6_told_2 : List UInt8 := dkwX6_told_2 ++ dktX6_told_3
def dkwX6_told_1 : List UInt8 := [42, 21, 5, 182, 1, 22, 153, 0, 15, 27, 21, 4, 159, 0, 11, 27, 21, 5, 159, 0, 5, 2, 172, 3]
abbrev dktX6_told_1 : List UInt8 := dkwX6_told_1 ++ dktX6_told_2
def dkwX6_told_0 : List UInt8 := [42, 3, 181, 0, 57, 42, 27, 28, 29, 182, 1, 34, 153, 0, 33, 42, 21, 4, 182, 1, 22, 153, 0, 24]
abbrev dktX6_told_0 : List UInt8 := dkwX6_told_0 ++ dktX6_told_1
theorem dksX6_told_0 : cX6_told.data.toList.drop 0 = dktX6_told_0 := by decide +kernel
theorem dksX6_told_1 : cX6_told.data.toList.drop 24 = dktX6_told_1 := dk_seg dksX6_told_0 24 rfl rfl
theorem dksX6_told_2 : cX6_told.data.toList.drop 48 = dktX6_told_2 := dk_seg dksX6_told_1 24 rfl rfl
theorem dksX6_told_3 : cX6_told.data.toList.drop 70 = dktX6_told_3 := dk_seg dksX6_told_2 22 rfl rfl
theorem dksX6_told_4 : cX6_told.data.toList.drop 93 = dktX6_told_4 := dk_seg dksX6_told_3 23 rfl rfl
theorem dksX6_told_5 : cX6_told.data.toList.drop 115 = dktX6_told_5 := dk_seg dksX6_told_4 22 rfl rfl
theorem dX6_told_0 : decode cX6_told 0 = .ok (.aload_n 0, 1) := dk_42 (dk_at dksX6_told_0 0 rfl rfl)
theorem dX6_told_1 : decode cX6_told 1 = .ok (.iconst 0, 1) := dk_3 (dk_at dksX6_told_0 1 rfl rfl)
theorem dX6_told_2 : decode cX6_told 2 = .ok (.putfield 57, 3) := dk_181 0 57 (dk_at dksX6_told_0 2 rfl rfl)
theorem dX6_told_5 : decode cX6_told 5 = .ok (.aload_n 0, 1) := dk_42 (dk_at dksX6_told_0 5 rfl rfl)
theorem dX6_told_6 : decode cX6_told 6 = .ok (.iload_n 1, 1) := dk_27 (dk_at dksX6_told_0 6 rfl rfl)
theorem dX6_told_7 : decode cX6_told 7 = .ok (.iload_n 2, 1) := dk_28 (dk_at dksX6_told_0 7 rfl rfl)
theorem dX6_told_8 : decode cX6_told 8 = .ok (.iload_n 3, 1) := dk_29 (dk_at dksX6_told_0 8 rfl rfl)
theorem dX6_told_9 : decode cX6_told 9 = .ok (.invokevirtual 290, 3) := dk_182 1 34 (dk_at dksX6_told_0 9 rfl rfl)
theorem dX6_told_12 : decode cX6_told 12 = .ok (.ifCond .eq 33, 3) := dk_153 0 33 (dk_at dksX6_told_0 12 rfl rfl)
theorem dX6_told_15 : decode cX6_told 15 = .ok (.aload_n 0, 1) := dk_42 (dk_at dksX6_told_0 15 rfl rfl)
theorem dX6_told_16 : decode cX6_told 16 = .ok (.iload 4, 2) := dk_21 4 (dk_at dksX6_told_0 16 rfl rfl)
theorem dX6_told_18 : decode cX6_told 18 = .ok (.invokevirtual 278, 3) := dk_182 1 22 (dk_at dksX6_told_0 18 rfl rfl)
theorem dX6_told_21 : decode cX6_told 21 = .ok (.ifCond .eq 24, 3) := dk_153 0 24 (dk_at dksX6_told_0 21 rfl rfl)
theorem dX6_told_24 : decode cX6_told 24 = .ok (.aload_n 0, 1) := dk_42 (dk_at dksX6_told_1 0 rfl rfl)
theorem dX6_told_25 : decode cX6_told 25 = .ok (.iload 5, 2) := dk_21 5 (dk_at dksX6_told_1 1 rfl rfl)
theorem dX6_told_27 : decode cX6_told 27 = .ok (.invokevirtual 278, 3) := dk_182 1 22 (dk_at dksX6_told_1 3 rfl rfl)
theorem dX6_told_30 : decode cX6_told 30 = .ok (.ifCond .eq 15, 3) := dk_153 0 15 (dk_at dksX6_told_1 6 rfl rfl)
theorem dX6_told_33 : decode cX6_told 33 = .ok (.iload_n 1, 1) := dk_27 (dk_at dksX6_told_1 9 rfl rfl)
theorem dX6_told_34 : decode cX6_told 34 = .ok (.iload 4, 2) := dk_21 4 (dk_at dksX6_told_1 10 rfl rfl)
theorem dX6_told_36 : decode cX6_told 36 = .ok (.if_icmp .eq 11, 3) := dk_159 0 11 (dk_at dksX6_told_1 12 rfl rfl)
theorem dX6_told_39 : decode cX6_told 39 = .ok (.iload_n 1, 1) := dk_27 (dk_at dksX6_told_1 15 rfl rfl)
theorem dX6_told_40 : decode cX6_told 40 = .ok (.iload 5, 2) := dk_21 5 (dk_at dksX6_told_1 16 rfl rfl)
theorem dX6_told_42 : decode cX6_told 42 = .ok (.if_icmp .eq 5, 3) := dk_159 0 5 (dk_at dksX6_told_1 18 rfl rfl)
theorem dX6_told_45 : decode cX6_told 45 = .ok (.iconst (-1), 1) := dk_2 (dk_at dksX6_told_1 21 rfl rfl)
theorem dX6_told_46 : decode cX6_told 46 = .ok (.ireturn, 1) := dk_172 (dk_at dksX6_told_1 22 rfl rfl)
theorem dX6_told_47 : decode cX6_told 47 = .ok (.iconst 0, 1) := dk_3 (dk_at dksX6_told_1 23 rfl rfl)
theorem dX6_told_48 : decode cX6_told 48 = .ok (.istore 6, 2) := dk_54 6 (dk_at dksX6_told_2 0 rfl rfl)
theorem dX6_told_50 : decode cX6_told 50 = .ok (.iload 6, 2) := dk_21 6 (dk_at dksX6_told_2 2 rfl rfl)
theorem dX6_told_52 : decode cX6_told 52 = .ok (.aload_n 0, 1) := dk_42 (dk_at dksX6_told_2 4 rfl rfl)
theorem dX6_told_53 : decode cX6_told 53 = .ok (.getfield 171, 3) := dk_180 0 171 (dk_at dksX6_told_2 5 rfl rfl)
theorem dX6_told_56 : decode cX6_told 56 = .ok (.if_icmp .ge 40, 3) := dk_162 0 40 (dk_at dksX6_told_2 8 rfl rfl)
theorem dX6_told_59 : decode cX6_told 59 = .ok (.iload 6, 2) := dk_21 6 (dk_at dksX6_told_2 11 rfl rfl)
theorem dX6_told_61 : decode cX6_told 61 = .ok (.iload 4, 2) := dk_21 4 (dk_at dksX6_told_2 13 rfl rfl)
theorem dX6_told_63 : decode cX6_told 63 = .ok (.if_icmp .eq 27, 3) := dk_159 0 27 (dk_at dksX6_told_2 15 rfl rfl)
theorem dX6_told_66 : decode cX6_told 66 = .ok (.iload 6, 2) := dk_21 6 (dk_at dksX6_told_2 18 rfl rfl)
theorem dX6_told_68 : decode cX6_told 68 = .ok (.iload 5, 2) := dk_21 5 (dk_at dksX6_told_2 20 rfl rfl)
theorem dX6_told_70 : decode cX6_told 70 = .ok (.if_icmp .eq 20, 3) := dk_159 0 20 (dk_at dksX6_told_3 0 rfl rfl)
theorem dX6_told_73 : decode cX6_told 73 = .ok (.aload_n 0, 1) := dk_42 (dk_at dksX6_told_3 3 rfl rfl)
theorem dX6_told_74 : decode cX6_told 74 = .ok (.getfield 38, 3) := dk_180 0 38 (dk_at dksX6_told_3 4 rfl rfl)
theorem dX6_told_77 : decode cX6_told 77 = .ok (.iload 6, 2) := dk_21 6 (dk_at dksX6_told_3 7 rfl rfl)
theorem dX6_told_79 : decode cX6_told 79 = .ok (.iload_n 2, 1) := dk_28 (dk_at dksX6_told_3 9 rfl rfl)
theorem dX6_told_80 : decode cX6_told 80 = .ok (.invokestatic 202, 3) := dk_184 0 202 (dk_at dksX6_told_3 10 rfl rfl)
theorem dX6_told_83 : decode cX6_told 83 = .ok (.ifCond .ne 7, 3) := dk_154 0 7 (dk_at dksX6_told_3 13 rfl rfl)
theorem dX6_told_86 : decode cX6_told 86 = .ok (.ldc_w 393, 3) := dk_19 1 137 (dk_at dksX6_told_3 16 rfl rfl)
theorem dX6_told_89 : decode cX6_told 89 = .ok (.ireturn, 1) := dk_172 (dk_at dksX6_told_3 19 rfl rfl)
theorem dX6_told_90 : decode cX6_told 90 = .ok (.iinc 6 1, 3) := dk_132 6 1 (dk_at dksX6_told_3 20 rfl rfl)
theorem dX6_told_93 : decode cX6_told 93 = .ok (.goto (-43), 3) := dk_167 255 213 (dk_at dksX6_told_4 0 rfl rfl)
theorem dX6_told_96 : decode cX6_told 96 = .ok (.aload_n 0, 1) := dk_42 (dk_at dksX6_told_4 3 rfl rfl)
theorem dX6_told_97 : decode cX6_told 97 = .ok (.aload_n 0, 1) := dk_42 (dk_at dksX6_told_4 4 rfl rfl)
theorem dX6_told_98 : decode cX6_told 98 = .ok (.getfield 38, 3) := dk_180 0 38 (dk_at dksX6_told_4 5 rfl rfl)
theorem dX6_told_101 : decode cX6_told 101 = .ok (.iload_n 2, 1) := dk_28 (dk_at dksX6_told_4 8 rfl rfl)
theorem dX6_told_102 : decode cX6_told 102 = .ok (.iload_n 3, 1) := dk_29 (dk_at dksX6_told_4 9 rfl rfl)
theorem dX6_told_103 : decode cX6_told 103 = .ok (.iload 4, 2) := dk_21 4 (dk_at dksX6_told_4 10 rfl rfl)
theorem dX6_told_105 : decode cX6_told 105 = .ok (.iload 5, 2) := dk_21 5 (dk_at dksX6_told_4 12 rfl rfl)
theorem dX6_told_107 : decode cX6_told 107 = .ok (.invokevirtual 223, 3) := dk_182 0 223 (dk_at dksX6_told_4 14 rfl rfl)
theorem dX6_told_110 : decode cX6_told 110 = .ok (.aload_n 0, 1) := dk_42 (dk_at dksX6_told_4 17 rfl rfl)
theorem dX6_told_111 : decode cX6_told 111 = .ok (.invokevirtual 227, 3) := dk_182 0 227 (dk_at dksX6_told_4 18 rfl rfl)
theorem dX6_told_114 : decode cX6_told 114 = .ok (.aload_n 0, 1) := dk_42 (dk_at dksX6_told_4 21 rfl rfl)
theorem dX6_told_115 : decode cX6_told 115 = .ok (.getfield 50, 3) := dk_180 0 50 (dk_at dksX6_told_5 0 rfl rfl)
theorem dX6_told_118 : decode cX6_told 118 = .ok (.aload_n 0, 1) := dk_42 (dk_at dksX6_told_5 3 rfl rfl)
theorem dX6_told_119 : decode cX6_told 119 = .ok (.iload_n 2, 1) := dk_28 (dk_at dksX6_told_5 4 rfl rfl)
theorem dX6_told_120 : decode cX6_told 120 = .ok (.iload_n 1, 1) := dk_27 (dk_at dksX6_told_5 5 rfl rfl)
theorem dX6_told_121 : decode cX6_told 121 = .ok (.invokevirtual 340, 3) := dk_182 1 84 (dk_at dksX6_told_5 6 rfl rfl)
theorem dX6_told_124 : decode cX6_told 124 = .ok (.iaload, 1) := dk_46 (dk_at dksX6_told_5 9 rfl rfl)
theorem dX6_told_125 : decode cX6_told 125 = .ok (.ireturn, 1) := dk_172 (dk_at dksX6_told_5 10 rfl rfl)
abbrev cX6_who : ByteArray := prog_12_method_107_code
def yX6_who : MethodName := ⟨RX6, "who", "(II)I"⟩
def dkwX6_who_3 : List UInt8 := [182, 0, 199, 172]
abbrev dktX6_who_3 : List UInt8 := dkwX6_who_3 ++ []
def dkwX6_who_2 : List UInt8 := [28, 2, 2, 182, 0, 223, 42, 182, 1, 8, 62, 29, 156, 0, 7, 29, 167, 0, 9, 42, 27, 29]
abbrev dktX6_who_2 : List UInt8 := dkwX6_who_2 ++ dktX6_who_3
def dkwX6_who_1 : List UInt8 := [153, 0, 14, 42, 180, 0, 38, 27, 184, 1, 15, 153, 0, 7, 19, 1, 137, 172, 42, 42, 180, 0, 38, 27]
abbrev dktX6_who_1 : List UInt8 := dkwX6_who_1 ++ dktX6_who_2
def dkwX6_who_0 : List UInt8 := [42, 3, 181, 0, 57, 42, 3, 27, 28, 182, 1, 34, 153, 0, 26, 42, 42, 180, 0, 38, 27, 182, 1, 11]
abbrev dktX6_who_0 : List UInt8 := dkwX6_who_0 ++ dktX6_who_1
theorem dksX6_who_0 : cX6_who.data.toList.drop 0 = dktX6_who_0 := by decide +kernel
theorem dksX6_who_1 : cX6_who.data.toList.drop 24 = dktX6_who_1 := dk_seg dksX6_who_0 24 rfl rfl
theorem dksX6_who_2 : cX6_who.data.toList.drop 48 = dktX6_who_2 := dk_seg dksX6_who_1 24 rfl rfl
theorem dksX6_who_3 : cX6_who.data.toList.drop 70 = dktX6_who_3 := dk_seg dksX6_who_2 22 rfl rfl
theorem dX6_who_0 : decode cX6_who 0 = .ok (.aload_n 0, 1) := dk_42 (dk_at dksX6_who_0 0 rfl rfl)
theorem dX6_who_1 : decode cX6_who 1 = .ok (.iconst 0, 1) := dk_3 (dk_at dksX6_who_0 1 rfl rfl)
theorem dX6_who_2 : decode cX6_who 2 = .ok (.putfield 57, 3) := dk_181 0 57 (dk_at dksX6_who_0 2 rfl rfl)
theorem dX6_who_5 : decode cX6_who 5 = .ok (.aload_n 0, 1) := dk_42 (dk_at dksX6_who_0 5 rfl rfl)
theorem dX6_who_6 : decode cX6_who 6 = .ok (.iconst 0, 1) := dk_3 (dk_at dksX6_who_0 6 rfl rfl)
theorem dX6_who_7 : decode cX6_who 7 = .ok (.iload_n 1, 1) := dk_27 (dk_at dksX6_who_0 7 rfl rfl)
theorem dX6_who_8 : decode cX6_who 8 = .ok (.iload_n 2, 1) := dk_28 (dk_at dksX6_who_0 8 rfl rfl)
theorem dX6_who_9 : decode cX6_who 9 = .ok (.invokevirtual 290, 3) := dk_182 1 34 (dk_at dksX6_who_0 9 rfl rfl)
theorem dX6_who_12 : decode cX6_who 12 = .ok (.ifCond .eq 26, 3) := dk_153 0 26 (dk_at dksX6_who_0 12 rfl rfl)
theorem dX6_who_15 : decode cX6_who 15 = .ok (.aload_n 0, 1) := dk_42 (dk_at dksX6_who_0 15 rfl rfl)
theorem dX6_who_16 : decode cX6_who 16 = .ok (.aload_n 0, 1) := dk_42 (dk_at dksX6_who_0 16 rfl rfl)
theorem dX6_who_17 : decode cX6_who 17 = .ok (.getfield 38, 3) := dk_180 0 38 (dk_at dksX6_who_0 17 rfl rfl)
theorem dX6_who_20 : decode cX6_who 20 = .ok (.iload_n 1, 1) := dk_27 (dk_at dksX6_who_0 20 rfl rfl)
theorem dX6_who_21 : decode cX6_who 21 = .ok (.invokevirtual 267, 3) := dk_182 1 11 (dk_at dksX6_who_0 21 rfl rfl)
theorem dX6_who_24 : decode cX6_who 24 = .ok (.ifCond .eq 14, 3) := dk_153 0 14 (dk_at dksX6_who_1 0 rfl rfl)
theorem dX6_who_27 : decode cX6_who 27 = .ok (.aload_n 0, 1) := dk_42 (dk_at dksX6_who_1 3 rfl rfl)
theorem dX6_who_28 : decode cX6_who 28 = .ok (.getfield 38, 3) := dk_180 0 38 (dk_at dksX6_who_1 4 rfl rfl)
theorem dX6_who_31 : decode cX6_who 31 = .ok (.iload_n 1, 1) := dk_27 (dk_at dksX6_who_1 7 rfl rfl)
theorem dX6_who_32 : decode cX6_who 32 = .ok (.invokestatic 271, 3) := dk_184 1 15 (dk_at dksX6_who_1 8 rfl rfl)
theorem dX6_who_35 : decode cX6_who 35 = .ok (.ifCond .eq 7, 3) := dk_153 0 7 (dk_at dksX6_who_1 11 rfl rfl)
theorem dX6_who_38 : decode cX6_who 38 = .ok (.ldc_w 393, 3) := dk_19 1 137 (dk_at dksX6_who_1 14 rfl rfl)
theorem dX6_who_41 : decode cX6_who 41 = .ok (.ireturn, 1) := dk_172 (dk_at dksX6_who_1 17 rfl rfl)
theorem dX6_who_42 : decode cX6_who 42 = .ok (.aload_n 0, 1) := dk_42 (dk_at dksX6_who_1 18 rfl rfl)
theorem dX6_who_43 : decode cX6_who 43 = .ok (.aload_n 0, 1) := dk_42 (dk_at dksX6_who_1 19 rfl rfl)
theorem dX6_who_44 : decode cX6_who 44 = .ok (.getfield 38, 3) := dk_180 0 38 (dk_at dksX6_who_1 20 rfl rfl)
theorem dX6_who_47 : decode cX6_who 47 = .ok (.iload_n 1, 1) := dk_27 (dk_at dksX6_who_1 23 rfl rfl)
theorem dX6_who_48 : decode cX6_who 48 = .ok (.iload_n 2, 1) := dk_28 (dk_at dksX6_who_2 0 rfl rfl)
theorem dX6_who_49 : decode cX6_who 49 = .ok (.iconst (-1), 1) := dk_2 (dk_at dksX6_who_2 1 rfl rfl)
theorem dX6_who_50 : decode cX6_who 50 = .ok (.iconst (-1), 1) := dk_2 (dk_at dksX6_who_2 2 rfl rfl)
theorem dX6_who_51 : decode cX6_who 51 = .ok (.invokevirtual 223, 3) := dk_182 0 223 (dk_at dksX6_who_2 3 rfl rfl)
theorem dX6_who_54 : decode cX6_who 54 = .ok (.aload_n 0, 1) := dk_42 (dk_at dksX6_who_2 6 rfl rfl)
theorem dX6_who_55 : decode cX6_who 55 = .ok (.invokevirtual 264, 3) := dk_182 1 8 (dk_at dksX6_who_2 7 rfl rfl)
theorem dX6_who_58 : decode cX6_who 58 = .ok (.istore_n 3, 1) := dk_62 (dk_at dksX6_who_2 10 rfl rfl)
theorem dX6_who_59 : decode cX6_who 59 = .ok (.iload_n 3, 1) := dk_29 (dk_at dksX6_who_2 11 rfl rfl)
theorem dX6_who_60 : decode cX6_who 60 = .ok (.ifCond .ge 7, 3) := dk_156 0 7 (dk_at dksX6_who_2 12 rfl rfl)
theorem dX6_who_63 : decode cX6_who 63 = .ok (.iload_n 3, 1) := dk_29 (dk_at dksX6_who_2 15 rfl rfl)
theorem dX6_who_64 : decode cX6_who 64 = .ok (.goto 9, 3) := dk_167 0 9 (dk_at dksX6_who_2 16 rfl rfl)
theorem dX6_who_67 : decode cX6_who 67 = .ok (.aload_n 0, 1) := dk_42 (dk_at dksX6_who_2 19 rfl rfl)
theorem dX6_who_68 : decode cX6_who 68 = .ok (.iload_n 1, 1) := dk_27 (dk_at dksX6_who_2 20 rfl rfl)
theorem dX6_who_69 : decode cX6_who 69 = .ok (.iload_n 3, 1) := dk_29 (dk_at dksX6_who_2 21 rfl rfl)
theorem dX6_who_70 : decode cX6_who 70 = .ok (.invokevirtual 199, 3) := dk_182 0 199 (dk_at dksX6_who_3 0 rfl rfl)
theorem dX6_who_73 : decode cX6_who 73 = .ok (.ireturn, 1) := dk_172 (dk_at dksX6_who_3 3 rfl rfl)
abbrev cX6_more : ByteArray := prog_12_method_108_code
def yX6_more : MethodName := ⟨RX6, "more", "()I"⟩
def dkwX6_more_2 : List UInt8 := [167, 0, 4, 3, 128, 60, 132, 2, 1, 167, 255, 218, 27, 172]
abbrev dktX6_more_2 : List UInt8 := dkwX6_more_2 ++ []
def dkwX6_more_1 : List UInt8 := [162, 0, 36, 27, 42, 42, 180, 0, 38, 4, 28, 3, 3, 3, 182, 1, 46, 2, 160, 0, 9, 4, 28, 120]
abbrev dktX6_more_1 : List UInt8 := dkwX6_more_1 ++ dktX6_more_2
def dkwX6_more_0 : List UInt8 := [42, 3, 181, 0, 57, 42, 180, 0, 153, 154, 0, 5, 2, 172, 3, 60, 3, 61, 28, 42, 180, 0, 171]
abbrev dktX6_more_0 : List UInt8 := dkwX6_more_0 ++ dktX6_more_1
theorem dksX6_more_0 : cX6_more.data.toList.drop 0 = dktX6_more_0 := by decide +kernel
theorem dksX6_more_1 : cX6_more.data.toList.drop 23 = dktX6_more_1 := dk_seg dksX6_more_0 23 rfl rfl
theorem dksX6_more_2 : cX6_more.data.toList.drop 47 = dktX6_more_2 := dk_seg dksX6_more_1 24 rfl rfl
theorem dX6_more_0 : decode cX6_more 0 = .ok (.aload_n 0, 1) := dk_42 (dk_at dksX6_more_0 0 rfl rfl)
theorem dX6_more_1 : decode cX6_more 1 = .ok (.iconst 0, 1) := dk_3 (dk_at dksX6_more_0 1 rfl rfl)
theorem dX6_more_2 : decode cX6_more 2 = .ok (.putfield 57, 3) := dk_181 0 57 (dk_at dksX6_more_0 2 rfl rfl)
theorem dX6_more_5 : decode cX6_more 5 = .ok (.aload_n 0, 1) := dk_42 (dk_at dksX6_more_0 5 rfl rfl)
theorem dX6_more_6 : decode cX6_more 6 = .ok (.getfield 153, 3) := dk_180 0 153 (dk_at dksX6_more_0 6 rfl rfl)
theorem dX6_more_9 : decode cX6_more 9 = .ok (.ifCond .ne 5, 3) := dk_154 0 5 (dk_at dksX6_more_0 9 rfl rfl)
theorem dX6_more_12 : decode cX6_more 12 = .ok (.iconst (-1), 1) := dk_2 (dk_at dksX6_more_0 12 rfl rfl)
theorem dX6_more_13 : decode cX6_more 13 = .ok (.ireturn, 1) := dk_172 (dk_at dksX6_more_0 13 rfl rfl)
theorem dX6_more_14 : decode cX6_more 14 = .ok (.iconst 0, 1) := dk_3 (dk_at dksX6_more_0 14 rfl rfl)
theorem dX6_more_15 : decode cX6_more 15 = .ok (.istore_n 1, 1) := dk_60 (dk_at dksX6_more_0 15 rfl rfl)
theorem dX6_more_16 : decode cX6_more 16 = .ok (.iconst 0, 1) := dk_3 (dk_at dksX6_more_0 16 rfl rfl)
theorem dX6_more_17 : decode cX6_more 17 = .ok (.istore_n 2, 1) := dk_61 (dk_at dksX6_more_0 17 rfl rfl)
theorem dX6_more_18 : decode cX6_more 18 = .ok (.iload_n 2, 1) := dk_28 (dk_at dksX6_more_0 18 rfl rfl)
theorem dX6_more_19 : decode cX6_more 19 = .ok (.aload_n 0, 1) := dk_42 (dk_at dksX6_more_0 19 rfl rfl)
theorem dX6_more_20 : decode cX6_more 20 = .ok (.getfield 171, 3) := dk_180 0 171 (dk_at dksX6_more_0 20 rfl rfl)
theorem dX6_more_23 : decode cX6_more 23 = .ok (.if_icmp .ge 36, 3) := dk_162 0 36 (dk_at dksX6_more_1 0 rfl rfl)
theorem dX6_more_26 : decode cX6_more 26 = .ok (.iload_n 1, 1) := dk_27 (dk_at dksX6_more_1 3 rfl rfl)
theorem dX6_more_27 : decode cX6_more 27 = .ok (.aload_n 0, 1) := dk_42 (dk_at dksX6_more_1 4 rfl rfl)
theorem dX6_more_28 : decode cX6_more 28 = .ok (.aload_n 0, 1) := dk_42 (dk_at dksX6_more_1 5 rfl rfl)
theorem dX6_more_29 : decode cX6_more 29 = .ok (.getfield 38, 3) := dk_180 0 38 (dk_at dksX6_more_1 6 rfl rfl)
theorem dX6_more_32 : decode cX6_more 32 = .ok (.iconst 1, 1) := dk_4 (dk_at dksX6_more_1 9 rfl rfl)
theorem dX6_more_33 : decode cX6_more 33 = .ok (.iload_n 2, 1) := dk_28 (dk_at dksX6_more_1 10 rfl rfl)
theorem dX6_more_34 : decode cX6_more 34 = .ok (.iconst 0, 1) := dk_3 (dk_at dksX6_more_1 11 rfl rfl)
theorem dX6_more_35 : decode cX6_more 35 = .ok (.iconst 0, 1) := dk_3 (dk_at dksX6_more_1 12 rfl rfl)
theorem dX6_more_36 : decode cX6_more 36 = .ok (.iconst 0, 1) := dk_3 (dk_at dksX6_more_1 13 rfl rfl)
theorem dX6_more_37 : decode cX6_more 37 = .ok (.invokevirtual 302, 3) := dk_182 1 46 (dk_at dksX6_more_1 14 rfl rfl)
theorem dX6_more_40 : decode cX6_more 40 = .ok (.iconst (-1), 1) := dk_2 (dk_at dksX6_more_1 17 rfl rfl)
theorem dX6_more_41 : decode cX6_more 41 = .ok (.if_icmp .ne 9, 3) := dk_160 0 9 (dk_at dksX6_more_1 18 rfl rfl)
theorem dX6_more_44 : decode cX6_more 44 = .ok (.iconst 1, 1) := dk_4 (dk_at dksX6_more_1 21 rfl rfl)
theorem dX6_more_45 : decode cX6_more 45 = .ok (.iload_n 2, 1) := dk_28 (dk_at dksX6_more_1 22 rfl rfl)
theorem dX6_more_46 : decode cX6_more 46 = .ok (.ishl, 1) := dk_120 (dk_at dksX6_more_1 23 rfl rfl)
theorem dX6_more_47 : decode cX6_more 47 = .ok (.goto 4, 3) := dk_167 0 4 (dk_at dksX6_more_2 0 rfl rfl)
theorem dX6_more_50 : decode cX6_more 50 = .ok (.iconst 0, 1) := dk_3 (dk_at dksX6_more_2 3 rfl rfl)
theorem dX6_more_51 : decode cX6_more 51 = .ok (.ior, 1) := dk_128 (dk_at dksX6_more_2 4 rfl rfl)
theorem dX6_more_52 : decode cX6_more 52 = .ok (.istore_n 1, 1) := dk_60 (dk_at dksX6_more_2 5 rfl rfl)
theorem dX6_more_53 : decode cX6_more 53 = .ok (.iinc 2 1, 3) := dk_132 2 1 (dk_at dksX6_more_2 6 rfl rfl)
theorem dX6_more_56 : decode cX6_more 56 = .ok (.goto (-38), 3) := dk_167 255 218 (dk_at dksX6_more_2 9 rfl rfl)
theorem dX6_more_59 : decode cX6_more 59 = .ok (.iload_n 1, 1) := dk_27 (dk_at dksX6_more_2 12 rfl rfl)
theorem dX6_more_60 : decode cX6_more 60 = .ok (.ireturn, 1) := dk_172 (dk_at dksX6_more_2 13 rfl rfl)
abbrev cX6_left : ByteArray := prog_12_method_109_code
def yX6_left : MethodName := ⟨RX6, "left", "(I)I"⟩
def dkwX6_left_4 : List UInt8 := [180, 0, 41, 17, 1, 171, 46, 42, 180, 0, 38, 17, 1, 171, 46, 100, 172]
abbrev dktX6_left_4 : List UInt8 := dkwX6_left_4 ++ []
def dkwX6_left_3 : List UInt8 := [182, 1, 64, 132, 2, 1, 167, 255, 230, 132, 3, 1, 167, 255, 216, 27, 154, 0, 7, 28, 167, 0, 20, 42]
abbrev dktX6_left_3 : List UInt8 := dkwX6_left_3 ++ dktX6_left_4
def dkwX6_left_2 : List UInt8 := [162, 0, 38, 42, 180, 0, 41, 17, 1, 128, 29, 96, 46, 5, 160, 0, 18, 42, 42, 180, 0, 41, 29]
abbrev dktX6_left_2 : List UInt8 := dkwX6_left_2 ++ dktX6_left_3
def dkwX6_left_1 : List UInt8 := [42, 180, 0, 38, 3, 42, 180, 0, 41, 3, 184, 1, 93, 3, 61, 3, 62, 29, 42, 180, 0, 171]
abbrev dktX6_left_1 : List UInt8 := dkwX6_left_1 ++ dktX6_left_2
def dkwX6_left_0 : List UInt8 := [42, 3, 181, 0, 57, 42, 180, 0, 153, 153, 0, 13, 27, 133, 9, 10, 184, 0, 117, 154, 0, 5, 2, 172]
abbrev dktX6_left_0 : List UInt8 := dkwX6_left_0 ++ dktX6_left_1
theorem dksX6_left_0 : cX6_left.data.toList.drop 0 = dktX6_left_0 := by decide +kernel
theorem dksX6_left_1 : cX6_left.data.toList.drop 24 = dktX6_left_1 := dk_seg dksX6_left_0 24 rfl rfl
theorem dksX6_left_2 : cX6_left.data.toList.drop 46 = dktX6_left_2 := dk_seg dksX6_left_1 22 rfl rfl
theorem dksX6_left_3 : cX6_left.data.toList.drop 69 = dktX6_left_3 := dk_seg dksX6_left_2 23 rfl rfl
theorem dksX6_left_4 : cX6_left.data.toList.drop 93 = dktX6_left_4 := dk_seg dksX6_left_3 24 rfl rfl
theorem dX6_left_0 : decode cX6_left 0 = .ok (.aload_n 0, 1) := dk_42 (dk_at dksX6_left_0 0 rfl rfl)
theorem dX6_left_1 : decode cX6_left 1 = .ok (.iconst 0, 1) := dk_3 (dk_at dksX6_left_0 1 rfl rfl)
theorem dX6_left_2 : decode cX6_left 2 = .ok (.putfield 57, 3) := dk_181 0 57 (dk_at dksX6_left_0 2 rfl rfl)
theorem dX6_left_5 : decode cX6_left 5 = .ok (.aload_n 0, 1) := dk_42 (dk_at dksX6_left_0 5 rfl rfl)
theorem dX6_left_6 : decode cX6_left 6 = .ok (.getfield 153, 3) := dk_180 0 153 (dk_at dksX6_left_0 6 rfl rfl)
theorem dX6_left_9 : decode cX6_left 9 = .ok (.ifCond .eq 13, 3) := dk_153 0 13 (dk_at dksX6_left_0 9 rfl rfl)
theorem dX6_left_12 : decode cX6_left 12 = .ok (.iload_n 1, 1) := dk_27 (dk_at dksX6_left_0 12 rfl rfl)
theorem dX6_left_13 : decode cX6_left 13 = .ok (.i2l, 1) := dk_133 (dk_at dksX6_left_0 13 rfl rfl)
theorem dX6_left_14 : decode cX6_left 14 = .ok (.lconst 0, 1) := dk_9 (dk_at dksX6_left_0 14 rfl rfl)
theorem dX6_left_15 : decode cX6_left 15 = .ok (.lconst 1, 1) := dk_10 (dk_at dksX6_left_0 15 rfl rfl)
theorem dX6_left_16 : decode cX6_left 16 = .ok (.invokestatic 117, 3) := dk_184 0 117 (dk_at dksX6_left_0 16 rfl rfl)
theorem dX6_left_19 : decode cX6_left 19 = .ok (.ifCond .ne 5, 3) := dk_154 0 5 (dk_at dksX6_left_0 19 rfl rfl)
theorem dX6_left_22 : decode cX6_left 22 = .ok (.iconst (-1), 1) := dk_2 (dk_at dksX6_left_0 22 rfl rfl)
theorem dX6_left_23 : decode cX6_left 23 = .ok (.ireturn, 1) := dk_172 (dk_at dksX6_left_0 23 rfl rfl)
theorem dX6_left_24 : decode cX6_left 24 = .ok (.aload_n 0, 1) := dk_42 (dk_at dksX6_left_1 0 rfl rfl)
theorem dX6_left_25 : decode cX6_left 25 = .ok (.getfield 38, 3) := dk_180 0 38 (dk_at dksX6_left_1 1 rfl rfl)
theorem dX6_left_28 : decode cX6_left 28 = .ok (.iconst 0, 1) := dk_3 (dk_at dksX6_left_1 4 rfl rfl)
theorem dX6_left_29 : decode cX6_left 29 = .ok (.aload_n 0, 1) := dk_42 (dk_at dksX6_left_1 5 rfl rfl)
theorem dX6_left_30 : decode cX6_left 30 = .ok (.getfield 41, 3) := dk_180 0 41 (dk_at dksX6_left_1 6 rfl rfl)
theorem dX6_left_33 : decode cX6_left 33 = .ok (.iconst 0, 1) := dk_3 (dk_at dksX6_left_1 9 rfl rfl)
theorem dX6_left_34 : decode cX6_left 34 = .ok (.invokestatic 349, 3) := dk_184 1 93 (dk_at dksX6_left_1 10 rfl rfl)
theorem dX6_left_37 : decode cX6_left 37 = .ok (.iconst 0, 1) := dk_3 (dk_at dksX6_left_1 13 rfl rfl)
theorem dX6_left_38 : decode cX6_left 38 = .ok (.istore_n 2, 1) := dk_61 (dk_at dksX6_left_1 14 rfl rfl)
theorem dX6_left_39 : decode cX6_left 39 = .ok (.iconst 0, 1) := dk_3 (dk_at dksX6_left_1 15 rfl rfl)
theorem dX6_left_40 : decode cX6_left 40 = .ok (.istore_n 3, 1) := dk_62 (dk_at dksX6_left_1 16 rfl rfl)
theorem dX6_left_41 : decode cX6_left 41 = .ok (.iload_n 3, 1) := dk_29 (dk_at dksX6_left_1 17 rfl rfl)
theorem dX6_left_42 : decode cX6_left 42 = .ok (.aload_n 0, 1) := dk_42 (dk_at dksX6_left_1 18 rfl rfl)
theorem dX6_left_43 : decode cX6_left 43 = .ok (.getfield 171, 3) := dk_180 0 171 (dk_at dksX6_left_1 19 rfl rfl)
theorem dX6_left_46 : decode cX6_left 46 = .ok (.if_icmp .ge 38, 3) := dk_162 0 38 (dk_at dksX6_left_2 0 rfl rfl)
theorem dX6_left_49 : decode cX6_left 49 = .ok (.aload_n 0, 1) := dk_42 (dk_at dksX6_left_2 3 rfl rfl)
theorem dX6_left_50 : decode cX6_left 50 = .ok (.getfield 41, 3) := dk_180 0 41 (dk_at dksX6_left_2 4 rfl rfl)
theorem dX6_left_53 : decode cX6_left 53 = .ok (.sipush 384, 3) := dk_17 1 128 (dk_at dksX6_left_2 7 rfl rfl)
theorem dX6_left_56 : decode cX6_left 56 = .ok (.iload_n 3, 1) := dk_29 (dk_at dksX6_left_2 10 rfl rfl)
theorem dX6_left_57 : decode cX6_left 57 = .ok (.iadd, 1) := dk_96 (dk_at dksX6_left_2 11 rfl rfl)
theorem dX6_left_58 : decode cX6_left 58 = .ok (.iaload, 1) := dk_46 (dk_at dksX6_left_2 12 rfl rfl)
theorem dX6_left_59 : decode cX6_left 59 = .ok (.iconst 2, 1) := dk_5 (dk_at dksX6_left_2 13 rfl rfl)
theorem dX6_left_60 : decode cX6_left 60 = .ok (.if_icmp .ne 18, 3) := dk_160 0 18 (dk_at dksX6_left_2 14 rfl rfl)
theorem dX6_left_63 : decode cX6_left 63 = .ok (.aload_n 0, 1) := dk_42 (dk_at dksX6_left_2 17 rfl rfl)
theorem dX6_left_64 : decode cX6_left 64 = .ok (.aload_n 0, 1) := dk_42 (dk_at dksX6_left_2 18 rfl rfl)
theorem dX6_left_65 : decode cX6_left 65 = .ok (.getfield 41, 3) := dk_180 0 41 (dk_at dksX6_left_2 19 rfl rfl)
theorem dX6_left_68 : decode cX6_left 68 = .ok (.iload_n 3, 1) := dk_29 (dk_at dksX6_left_2 22 rfl rfl)
theorem dX6_left_69 : decode cX6_left 69 = .ok (.invokevirtual 320, 3) := dk_182 1 64 (dk_at dksX6_left_3 0 rfl rfl)
theorem dX6_left_72 : decode cX6_left 72 = .ok (.iinc 2 1, 3) := dk_132 2 1 (dk_at dksX6_left_3 3 rfl rfl)
theorem dX6_left_75 : decode cX6_left 75 = .ok (.goto (-26), 3) := dk_167 255 230 (dk_at dksX6_left_3 6 rfl rfl)
theorem dX6_left_78 : decode cX6_left 78 = .ok (.iinc 3 1, 3) := dk_132 3 1 (dk_at dksX6_left_3 9 rfl rfl)
theorem dX6_left_81 : decode cX6_left 81 = .ok (.goto (-40), 3) := dk_167 255 216 (dk_at dksX6_left_3 12 rfl rfl)
theorem dX6_left_84 : decode cX6_left 84 = .ok (.iload_n 1, 1) := dk_27 (dk_at dksX6_left_3 15 rfl rfl)
theorem dX6_left_85 : decode cX6_left 85 = .ok (.ifCond .ne 7, 3) := dk_154 0 7 (dk_at dksX6_left_3 16 rfl rfl)
theorem dX6_left_88 : decode cX6_left 88 = .ok (.iload_n 2, 1) := dk_28 (dk_at dksX6_left_3 19 rfl rfl)
theorem dX6_left_89 : decode cX6_left 89 = .ok (.goto 20, 3) := dk_167 0 20 (dk_at dksX6_left_3 20 rfl rfl)
theorem dX6_left_92 : decode cX6_left 92 = .ok (.aload_n 0, 1) := dk_42 (dk_at dksX6_left_3 23 rfl rfl)
theorem dX6_left_93 : decode cX6_left 93 = .ok (.getfield 41, 3) := dk_180 0 41 (dk_at dksX6_left_4 0 rfl rfl)
theorem dX6_left_96 : decode cX6_left 96 = .ok (.sipush 427, 3) := dk_17 1 171 (dk_at dksX6_left_4 3 rfl rfl)
theorem dX6_left_99 : decode cX6_left 99 = .ok (.iaload, 1) := dk_46 (dk_at dksX6_left_4 6 rfl rfl)
theorem dX6_left_100 : decode cX6_left 100 = .ok (.aload_n 0, 1) := dk_42 (dk_at dksX6_left_4 7 rfl rfl)
theorem dX6_left_101 : decode cX6_left 101 = .ok (.getfield 38, 3) := dk_180 0 38 (dk_at dksX6_left_4 8 rfl rfl)
theorem dX6_left_104 : decode cX6_left 104 = .ok (.sipush 427, 3) := dk_17 1 171 (dk_at dksX6_left_4 11 rfl rfl)
theorem dX6_left_107 : decode cX6_left 107 = .ok (.iaload, 1) := dk_46 (dk_at dksX6_left_4 14 rfl rfl)
theorem dX6_left_108 : decode cX6_left 108 = .ok (.isub, 1) := dk_100 (dk_at dksX6_left_4 15 rfl rfl)
theorem dX6_left_109 : decode cX6_left 109 = .ok (.ireturn, 1) := dk_172 (dk_at dksX6_left_4 16 rfl rfl)
abbrev cX6_risk : ByteArray := prog_12_method_110_code
def yX6_risk : MethodName := ⟨RX6, "risk", "()I"⟩
def dkwX6_risk_4 : List UInt8 := [132, 2, 1, 167, 255, 177, 27, 172]
abbrev dktX6_risk_4 : List UInt8 := dkwX6_risk_4 ++ []
def dkwX6_risk_3 : List UInt8 := [28, 120, 128, 4, 29, 120, 128, 184, 1, 74, 5, 163, 0, 6, 132, 1, 1, 132, 3, 1, 167, 255, 195]
abbrev dktX6_risk_3 : List UInt8 := dkwX6_risk_3 ++ dktX6_risk_4
def dkwX6_risk_2 : List UInt8 := [46, 4, 159, 0, 39, 42, 180, 0, 38, 17, 1, 128, 29, 96, 46, 4, 159, 0, 25, 42, 182, 1, 138, 4]
abbrev dktX6_risk_2 : List UInt8 := dkwX6_risk_2 ++ dktX6_risk_3
def dkwX6_risk_1 : List UInt8 := [162, 0, 77, 28, 4, 96, 62, 29, 42, 180, 0, 171, 162, 0, 59, 42, 180, 0, 38, 17, 1, 128, 28, 96]
abbrev dktX6_risk_1 : List UInt8 := dkwX6_risk_1 ++ dktX6_risk_2
def dkwX6_risk_0 : List UInt8 := [42, 3, 181, 0, 57, 42, 180, 0, 153, 154, 0, 5, 2, 172, 3, 60, 3, 61, 28, 42, 180, 0, 171]
abbrev dktX6_risk_0 : List UInt8 := dkwX6_risk_0 ++ dktX6_risk_1
theorem dksX6_risk_0 : cX6_risk.data.toList.drop 0 = dktX6_risk_0 := by decide +kernel
theorem dksX6_risk_1 : cX6_risk.data.toList.drop 23 = dktX6_risk_1 := dk_seg dksX6_risk_0 23 rfl rfl
theorem dksX6_risk_2 : cX6_risk.data.toList.drop 47 = dktX6_risk_2 := dk_seg dksX6_risk_1 24 rfl rfl
theorem dksX6_risk_3 : cX6_risk.data.toList.drop 71 = dktX6_risk_3 := dk_seg dksX6_risk_2 24 rfl rfl
theorem dksX6_risk_4 : cX6_risk.data.toList.drop 94 = dktX6_risk_4 := dk_seg dksX6_risk_3 23 rfl rfl
theorem dX6_risk_0 : decode cX6_risk 0 = .ok (.aload_n 0, 1) := dk_42 (dk_at dksX6_risk_0 0 rfl rfl)
theorem dX6_risk_1 : decode cX6_risk 1 = .ok (.iconst 0, 1) := dk_3 (dk_at dksX6_risk_0 1 rfl rfl)
theorem dX6_risk_2 : decode cX6_risk 2 = .ok (.putfield 57, 3) := dk_181 0 57 (dk_at dksX6_risk_0 2 rfl rfl)
theorem dX6_risk_5 : decode cX6_risk 5 = .ok (.aload_n 0, 1) := dk_42 (dk_at dksX6_risk_0 5 rfl rfl)
theorem dX6_risk_6 : decode cX6_risk 6 = .ok (.getfield 153, 3) := dk_180 0 153 (dk_at dksX6_risk_0 6 rfl rfl)
theorem dX6_risk_9 : decode cX6_risk 9 = .ok (.ifCond .ne 5, 3) := dk_154 0 5 (dk_at dksX6_risk_0 9 rfl rfl)
theorem dX6_risk_12 : decode cX6_risk 12 = .ok (.iconst (-1), 1) := dk_2 (dk_at dksX6_risk_0 12 rfl rfl)
theorem dX6_risk_13 : decode cX6_risk 13 = .ok (.ireturn, 1) := dk_172 (dk_at dksX6_risk_0 13 rfl rfl)
theorem dX6_risk_14 : decode cX6_risk 14 = .ok (.iconst 0, 1) := dk_3 (dk_at dksX6_risk_0 14 rfl rfl)
theorem dX6_risk_15 : decode cX6_risk 15 = .ok (.istore_n 1, 1) := dk_60 (dk_at dksX6_risk_0 15 rfl rfl)
theorem dX6_risk_16 : decode cX6_risk 16 = .ok (.iconst 0, 1) := dk_3 (dk_at dksX6_risk_0 16 rfl rfl)
theorem dX6_risk_17 : decode cX6_risk 17 = .ok (.istore_n 2, 1) := dk_61 (dk_at dksX6_risk_0 17 rfl rfl)
theorem dX6_risk_18 : decode cX6_risk 18 = .ok (.iload_n 2, 1) := dk_28 (dk_at dksX6_risk_0 18 rfl rfl)
theorem dX6_risk_19 : decode cX6_risk 19 = .ok (.aload_n 0, 1) := dk_42 (dk_at dksX6_risk_0 19 rfl rfl)
theorem dX6_risk_20 : decode cX6_risk 20 = .ok (.getfield 171, 3) := dk_180 0 171 (dk_at dksX6_risk_0 20 rfl rfl)
theorem dX6_risk_23 : decode cX6_risk 23 = .ok (.if_icmp .ge 77, 3) := dk_162 0 77 (dk_at dksX6_risk_1 0 rfl rfl)
theorem dX6_risk_26 : decode cX6_risk 26 = .ok (.iload_n 2, 1) := dk_28 (dk_at dksX6_risk_1 3 rfl rfl)
theorem dX6_risk_27 : decode cX6_risk 27 = .ok (.iconst 1, 1) := dk_4 (dk_at dksX6_risk_1 4 rfl rfl)
theorem dX6_risk_28 : decode cX6_risk 28 = .ok (.iadd, 1) := dk_96 (dk_at dksX6_risk_1 5 rfl rfl)
theorem dX6_risk_29 : decode cX6_risk 29 = .ok (.istore_n 3, 1) := dk_62 (dk_at dksX6_risk_1 6 rfl rfl)
theorem dX6_risk_30 : decode cX6_risk 30 = .ok (.iload_n 3, 1) := dk_29 (dk_at dksX6_risk_1 7 rfl rfl)
theorem dX6_risk_31 : decode cX6_risk 31 = .ok (.aload_n 0, 1) := dk_42 (dk_at dksX6_risk_1 8 rfl rfl)
theorem dX6_risk_32 : decode cX6_risk 32 = .ok (.getfield 171, 3) := dk_180 0 171 (dk_at dksX6_risk_1 9 rfl rfl)
theorem dX6_risk_35 : decode cX6_risk 35 = .ok (.if_icmp .ge 59, 3) := dk_162 0 59 (dk_at dksX6_risk_1 12 rfl rfl)
theorem dX6_risk_38 : decode cX6_risk 38 = .ok (.aload_n 0, 1) := dk_42 (dk_at dksX6_risk_1 15 rfl rfl)
theorem dX6_risk_39 : decode cX6_risk 39 = .ok (.getfield 38, 3) := dk_180 0 38 (dk_at dksX6_risk_1 16 rfl rfl)
theorem dX6_risk_42 : decode cX6_risk 42 = .ok (.sipush 384, 3) := dk_17 1 128 (dk_at dksX6_risk_1 19 rfl rfl)
theorem dX6_risk_45 : decode cX6_risk 45 = .ok (.iload_n 2, 1) := dk_28 (dk_at dksX6_risk_1 22 rfl rfl)
theorem dX6_risk_46 : decode cX6_risk 46 = .ok (.iadd, 1) := dk_96 (dk_at dksX6_risk_1 23 rfl rfl)
theorem dX6_risk_47 : decode cX6_risk 47 = .ok (.iaload, 1) := dk_46 (dk_at dksX6_risk_2 0 rfl rfl)
theorem dX6_risk_48 : decode cX6_risk 48 = .ok (.iconst 1, 1) := dk_4 (dk_at dksX6_risk_2 1 rfl rfl)
theorem dX6_risk_49 : decode cX6_risk 49 = .ok (.if_icmp .eq 39, 3) := dk_159 0 39 (dk_at dksX6_risk_2 2 rfl rfl)
theorem dX6_risk_52 : decode cX6_risk 52 = .ok (.aload_n 0, 1) := dk_42 (dk_at dksX6_risk_2 5 rfl rfl)
theorem dX6_risk_53 : decode cX6_risk 53 = .ok (.getfield 38, 3) := dk_180 0 38 (dk_at dksX6_risk_2 6 rfl rfl)
theorem dX6_risk_56 : decode cX6_risk 56 = .ok (.sipush 384, 3) := dk_17 1 128 (dk_at dksX6_risk_2 9 rfl rfl)
theorem dX6_risk_59 : decode cX6_risk 59 = .ok (.iload_n 3, 1) := dk_29 (dk_at dksX6_risk_2 12 rfl rfl)
theorem dX6_risk_60 : decode cX6_risk 60 = .ok (.iadd, 1) := dk_96 (dk_at dksX6_risk_2 13 rfl rfl)
theorem dX6_risk_61 : decode cX6_risk 61 = .ok (.iaload, 1) := dk_46 (dk_at dksX6_risk_2 14 rfl rfl)
theorem dX6_risk_62 : decode cX6_risk 62 = .ok (.iconst 1, 1) := dk_4 (dk_at dksX6_risk_2 15 rfl rfl)
theorem dX6_risk_63 : decode cX6_risk 63 = .ok (.if_icmp .eq 25, 3) := dk_159 0 25 (dk_at dksX6_risk_2 16 rfl rfl)
theorem dX6_risk_66 : decode cX6_risk 66 = .ok (.aload_n 0, 1) := dk_42 (dk_at dksX6_risk_2 19 rfl rfl)
theorem dX6_risk_67 : decode cX6_risk 67 = .ok (.invokevirtual 394, 3) := dk_182 1 138 (dk_at dksX6_risk_2 20 rfl rfl)
theorem dX6_risk_70 : decode cX6_risk 70 = .ok (.iconst 1, 1) := dk_4 (dk_at dksX6_risk_2 23 rfl rfl)
theorem dX6_risk_71 : decode cX6_risk 71 = .ok (.iload_n 2, 1) := dk_28 (dk_at dksX6_risk_3 0 rfl rfl)
theorem dX6_risk_72 : decode cX6_risk 72 = .ok (.ishl, 1) := dk_120 (dk_at dksX6_risk_3 1 rfl rfl)
theorem dX6_risk_73 : decode cX6_risk 73 = .ok (.ior, 1) := dk_128 (dk_at dksX6_risk_3 2 rfl rfl)
theorem dX6_risk_74 : decode cX6_risk 74 = .ok (.iconst 1, 1) := dk_4 (dk_at dksX6_risk_3 3 rfl rfl)
theorem dX6_risk_75 : decode cX6_risk 75 = .ok (.iload_n 3, 1) := dk_29 (dk_at dksX6_risk_3 4 rfl rfl)
theorem dX6_risk_76 : decode cX6_risk 76 = .ok (.ishl, 1) := dk_120 (dk_at dksX6_risk_3 5 rfl rfl)
theorem dX6_risk_77 : decode cX6_risk 77 = .ok (.ior, 1) := dk_128 (dk_at dksX6_risk_3 6 rfl rfl)
theorem dX6_risk_78 : decode cX6_risk 78 = .ok (.invokestatic 330, 3) := dk_184 1 74 (dk_at dksX6_risk_3 7 rfl rfl)
theorem dX6_risk_81 : decode cX6_risk 81 = .ok (.iconst 2, 1) := dk_5 (dk_at dksX6_risk_3 10 rfl rfl)
theorem dX6_risk_82 : decode cX6_risk 82 = .ok (.if_icmp .gt 6, 3) := dk_163 0 6 (dk_at dksX6_risk_3 11 rfl rfl)
theorem dX6_risk_85 : decode cX6_risk 85 = .ok (.iinc 1 1, 3) := dk_132 1 1 (dk_at dksX6_risk_3 14 rfl rfl)
theorem dX6_risk_88 : decode cX6_risk 88 = .ok (.iinc 3 1, 3) := dk_132 3 1 (dk_at dksX6_risk_3 17 rfl rfl)
theorem dX6_risk_91 : decode cX6_risk 91 = .ok (.goto (-61), 3) := dk_167 255 195 (dk_at dksX6_risk_3 20 rfl rfl)
theorem dX6_risk_94 : decode cX6_risk 94 = .ok (.iinc 2 1, 3) := dk_132 2 1 (dk_at dksX6_risk_4 0 rfl rfl)
theorem dX6_risk_97 : decode cX6_risk 97 = .ok (.goto (-79), 3) := dk_167 255 177 (dk_at dksX6_risk_4 3 rfl rfl)
theorem dX6_risk_100 : decode cX6_risk 100 = .ok (.iload_n 1, 1) := dk_27 (dk_at dksX6_risk_4 6 rfl rfl)
theorem dX6_risk_101 : decode cX6_risk 101 = .ok (.ireturn, 1) := dk_172 (dk_at dksX6_risk_4 7 rfl rfl)
abbrev cX6_lostBits : ByteArray := prog_12_method_123_code
def yX6_lostBits : MethodName := ⟨RX6, "lostBits", "()I"⟩
def dkwX6_lostBits_1 : List UInt8 := [154, 0, 7, 3, 167, 0, 6, 4, 28, 120, 128, 60, 132, 2, 1, 167, 255, 222, 27, 172]
abbrev dktX6_lostBits_1 : List UInt8 := dkwX6_lostBits_1 ++ []
def dkwX6_lostBits_0 : List UInt8 := [3, 60, 3, 61, 28, 42, 180, 0, 171, 162, 0, 32, 27, 42, 180, 0, 38, 17, 1, 128, 28, 96, 46]
abbrev dktX6_lostBits_0 : List UInt8 := dkwX6_lostBits_0 ++ dktX6_lostBits_1
theorem dksX6_lostBits_0 : cX6_lostBits.data.toList.drop 0 = dktX6_lostBits_0 := by decide +kernel
theorem dksX6_lostBits_1 : cX6_lostBits.data.toList.drop 23 = dktX6_lostBits_1 := dk_seg dksX6_lostBits_0 23 rfl rfl
theorem dX6_lostBits_0 : decode cX6_lostBits 0 = .ok (.iconst 0, 1) := dk_3 (dk_at dksX6_lostBits_0 0 rfl rfl)
theorem dX6_lostBits_1 : decode cX6_lostBits 1 = .ok (.istore_n 1, 1) := dk_60 (dk_at dksX6_lostBits_0 1 rfl rfl)
theorem dX6_lostBits_2 : decode cX6_lostBits 2 = .ok (.iconst 0, 1) := dk_3 (dk_at dksX6_lostBits_0 2 rfl rfl)
theorem dX6_lostBits_3 : decode cX6_lostBits 3 = .ok (.istore_n 2, 1) := dk_61 (dk_at dksX6_lostBits_0 3 rfl rfl)
theorem dX6_lostBits_4 : decode cX6_lostBits 4 = .ok (.iload_n 2, 1) := dk_28 (dk_at dksX6_lostBits_0 4 rfl rfl)
theorem dX6_lostBits_5 : decode cX6_lostBits 5 = .ok (.aload_n 0, 1) := dk_42 (dk_at dksX6_lostBits_0 5 rfl rfl)
theorem dX6_lostBits_6 : decode cX6_lostBits 6 = .ok (.getfield 171, 3) := dk_180 0 171 (dk_at dksX6_lostBits_0 6 rfl rfl)
theorem dX6_lostBits_9 : decode cX6_lostBits 9 = .ok (.if_icmp .ge 32, 3) := dk_162 0 32 (dk_at dksX6_lostBits_0 9 rfl rfl)
theorem dX6_lostBits_12 : decode cX6_lostBits 12 = .ok (.iload_n 1, 1) := dk_27 (dk_at dksX6_lostBits_0 12 rfl rfl)
theorem dX6_lostBits_13 : decode cX6_lostBits 13 = .ok (.aload_n 0, 1) := dk_42 (dk_at dksX6_lostBits_0 13 rfl rfl)
theorem dX6_lostBits_14 : decode cX6_lostBits 14 = .ok (.getfield 38, 3) := dk_180 0 38 (dk_at dksX6_lostBits_0 14 rfl rfl)
theorem dX6_lostBits_17 : decode cX6_lostBits 17 = .ok (.sipush 384, 3) := dk_17 1 128 (dk_at dksX6_lostBits_0 17 rfl rfl)
theorem dX6_lostBits_20 : decode cX6_lostBits 20 = .ok (.iload_n 2, 1) := dk_28 (dk_at dksX6_lostBits_0 20 rfl rfl)
theorem dX6_lostBits_21 : decode cX6_lostBits 21 = .ok (.iadd, 1) := dk_96 (dk_at dksX6_lostBits_0 21 rfl rfl)
theorem dX6_lostBits_22 : decode cX6_lostBits 22 = .ok (.iaload, 1) := dk_46 (dk_at dksX6_lostBits_0 22 rfl rfl)
theorem dX6_lostBits_23 : decode cX6_lostBits 23 = .ok (.ifCond .ne 7, 3) := dk_154 0 7 (dk_at dksX6_lostBits_1 0 rfl rfl)
theorem dX6_lostBits_26 : decode cX6_lostBits 26 = .ok (.iconst 0, 1) := dk_3 (dk_at dksX6_lostBits_1 3 rfl rfl)
theorem dX6_lostBits_27 : decode cX6_lostBits 27 = .ok (.goto 6, 3) := dk_167 0 6 (dk_at dksX6_lostBits_1 4 rfl rfl)
theorem dX6_lostBits_30 : decode cX6_lostBits 30 = .ok (.iconst 1, 1) := dk_4 (dk_at dksX6_lostBits_1 7 rfl rfl)
theorem dX6_lostBits_31 : decode cX6_lostBits 31 = .ok (.iload_n 2, 1) := dk_28 (dk_at dksX6_lostBits_1 8 rfl rfl)
theorem dX6_lostBits_32 : decode cX6_lostBits 32 = .ok (.ishl, 1) := dk_120 (dk_at dksX6_lostBits_1 9 rfl rfl)
theorem dX6_lostBits_33 : decode cX6_lostBits 33 = .ok (.ior, 1) := dk_128 (dk_at dksX6_lostBits_1 10 rfl rfl)
theorem dX6_lostBits_34 : decode cX6_lostBits 34 = .ok (.istore_n 1, 1) := dk_60 (dk_at dksX6_lostBits_1 11 rfl rfl)
theorem dX6_lostBits_35 : decode cX6_lostBits 35 = .ok (.iinc 2 1, 3) := dk_132 2 1 (dk_at dksX6_lostBits_1 12 rfl rfl)
theorem dX6_lostBits_38 : decode cX6_lostBits 38 = .ok (.goto (-34), 3) := dk_167 255 222 (dk_at dksX6_lostBits_1 15 rfl rfl)
theorem dX6_lostBits_41 : decode cX6_lostBits 41 = .ok (.iload_n 1, 1) := dk_27 (dk_at dksX6_lostBits_1 18 rfl rfl)
theorem dX6_lostBits_42 : decode cX6_lostBits 42 = .ok (.ireturn, 1) := dk_172 (dk_at dksX6_lostBits_1 19 rfl rfl)
abbrev cX6_first : ByteArray := prog_12_method_111_code
def yX6_first : MethodName := ⟨RX6, "first", "(I)I"⟩
def dkwX6_first_7 : List UInt8 := [17, 1, 171, 46, 42, 180, 0, 38, 17, 1, 171, 46, 100, 172]
abbrev dktX6_first_7 : List UInt8 := dkwX6_first_7 ++ []
def dkwX6_first_6 : List UInt8 := [28, 96, 46, 5, 160, 0, 15, 42, 42, 180, 0, 41, 28, 182, 1, 64, 167, 255, 233, 42, 180, 0, 41]
abbrev dktX6_first_6 : List UInt8 := dkwX6_first_6 ++ dktX6_first_7
def dkwX6_first_5 : List UInt8 := [96, 46, 100, 172, 42, 180, 0, 38, 3, 42, 180, 0, 41, 3, 184, 1, 93, 42, 180, 0, 41, 17, 1, 128]
abbrev dktX6_first_5 : List UInt8 := dkwX6_first_5 ++ dktX6_first_6
def dkwX6_first_4 : List UInt8 := [154, 0, 5, 28, 172, 27, 4, 160, 0, 21, 42, 180, 0, 17, 4, 46, 42, 180, 0, 38, 17, 1, 136, 28]
abbrev dktX6_first_4 : List UInt8 := dkwX6_first_4 ++ dktX6_first_5
def dkwX6_first_3 : List UInt8 := [17, 1, 136, 28, 96, 46, 164, 0, 5, 29, 61, 132, 3, 1, 167, 255, 201, 28, 2, 159, 0, 7, 27]
abbrev dktX6_first_3 : List UInt8 := dkwX6_first_3 ++ dktX6_first_4
def dkwX6_first_2 : List UInt8 := [5, 160, 0, 33, 28, 2, 159, 0, 26, 42, 180, 0, 38, 17, 1, 136, 29, 96, 46, 42, 180, 0, 38]
abbrev dktX6_first_2 : List UInt8 := dkwX6_first_2 ++ dktX6_first_3
def dkwX6_first_1 : List UInt8 := [2, 172, 2, 61, 3, 62, 29, 42, 180, 0, 171, 162, 0, 53, 42, 180, 0, 38, 17, 1, 128, 29, 96, 46]
abbrev dktX6_first_1 : List UInt8 := dkwX6_first_1 ++ dktX6_first_2
def dkwX6_first_0 : List UInt8 := [42, 3, 181, 0, 57, 42, 180, 0, 153, 153, 0, 15, 27, 133, 9, 20, 1, 38, 184, 0, 117, 154, 0, 5]
abbrev dktX6_first_0 : List UInt8 := dkwX6_first_0 ++ dktX6_first_1
theorem dksX6_first_0 : cX6_first.data.toList.drop 0 = dktX6_first_0 := by decide +kernel
theorem dksX6_first_1 : cX6_first.data.toList.drop 24 = dktX6_first_1 := dk_seg dksX6_first_0 24 rfl rfl
theorem dksX6_first_2 : cX6_first.data.toList.drop 48 = dktX6_first_2 := dk_seg dksX6_first_1 24 rfl rfl
theorem dksX6_first_3 : cX6_first.data.toList.drop 71 = dktX6_first_3 := dk_seg dksX6_first_2 23 rfl rfl
theorem dksX6_first_4 : cX6_first.data.toList.drop 94 = dktX6_first_4 := dk_seg dksX6_first_3 23 rfl rfl
theorem dksX6_first_5 : cX6_first.data.toList.drop 118 = dktX6_first_5 := dk_seg dksX6_first_4 24 rfl rfl
theorem dksX6_first_6 : cX6_first.data.toList.drop 142 = dktX6_first_6 := dk_seg dksX6_first_5 24 rfl rfl
theorem dksX6_first_7 : cX6_first.data.toList.drop 165 = dktX6_first_7 := dk_seg dksX6_first_6 23 rfl rfl
theorem dX6_first_0 : decode cX6_first 0 = .ok (.aload_n 0, 1) := dk_42 (dk_at dksX6_first_0 0 rfl rfl)
theorem dX6_first_1 : decode cX6_first 1 = .ok (.iconst 0, 1) := dk_3 (dk_at dksX6_first_0 1 rfl rfl)
theorem dX6_first_2 : decode cX6_first 2 = .ok (.putfield 57, 3) := dk_181 0 57 (dk_at dksX6_first_0 2 rfl rfl)
theorem dX6_first_5 : decode cX6_first 5 = .ok (.aload_n 0, 1) := dk_42 (dk_at dksX6_first_0 5 rfl rfl)
theorem dX6_first_6 : decode cX6_first 6 = .ok (.getfield 153, 3) := dk_180 0 153 (dk_at dksX6_first_0 6 rfl rfl)
theorem dX6_first_9 : decode cX6_first 9 = .ok (.ifCond .eq 15, 3) := dk_153 0 15 (dk_at dksX6_first_0 9 rfl rfl)
theorem dX6_first_12 : decode cX6_first 12 = .ok (.iload_n 1, 1) := dk_27 (dk_at dksX6_first_0 12 rfl rfl)
theorem dX6_first_13 : decode cX6_first 13 = .ok (.i2l, 1) := dk_133 (dk_at dksX6_first_0 13 rfl rfl)
theorem dX6_first_14 : decode cX6_first 14 = .ok (.lconst 0, 1) := dk_9 (dk_at dksX6_first_0 14 rfl rfl)
theorem dX6_first_15 : decode cX6_first 15 = .ok (.ldc2_w 294, 3) := dk_20 1 38 (dk_at dksX6_first_0 15 rfl rfl)
theorem dX6_first_18 : decode cX6_first 18 = .ok (.invokestatic 117, 3) := dk_184 0 117 (dk_at dksX6_first_0 18 rfl rfl)
theorem dX6_first_21 : decode cX6_first 21 = .ok (.ifCond .ne 5, 3) := dk_154 0 5 (dk_at dksX6_first_0 21 rfl rfl)
theorem dX6_first_24 : decode cX6_first 24 = .ok (.iconst (-1), 1) := dk_2 (dk_at dksX6_first_1 0 rfl rfl)
theorem dX6_first_25 : decode cX6_first 25 = .ok (.ireturn, 1) := dk_172 (dk_at dksX6_first_1 1 rfl rfl)
theorem dX6_first_26 : decode cX6_first 26 = .ok (.iconst (-1), 1) := dk_2 (dk_at dksX6_first_1 2 rfl rfl)
theorem dX6_first_27 : decode cX6_first 27 = .ok (.istore_n 2, 1) := dk_61 (dk_at dksX6_first_1 3 rfl rfl)
theorem dX6_first_28 : decode cX6_first 28 = .ok (.iconst 0, 1) := dk_3 (dk_at dksX6_first_1 4 rfl rfl)
theorem dX6_first_29 : decode cX6_first 29 = .ok (.istore_n 3, 1) := dk_62 (dk_at dksX6_first_1 5 rfl rfl)
theorem dX6_first_30 : decode cX6_first 30 = .ok (.iload_n 3, 1) := dk_29 (dk_at dksX6_first_1 6 rfl rfl)
theorem dX6_first_31 : decode cX6_first 31 = .ok (.aload_n 0, 1) := dk_42 (dk_at dksX6_first_1 7 rfl rfl)
theorem dX6_first_32 : decode cX6_first 32 = .ok (.getfield 171, 3) := dk_180 0 171 (dk_at dksX6_first_1 8 rfl rfl)
theorem dX6_first_35 : decode cX6_first 35 = .ok (.if_icmp .ge 53, 3) := dk_162 0 53 (dk_at dksX6_first_1 11 rfl rfl)
theorem dX6_first_38 : decode cX6_first 38 = .ok (.aload_n 0, 1) := dk_42 (dk_at dksX6_first_1 14 rfl rfl)
theorem dX6_first_39 : decode cX6_first 39 = .ok (.getfield 38, 3) := dk_180 0 38 (dk_at dksX6_first_1 15 rfl rfl)
theorem dX6_first_42 : decode cX6_first 42 = .ok (.sipush 384, 3) := dk_17 1 128 (dk_at dksX6_first_1 18 rfl rfl)
theorem dX6_first_45 : decode cX6_first 45 = .ok (.iload_n 3, 1) := dk_29 (dk_at dksX6_first_1 21 rfl rfl)
theorem dX6_first_46 : decode cX6_first 46 = .ok (.iadd, 1) := dk_96 (dk_at dksX6_first_1 22 rfl rfl)
theorem dX6_first_47 : decode cX6_first 47 = .ok (.iaload, 1) := dk_46 (dk_at dksX6_first_1 23 rfl rfl)
theorem dX6_first_48 : decode cX6_first 48 = .ok (.iconst 2, 1) := dk_5 (dk_at dksX6_first_2 0 rfl rfl)
theorem dX6_first_49 : decode cX6_first 49 = .ok (.if_icmp .ne 33, 3) := dk_160 0 33 (dk_at dksX6_first_2 1 rfl rfl)
theorem dX6_first_52 : decode cX6_first 52 = .ok (.iload_n 2, 1) := dk_28 (dk_at dksX6_first_2 4 rfl rfl)
theorem dX6_first_53 : decode cX6_first 53 = .ok (.iconst (-1), 1) := dk_2 (dk_at dksX6_first_2 5 rfl rfl)
theorem dX6_first_54 : decode cX6_first 54 = .ok (.if_icmp .eq 26, 3) := dk_159 0 26 (dk_at dksX6_first_2 6 rfl rfl)
theorem dX6_first_57 : decode cX6_first 57 = .ok (.aload_n 0, 1) := dk_42 (dk_at dksX6_first_2 9 rfl rfl)
theorem dX6_first_58 : decode cX6_first 58 = .ok (.getfield 38, 3) := dk_180 0 38 (dk_at dksX6_first_2 10 rfl rfl)
theorem dX6_first_61 : decode cX6_first 61 = .ok (.sipush 392, 3) := dk_17 1 136 (dk_at dksX6_first_2 13 rfl rfl)
theorem dX6_first_64 : decode cX6_first 64 = .ok (.iload_n 3, 1) := dk_29 (dk_at dksX6_first_2 16 rfl rfl)
theorem dX6_first_65 : decode cX6_first 65 = .ok (.iadd, 1) := dk_96 (dk_at dksX6_first_2 17 rfl rfl)
theorem dX6_first_66 : decode cX6_first 66 = .ok (.iaload, 1) := dk_46 (dk_at dksX6_first_2 18 rfl rfl)
theorem dX6_first_67 : decode cX6_first 67 = .ok (.aload_n 0, 1) := dk_42 (dk_at dksX6_first_2 19 rfl rfl)
theorem dX6_first_68 : decode cX6_first 68 = .ok (.getfield 38, 3) := dk_180 0 38 (dk_at dksX6_first_2 20 rfl rfl)
theorem dX6_first_71 : decode cX6_first 71 = .ok (.sipush 392, 3) := dk_17 1 136 (dk_at dksX6_first_3 0 rfl rfl)
theorem dX6_first_74 : decode cX6_first 74 = .ok (.iload_n 2, 1) := dk_28 (dk_at dksX6_first_3 3 rfl rfl)
theorem dX6_first_75 : decode cX6_first 75 = .ok (.iadd, 1) := dk_96 (dk_at dksX6_first_3 4 rfl rfl)
theorem dX6_first_76 : decode cX6_first 76 = .ok (.iaload, 1) := dk_46 (dk_at dksX6_first_3 5 rfl rfl)
theorem dX6_first_77 : decode cX6_first 77 = .ok (.if_icmp .le 5, 3) := dk_164 0 5 (dk_at dksX6_first_3 6 rfl rfl)
theorem dX6_first_80 : decode cX6_first 80 = .ok (.iload_n 3, 1) := dk_29 (dk_at dksX6_first_3 9 rfl rfl)
theorem dX6_first_81 : decode cX6_first 81 = .ok (.istore_n 2, 1) := dk_61 (dk_at dksX6_first_3 10 rfl rfl)
theorem dX6_first_82 : decode cX6_first 82 = .ok (.iinc 3 1, 3) := dk_132 3 1 (dk_at dksX6_first_3 11 rfl rfl)
theorem dX6_first_85 : decode cX6_first 85 = .ok (.goto (-55), 3) := dk_167 255 201 (dk_at dksX6_first_3 14 rfl rfl)
theorem dX6_first_88 : decode cX6_first 88 = .ok (.iload_n 2, 1) := dk_28 (dk_at dksX6_first_3 17 rfl rfl)
theorem dX6_first_89 : decode cX6_first 89 = .ok (.iconst (-1), 1) := dk_2 (dk_at dksX6_first_3 18 rfl rfl)
theorem dX6_first_90 : decode cX6_first 90 = .ok (.if_icmp .eq 7, 3) := dk_159 0 7 (dk_at dksX6_first_3 19 rfl rfl)
theorem dX6_first_93 : decode cX6_first 93 = .ok (.iload_n 1, 1) := dk_27 (dk_at dksX6_first_3 22 rfl rfl)
theorem dX6_first_94 : decode cX6_first 94 = .ok (.ifCond .ne 5, 3) := dk_154 0 5 (dk_at dksX6_first_4 0 rfl rfl)
theorem dX6_first_97 : decode cX6_first 97 = .ok (.iload_n 2, 1) := dk_28 (dk_at dksX6_first_4 3 rfl rfl)
theorem dX6_first_98 : decode cX6_first 98 = .ok (.ireturn, 1) := dk_172 (dk_at dksX6_first_4 4 rfl rfl)
theorem dX6_first_99 : decode cX6_first 99 = .ok (.iload_n 1, 1) := dk_27 (dk_at dksX6_first_4 5 rfl rfl)
theorem dX6_first_100 : decode cX6_first 100 = .ok (.iconst 1, 1) := dk_4 (dk_at dksX6_first_4 6 rfl rfl)
theorem dX6_first_101 : decode cX6_first 101 = .ok (.if_icmp .ne 21, 3) := dk_160 0 21 (dk_at dksX6_first_4 7 rfl rfl)
theorem dX6_first_104 : decode cX6_first 104 = .ok (.aload_n 0, 1) := dk_42 (dk_at dksX6_first_4 10 rfl rfl)
theorem dX6_first_105 : decode cX6_first 105 = .ok (.getfield 17, 3) := dk_180 0 17 (dk_at dksX6_first_4 11 rfl rfl)
theorem dX6_first_108 : decode cX6_first 108 = .ok (.iconst 1, 1) := dk_4 (dk_at dksX6_first_4 14 rfl rfl)
theorem dX6_first_109 : decode cX6_first 109 = .ok (.iaload, 1) := dk_46 (dk_at dksX6_first_4 15 rfl rfl)
theorem dX6_first_110 : decode cX6_first 110 = .ok (.aload_n 0, 1) := dk_42 (dk_at dksX6_first_4 16 rfl rfl)
theorem dX6_first_111 : decode cX6_first 111 = .ok (.getfield 38, 3) := dk_180 0 38 (dk_at dksX6_first_4 17 rfl rfl)
theorem dX6_first_114 : decode cX6_first 114 = .ok (.sipush 392, 3) := dk_17 1 136 (dk_at dksX6_first_4 20 rfl rfl)
theorem dX6_first_117 : decode cX6_first 117 = .ok (.iload_n 2, 1) := dk_28 (dk_at dksX6_first_4 23 rfl rfl)
theorem dX6_first_118 : decode cX6_first 118 = .ok (.iadd, 1) := dk_96 (dk_at dksX6_first_5 0 rfl rfl)
theorem dX6_first_119 : decode cX6_first 119 = .ok (.iaload, 1) := dk_46 (dk_at dksX6_first_5 1 rfl rfl)
theorem dX6_first_120 : decode cX6_first 120 = .ok (.isub, 1) := dk_100 (dk_at dksX6_first_5 2 rfl rfl)
theorem dX6_first_121 : decode cX6_first 121 = .ok (.ireturn, 1) := dk_172 (dk_at dksX6_first_5 3 rfl rfl)
theorem dX6_first_122 : decode cX6_first 122 = .ok (.aload_n 0, 1) := dk_42 (dk_at dksX6_first_5 4 rfl rfl)
theorem dX6_first_123 : decode cX6_first 123 = .ok (.getfield 38, 3) := dk_180 0 38 (dk_at dksX6_first_5 5 rfl rfl)
theorem dX6_first_126 : decode cX6_first 126 = .ok (.iconst 0, 1) := dk_3 (dk_at dksX6_first_5 8 rfl rfl)
theorem dX6_first_127 : decode cX6_first 127 = .ok (.aload_n 0, 1) := dk_42 (dk_at dksX6_first_5 9 rfl rfl)
theorem dX6_first_128 : decode cX6_first 128 = .ok (.getfield 41, 3) := dk_180 0 41 (dk_at dksX6_first_5 10 rfl rfl)
theorem dX6_first_131 : decode cX6_first 131 = .ok (.iconst 0, 1) := dk_3 (dk_at dksX6_first_5 13 rfl rfl)
theorem dX6_first_132 : decode cX6_first 132 = .ok (.invokestatic 349, 3) := dk_184 1 93 (dk_at dksX6_first_5 14 rfl rfl)
theorem dX6_first_135 : decode cX6_first 135 = .ok (.aload_n 0, 1) := dk_42 (dk_at dksX6_first_5 17 rfl rfl)
theorem dX6_first_136 : decode cX6_first 136 = .ok (.getfield 41, 3) := dk_180 0 41 (dk_at dksX6_first_5 18 rfl rfl)
theorem dX6_first_139 : decode cX6_first 139 = .ok (.sipush 384, 3) := dk_17 1 128 (dk_at dksX6_first_5 21 rfl rfl)
theorem dX6_first_142 : decode cX6_first 142 = .ok (.iload_n 2, 1) := dk_28 (dk_at dksX6_first_6 0 rfl rfl)
theorem dX6_first_143 : decode cX6_first 143 = .ok (.iadd, 1) := dk_96 (dk_at dksX6_first_6 1 rfl rfl)
theorem dX6_first_144 : decode cX6_first 144 = .ok (.iaload, 1) := dk_46 (dk_at dksX6_first_6 2 rfl rfl)
theorem dX6_first_145 : decode cX6_first 145 = .ok (.iconst 2, 1) := dk_5 (dk_at dksX6_first_6 3 rfl rfl)
theorem dX6_first_146 : decode cX6_first 146 = .ok (.if_icmp .ne 15, 3) := dk_160 0 15 (dk_at dksX6_first_6 4 rfl rfl)
theorem dX6_first_149 : decode cX6_first 149 = .ok (.aload_n 0, 1) := dk_42 (dk_at dksX6_first_6 7 rfl rfl)
theorem dX6_first_150 : decode cX6_first 150 = .ok (.aload_n 0, 1) := dk_42 (dk_at dksX6_first_6 8 rfl rfl)
theorem dX6_first_151 : decode cX6_first 151 = .ok (.getfield 41, 3) := dk_180 0 41 (dk_at dksX6_first_6 9 rfl rfl)
theorem dX6_first_154 : decode cX6_first 154 = .ok (.iload_n 2, 1) := dk_28 (dk_at dksX6_first_6 12 rfl rfl)
theorem dX6_first_155 : decode cX6_first 155 = .ok (.invokevirtual 320, 3) := dk_182 1 64 (dk_at dksX6_first_6 13 rfl rfl)
theorem dX6_first_158 : decode cX6_first 158 = .ok (.goto (-23), 3) := dk_167 255 233 (dk_at dksX6_first_6 16 rfl rfl)
theorem dX6_first_161 : decode cX6_first 161 = .ok (.aload_n 0, 1) := dk_42 (dk_at dksX6_first_6 19 rfl rfl)
theorem dX6_first_162 : decode cX6_first 162 = .ok (.getfield 41, 3) := dk_180 0 41 (dk_at dksX6_first_6 20 rfl rfl)
theorem dX6_first_165 : decode cX6_first 165 = .ok (.sipush 427, 3) := dk_17 1 171 (dk_at dksX6_first_7 0 rfl rfl)
theorem dX6_first_168 : decode cX6_first 168 = .ok (.iaload, 1) := dk_46 (dk_at dksX6_first_7 3 rfl rfl)
theorem dX6_first_169 : decode cX6_first 169 = .ok (.aload_n 0, 1) := dk_42 (dk_at dksX6_first_7 4 rfl rfl)
theorem dX6_first_170 : decode cX6_first 170 = .ok (.getfield 38, 3) := dk_180 0 38 (dk_at dksX6_first_7 5 rfl rfl)
theorem dX6_first_173 : decode cX6_first 173 = .ok (.sipush 427, 3) := dk_17 1 171 (dk_at dksX6_first_7 8 rfl rfl)
theorem dX6_first_176 : decode cX6_first 176 = .ok (.iaload, 1) := dk_46 (dk_at dksX6_first_7 11 rfl rfl)
theorem dX6_first_177 : decode cX6_first 177 = .ok (.isub, 1) := dk_100 (dk_at dksX6_first_7 12 rfl rfl)
theorem dX6_first_178 : decode cX6_first 178 = .ok (.ireturn, 1) := dk_172 (dk_at dksX6_first_7 13 rfl rfl)
abbrev cX6_votes : ByteArray := prog_12_method_113_code
def yX6_votes : MethodName := ⟨RX6, "votes", "(II)I"⟩
def dkwX6_votes_5 : List UInt8 := [96, 54, 4, 132, 6, 1, 167, 255, 183, 132, 5, 1, 167, 255, 162, 21, 4, 172]
abbrev dktX6_votes_5 : List UInt8 := dkwX6_votes_5 ++ []
def dkwX6_votes_4 : List UInt8 := [182, 0, 227, 21, 4, 42, 180, 0, 50, 42, 27, 182, 0, 230, 46, 28, 160, 0, 7, 4, 167, 0, 4, 3]
abbrev dktX6_votes_4 : List UInt8 := dkwX6_votes_4 ++ dktX6_votes_5
def dkwX6_votes_3 : List UInt8 := [167, 0, 49, 42, 42, 180, 0, 38, 29, 42, 27, 182, 0, 220, 21, 5, 21, 6, 182, 0, 223, 42]
abbrev dktX6_votes_3 : List UInt8 := dkwX6_votes_3 ++ dktX6_votes_4
def dkwX6_votes_2 : List UInt8 := [54, 6, 21, 6, 42, 180, 0, 171, 162, 0, 70, 42, 29, 21, 5, 21, 6, 182, 1, 141, 154, 0, 6]
abbrev dktX6_votes_2 : List UInt8 := dkwX6_votes_2 ++ dktX6_votes_3
def dkwX6_votes_1 : List UInt8 := [182, 0, 217, 62, 3, 54, 4, 3, 54, 5, 21, 5, 42, 180, 0, 171, 162, 0, 91, 21, 5, 4, 96]
abbrev dktX6_votes_1 : List UInt8 := dkwX6_votes_1 ++ dktX6_votes_2
def dkwX6_votes_0 : List UInt8 := [42, 3, 181, 0, 57, 42, 27, 182, 1, 25, 153, 0, 10, 28, 184, 0, 156, 154, 0, 5, 2, 172, 42, 27]
abbrev dktX6_votes_0 : List UInt8 := dkwX6_votes_0 ++ dktX6_votes_1
theorem dksX6_votes_0 : cX6_votes.data.toList.drop 0 = dktX6_votes_0 := by decide +kernel
theorem dksX6_votes_1 : cX6_votes.data.toList.drop 24 = dktX6_votes_1 := dk_seg dksX6_votes_0 24 rfl rfl
theorem dksX6_votes_2 : cX6_votes.data.toList.drop 47 = dktX6_votes_2 := dk_seg dksX6_votes_1 23 rfl rfl
theorem dksX6_votes_3 : cX6_votes.data.toList.drop 70 = dktX6_votes_3 := dk_seg dksX6_votes_2 23 rfl rfl
theorem dksX6_votes_4 : cX6_votes.data.toList.drop 92 = dktX6_votes_4 := dk_seg dksX6_votes_3 22 rfl rfl
theorem dksX6_votes_5 : cX6_votes.data.toList.drop 116 = dktX6_votes_5 := dk_seg dksX6_votes_4 24 rfl rfl
theorem dX6_votes_0 : decode cX6_votes 0 = .ok (.aload_n 0, 1) := dk_42 (dk_at dksX6_votes_0 0 rfl rfl)
theorem dX6_votes_1 : decode cX6_votes 1 = .ok (.iconst 0, 1) := dk_3 (dk_at dksX6_votes_0 1 rfl rfl)
theorem dX6_votes_2 : decode cX6_votes 2 = .ok (.putfield 57, 3) := dk_181 0 57 (dk_at dksX6_votes_0 2 rfl rfl)
theorem dX6_votes_5 : decode cX6_votes 5 = .ok (.aload_n 0, 1) := dk_42 (dk_at dksX6_votes_0 5 rfl rfl)
theorem dX6_votes_6 : decode cX6_votes 6 = .ok (.iload_n 1, 1) := dk_27 (dk_at dksX6_votes_0 6 rfl rfl)
theorem dX6_votes_7 : decode cX6_votes 7 = .ok (.invokevirtual 281, 3) := dk_182 1 25 (dk_at dksX6_votes_0 7 rfl rfl)
theorem dX6_votes_10 : decode cX6_votes 10 = .ok (.ifCond .eq 10, 3) := dk_153 0 10 (dk_at dksX6_votes_0 10 rfl rfl)
theorem dX6_votes_13 : decode cX6_votes 13 = .ok (.iload_n 2, 1) := dk_28 (dk_at dksX6_votes_0 13 rfl rfl)
theorem dX6_votes_14 : decode cX6_votes 14 = .ok (.invokestatic 156, 3) := dk_184 0 156 (dk_at dksX6_votes_0 14 rfl rfl)
theorem dX6_votes_17 : decode cX6_votes 17 = .ok (.ifCond .ne 5, 3) := dk_154 0 5 (dk_at dksX6_votes_0 17 rfl rfl)
theorem dX6_votes_20 : decode cX6_votes 20 = .ok (.iconst (-1), 1) := dk_2 (dk_at dksX6_votes_0 20 rfl rfl)
theorem dX6_votes_21 : decode cX6_votes 21 = .ok (.ireturn, 1) := dk_172 (dk_at dksX6_votes_0 21 rfl rfl)
theorem dX6_votes_22 : decode cX6_votes 22 = .ok (.aload_n 0, 1) := dk_42 (dk_at dksX6_votes_0 22 rfl rfl)
theorem dX6_votes_23 : decode cX6_votes 23 = .ok (.iload_n 1, 1) := dk_27 (dk_at dksX6_votes_0 23 rfl rfl)
theorem dX6_votes_24 : decode cX6_votes 24 = .ok (.invokevirtual 217, 3) := dk_182 0 217 (dk_at dksX6_votes_1 0 rfl rfl)
theorem dX6_votes_27 : decode cX6_votes 27 = .ok (.istore_n 3, 1) := dk_62 (dk_at dksX6_votes_1 3 rfl rfl)
theorem dX6_votes_28 : decode cX6_votes 28 = .ok (.iconst 0, 1) := dk_3 (dk_at dksX6_votes_1 4 rfl rfl)
theorem dX6_votes_29 : decode cX6_votes 29 = .ok (.istore 4, 2) := dk_54 4 (dk_at dksX6_votes_1 5 rfl rfl)
theorem dX6_votes_31 : decode cX6_votes 31 = .ok (.iconst 0, 1) := dk_3 (dk_at dksX6_votes_1 7 rfl rfl)
theorem dX6_votes_32 : decode cX6_votes 32 = .ok (.istore 5, 2) := dk_54 5 (dk_at dksX6_votes_1 8 rfl rfl)
theorem dX6_votes_34 : decode cX6_votes 34 = .ok (.iload 5, 2) := dk_21 5 (dk_at dksX6_votes_1 10 rfl rfl)
theorem dX6_votes_36 : decode cX6_votes 36 = .ok (.aload_n 0, 1) := dk_42 (dk_at dksX6_votes_1 12 rfl rfl)
theorem dX6_votes_37 : decode cX6_votes 37 = .ok (.getfield 171, 3) := dk_180 0 171 (dk_at dksX6_votes_1 13 rfl rfl)
theorem dX6_votes_40 : decode cX6_votes 40 = .ok (.if_icmp .ge 91, 3) := dk_162 0 91 (dk_at dksX6_votes_1 16 rfl rfl)
theorem dX6_votes_43 : decode cX6_votes 43 = .ok (.iload 5, 2) := dk_21 5 (dk_at dksX6_votes_1 19 rfl rfl)
theorem dX6_votes_45 : decode cX6_votes 45 = .ok (.iconst 1, 1) := dk_4 (dk_at dksX6_votes_1 21 rfl rfl)
theorem dX6_votes_46 : decode cX6_votes 46 = .ok (.iadd, 1) := dk_96 (dk_at dksX6_votes_1 22 rfl rfl)
theorem dX6_votes_47 : decode cX6_votes 47 = .ok (.istore 6, 2) := dk_54 6 (dk_at dksX6_votes_2 0 rfl rfl)
theorem dX6_votes_49 : decode cX6_votes 49 = .ok (.iload 6, 2) := dk_21 6 (dk_at dksX6_votes_2 2 rfl rfl)
theorem dX6_votes_51 : decode cX6_votes 51 = .ok (.aload_n 0, 1) := dk_42 (dk_at dksX6_votes_2 4 rfl rfl)
theorem dX6_votes_52 : decode cX6_votes 52 = .ok (.getfield 171, 3) := dk_180 0 171 (dk_at dksX6_votes_2 5 rfl rfl)
theorem dX6_votes_55 : decode cX6_votes 55 = .ok (.if_icmp .ge 70, 3) := dk_162 0 70 (dk_at dksX6_votes_2 8 rfl rfl)
theorem dX6_votes_58 : decode cX6_votes 58 = .ok (.aload_n 0, 1) := dk_42 (dk_at dksX6_votes_2 11 rfl rfl)
theorem dX6_votes_59 : decode cX6_votes 59 = .ok (.iload_n 3, 1) := dk_29 (dk_at dksX6_votes_2 12 rfl rfl)
theorem dX6_votes_60 : decode cX6_votes 60 = .ok (.iload 5, 2) := dk_21 5 (dk_at dksX6_votes_2 13 rfl rfl)
theorem dX6_votes_62 : decode cX6_votes 62 = .ok (.iload 6, 2) := dk_21 6 (dk_at dksX6_votes_2 15 rfl rfl)
theorem dX6_votes_64 : decode cX6_votes 64 = .ok (.invokevirtual 397, 3) := dk_182 1 141 (dk_at dksX6_votes_2 17 rfl rfl)
theorem dX6_votes_67 : decode cX6_votes 67 = .ok (.ifCond .ne 6, 3) := dk_154 0 6 (dk_at dksX6_votes_2 20 rfl rfl)
theorem dX6_votes_70 : decode cX6_votes 70 = .ok (.goto 49, 3) := dk_167 0 49 (dk_at dksX6_votes_3 0 rfl rfl)
theorem dX6_votes_73 : decode cX6_votes 73 = .ok (.aload_n 0, 1) := dk_42 (dk_at dksX6_votes_3 3 rfl rfl)
theorem dX6_votes_74 : decode cX6_votes 74 = .ok (.aload_n 0, 1) := dk_42 (dk_at dksX6_votes_3 4 rfl rfl)
theorem dX6_votes_75 : decode cX6_votes 75 = .ok (.getfield 38, 3) := dk_180 0 38 (dk_at dksX6_votes_3 5 rfl rfl)
theorem dX6_votes_78 : decode cX6_votes 78 = .ok (.iload_n 3, 1) := dk_29 (dk_at dksX6_votes_3 8 rfl rfl)
theorem dX6_votes_79 : decode cX6_votes 79 = .ok (.aload_n 0, 1) := dk_42 (dk_at dksX6_votes_3 9 rfl rfl)
theorem dX6_votes_80 : decode cX6_votes 80 = .ok (.iload_n 1, 1) := dk_27 (dk_at dksX6_votes_3 10 rfl rfl)
theorem dX6_votes_81 : decode cX6_votes 81 = .ok (.invokevirtual 220, 3) := dk_182 0 220 (dk_at dksX6_votes_3 11 rfl rfl)
theorem dX6_votes_84 : decode cX6_votes 84 = .ok (.iload 5, 2) := dk_21 5 (dk_at dksX6_votes_3 14 rfl rfl)
theorem dX6_votes_86 : decode cX6_votes 86 = .ok (.iload 6, 2) := dk_21 6 (dk_at dksX6_votes_3 16 rfl rfl)
theorem dX6_votes_88 : decode cX6_votes 88 = .ok (.invokevirtual 223, 3) := dk_182 0 223 (dk_at dksX6_votes_3 18 rfl rfl)
theorem dX6_votes_91 : decode cX6_votes 91 = .ok (.aload_n 0, 1) := dk_42 (dk_at dksX6_votes_3 21 rfl rfl)
theorem dX6_votes_92 : decode cX6_votes 92 = .ok (.invokevirtual 227, 3) := dk_182 0 227 (dk_at dksX6_votes_4 0 rfl rfl)
theorem dX6_votes_95 : decode cX6_votes 95 = .ok (.iload 4, 2) := dk_21 4 (dk_at dksX6_votes_4 3 rfl rfl)
theorem dX6_votes_97 : decode cX6_votes 97 = .ok (.aload_n 0, 1) := dk_42 (dk_at dksX6_votes_4 5 rfl rfl)
theorem dX6_votes_98 : decode cX6_votes 98 = .ok (.getfield 50, 3) := dk_180 0 50 (dk_at dksX6_votes_4 6 rfl rfl)
theorem dX6_votes_101 : decode cX6_votes 101 = .ok (.aload_n 0, 1) := dk_42 (dk_at dksX6_votes_4 9 rfl rfl)
theorem dX6_votes_102 : decode cX6_votes 102 = .ok (.iload_n 1, 1) := dk_27 (dk_at dksX6_votes_4 10 rfl rfl)
theorem dX6_votes_103 : decode cX6_votes 103 = .ok (.invokevirtual 230, 3) := dk_182 0 230 (dk_at dksX6_votes_4 11 rfl rfl)
theorem dX6_votes_106 : decode cX6_votes 106 = .ok (.iaload, 1) := dk_46 (dk_at dksX6_votes_4 14 rfl rfl)
theorem dX6_votes_107 : decode cX6_votes 107 = .ok (.iload_n 2, 1) := dk_28 (dk_at dksX6_votes_4 15 rfl rfl)
theorem dX6_votes_108 : decode cX6_votes 108 = .ok (.if_icmp .ne 7, 3) := dk_160 0 7 (dk_at dksX6_votes_4 16 rfl rfl)
theorem dX6_votes_111 : decode cX6_votes 111 = .ok (.iconst 1, 1) := dk_4 (dk_at dksX6_votes_4 19 rfl rfl)
theorem dX6_votes_112 : decode cX6_votes 112 = .ok (.goto 4, 3) := dk_167 0 4 (dk_at dksX6_votes_4 20 rfl rfl)
theorem dX6_votes_115 : decode cX6_votes 115 = .ok (.iconst 0, 1) := dk_3 (dk_at dksX6_votes_4 23 rfl rfl)
theorem dX6_votes_116 : decode cX6_votes 116 = .ok (.iadd, 1) := dk_96 (dk_at dksX6_votes_5 0 rfl rfl)
theorem dX6_votes_117 : decode cX6_votes 117 = .ok (.istore 4, 2) := dk_54 4 (dk_at dksX6_votes_5 1 rfl rfl)
theorem dX6_votes_119 : decode cX6_votes 119 = .ok (.iinc 6 1, 3) := dk_132 6 1 (dk_at dksX6_votes_5 3 rfl rfl)
theorem dX6_votes_122 : decode cX6_votes 122 = .ok (.goto (-73), 3) := dk_167 255 183 (dk_at dksX6_votes_5 6 rfl rfl)
theorem dX6_votes_125 : decode cX6_votes 125 = .ok (.iinc 5 1, 3) := dk_132 5 1 (dk_at dksX6_votes_5 9 rfl rfl)
theorem dX6_votes_128 : decode cX6_votes 128 = .ok (.goto (-94), 3) := dk_167 255 162 (dk_at dksX6_votes_5 12 rfl rfl)
theorem dX6_votes_131 : decode cX6_votes 131 = .ok (.iload 4, 2) := dk_21 4 (dk_at dksX6_votes_5 15 rfl rfl)
theorem dX6_votes_133 : decode cX6_votes 133 = .ok (.ireturn, 1) := dk_172 (dk_at dksX6_votes_5 17 rfl rfl)
abbrev cX6_areThere : ByteArray := prog_12_method_112_code
def yX6_areThere : MethodName := ⟨RX6, "areThere", "(III)Z"⟩
def dkwX6_areThere_1 : List UInt8 := [42, 180, 0, 38, 21, 4, 27, 184, 0, 202, 154, 0, 5, 3, 172, 132, 4, 1, 167, 255, 217, 4, 172]
abbrev dktX6_areThere_1 : List UInt8 := dkwX6_areThere_1 ++ []
def dkwX6_areThere_0 : List UInt8 := [3, 54, 4, 21, 4, 42, 180, 0, 171, 162, 0, 36, 21, 4, 28, 159, 0, 24, 21, 4, 29, 159, 0, 18]
abbrev dktX6_areThere_0 : List UInt8 := dkwX6_areThere_0 ++ dktX6_areThere_1
theorem dksX6_areThere_0 : cX6_areThere.data.toList.drop 0 = dktX6_areThere_0 := by decide +kernel
theorem dksX6_areThere_1 : cX6_areThere.data.toList.drop 24 = dktX6_areThere_1 := dk_seg dksX6_areThere_0 24 rfl rfl
theorem dX6_areThere_0 : decode cX6_areThere 0 = .ok (.iconst 0, 1) := dk_3 (dk_at dksX6_areThere_0 0 rfl rfl)
theorem dX6_areThere_1 : decode cX6_areThere 1 = .ok (.istore 4, 2) := dk_54 4 (dk_at dksX6_areThere_0 1 rfl rfl)
theorem dX6_areThere_3 : decode cX6_areThere 3 = .ok (.iload 4, 2) := dk_21 4 (dk_at dksX6_areThere_0 3 rfl rfl)
theorem dX6_areThere_5 : decode cX6_areThere 5 = .ok (.aload_n 0, 1) := dk_42 (dk_at dksX6_areThere_0 5 rfl rfl)
theorem dX6_areThere_6 : decode cX6_areThere 6 = .ok (.getfield 171, 3) := dk_180 0 171 (dk_at dksX6_areThere_0 6 rfl rfl)
theorem dX6_areThere_9 : decode cX6_areThere 9 = .ok (.if_icmp .ge 36, 3) := dk_162 0 36 (dk_at dksX6_areThere_0 9 rfl rfl)
theorem dX6_areThere_12 : decode cX6_areThere 12 = .ok (.iload 4, 2) := dk_21 4 (dk_at dksX6_areThere_0 12 rfl rfl)
theorem dX6_areThere_14 : decode cX6_areThere 14 = .ok (.iload_n 2, 1) := dk_28 (dk_at dksX6_areThere_0 14 rfl rfl)
theorem dX6_areThere_15 : decode cX6_areThere 15 = .ok (.if_icmp .eq 24, 3) := dk_159 0 24 (dk_at dksX6_areThere_0 15 rfl rfl)
theorem dX6_areThere_18 : decode cX6_areThere 18 = .ok (.iload 4, 2) := dk_21 4 (dk_at dksX6_areThere_0 18 rfl rfl)
theorem dX6_areThere_20 : decode cX6_areThere 20 = .ok (.iload_n 3, 1) := dk_29 (dk_at dksX6_areThere_0 20 rfl rfl)
theorem dX6_areThere_21 : decode cX6_areThere 21 = .ok (.if_icmp .eq 18, 3) := dk_159 0 18 (dk_at dksX6_areThere_0 21 rfl rfl)
theorem dX6_areThere_24 : decode cX6_areThere 24 = .ok (.aload_n 0, 1) := dk_42 (dk_at dksX6_areThere_1 0 rfl rfl)
theorem dX6_areThere_25 : decode cX6_areThere 25 = .ok (.getfield 38, 3) := dk_180 0 38 (dk_at dksX6_areThere_1 1 rfl rfl)
theorem dX6_areThere_28 : decode cX6_areThere 28 = .ok (.iload 4, 2) := dk_21 4 (dk_at dksX6_areThere_1 4 rfl rfl)
theorem dX6_areThere_30 : decode cX6_areThere 30 = .ok (.iload_n 1, 1) := dk_27 (dk_at dksX6_areThere_1 6 rfl rfl)
theorem dX6_areThere_31 : decode cX6_areThere 31 = .ok (.invokestatic 202, 3) := dk_184 0 202 (dk_at dksX6_areThere_1 7 rfl rfl)
theorem dX6_areThere_34 : decode cX6_areThere 34 = .ok (.ifCond .ne 5, 3) := dk_154 0 5 (dk_at dksX6_areThere_1 10 rfl rfl)
theorem dX6_areThere_37 : decode cX6_areThere 37 = .ok (.iconst 0, 1) := dk_3 (dk_at dksX6_areThere_1 13 rfl rfl)
theorem dX6_areThere_38 : decode cX6_areThere 38 = .ok (.ireturn, 1) := dk_172 (dk_at dksX6_areThere_1 14 rfl rfl)
theorem dX6_areThere_39 : decode cX6_areThere 39 = .ok (.iinc 4 1, 3) := dk_132 4 1 (dk_at dksX6_areThere_1 15 rfl rfl)
theorem dX6_areThere_42 : decode cX6_areThere 42 = .ok (.goto (-39), 3) := dk_167 255 217 (dk_at dksX6_areThere_1 18 rfl rfl)
theorem dX6_areThere_45 : decode cX6_areThere 45 = .ok (.iconst 1, 1) := dk_4 (dk_at dksX6_areThere_1 21 rfl rfl)
theorem dX6_areThere_46 : decode cX6_areThere 46 = .ok (.ireturn, 1) := dk_172 (dk_at dksX6_areThere_1 22 rfl rfl)
abbrev cX6_fit : ByteArray := prog_12_method_115_code
def yX6_fit : MethodName := ⟨RX6, "fit", "()I"⟩
def dkwX6_fit_2 : List UInt8 := [132, 2, 1, 167, 255, 225, 27, 172]
abbrev dktX6_fit_2 : List UInt8 := dkwX6_fit_2 ++ []
def dkwX6_fit_1 : List UInt8 := [46, 162, 0, 27, 27, 42, 28, 182, 1, 144, 153, 0, 9, 4, 28, 120, 167, 0, 4, 3, 128, 60]
abbrev dktX6_fit_1 : List UInt8 := dkwX6_fit_1 ++ dktX6_fit_2
def dkwX6_fit_0 : List UInt8 := [42, 3, 181, 0, 57, 42, 180, 0, 153, 154, 0, 5, 2, 172, 3, 60, 3, 61, 28, 42, 180, 0, 17, 4]
abbrev dktX6_fit_0 : List UInt8 := dkwX6_fit_0 ++ dktX6_fit_1
theorem dksX6_fit_0 : cX6_fit.data.toList.drop 0 = dktX6_fit_0 := by decide +kernel
theorem dksX6_fit_1 : cX6_fit.data.toList.drop 24 = dktX6_fit_1 := dk_seg dksX6_fit_0 24 rfl rfl
theorem dksX6_fit_2 : cX6_fit.data.toList.drop 46 = dktX6_fit_2 := dk_seg dksX6_fit_1 22 rfl rfl
theorem dX6_fit_0 : decode cX6_fit 0 = .ok (.aload_n 0, 1) := dk_42 (dk_at dksX6_fit_0 0 rfl rfl)
theorem dX6_fit_1 : decode cX6_fit 1 = .ok (.iconst 0, 1) := dk_3 (dk_at dksX6_fit_0 1 rfl rfl)
theorem dX6_fit_2 : decode cX6_fit 2 = .ok (.putfield 57, 3) := dk_181 0 57 (dk_at dksX6_fit_0 2 rfl rfl)
theorem dX6_fit_5 : decode cX6_fit 5 = .ok (.aload_n 0, 1) := dk_42 (dk_at dksX6_fit_0 5 rfl rfl)
theorem dX6_fit_6 : decode cX6_fit 6 = .ok (.getfield 153, 3) := dk_180 0 153 (dk_at dksX6_fit_0 6 rfl rfl)
theorem dX6_fit_9 : decode cX6_fit 9 = .ok (.ifCond .ne 5, 3) := dk_154 0 5 (dk_at dksX6_fit_0 9 rfl rfl)
theorem dX6_fit_12 : decode cX6_fit 12 = .ok (.iconst (-1), 1) := dk_2 (dk_at dksX6_fit_0 12 rfl rfl)
theorem dX6_fit_13 : decode cX6_fit 13 = .ok (.ireturn, 1) := dk_172 (dk_at dksX6_fit_0 13 rfl rfl)
theorem dX6_fit_14 : decode cX6_fit 14 = .ok (.iconst 0, 1) := dk_3 (dk_at dksX6_fit_0 14 rfl rfl)
theorem dX6_fit_15 : decode cX6_fit 15 = .ok (.istore_n 1, 1) := dk_60 (dk_at dksX6_fit_0 15 rfl rfl)
theorem dX6_fit_16 : decode cX6_fit 16 = .ok (.iconst 0, 1) := dk_3 (dk_at dksX6_fit_0 16 rfl rfl)
theorem dX6_fit_17 : decode cX6_fit 17 = .ok (.istore_n 2, 1) := dk_61 (dk_at dksX6_fit_0 17 rfl rfl)
theorem dX6_fit_18 : decode cX6_fit 18 = .ok (.iload_n 2, 1) := dk_28 (dk_at dksX6_fit_0 18 rfl rfl)
theorem dX6_fit_19 : decode cX6_fit 19 = .ok (.aload_n 0, 1) := dk_42 (dk_at dksX6_fit_0 19 rfl rfl)
theorem dX6_fit_20 : decode cX6_fit 20 = .ok (.getfield 17, 3) := dk_180 0 17 (dk_at dksX6_fit_0 20 rfl rfl)
theorem dX6_fit_23 : decode cX6_fit 23 = .ok (.iconst 1, 1) := dk_4 (dk_at dksX6_fit_0 23 rfl rfl)
theorem dX6_fit_24 : decode cX6_fit 24 = .ok (.iaload, 1) := dk_46 (dk_at dksX6_fit_1 0 rfl rfl)
theorem dX6_fit_25 : decode cX6_fit 25 = .ok (.if_icmp .ge 27, 3) := dk_162 0 27 (dk_at dksX6_fit_1 1 rfl rfl)
theorem dX6_fit_28 : decode cX6_fit 28 = .ok (.iload_n 1, 1) := dk_27 (dk_at dksX6_fit_1 4 rfl rfl)
theorem dX6_fit_29 : decode cX6_fit 29 = .ok (.aload_n 0, 1) := dk_42 (dk_at dksX6_fit_1 5 rfl rfl)
theorem dX6_fit_30 : decode cX6_fit 30 = .ok (.iload_n 2, 1) := dk_28 (dk_at dksX6_fit_1 6 rfl rfl)
theorem dX6_fit_31 : decode cX6_fit 31 = .ok (.invokevirtual 400, 3) := dk_182 1 144 (dk_at dksX6_fit_1 7 rfl rfl)
theorem dX6_fit_34 : decode cX6_fit 34 = .ok (.ifCond .eq 9, 3) := dk_153 0 9 (dk_at dksX6_fit_1 10 rfl rfl)
theorem dX6_fit_37 : decode cX6_fit 37 = .ok (.iconst 1, 1) := dk_4 (dk_at dksX6_fit_1 13 rfl rfl)
theorem dX6_fit_38 : decode cX6_fit 38 = .ok (.iload_n 2, 1) := dk_28 (dk_at dksX6_fit_1 14 rfl rfl)
theorem dX6_fit_39 : decode cX6_fit 39 = .ok (.ishl, 1) := dk_120 (dk_at dksX6_fit_1 15 rfl rfl)
theorem dX6_fit_40 : decode cX6_fit 40 = .ok (.goto 4, 3) := dk_167 0 4 (dk_at dksX6_fit_1 16 rfl rfl)
theorem dX6_fit_43 : decode cX6_fit 43 = .ok (.iconst 0, 1) := dk_3 (dk_at dksX6_fit_1 19 rfl rfl)
theorem dX6_fit_44 : decode cX6_fit 44 = .ok (.ior, 1) := dk_128 (dk_at dksX6_fit_1 20 rfl rfl)
theorem dX6_fit_45 : decode cX6_fit 45 = .ok (.istore_n 1, 1) := dk_60 (dk_at dksX6_fit_1 21 rfl rfl)
theorem dX6_fit_46 : decode cX6_fit 46 = .ok (.iinc 2 1, 3) := dk_132 2 1 (dk_at dksX6_fit_2 0 rfl rfl)
theorem dX6_fit_49 : decode cX6_fit 49 = .ok (.goto (-31), 3) := dk_167 255 225 (dk_at dksX6_fit_2 3 rfl rfl)
theorem dX6_fit_52 : decode cX6_fit 52 = .ok (.iload_n 1, 1) := dk_27 (dk_at dksX6_fit_2 6 rfl rfl)
theorem dX6_fit_53 : decode cX6_fit 53 = .ok (.ireturn, 1) := dk_172 (dk_at dksX6_fit_2 7 rfl rfl)
abbrev cX6_isFit : ByteArray := prog_12_method_114_code
def yX6_isFit : MethodName := ⟨RX6, "isFit", "(I)Z"⟩
def dkwX6_isFit_2 : List UInt8 := [172, 132, 2, 1, 167, 255, 221, 4, 172]
abbrev dktX6_isFit_2 : List UInt8 := dkwX6_isFit_2 ++ []
def dkwX6_isFit_1 : List UInt8 := [162, 0, 31, 42, 42, 180, 0, 38, 27, 28, 2, 2, 182, 0, 223, 42, 182, 1, 8, 2, 159, 0, 5, 3]
abbrev dktX6_isFit_1 : List UInt8 := dkwX6_isFit_1 ++ dktX6_isFit_2
def dkwX6_isFit_0 : List UInt8 := [42, 42, 180, 0, 38, 27, 182, 1, 11, 154, 0, 5, 3, 172, 3, 61, 28, 42, 180, 0, 17, 5, 46]
abbrev dktX6_isFit_0 : List UInt8 := dkwX6_isFit_0 ++ dktX6_isFit_1
theorem dksX6_isFit_0 : cX6_isFit.data.toList.drop 0 = dktX6_isFit_0 := by decide +kernel
theorem dksX6_isFit_1 : cX6_isFit.data.toList.drop 23 = dktX6_isFit_1 := dk_seg dksX6_isFit_0 23 rfl rfl
theorem dksX6_isFit_2 : cX6_isFit.data.toList.drop 47 = dktX6_isFit_2 := dk_seg dksX6_isFit_1 24 rfl rfl
theorem dX6_isFit_0 : decode cX6_isFit 0 = .ok (.aload_n 0, 1) := dk_42 (dk_at dksX6_isFit_0 0 rfl rfl)
theorem dX6_isFit_1 : decode cX6_isFit 1 = .ok (.aload_n 0, 1) := dk_42 (dk_at dksX6_isFit_0 1 rfl rfl)
theorem dX6_isFit_2 : decode cX6_isFit 2 = .ok (.getfield 38, 3) := dk_180 0 38 (dk_at dksX6_isFit_0 2 rfl rfl)
theorem dX6_isFit_5 : decode cX6_isFit 5 = .ok (.iload_n 1, 1) := dk_27 (dk_at dksX6_isFit_0 5 rfl rfl)
theorem dX6_isFit_6 : decode cX6_isFit 6 = .ok (.invokevirtual 267, 3) := dk_182 1 11 (dk_at dksX6_isFit_0 6 rfl rfl)
theorem dX6_isFit_9 : decode cX6_isFit 9 = .ok (.ifCond .ne 5, 3) := dk_154 0 5 (dk_at dksX6_isFit_0 9 rfl rfl)
theorem dX6_isFit_12 : decode cX6_isFit 12 = .ok (.iconst 0, 1) := dk_3 (dk_at dksX6_isFit_0 12 rfl rfl)
theorem dX6_isFit_13 : decode cX6_isFit 13 = .ok (.ireturn, 1) := dk_172 (dk_at dksX6_isFit_0 13 rfl rfl)
theorem dX6_isFit_14 : decode cX6_isFit 14 = .ok (.iconst 0, 1) := dk_3 (dk_at dksX6_isFit_0 14 rfl rfl)
theorem dX6_isFit_15 : decode cX6_isFit 15 = .ok (.istore_n 2, 1) := dk_61 (dk_at dksX6_isFit_0 15 rfl rfl)
theorem dX6_isFit_16 : decode cX6_isFit 16 = .ok (.iload_n 2, 1) := dk_28 (dk_at dksX6_isFit_0 16 rfl rfl)
theorem dX6_isFit_17 : decode cX6_isFit 17 = .ok (.aload_n 0, 1) := dk_42 (dk_at dksX6_isFit_0 17 rfl rfl)
theorem dX6_isFit_18 : decode cX6_isFit 18 = .ok (.getfield 17, 3) := dk_180 0 17 (dk_at dksX6_isFit_0 18 rfl rfl)
theorem dX6_isFit_21 : decode cX6_isFit 21 = .ok (.iconst 2, 1) := dk_5 (dk_at dksX6_isFit_0 21 rfl rfl)
theorem dX6_isFit_22 : decode cX6_isFit 22 = .ok (.iaload, 1) := dk_46 (dk_at dksX6_isFit_0 22 rfl rfl)
theorem dX6_isFit_23 : decode cX6_isFit 23 = .ok (.if_icmp .ge 31, 3) := dk_162 0 31 (dk_at dksX6_isFit_1 0 rfl rfl)
theorem dX6_isFit_26 : decode cX6_isFit 26 = .ok (.aload_n 0, 1) := dk_42 (dk_at dksX6_isFit_1 3 rfl rfl)
theorem dX6_isFit_27 : decode cX6_isFit 27 = .ok (.aload_n 0, 1) := dk_42 (dk_at dksX6_isFit_1 4 rfl rfl)
theorem dX6_isFit_28 : decode cX6_isFit 28 = .ok (.getfield 38, 3) := dk_180 0 38 (dk_at dksX6_isFit_1 5 rfl rfl)
theorem dX6_isFit_31 : decode cX6_isFit 31 = .ok (.iload_n 1, 1) := dk_27 (dk_at dksX6_isFit_1 8 rfl rfl)
theorem dX6_isFit_32 : decode cX6_isFit 32 = .ok (.iload_n 2, 1) := dk_28 (dk_at dksX6_isFit_1 9 rfl rfl)
theorem dX6_isFit_33 : decode cX6_isFit 33 = .ok (.iconst (-1), 1) := dk_2 (dk_at dksX6_isFit_1 10 rfl rfl)
theorem dX6_isFit_34 : decode cX6_isFit 34 = .ok (.iconst (-1), 1) := dk_2 (dk_at dksX6_isFit_1 11 rfl rfl)
theorem dX6_isFit_35 : decode cX6_isFit 35 = .ok (.invokevirtual 223, 3) := dk_182 0 223 (dk_at dksX6_isFit_1 12 rfl rfl)
theorem dX6_isFit_38 : decode cX6_isFit 38 = .ok (.aload_n 0, 1) := dk_42 (dk_at dksX6_isFit_1 15 rfl rfl)
theorem dX6_isFit_39 : decode cX6_isFit 39 = .ok (.invokevirtual 264, 3) := dk_182 1 8 (dk_at dksX6_isFit_1 16 rfl rfl)
theorem dX6_isFit_42 : decode cX6_isFit 42 = .ok (.iconst (-1), 1) := dk_2 (dk_at dksX6_isFit_1 19 rfl rfl)
theorem dX6_isFit_43 : decode cX6_isFit 43 = .ok (.if_icmp .eq 5, 3) := dk_159 0 5 (dk_at dksX6_isFit_1 20 rfl rfl)
theorem dX6_isFit_46 : decode cX6_isFit 46 = .ok (.iconst 0, 1) := dk_3 (dk_at dksX6_isFit_1 23 rfl rfl)
theorem dX6_isFit_47 : decode cX6_isFit 47 = .ok (.ireturn, 1) := dk_172 (dk_at dksX6_isFit_2 0 rfl rfl)
theorem dX6_isFit_48 : decode cX6_isFit 48 = .ok (.iinc 2 1, 3) := dk_132 2 1 (dk_at dksX6_isFit_2 1 rfl rfl)
theorem dX6_isFit_51 : decode cX6_isFit 51 = .ok (.goto (-35), 3) := dk_167 255 221 (dk_at dksX6_isFit_2 4 rfl rfl)
theorem dX6_isFit_54 : decode cX6_isFit 54 = .ok (.iconst 1, 1) := dk_4 (dk_at dksX6_isFit_2 7 rfl rfl)
theorem dX6_isFit_55 : decode cX6_isFit 55 = .ok (.ireturn, 1) := dk_172 (dk_at dksX6_isFit_2 8 rfl rfl)
abbrev cX6_checked : ByteArray := prog_12_method_116_code
def yX6_checked : MethodName := ⟨RX6, "checked", "(I)I"⟩
def dkwX6_checked_2 : List UInt8 := [182, 1, 53, 172]
abbrev dktX6_checked_2 : List UInt8 := dkwX6_checked_2 ++ []
def dkwX6_checked_1 : List UInt8 := [3, 184, 1, 93, 42, 42, 180, 0, 41, 42, 27, 182, 0, 217, 182, 1, 87, 61, 42, 42, 180, 0, 41, 27]
abbrev dktX6_checked_1 : List UInt8 := dkwX6_checked_1 ++ dktX6_checked_2
def dkwX6_checked_0 : List UInt8 := [42, 3, 181, 0, 57, 42, 27, 182, 1, 25, 154, 0, 5, 2, 172, 42, 180, 0, 38, 3, 42, 180, 0, 41]
abbrev dktX6_checked_0 : List UInt8 := dkwX6_checked_0 ++ dktX6_checked_1
theorem dksX6_checked_0 : cX6_checked.data.toList.drop 0 = dktX6_checked_0 := by decide +kernel
theorem dksX6_checked_1 : cX6_checked.data.toList.drop 24 = dktX6_checked_1 := dk_seg dksX6_checked_0 24 rfl rfl
theorem dksX6_checked_2 : cX6_checked.data.toList.drop 48 = dktX6_checked_2 := dk_seg dksX6_checked_1 24 rfl rfl
theorem dX6_checked_0 : decode cX6_checked 0 = .ok (.aload_n 0, 1) := dk_42 (dk_at dksX6_checked_0 0 rfl rfl)
theorem dX6_checked_1 : decode cX6_checked 1 = .ok (.iconst 0, 1) := dk_3 (dk_at dksX6_checked_0 1 rfl rfl)
theorem dX6_checked_2 : decode cX6_checked 2 = .ok (.putfield 57, 3) := dk_181 0 57 (dk_at dksX6_checked_0 2 rfl rfl)
theorem dX6_checked_5 : decode cX6_checked 5 = .ok (.aload_n 0, 1) := dk_42 (dk_at dksX6_checked_0 5 rfl rfl)
theorem dX6_checked_6 : decode cX6_checked 6 = .ok (.iload_n 1, 1) := dk_27 (dk_at dksX6_checked_0 6 rfl rfl)
theorem dX6_checked_7 : decode cX6_checked 7 = .ok (.invokevirtual 281, 3) := dk_182 1 25 (dk_at dksX6_checked_0 7 rfl rfl)
theorem dX6_checked_10 : decode cX6_checked 10 = .ok (.ifCond .ne 5, 3) := dk_154 0 5 (dk_at dksX6_checked_0 10 rfl rfl)
theorem dX6_checked_13 : decode cX6_checked 13 = .ok (.iconst (-1), 1) := dk_2 (dk_at dksX6_checked_0 13 rfl rfl)
theorem dX6_checked_14 : decode cX6_checked 14 = .ok (.ireturn, 1) := dk_172 (dk_at dksX6_checked_0 14 rfl rfl)
theorem dX6_checked_15 : decode cX6_checked 15 = .ok (.aload_n 0, 1) := dk_42 (dk_at dksX6_checked_0 15 rfl rfl)
theorem dX6_checked_16 : decode cX6_checked 16 = .ok (.getfield 38, 3) := dk_180 0 38 (dk_at dksX6_checked_0 16 rfl rfl)
theorem dX6_checked_19 : decode cX6_checked 19 = .ok (.iconst 0, 1) := dk_3 (dk_at dksX6_checked_0 19 rfl rfl)
theorem dX6_checked_20 : decode cX6_checked 20 = .ok (.aload_n 0, 1) := dk_42 (dk_at dksX6_checked_0 20 rfl rfl)
theorem dX6_checked_21 : decode cX6_checked 21 = .ok (.getfield 41, 3) := dk_180 0 41 (dk_at dksX6_checked_0 21 rfl rfl)
theorem dX6_checked_24 : decode cX6_checked 24 = .ok (.iconst 0, 1) := dk_3 (dk_at dksX6_checked_1 0 rfl rfl)
theorem dX6_checked_25 : decode cX6_checked 25 = .ok (.invokestatic 349, 3) := dk_184 1 93 (dk_at dksX6_checked_1 1 rfl rfl)
theorem dX6_checked_28 : decode cX6_checked 28 = .ok (.aload_n 0, 1) := dk_42 (dk_at dksX6_checked_1 4 rfl rfl)
theorem dX6_checked_29 : decode cX6_checked 29 = .ok (.aload_n 0, 1) := dk_42 (dk_at dksX6_checked_1 5 rfl rfl)
theorem dX6_checked_30 : decode cX6_checked 30 = .ok (.getfield 41, 3) := dk_180 0 41 (dk_at dksX6_checked_1 6 rfl rfl)
theorem dX6_checked_33 : decode cX6_checked 33 = .ok (.aload_n 0, 1) := dk_42 (dk_at dksX6_checked_1 9 rfl rfl)
theorem dX6_checked_34 : decode cX6_checked 34 = .ok (.iload_n 1, 1) := dk_27 (dk_at dksX6_checked_1 10 rfl rfl)
theorem dX6_checked_35 : decode cX6_checked 35 = .ok (.invokevirtual 217, 3) := dk_182 0 217 (dk_at dksX6_checked_1 11 rfl rfl)
theorem dX6_checked_38 : decode cX6_checked 38 = .ok (.invokevirtual 343, 3) := dk_182 1 87 (dk_at dksX6_checked_1 14 rfl rfl)
theorem dX6_checked_41 : decode cX6_checked 41 = .ok (.istore_n 2, 1) := dk_61 (dk_at dksX6_checked_1 17 rfl rfl)
theorem dX6_checked_42 : decode cX6_checked 42 = .ok (.aload_n 0, 1) := dk_42 (dk_at dksX6_checked_1 18 rfl rfl)
theorem dX6_checked_43 : decode cX6_checked 43 = .ok (.aload_n 0, 1) := dk_42 (dk_at dksX6_checked_1 19 rfl rfl)
theorem dX6_checked_44 : decode cX6_checked 44 = .ok (.getfield 41, 3) := dk_180 0 41 (dk_at dksX6_checked_1 20 rfl rfl)
theorem dX6_checked_47 : decode cX6_checked 47 = .ok (.iload_n 1, 1) := dk_27 (dk_at dksX6_checked_1 23 rfl rfl)
theorem dX6_checked_48 : decode cX6_checked 48 = .ok (.invokevirtual 309, 3) := dk_182 1 53 (dk_at dksX6_checked_2 0 rfl rfl)
theorem dX6_checked_51 : decode cX6_checked 51 = .ok (.ireturn, 1) := dk_172 (dk_at dksX6_checked_2 3 rfl rfl)
abbrev cX6_equal : ByteArray := prog_12_method_117_code
def yX6_equal : MethodName := ⟨RX6, "equal", "()I"⟩
def dkwX6_equal_2 : List UInt8 := [160, 0, 7, 4, 167, 0, 4, 3, 96, 60, 132, 2, 1, 167, 255, 214, 27, 172]
abbrev dktX6_equal_2 : List UInt8 := dkwX6_equal_2 ++ []
def dkwX6_equal_1 : List UInt8 := [162, 0, 40, 42, 42, 180, 0, 38, 28, 182, 1, 53, 62, 27, 42, 42, 180, 0, 44, 28, 182, 1, 53, 29]
abbrev dktX6_equal_1 : List UInt8 := dkwX6_equal_1 ++ dktX6_equal_2
def dkwX6_equal_0 : List UInt8 := [42, 3, 181, 0, 57, 42, 180, 0, 184, 154, 0, 5, 2, 172, 3, 60, 3, 61, 28, 42, 180, 0, 153]
abbrev dktX6_equal_0 : List UInt8 := dkwX6_equal_0 ++ dktX6_equal_1
theorem dksX6_equal_0 : cX6_equal.data.toList.drop 0 = dktX6_equal_0 := by decide +kernel
theorem dksX6_equal_1 : cX6_equal.data.toList.drop 23 = dktX6_equal_1 := dk_seg dksX6_equal_0 23 rfl rfl
theorem dksX6_equal_2 : cX6_equal.data.toList.drop 47 = dktX6_equal_2 := dk_seg dksX6_equal_1 24 rfl rfl
theorem dX6_equal_0 : decode cX6_equal 0 = .ok (.aload_n 0, 1) := dk_42 (dk_at dksX6_equal_0 0 rfl rfl)
theorem dX6_equal_1 : decode cX6_equal 1 = .ok (.iconst 0, 1) := dk_3 (dk_at dksX6_equal_0 1 rfl rfl)
theorem dX6_equal_2 : decode cX6_equal 2 = .ok (.putfield 57, 3) := dk_181 0 57 (dk_at dksX6_equal_0 2 rfl rfl)
theorem dX6_equal_5 : decode cX6_equal 5 = .ok (.aload_n 0, 1) := dk_42 (dk_at dksX6_equal_0 5 rfl rfl)
theorem dX6_equal_6 : decode cX6_equal 6 = .ok (.getfield 184, 3) := dk_180 0 184 (dk_at dksX6_equal_0 6 rfl rfl)
theorem dX6_equal_9 : decode cX6_equal 9 = .ok (.ifCond .ne 5, 3) := dk_154 0 5 (dk_at dksX6_equal_0 9 rfl rfl)
theorem dX6_equal_12 : decode cX6_equal 12 = .ok (.iconst (-1), 1) := dk_2 (dk_at dksX6_equal_0 12 rfl rfl)
theorem dX6_equal_13 : decode cX6_equal 13 = .ok (.ireturn, 1) := dk_172 (dk_at dksX6_equal_0 13 rfl rfl)
theorem dX6_equal_14 : decode cX6_equal 14 = .ok (.iconst 0, 1) := dk_3 (dk_at dksX6_equal_0 14 rfl rfl)
theorem dX6_equal_15 : decode cX6_equal 15 = .ok (.istore_n 1, 1) := dk_60 (dk_at dksX6_equal_0 15 rfl rfl)
theorem dX6_equal_16 : decode cX6_equal 16 = .ok (.iconst 0, 1) := dk_3 (dk_at dksX6_equal_0 16 rfl rfl)
theorem dX6_equal_17 : decode cX6_equal 17 = .ok (.istore_n 2, 1) := dk_61 (dk_at dksX6_equal_0 17 rfl rfl)
theorem dX6_equal_18 : decode cX6_equal 18 = .ok (.iload_n 2, 1) := dk_28 (dk_at dksX6_equal_0 18 rfl rfl)
theorem dX6_equal_19 : decode cX6_equal 19 = .ok (.aload_n 0, 1) := dk_42 (dk_at dksX6_equal_0 19 rfl rfl)
theorem dX6_equal_20 : decode cX6_equal 20 = .ok (.getfield 153, 3) := dk_180 0 153 (dk_at dksX6_equal_0 20 rfl rfl)
theorem dX6_equal_23 : decode cX6_equal 23 = .ok (.if_icmp .ge 40, 3) := dk_162 0 40 (dk_at dksX6_equal_1 0 rfl rfl)
theorem dX6_equal_26 : decode cX6_equal 26 = .ok (.aload_n 0, 1) := dk_42 (dk_at dksX6_equal_1 3 rfl rfl)
theorem dX6_equal_27 : decode cX6_equal 27 = .ok (.aload_n 0, 1) := dk_42 (dk_at dksX6_equal_1 4 rfl rfl)
theorem dX6_equal_28 : decode cX6_equal 28 = .ok (.getfield 38, 3) := dk_180 0 38 (dk_at dksX6_equal_1 5 rfl rfl)
theorem dX6_equal_31 : decode cX6_equal 31 = .ok (.iload_n 2, 1) := dk_28 (dk_at dksX6_equal_1 8 rfl rfl)
theorem dX6_equal_32 : decode cX6_equal 32 = .ok (.invokevirtual 309, 3) := dk_182 1 53 (dk_at dksX6_equal_1 9 rfl rfl)
theorem dX6_equal_35 : decode cX6_equal 35 = .ok (.istore_n 3, 1) := dk_62 (dk_at dksX6_equal_1 12 rfl rfl)
theorem dX6_equal_36 : decode cX6_equal 36 = .ok (.iload_n 1, 1) := dk_27 (dk_at dksX6_equal_1 13 rfl rfl)
theorem dX6_equal_37 : decode cX6_equal 37 = .ok (.aload_n 0, 1) := dk_42 (dk_at dksX6_equal_1 14 rfl rfl)
theorem dX6_equal_38 : decode cX6_equal 38 = .ok (.aload_n 0, 1) := dk_42 (dk_at dksX6_equal_1 15 rfl rfl)
theorem dX6_equal_39 : decode cX6_equal 39 = .ok (.getfield 44, 3) := dk_180 0 44 (dk_at dksX6_equal_1 16 rfl rfl)
theorem dX6_equal_42 : decode cX6_equal 42 = .ok (.iload_n 2, 1) := dk_28 (dk_at dksX6_equal_1 19 rfl rfl)
theorem dX6_equal_43 : decode cX6_equal 43 = .ok (.invokevirtual 309, 3) := dk_182 1 53 (dk_at dksX6_equal_1 20 rfl rfl)
theorem dX6_equal_46 : decode cX6_equal 46 = .ok (.iload_n 3, 1) := dk_29 (dk_at dksX6_equal_1 23 rfl rfl)
theorem dX6_equal_47 : decode cX6_equal 47 = .ok (.if_icmp .ne 7, 3) := dk_160 0 7 (dk_at dksX6_equal_2 0 rfl rfl)
theorem dX6_equal_50 : decode cX6_equal 50 = .ok (.iconst 1, 1) := dk_4 (dk_at dksX6_equal_2 3 rfl rfl)
theorem dX6_equal_51 : decode cX6_equal 51 = .ok (.goto 4, 3) := dk_167 0 4 (dk_at dksX6_equal_2 4 rfl rfl)
theorem dX6_equal_54 : decode cX6_equal 54 = .ok (.iconst 0, 1) := dk_3 (dk_at dksX6_equal_2 7 rfl rfl)
theorem dX6_equal_55 : decode cX6_equal 55 = .ok (.iadd, 1) := dk_96 (dk_at dksX6_equal_2 8 rfl rfl)
theorem dX6_equal_56 : decode cX6_equal 56 = .ok (.istore_n 1, 1) := dk_60 (dk_at dksX6_equal_2 9 rfl rfl)
theorem dX6_equal_57 : decode cX6_equal 57 = .ok (.iinc 2 1, 3) := dk_132 2 1 (dk_at dksX6_equal_2 10 rfl rfl)
theorem dX6_equal_60 : decode cX6_equal 60 = .ok (.goto (-42), 3) := dk_167 255 214 (dk_at dksX6_equal_2 13 rfl rfl)
theorem dX6_equal_63 : decode cX6_equal 63 = .ok (.iload_n 1, 1) := dk_27 (dk_at dksX6_equal_2 16 rfl rfl)
theorem dX6_equal_64 : decode cX6_equal 64 = .ok (.ireturn, 1) := dk_172 (dk_at dksX6_equal_2 17 rfl rfl)
abbrev cX6_span : ByteArray := prog_12_method_118_code
def yX6_span : MethodName := ⟨RX6, "span", "(I)I"⟩
def dkwX6_span_5 : List UInt8 := [172]
abbrev dktX6_span_5 : List UInt8 := dkwX6_span_5 ++ []
def dkwX6_span_4 : List UInt8 := [61, 21, 5, 21, 4, 100, 4, 96, 62, 132, 5, 1, 167, 255, 182, 27, 154, 0, 7, 28, 167, 0, 4, 29]
abbrev dktX6_span_4 : List UInt8 := dkwX6_span_4 ++ dktX6_span_5
def dkwX6_span_3 : List UInt8 := [153, 0, 7, 3, 167, 0, 7, 21, 4, 4, 96, 54, 4, 21, 4, 28, 163, 0, 6, 167, 0, 14, 21, 4]
abbrev dktX6_span_3 : List UInt8 := dkwX6_span_3 ++ dktX6_span_4
def dkwX6_span_2 : List UInt8 := [42, 21, 5, 182, 0, 217, 42, 21, 5, 182, 0, 230, 182, 0, 199, 42, 21, 5, 182, 0, 217, 184, 0, 202]
abbrev dktX6_span_2 : List UInt8 := dkwX6_span_2 ++ dktX6_span_3
def dkwX6_span_1 : List UInt8 := [3, 61, 2, 62, 3, 54, 4, 3, 54, 5, 21, 5, 42, 180, 0, 153, 162, 0, 71, 42, 180, 0, 38, 42]
abbrev dktX6_span_1 : List UInt8 := dkwX6_span_1 ++ dktX6_span_2
def dkwX6_span_0 : List UInt8 := [42, 3, 181, 0, 57, 42, 180, 0, 153, 153, 0, 13, 27, 133, 9, 10, 184, 0, 117, 154, 0, 5, 2, 172]
abbrev dktX6_span_0 : List UInt8 := dkwX6_span_0 ++ dktX6_span_1
theorem dksX6_span_0 : cX6_span.data.toList.drop 0 = dktX6_span_0 := by decide +kernel
theorem dksX6_span_1 : cX6_span.data.toList.drop 24 = dktX6_span_1 := dk_seg dksX6_span_0 24 rfl rfl
theorem dksX6_span_2 : cX6_span.data.toList.drop 48 = dktX6_span_2 := dk_seg dksX6_span_1 24 rfl rfl
theorem dksX6_span_3 : cX6_span.data.toList.drop 72 = dktX6_span_3 := dk_seg dksX6_span_2 24 rfl rfl
theorem dksX6_span_4 : cX6_span.data.toList.drop 96 = dktX6_span_4 := dk_seg dksX6_span_3 24 rfl rfl
theorem dksX6_span_5 : cX6_span.data.toList.drop 120 = dktX6_span_5 := dk_seg dksX6_span_4 24 rfl rfl
theorem dX6_span_0 : decode cX6_span 0 = .ok (.aload_n 0, 1) := dk_42 (dk_at dksX6_span_0 0 rfl rfl)
theorem dX6_span_1 : decode cX6_span 1 = .ok (.iconst 0, 1) := dk_3 (dk_at dksX6_span_0 1 rfl rfl)
theorem dX6_span_2 : decode cX6_span 2 = .ok (.putfield 57, 3) := dk_181 0 57 (dk_at dksX6_span_0 2 rfl rfl)
theorem dX6_span_5 : decode cX6_span 5 = .ok (.aload_n 0, 1) := dk_42 (dk_at dksX6_span_0 5 rfl rfl)
theorem dX6_span_6 : decode cX6_span 6 = .ok (.getfield 153, 3) := dk_180 0 153 (dk_at dksX6_span_0 6 rfl rfl)
theorem dX6_span_9 : decode cX6_span 9 = .ok (.ifCond .eq 13, 3) := dk_153 0 13 (dk_at dksX6_span_0 9 rfl rfl)
theorem dX6_span_12 : decode cX6_span 12 = .ok (.iload_n 1, 1) := dk_27 (dk_at dksX6_span_0 12 rfl rfl)
theorem dX6_span_13 : decode cX6_span 13 = .ok (.i2l, 1) := dk_133 (dk_at dksX6_span_0 13 rfl rfl)
theorem dX6_span_14 : decode cX6_span 14 = .ok (.lconst 0, 1) := dk_9 (dk_at dksX6_span_0 14 rfl rfl)
theorem dX6_span_15 : decode cX6_span 15 = .ok (.lconst 1, 1) := dk_10 (dk_at dksX6_span_0 15 rfl rfl)
theorem dX6_span_16 : decode cX6_span 16 = .ok (.invokestatic 117, 3) := dk_184 0 117 (dk_at dksX6_span_0 16 rfl rfl)
theorem dX6_span_19 : decode cX6_span 19 = .ok (.ifCond .ne 5, 3) := dk_154 0 5 (dk_at dksX6_span_0 19 rfl rfl)
theorem dX6_span_22 : decode cX6_span 22 = .ok (.iconst (-1), 1) := dk_2 (dk_at dksX6_span_0 22 rfl rfl)
theorem dX6_span_23 : decode cX6_span 23 = .ok (.ireturn, 1) := dk_172 (dk_at dksX6_span_0 23 rfl rfl)
theorem dX6_span_24 : decode cX6_span 24 = .ok (.iconst 0, 1) := dk_3 (dk_at dksX6_span_1 0 rfl rfl)
theorem dX6_span_25 : decode cX6_span 25 = .ok (.istore_n 2, 1) := dk_61 (dk_at dksX6_span_1 1 rfl rfl)
theorem dX6_span_26 : decode cX6_span 26 = .ok (.iconst (-1), 1) := dk_2 (dk_at dksX6_span_1 2 rfl rfl)
theorem dX6_span_27 : decode cX6_span 27 = .ok (.istore_n 3, 1) := dk_62 (dk_at dksX6_span_1 3 rfl rfl)
theorem dX6_span_28 : decode cX6_span 28 = .ok (.iconst 0, 1) := dk_3 (dk_at dksX6_span_1 4 rfl rfl)
theorem dX6_span_29 : decode cX6_span 29 = .ok (.istore 4, 2) := dk_54 4 (dk_at dksX6_span_1 5 rfl rfl)
theorem dX6_span_31 : decode cX6_span 31 = .ok (.iconst 0, 1) := dk_3 (dk_at dksX6_span_1 7 rfl rfl)
theorem dX6_span_32 : decode cX6_span 32 = .ok (.istore 5, 2) := dk_54 5 (dk_at dksX6_span_1 8 rfl rfl)
theorem dX6_span_34 : decode cX6_span 34 = .ok (.iload 5, 2) := dk_21 5 (dk_at dksX6_span_1 10 rfl rfl)
theorem dX6_span_36 : decode cX6_span 36 = .ok (.aload_n 0, 1) := dk_42 (dk_at dksX6_span_1 12 rfl rfl)
theorem dX6_span_37 : decode cX6_span 37 = .ok (.getfield 153, 3) := dk_180 0 153 (dk_at dksX6_span_1 13 rfl rfl)
theorem dX6_span_40 : decode cX6_span 40 = .ok (.if_icmp .ge 71, 3) := dk_162 0 71 (dk_at dksX6_span_1 16 rfl rfl)
theorem dX6_span_43 : decode cX6_span 43 = .ok (.aload_n 0, 1) := dk_42 (dk_at dksX6_span_1 19 rfl rfl)
theorem dX6_span_44 : decode cX6_span 44 = .ok (.getfield 38, 3) := dk_180 0 38 (dk_at dksX6_span_1 20 rfl rfl)
theorem dX6_span_47 : decode cX6_span 47 = .ok (.aload_n 0, 1) := dk_42 (dk_at dksX6_span_1 23 rfl rfl)
theorem dX6_span_48 : decode cX6_span 48 = .ok (.aload_n 0, 1) := dk_42 (dk_at dksX6_span_2 0 rfl rfl)
theorem dX6_span_49 : decode cX6_span 49 = .ok (.iload 5, 2) := dk_21 5 (dk_at dksX6_span_2 1 rfl rfl)
theorem dX6_span_51 : decode cX6_span 51 = .ok (.invokevirtual 217, 3) := dk_182 0 217 (dk_at dksX6_span_2 3 rfl rfl)
theorem dX6_span_54 : decode cX6_span 54 = .ok (.aload_n 0, 1) := dk_42 (dk_at dksX6_span_2 6 rfl rfl)
theorem dX6_span_55 : decode cX6_span 55 = .ok (.iload 5, 2) := dk_21 5 (dk_at dksX6_span_2 7 rfl rfl)
theorem dX6_span_57 : decode cX6_span 57 = .ok (.invokevirtual 230, 3) := dk_182 0 230 (dk_at dksX6_span_2 9 rfl rfl)
theorem dX6_span_60 : decode cX6_span 60 = .ok (.invokevirtual 199, 3) := dk_182 0 199 (dk_at dksX6_span_2 12 rfl rfl)
theorem dX6_span_63 : decode cX6_span 63 = .ok (.aload_n 0, 1) := dk_42 (dk_at dksX6_span_2 15 rfl rfl)
theorem dX6_span_64 : decode cX6_span 64 = .ok (.iload 5, 2) := dk_21 5 (dk_at dksX6_span_2 16 rfl rfl)
theorem dX6_span_66 : decode cX6_span 66 = .ok (.invokevirtual 217, 3) := dk_182 0 217 (dk_at dksX6_span_2 18 rfl rfl)
theorem dX6_span_69 : decode cX6_span 69 = .ok (.invokestatic 202, 3) := dk_184 0 202 (dk_at dksX6_span_2 21 rfl rfl)
theorem dX6_span_72 : decode cX6_span 72 = .ok (.ifCond .eq 7, 3) := dk_153 0 7 (dk_at dksX6_span_3 0 rfl rfl)
theorem dX6_span_75 : decode cX6_span 75 = .ok (.iconst 0, 1) := dk_3 (dk_at dksX6_span_3 3 rfl rfl)
theorem dX6_span_76 : decode cX6_span 76 = .ok (.goto 7, 3) := dk_167 0 7 (dk_at dksX6_span_3 4 rfl rfl)
theorem dX6_span_79 : decode cX6_span 79 = .ok (.iload 4, 2) := dk_21 4 (dk_at dksX6_span_3 7 rfl rfl)
theorem dX6_span_81 : decode cX6_span 81 = .ok (.iconst 1, 1) := dk_4 (dk_at dksX6_span_3 9 rfl rfl)
theorem dX6_span_82 : decode cX6_span 82 = .ok (.iadd, 1) := dk_96 (dk_at dksX6_span_3 10 rfl rfl)
theorem dX6_span_83 : decode cX6_span 83 = .ok (.istore 4, 2) := dk_54 4 (dk_at dksX6_span_3 11 rfl rfl)
theorem dX6_span_85 : decode cX6_span 85 = .ok (.iload 4, 2) := dk_21 4 (dk_at dksX6_span_3 13 rfl rfl)
theorem dX6_span_87 : decode cX6_span 87 = .ok (.iload_n 2, 1) := dk_28 (dk_at dksX6_span_3 15 rfl rfl)
theorem dX6_span_88 : decode cX6_span 88 = .ok (.if_icmp .gt 6, 3) := dk_163 0 6 (dk_at dksX6_span_3 16 rfl rfl)
theorem dX6_span_91 : decode cX6_span 91 = .ok (.goto 14, 3) := dk_167 0 14 (dk_at dksX6_span_3 19 rfl rfl)
theorem dX6_span_94 : decode cX6_span 94 = .ok (.iload 4, 2) := dk_21 4 (dk_at dksX6_span_3 22 rfl rfl)
theorem dX6_span_96 : decode cX6_span 96 = .ok (.istore_n 2, 1) := dk_61 (dk_at dksX6_span_4 0 rfl rfl)
theorem dX6_span_97 : decode cX6_span 97 = .ok (.iload 5, 2) := dk_21 5 (dk_at dksX6_span_4 1 rfl rfl)
theorem dX6_span_99 : decode cX6_span 99 = .ok (.iload 4, 2) := dk_21 4 (dk_at dksX6_span_4 3 rfl rfl)
theorem dX6_span_101 : decode cX6_span 101 = .ok (.isub, 1) := dk_100 (dk_at dksX6_span_4 5 rfl rfl)
theorem dX6_span_102 : decode cX6_span 102 = .ok (.iconst 1, 1) := dk_4 (dk_at dksX6_span_4 6 rfl rfl)
theorem dX6_span_103 : decode cX6_span 103 = .ok (.iadd, 1) := dk_96 (dk_at dksX6_span_4 7 rfl rfl)
theorem dX6_span_104 : decode cX6_span 104 = .ok (.istore_n 3, 1) := dk_62 (dk_at dksX6_span_4 8 rfl rfl)
theorem dX6_span_105 : decode cX6_span 105 = .ok (.iinc 5 1, 3) := dk_132 5 1 (dk_at dksX6_span_4 9 rfl rfl)
theorem dX6_span_108 : decode cX6_span 108 = .ok (.goto (-74), 3) := dk_167 255 182 (dk_at dksX6_span_4 12 rfl rfl)
theorem dX6_span_111 : decode cX6_span 111 = .ok (.iload_n 1, 1) := dk_27 (dk_at dksX6_span_4 15 rfl rfl)
theorem dX6_span_112 : decode cX6_span 112 = .ok (.ifCond .ne 7, 3) := dk_154 0 7 (dk_at dksX6_span_4 16 rfl rfl)
theorem dX6_span_115 : decode cX6_span 115 = .ok (.iload_n 2, 1) := dk_28 (dk_at dksX6_span_4 19 rfl rfl)
theorem dX6_span_116 : decode cX6_span 116 = .ok (.goto 4, 3) := dk_167 0 4 (dk_at dksX6_span_4 20 rfl rfl)
theorem dX6_span_119 : decode cX6_span 119 = .ok (.iload_n 3, 1) := dk_29 (dk_at dksX6_span_4 23 rfl rfl)
theorem dX6_span_120 : decode cX6_span 120 = .ok (.ireturn, 1) := dk_172 (dk_at dksX6_span_5 0 rfl rfl)
abbrev cX6_step : ByteArray := prog_12_method_120_code
def yX6_step : MethodName := ⟨RX6, "step", "(III)I"⟩
def dkwX6_step_2 : List UInt8 := [180, 0, 26, 8, 16, 16, 27, 104, 28, 96, 104, 29, 96, 46, 172]
abbrev dktX6_step_2 : List UInt8 := dkwX6_step_2 ++ []
def dkwX6_step_1 : List UInt8 := [133, 184, 0, 117, 153, 0, 15, 29, 133, 9, 20, 1, 150, 184, 0, 117, 154, 0, 7, 19, 1, 137, 172, 42]
abbrev dktX6_step_1 : List UInt8 := dkwX6_step_1 ++ dktX6_step_2
def dkwX6_step_0 : List UInt8 := [42, 3, 181, 0, 57, 42, 27, 182, 1, 147, 153, 0, 33, 28, 133, 9, 42, 180, 0, 29, 27, 46, 4, 100]
abbrev dktX6_step_0 : List UInt8 := dkwX6_step_0 ++ dktX6_step_1
theorem dksX6_step_0 : cX6_step.data.toList.drop 0 = dktX6_step_0 := by decide +kernel
theorem dksX6_step_1 : cX6_step.data.toList.drop 24 = dktX6_step_1 := dk_seg dksX6_step_0 24 rfl rfl
theorem dksX6_step_2 : cX6_step.data.toList.drop 48 = dktX6_step_2 := dk_seg dksX6_step_1 24 rfl rfl
theorem dX6_step_0 : decode cX6_step 0 = .ok (.aload_n 0, 1) := dk_42 (dk_at dksX6_step_0 0 rfl rfl)
theorem dX6_step_1 : decode cX6_step 1 = .ok (.iconst 0, 1) := dk_3 (dk_at dksX6_step_0 1 rfl rfl)
theorem dX6_step_2 : decode cX6_step 2 = .ok (.putfield 57, 3) := dk_181 0 57 (dk_at dksX6_step_0 2 rfl rfl)
theorem dX6_step_5 : decode cX6_step 5 = .ok (.aload_n 0, 1) := dk_42 (dk_at dksX6_step_0 5 rfl rfl)
theorem dX6_step_6 : decode cX6_step 6 = .ok (.iload_n 1, 1) := dk_27 (dk_at dksX6_step_0 6 rfl rfl)
theorem dX6_step_7 : decode cX6_step 7 = .ok (.invokevirtual 403, 3) := dk_182 1 147 (dk_at dksX6_step_0 7 rfl rfl)
theorem dX6_step_10 : decode cX6_step 10 = .ok (.ifCond .eq 33, 3) := dk_153 0 33 (dk_at dksX6_step_0 10 rfl rfl)
theorem dX6_step_13 : decode cX6_step 13 = .ok (.iload_n 2, 1) := dk_28 (dk_at dksX6_step_0 13 rfl rfl)
theorem dX6_step_14 : decode cX6_step 14 = .ok (.i2l, 1) := dk_133 (dk_at dksX6_step_0 14 rfl rfl)
theorem dX6_step_15 : decode cX6_step 15 = .ok (.lconst 0, 1) := dk_9 (dk_at dksX6_step_0 15 rfl rfl)
theorem dX6_step_16 : decode cX6_step 16 = .ok (.aload_n 0, 1) := dk_42 (dk_at dksX6_step_0 16 rfl rfl)
theorem dX6_step_17 : decode cX6_step 17 = .ok (.getfield 29, 3) := dk_180 0 29 (dk_at dksX6_step_0 17 rfl rfl)
theorem dX6_step_20 : decode cX6_step 20 = .ok (.iload_n 1, 1) := dk_27 (dk_at dksX6_step_0 20 rfl rfl)
theorem dX6_step_21 : decode cX6_step 21 = .ok (.iaload, 1) := dk_46 (dk_at dksX6_step_0 21 rfl rfl)
theorem dX6_step_22 : decode cX6_step 22 = .ok (.iconst 1, 1) := dk_4 (dk_at dksX6_step_0 22 rfl rfl)
theorem dX6_step_23 : decode cX6_step 23 = .ok (.isub, 1) := dk_100 (dk_at dksX6_step_0 23 rfl rfl)
theorem dX6_step_24 : decode cX6_step 24 = .ok (.i2l, 1) := dk_133 (dk_at dksX6_step_1 0 rfl rfl)
theorem dX6_step_25 : decode cX6_step 25 = .ok (.invokestatic 117, 3) := dk_184 0 117 (dk_at dksX6_step_1 1 rfl rfl)
theorem dX6_step_28 : decode cX6_step 28 = .ok (.ifCond .eq 15, 3) := dk_153 0 15 (dk_at dksX6_step_1 4 rfl rfl)
theorem dX6_step_31 : decode cX6_step 31 = .ok (.iload_n 3, 1) := dk_29 (dk_at dksX6_step_1 7 rfl rfl)
theorem dX6_step_32 : decode cX6_step 32 = .ok (.i2l, 1) := dk_133 (dk_at dksX6_step_1 8 rfl rfl)
theorem dX6_step_33 : decode cX6_step 33 = .ok (.lconst 0, 1) := dk_9 (dk_at dksX6_step_1 9 rfl rfl)
theorem dX6_step_34 : decode cX6_step 34 = .ok (.ldc2_w 406, 3) := dk_20 1 150 (dk_at dksX6_step_1 10 rfl rfl)
theorem dX6_step_37 : decode cX6_step 37 = .ok (.invokestatic 117, 3) := dk_184 0 117 (dk_at dksX6_step_1 13 rfl rfl)
theorem dX6_step_40 : decode cX6_step 40 = .ok (.ifCond .ne 7, 3) := dk_154 0 7 (dk_at dksX6_step_1 16 rfl rfl)
theorem dX6_step_43 : decode cX6_step 43 = .ok (.ldc_w 393, 3) := dk_19 1 137 (dk_at dksX6_step_1 19 rfl rfl)
theorem dX6_step_46 : decode cX6_step 46 = .ok (.ireturn, 1) := dk_172 (dk_at dksX6_step_1 22 rfl rfl)
theorem dX6_step_47 : decode cX6_step 47 = .ok (.aload_n 0, 1) := dk_42 (dk_at dksX6_step_1 23 rfl rfl)
theorem dX6_step_48 : decode cX6_step 48 = .ok (.getfield 26, 3) := dk_180 0 26 (dk_at dksX6_step_2 0 rfl rfl)
theorem dX6_step_51 : decode cX6_step 51 = .ok (.iconst 5, 1) := dk_8 (dk_at dksX6_step_2 3 rfl rfl)
theorem dX6_step_52 : decode cX6_step 52 = .ok (.bipush 16, 2) := dk_16 16 (dk_at dksX6_step_2 4 rfl rfl)
theorem dX6_step_54 : decode cX6_step 54 = .ok (.iload_n 1, 1) := dk_27 (dk_at dksX6_step_2 6 rfl rfl)
theorem dX6_step_55 : decode cX6_step 55 = .ok (.imul, 1) := dk_104 (dk_at dksX6_step_2 7 rfl rfl)
theorem dX6_step_56 : decode cX6_step 56 = .ok (.iload_n 2, 1) := dk_28 (dk_at dksX6_step_2 8 rfl rfl)
theorem dX6_step_57 : decode cX6_step 57 = .ok (.iadd, 1) := dk_96 (dk_at dksX6_step_2 9 rfl rfl)
theorem dX6_step_58 : decode cX6_step 58 = .ok (.imul, 1) := dk_104 (dk_at dksX6_step_2 10 rfl rfl)
theorem dX6_step_59 : decode cX6_step 59 = .ok (.iload_n 3, 1) := dk_29 (dk_at dksX6_step_2 11 rfl rfl)
theorem dX6_step_60 : decode cX6_step 60 = .ok (.iadd, 1) := dk_96 (dk_at dksX6_step_2 12 rfl rfl)
theorem dX6_step_61 : decode cX6_step 61 = .ok (.iaload, 1) := dk_46 (dk_at dksX6_step_2 13 rfl rfl)
theorem dX6_step_62 : decode cX6_step 62 = .ok (.ireturn, 1) := dk_172 (dk_at dksX6_step_2 14 rfl rfl)
abbrev cX6_isScript : ByteArray := prog_12_method_119_code
def yX6_isScript : MethodName := ⟨RX6, "isScript", "(I)Z"⟩
def dkwX6_isScript_0 : List UInt8 := [27, 133, 9, 42, 180, 0, 188, 4, 100, 133, 184, 0, 117, 172]
abbrev dktX6_isScript_0 : List UInt8 := dkwX6_isScript_0 ++ []
theorem dksX6_isScript_0 : cX6_isScript.data.toList.drop 0 = dktX6_isScript_0 := by decide +kernel
theorem dX6_isScript_0 : decode cX6_isScript 0 = .ok (.iload_n 1, 1) := dk_27 (dk_at dksX6_isScript_0 0 rfl rfl)
theorem dX6_isScript_1 : decode cX6_isScript 1 = .ok (.i2l, 1) := dk_133 (dk_at dksX6_isScript_0 1 rfl rfl)
theorem dX6_isScript_2 : decode cX6_isScript 2 = .ok (.lconst 0, 1) := dk_9 (dk_at dksX6_isScript_0 2 rfl rfl)
theorem dX6_isScript_3 : decode cX6_isScript 3 = .ok (.aload_n 0, 1) := dk_42 (dk_at dksX6_isScript_0 3 rfl rfl)
theorem dX6_isScript_4 : decode cX6_isScript 4 = .ok (.getfield 188, 3) := dk_180 0 188 (dk_at dksX6_isScript_0 4 rfl rfl)
theorem dX6_isScript_7 : decode cX6_isScript 7 = .ok (.iconst 1, 1) := dk_4 (dk_at dksX6_isScript_0 7 rfl rfl)
theorem dX6_isScript_8 : decode cX6_isScript 8 = .ok (.isub, 1) := dk_100 (dk_at dksX6_isScript_0 8 rfl rfl)
theorem dX6_isScript_9 : decode cX6_isScript 9 = .ok (.i2l, 1) := dk_133 (dk_at dksX6_isScript_0 9 rfl rfl)
theorem dX6_isScript_10 : decode cX6_isScript 10 = .ok (.invokestatic 117, 3) := dk_184 0 117 (dk_at dksX6_isScript_0 10 rfl rfl)
theorem dX6_isScript_13 : decode cX6_isScript 13 = .ok (.ireturn, 1) := dk_172 (dk_at dksX6_isScript_0 13 rfl rfl)
abbrev cX6_run : ByteArray := prog_12_method_121_code
def yX6_run : MethodName := ⟨RX6, "run", "(II)I"⟩
def dkwX6_run_7 : List UInt8 := [184, 1, 103, 100, 167, 0, 18, 29, 42, 180, 0, 29, 27, 46, 160, 0, 7, 2, 167, 0, 4, 29, 172]
abbrev dktX6_run_7 : List UInt8 := dkwX6_run_7 ++ []
def dkwX6_run_6 : List UInt8 := [132, 3, 1, 167, 255, 161, 28, 4, 160, 0, 21, 42, 180, 0, 41, 184, 1, 103, 42, 180, 0, 38]
abbrev dktX6_run_6 : List UInt8 := dkwX6_run_6 ++ dktX6_run_7
def dkwX6_run_5 : List UInt8 := [21, 5, 7, 96, 46, 182, 1, 97, 2, 160, 0, 7, 4, 167, 0, 4, 3, 54, 4, 21, 4, 153, 0, 6]
abbrev dktX6_run_5 : List UInt8 := dkwX6_run_5 ++ dktX6_run_6
def dkwX6_run_4 : List UInt8 := [96, 46, 42, 180, 0, 26, 21, 5, 5, 96, 46, 42, 180, 0, 26, 21, 5, 6, 96, 46, 42, 180, 0, 26]
abbrev dktX6_run_4 : List UInt8 := dkwX6_run_4 ++ dktX6_run_5
def dkwX6_run_3 : List UInt8 := [29, 96, 104, 54, 5, 42, 42, 180, 0, 41, 42, 180, 0, 26, 21, 5, 46, 42, 180, 0, 26, 21, 5, 4]
abbrev dktX6_run_3 : List UInt8 := dkwX6_run_3 ++ dktX6_run_4
def dkwX6_run_2 : List UInt8 := [62, 4, 54, 4, 21, 4, 153, 0, 96, 29, 42, 180, 0, 29, 27, 46, 162, 0, 86, 8, 16, 16, 27, 104]
abbrev dktX6_run_2 : List UInt8 := dkwX6_run_2 ++ dktX6_run_3
def dkwX6_run_1 : List UInt8 := [184, 0, 117, 154, 0, 7, 19, 1, 137, 172, 42, 180, 0, 38, 3, 42, 180, 0, 41, 3, 184, 1, 93, 3]
abbrev dktX6_run_1 : List UInt8 := dkwX6_run_1 ++ dktX6_run_2
def dkwX6_run_0 : List UInt8 := [42, 3, 181, 0, 57, 42, 27, 182, 1, 147, 153, 0, 20, 42, 180, 0, 153, 153, 0, 13, 28, 133, 9, 10]
abbrev dktX6_run_0 : List UInt8 := dkwX6_run_0 ++ dktX6_run_1
theorem dksX6_run_0 : cX6_run.data.toList.drop 0 = dktX6_run_0 := by decide +kernel
theorem dksX6_run_1 : cX6_run.data.toList.drop 24 = dktX6_run_1 := dk_seg dksX6_run_0 24 rfl rfl
theorem dksX6_run_2 : cX6_run.data.toList.drop 48 = dktX6_run_2 := dk_seg dksX6_run_1 24 rfl rfl
theorem dksX6_run_3 : cX6_run.data.toList.drop 72 = dktX6_run_3 := dk_seg dksX6_run_2 24 rfl rfl
theorem dksX6_run_4 : cX6_run.data.toList.drop 96 = dktX6_run_4 := dk_seg dksX6_run_3 24 rfl rfl
theorem dksX6_run_5 : cX6_run.data.toList.drop 120 = dktX6_run_5 := dk_seg dksX6_run_4 24 rfl rfl
theorem dksX6_run_6 : cX6_run.data.toList.drop 144 = dktX6_run_6 := dk_seg dksX6_run_5 24 rfl rfl
theorem dksX6_run_7 : cX6_run.data.toList.drop 166 = dktX6_run_7 := dk_seg dksX6_run_6 22 rfl rfl
theorem dX6_run_0 : decode cX6_run 0 = .ok (.aload_n 0, 1) := dk_42 (dk_at dksX6_run_0 0 rfl rfl)
theorem dX6_run_1 : decode cX6_run 1 = .ok (.iconst 0, 1) := dk_3 (dk_at dksX6_run_0 1 rfl rfl)
theorem dX6_run_2 : decode cX6_run 2 = .ok (.putfield 57, 3) := dk_181 0 57 (dk_at dksX6_run_0 2 rfl rfl)
theorem dX6_run_5 : decode cX6_run 5 = .ok (.aload_n 0, 1) := dk_42 (dk_at dksX6_run_0 5 rfl rfl)
theorem dX6_run_6 : decode cX6_run 6 = .ok (.iload_n 1, 1) := dk_27 (dk_at dksX6_run_0 6 rfl rfl)
theorem dX6_run_7 : decode cX6_run 7 = .ok (.invokevirtual 403, 3) := dk_182 1 147 (dk_at dksX6_run_0 7 rfl rfl)
theorem dX6_run_10 : decode cX6_run 10 = .ok (.ifCond .eq 20, 3) := dk_153 0 20 (dk_at dksX6_run_0 10 rfl rfl)
theorem dX6_run_13 : decode cX6_run 13 = .ok (.aload_n 0, 1) := dk_42 (dk_at dksX6_run_0 13 rfl rfl)
theorem dX6_run_14 : decode cX6_run 14 = .ok (.getfield 153, 3) := dk_180 0 153 (dk_at dksX6_run_0 14 rfl rfl)
theorem dX6_run_17 : decode cX6_run 17 = .ok (.ifCond .eq 13, 3) := dk_153 0 13 (dk_at dksX6_run_0 17 rfl rfl)
theorem dX6_run_20 : decode cX6_run 20 = .ok (.iload_n 2, 1) := dk_28 (dk_at dksX6_run_0 20 rfl rfl)
theorem dX6_run_21 : decode cX6_run 21 = .ok (.i2l, 1) := dk_133 (dk_at dksX6_run_0 21 rfl rfl)
theorem dX6_run_22 : decode cX6_run 22 = .ok (.lconst 0, 1) := dk_9 (dk_at dksX6_run_0 22 rfl rfl)
theorem dX6_run_23 : decode cX6_run 23 = .ok (.lconst 1, 1) := dk_10 (dk_at dksX6_run_0 23 rfl rfl)
theorem dX6_run_24 : decode cX6_run 24 = .ok (.invokestatic 117, 3) := dk_184 0 117 (dk_at dksX6_run_1 0 rfl rfl)
theorem dX6_run_27 : decode cX6_run 27 = .ok (.ifCond .ne 7, 3) := dk_154 0 7 (dk_at dksX6_run_1 3 rfl rfl)
theorem dX6_run_30 : decode cX6_run 30 = .ok (.ldc_w 393, 3) := dk_19 1 137 (dk_at dksX6_run_1 6 rfl rfl)
theorem dX6_run_33 : decode cX6_run 33 = .ok (.ireturn, 1) := dk_172 (dk_at dksX6_run_1 9 rfl rfl)
theorem dX6_run_34 : decode cX6_run 34 = .ok (.aload_n 0, 1) := dk_42 (dk_at dksX6_run_1 10 rfl rfl)
theorem dX6_run_35 : decode cX6_run 35 = .ok (.getfield 38, 3) := dk_180 0 38 (dk_at dksX6_run_1 11 rfl rfl)
theorem dX6_run_38 : decode cX6_run 38 = .ok (.iconst 0, 1) := dk_3 (dk_at dksX6_run_1 14 rfl rfl)
theorem dX6_run_39 : decode cX6_run 39 = .ok (.aload_n 0, 1) := dk_42 (dk_at dksX6_run_1 15 rfl rfl)
theorem dX6_run_40 : decode cX6_run 40 = .ok (.getfield 41, 3) := dk_180 0 41 (dk_at dksX6_run_1 16 rfl rfl)
theorem dX6_run_43 : decode cX6_run 43 = .ok (.iconst 0, 1) := dk_3 (dk_at dksX6_run_1 19 rfl rfl)
theorem dX6_run_44 : decode cX6_run 44 = .ok (.invokestatic 349, 3) := dk_184 1 93 (dk_at dksX6_run_1 20 rfl rfl)
theorem dX6_run_47 : decode cX6_run 47 = .ok (.iconst 0, 1) := dk_3 (dk_at dksX6_run_1 23 rfl rfl)
theorem dX6_run_48 : decode cX6_run 48 = .ok (.istore_n 3, 1) := dk_62 (dk_at dksX6_run_2 0 rfl rfl)
theorem dX6_run_49 : decode cX6_run 49 = .ok (.iconst 1, 1) := dk_4 (dk_at dksX6_run_2 1 rfl rfl)
theorem dX6_run_50 : decode cX6_run 50 = .ok (.istore 4, 2) := dk_54 4 (dk_at dksX6_run_2 2 rfl rfl)
theorem dX6_run_52 : decode cX6_run 52 = .ok (.iload 4, 2) := dk_21 4 (dk_at dksX6_run_2 4 rfl rfl)
theorem dX6_run_54 : decode cX6_run 54 = .ok (.ifCond .eq 96, 3) := dk_153 0 96 (dk_at dksX6_run_2 6 rfl rfl)
theorem dX6_run_57 : decode cX6_run 57 = .ok (.iload_n 3, 1) := dk_29 (dk_at dksX6_run_2 9 rfl rfl)
theorem dX6_run_58 : decode cX6_run 58 = .ok (.aload_n 0, 1) := dk_42 (dk_at dksX6_run_2 10 rfl rfl)
theorem dX6_run_59 : decode cX6_run 59 = .ok (.getfield 29, 3) := dk_180 0 29 (dk_at dksX6_run_2 11 rfl rfl)
theorem dX6_run_62 : decode cX6_run 62 = .ok (.iload_n 1, 1) := dk_27 (dk_at dksX6_run_2 14 rfl rfl)
theorem dX6_run_63 : decode cX6_run 63 = .ok (.iaload, 1) := dk_46 (dk_at dksX6_run_2 15 rfl rfl)
theorem dX6_run_64 : decode cX6_run 64 = .ok (.if_icmp .ge 86, 3) := dk_162 0 86 (dk_at dksX6_run_2 16 rfl rfl)
theorem dX6_run_67 : decode cX6_run 67 = .ok (.iconst 5, 1) := dk_8 (dk_at dksX6_run_2 19 rfl rfl)
theorem dX6_run_68 : decode cX6_run 68 = .ok (.bipush 16, 2) := dk_16 16 (dk_at dksX6_run_2 20 rfl rfl)
theorem dX6_run_70 : decode cX6_run 70 = .ok (.iload_n 1, 1) := dk_27 (dk_at dksX6_run_2 22 rfl rfl)
theorem dX6_run_71 : decode cX6_run 71 = .ok (.imul, 1) := dk_104 (dk_at dksX6_run_2 23 rfl rfl)
theorem dX6_run_72 : decode cX6_run 72 = .ok (.iload_n 3, 1) := dk_29 (dk_at dksX6_run_3 0 rfl rfl)
theorem dX6_run_73 : decode cX6_run 73 = .ok (.iadd, 1) := dk_96 (dk_at dksX6_run_3 1 rfl rfl)
theorem dX6_run_74 : decode cX6_run 74 = .ok (.imul, 1) := dk_104 (dk_at dksX6_run_3 2 rfl rfl)
theorem dX6_run_75 : decode cX6_run 75 = .ok (.istore 5, 2) := dk_54 5 (dk_at dksX6_run_3 3 rfl rfl)
theorem dX6_run_77 : decode cX6_run 77 = .ok (.aload_n 0, 1) := dk_42 (dk_at dksX6_run_3 5 rfl rfl)
theorem dX6_run_78 : decode cX6_run 78 = .ok (.aload_n 0, 1) := dk_42 (dk_at dksX6_run_3 6 rfl rfl)
theorem dX6_run_79 : decode cX6_run 79 = .ok (.getfield 41, 3) := dk_180 0 41 (dk_at dksX6_run_3 7 rfl rfl)
theorem dX6_run_82 : decode cX6_run 82 = .ok (.aload_n 0, 1) := dk_42 (dk_at dksX6_run_3 10 rfl rfl)
theorem dX6_run_83 : decode cX6_run 83 = .ok (.getfield 26, 3) := dk_180 0 26 (dk_at dksX6_run_3 11 rfl rfl)
theorem dX6_run_86 : decode cX6_run 86 = .ok (.iload 5, 2) := dk_21 5 (dk_at dksX6_run_3 14 rfl rfl)
theorem dX6_run_88 : decode cX6_run 88 = .ok (.iaload, 1) := dk_46 (dk_at dksX6_run_3 16 rfl rfl)
theorem dX6_run_89 : decode cX6_run 89 = .ok (.aload_n 0, 1) := dk_42 (dk_at dksX6_run_3 17 rfl rfl)
theorem dX6_run_90 : decode cX6_run 90 = .ok (.getfield 26, 3) := dk_180 0 26 (dk_at dksX6_run_3 18 rfl rfl)
theorem dX6_run_93 : decode cX6_run 93 = .ok (.iload 5, 2) := dk_21 5 (dk_at dksX6_run_3 21 rfl rfl)
theorem dX6_run_95 : decode cX6_run 95 = .ok (.iconst 1, 1) := dk_4 (dk_at dksX6_run_3 23 rfl rfl)
theorem dX6_run_96 : decode cX6_run 96 = .ok (.iadd, 1) := dk_96 (dk_at dksX6_run_4 0 rfl rfl)
theorem dX6_run_97 : decode cX6_run 97 = .ok (.iaload, 1) := dk_46 (dk_at dksX6_run_4 1 rfl rfl)
theorem dX6_run_98 : decode cX6_run 98 = .ok (.aload_n 0, 1) := dk_42 (dk_at dksX6_run_4 2 rfl rfl)
theorem dX6_run_99 : decode cX6_run 99 = .ok (.getfield 26, 3) := dk_180 0 26 (dk_at dksX6_run_4 3 rfl rfl)
theorem dX6_run_102 : decode cX6_run 102 = .ok (.iload 5, 2) := dk_21 5 (dk_at dksX6_run_4 6 rfl rfl)
theorem dX6_run_104 : decode cX6_run 104 = .ok (.iconst 2, 1) := dk_5 (dk_at dksX6_run_4 8 rfl rfl)
theorem dX6_run_105 : decode cX6_run 105 = .ok (.iadd, 1) := dk_96 (dk_at dksX6_run_4 9 rfl rfl)
theorem dX6_run_106 : decode cX6_run 106 = .ok (.iaload, 1) := dk_46 (dk_at dksX6_run_4 10 rfl rfl)
theorem dX6_run_107 : decode cX6_run 107 = .ok (.aload_n 0, 1) := dk_42 (dk_at dksX6_run_4 11 rfl rfl)
theorem dX6_run_108 : decode cX6_run 108 = .ok (.getfield 26, 3) := dk_180 0 26 (dk_at dksX6_run_4 12 rfl rfl)
theorem dX6_run_111 : decode cX6_run 111 = .ok (.iload 5, 2) := dk_21 5 (dk_at dksX6_run_4 15 rfl rfl)
theorem dX6_run_113 : decode cX6_run 113 = .ok (.iconst 3, 1) := dk_6 (dk_at dksX6_run_4 17 rfl rfl)
theorem dX6_run_114 : decode cX6_run 114 = .ok (.iadd, 1) := dk_96 (dk_at dksX6_run_4 18 rfl rfl)
theorem dX6_run_115 : decode cX6_run 115 = .ok (.iaload, 1) := dk_46 (dk_at dksX6_run_4 19 rfl rfl)
theorem dX6_run_116 : decode cX6_run 116 = .ok (.aload_n 0, 1) := dk_42 (dk_at dksX6_run_4 20 rfl rfl)
theorem dX6_run_117 : decode cX6_run 117 = .ok (.getfield 26, 3) := dk_180 0 26 (dk_at dksX6_run_4 21 rfl rfl)
theorem dX6_run_120 : decode cX6_run 120 = .ok (.iload 5, 2) := dk_21 5 (dk_at dksX6_run_5 0 rfl rfl)
theorem dX6_run_122 : decode cX6_run 122 = .ok (.iconst 4, 1) := dk_7 (dk_at dksX6_run_5 2 rfl rfl)
theorem dX6_run_123 : decode cX6_run 123 = .ok (.iadd, 1) := dk_96 (dk_at dksX6_run_5 3 rfl rfl)
theorem dX6_run_124 : decode cX6_run 124 = .ok (.iaload, 1) := dk_46 (dk_at dksX6_run_5 4 rfl rfl)
theorem dX6_run_125 : decode cX6_run 125 = .ok (.invokevirtual 353, 3) := dk_182 1 97 (dk_at dksX6_run_5 5 rfl rfl)
theorem dX6_run_128 : decode cX6_run 128 = .ok (.iconst (-1), 1) := dk_2 (dk_at dksX6_run_5 8 rfl rfl)
theorem dX6_run_129 : decode cX6_run 129 = .ok (.if_icmp .ne 7, 3) := dk_160 0 7 (dk_at dksX6_run_5 9 rfl rfl)
theorem dX6_run_132 : decode cX6_run 132 = .ok (.iconst 1, 1) := dk_4 (dk_at dksX6_run_5 12 rfl rfl)
theorem dX6_run_133 : decode cX6_run 133 = .ok (.goto 4, 3) := dk_167 0 4 (dk_at dksX6_run_5 13 rfl rfl)
theorem dX6_run_136 : decode cX6_run 136 = .ok (.iconst 0, 1) := dk_3 (dk_at dksX6_run_5 16 rfl rfl)
theorem dX6_run_137 : decode cX6_run 137 = .ok (.istore 4, 2) := dk_54 4 (dk_at dksX6_run_5 17 rfl rfl)
theorem dX6_run_139 : decode cX6_run 139 = .ok (.iload 4, 2) := dk_21 4 (dk_at dksX6_run_5 19 rfl rfl)
theorem dX6_run_141 : decode cX6_run 141 = .ok (.ifCond .eq 6, 3) := dk_153 0 6 (dk_at dksX6_run_5 21 rfl rfl)
theorem dX6_run_144 : decode cX6_run 144 = .ok (.iinc 3 1, 3) := dk_132 3 1 (dk_at dksX6_run_6 0 rfl rfl)
theorem dX6_run_147 : decode cX6_run 147 = .ok (.goto (-95), 3) := dk_167 255 161 (dk_at dksX6_run_6 3 rfl rfl)
theorem dX6_run_150 : decode cX6_run 150 = .ok (.iload_n 2, 1) := dk_28 (dk_at dksX6_run_6 6 rfl rfl)
theorem dX6_run_151 : decode cX6_run 151 = .ok (.iconst 1, 1) := dk_4 (dk_at dksX6_run_6 7 rfl rfl)
theorem dX6_run_152 : decode cX6_run 152 = .ok (.if_icmp .ne 21, 3) := dk_160 0 21 (dk_at dksX6_run_6 8 rfl rfl)
theorem dX6_run_155 : decode cX6_run 155 = .ok (.aload_n 0, 1) := dk_42 (dk_at dksX6_run_6 11 rfl rfl)
theorem dX6_run_156 : decode cX6_run 156 = .ok (.getfield 41, 3) := dk_180 0 41 (dk_at dksX6_run_6 12 rfl rfl)
theorem dX6_run_159 : decode cX6_run 159 = .ok (.invokestatic 359, 3) := dk_184 1 103 (dk_at dksX6_run_6 15 rfl rfl)
theorem dX6_run_162 : decode cX6_run 162 = .ok (.aload_n 0, 1) := dk_42 (dk_at dksX6_run_6 18 rfl rfl)
theorem dX6_run_163 : decode cX6_run 163 = .ok (.getfield 38, 3) := dk_180 0 38 (dk_at dksX6_run_6 19 rfl rfl)
theorem dX6_run_166 : decode cX6_run 166 = .ok (.invokestatic 359, 3) := dk_184 1 103 (dk_at dksX6_run_7 0 rfl rfl)
theorem dX6_run_169 : decode cX6_run 169 = .ok (.isub, 1) := dk_100 (dk_at dksX6_run_7 3 rfl rfl)
theorem dX6_run_170 : decode cX6_run 170 = .ok (.goto 18, 3) := dk_167 0 18 (dk_at dksX6_run_7 4 rfl rfl)
theorem dX6_run_173 : decode cX6_run 173 = .ok (.iload_n 3, 1) := dk_29 (dk_at dksX6_run_7 7 rfl rfl)
theorem dX6_run_174 : decode cX6_run 174 = .ok (.aload_n 0, 1) := dk_42 (dk_at dksX6_run_7 8 rfl rfl)
theorem dX6_run_175 : decode cX6_run 175 = .ok (.getfield 29, 3) := dk_180 0 29 (dk_at dksX6_run_7 9 rfl rfl)
theorem dX6_run_178 : decode cX6_run 178 = .ok (.iload_n 1, 1) := dk_27 (dk_at dksX6_run_7 12 rfl rfl)
theorem dX6_run_179 : decode cX6_run 179 = .ok (.iaload, 1) := dk_46 (dk_at dksX6_run_7 13 rfl rfl)
theorem dX6_run_180 : decode cX6_run 180 = .ok (.if_icmp .ne 7, 3) := dk_160 0 7 (dk_at dksX6_run_7 14 rfl rfl)
theorem dX6_run_183 : decode cX6_run 183 = .ok (.iconst (-1), 1) := dk_2 (dk_at dksX6_run_7 17 rfl rfl)
theorem dX6_run_184 : decode cX6_run 184 = .ok (.goto 4, 3) := dk_167 0 4 (dk_at dksX6_run_7 18 rfl rfl)
theorem dX6_run_187 : decode cX6_run 187 = .ok (.iload_n 3, 1) := dk_29 (dk_at dksX6_run_7 21 rfl rfl)
theorem dX6_run_188 : decode cX6_run 188 = .ok (.ireturn, 1) := dk_172 (dk_at dksX6_run_7 22 rfl rfl)
abbrev cX6_perform : ByteArray := prog_12_method_122_code
def yX6_perform : MethodName := ⟨RX6, "perform", "(I)I"⟩
def dkwX6_perform_5 : List UInt8 := [172]
abbrev dktX6_perform_5 : List UInt8 := dkwX6_perform_5 ++ []
def dkwX6_perform_4 : List UInt8 := [182, 1, 110, 2, 160, 0, 7, 4, 167, 0, 4, 3, 62, 29, 153, 0, 6, 132, 2, 1, 167, 255, 168, 28]
abbrev dktX6_perform_4 : List UInt8 := dkwX6_perform_4 ++ dktX6_perform_5
def dkwX6_perform_3 : List UInt8 := [21, 4, 5, 96, 46, 42, 180, 0, 26, 21, 4, 6, 96, 46, 42, 180, 0, 26, 21, 4, 7, 96, 46]
abbrev dktX6_perform_3 : List UInt8 := dkwX6_perform_3 ++ dktX6_perform_4
def dkwX6_perform_2 : List UInt8 := [54, 4, 42, 42, 180, 0, 26, 21, 4, 46, 42, 180, 0, 26, 21, 4, 4, 96, 46, 42, 180, 0, 26]
abbrev dktX6_perform_2 : List UInt8 := dkwX6_perform_2 ++ dktX6_perform_3
def dkwX6_perform_1 : List UInt8 := [4, 62, 29, 153, 0, 90, 28, 42, 180, 0, 29, 27, 46, 162, 0, 80, 8, 16, 16, 27, 104, 28, 96, 104]
abbrev dktX6_perform_1 : List UInt8 := dkwX6_perform_1 ++ dktX6_perform_2
def dkwX6_perform_0 : List UInt8 := [42, 3, 181, 0, 57, 42, 27, 182, 1, 147, 153, 0, 10, 42, 180, 0, 153, 154, 0, 5, 2, 172, 3, 61]
abbrev dktX6_perform_0 : List UInt8 := dkwX6_perform_0 ++ dktX6_perform_1
theorem dksX6_perform_0 : cX6_perform.data.toList.drop 0 = dktX6_perform_0 := by decide +kernel
theorem dksX6_perform_1 : cX6_perform.data.toList.drop 24 = dktX6_perform_1 := dk_seg dksX6_perform_0 24 rfl rfl
theorem dksX6_perform_2 : cX6_perform.data.toList.drop 48 = dktX6_perform_2 := dk_seg dksX6_perform_1 24 rfl rfl
theorem dksX6_perform_3 : cX6_perform.data.toList.drop 71 = dktX6_perform_3 := dk_seg dksX6_perform_2 23 rfl rfl
theorem dksX6_perform_4 : cX6_perform.data.toList.drop 94 = dktX6_perform_4 := dk_seg dksX6_perform_3 23 rfl rfl
theorem dksX6_perform_5 : cX6_perform.data.toList.drop 118 = dktX6_perform_5 := dk_seg dksX6_perform_4 24 rfl rfl
theorem dX6_perform_0 : decode cX6_perform 0 = .ok (.aload_n 0, 1) := dk_42 (dk_at dksX6_perform_0 0 rfl rfl)
theorem dX6_perform_1 : decode cX6_perform 1 = .ok (.iconst 0, 1) := dk_3 (dk_at dksX6_perform_0 1 rfl rfl)
theorem dX6_perform_2 : decode cX6_perform 2 = .ok (.putfield 57, 3) := dk_181 0 57 (dk_at dksX6_perform_0 2 rfl rfl)
theorem dX6_perform_5 : decode cX6_perform 5 = .ok (.aload_n 0, 1) := dk_42 (dk_at dksX6_perform_0 5 rfl rfl)
theorem dX6_perform_6 : decode cX6_perform 6 = .ok (.iload_n 1, 1) := dk_27 (dk_at dksX6_perform_0 6 rfl rfl)
theorem dX6_perform_7 : decode cX6_perform 7 = .ok (.invokevirtual 403, 3) := dk_182 1 147 (dk_at dksX6_perform_0 7 rfl rfl)
theorem dX6_perform_10 : decode cX6_perform 10 = .ok (.ifCond .eq 10, 3) := dk_153 0 10 (dk_at dksX6_perform_0 10 rfl rfl)
theorem dX6_perform_13 : decode cX6_perform 13 = .ok (.aload_n 0, 1) := dk_42 (dk_at dksX6_perform_0 13 rfl rfl)
theorem dX6_perform_14 : decode cX6_perform 14 = .ok (.getfield 153, 3) := dk_180 0 153 (dk_at dksX6_perform_0 14 rfl rfl)
theorem dX6_perform_17 : decode cX6_perform 17 = .ok (.ifCond .ne 5, 3) := dk_154 0 5 (dk_at dksX6_perform_0 17 rfl rfl)
theorem dX6_perform_20 : decode cX6_perform 20 = .ok (.iconst (-1), 1) := dk_2 (dk_at dksX6_perform_0 20 rfl rfl)
theorem dX6_perform_21 : decode cX6_perform 21 = .ok (.ireturn, 1) := dk_172 (dk_at dksX6_perform_0 21 rfl rfl)
theorem dX6_perform_22 : decode cX6_perform 22 = .ok (.iconst 0, 1) := dk_3 (dk_at dksX6_perform_0 22 rfl rfl)
theorem dX6_perform_23 : decode cX6_perform 23 = .ok (.istore_n 2, 1) := dk_61 (dk_at dksX6_perform_0 23 rfl rfl)
theorem dX6_perform_24 : decode cX6_perform 24 = .ok (.iconst 1, 1) := dk_4 (dk_at dksX6_perform_1 0 rfl rfl)
theorem dX6_perform_25 : decode cX6_perform 25 = .ok (.istore_n 3, 1) := dk_62 (dk_at dksX6_perform_1 1 rfl rfl)
theorem dX6_perform_26 : decode cX6_perform 26 = .ok (.iload_n 3, 1) := dk_29 (dk_at dksX6_perform_1 2 rfl rfl)
theorem dX6_perform_27 : decode cX6_perform 27 = .ok (.ifCond .eq 90, 3) := dk_153 0 90 (dk_at dksX6_perform_1 3 rfl rfl)
theorem dX6_perform_30 : decode cX6_perform 30 = .ok (.iload_n 2, 1) := dk_28 (dk_at dksX6_perform_1 6 rfl rfl)
theorem dX6_perform_31 : decode cX6_perform 31 = .ok (.aload_n 0, 1) := dk_42 (dk_at dksX6_perform_1 7 rfl rfl)
theorem dX6_perform_32 : decode cX6_perform 32 = .ok (.getfield 29, 3) := dk_180 0 29 (dk_at dksX6_perform_1 8 rfl rfl)
theorem dX6_perform_35 : decode cX6_perform 35 = .ok (.iload_n 1, 1) := dk_27 (dk_at dksX6_perform_1 11 rfl rfl)
theorem dX6_perform_36 : decode cX6_perform 36 = .ok (.iaload, 1) := dk_46 (dk_at dksX6_perform_1 12 rfl rfl)
theorem dX6_perform_37 : decode cX6_perform 37 = .ok (.if_icmp .ge 80, 3) := dk_162 0 80 (dk_at dksX6_perform_1 13 rfl rfl)
theorem dX6_perform_40 : decode cX6_perform 40 = .ok (.iconst 5, 1) := dk_8 (dk_at dksX6_perform_1 16 rfl rfl)
theorem dX6_perform_41 : decode cX6_perform 41 = .ok (.bipush 16, 2) := dk_16 16 (dk_at dksX6_perform_1 17 rfl rfl)
theorem dX6_perform_43 : decode cX6_perform 43 = .ok (.iload_n 1, 1) := dk_27 (dk_at dksX6_perform_1 19 rfl rfl)
theorem dX6_perform_44 : decode cX6_perform 44 = .ok (.imul, 1) := dk_104 (dk_at dksX6_perform_1 20 rfl rfl)
theorem dX6_perform_45 : decode cX6_perform 45 = .ok (.iload_n 2, 1) := dk_28 (dk_at dksX6_perform_1 21 rfl rfl)
theorem dX6_perform_46 : decode cX6_perform 46 = .ok (.iadd, 1) := dk_96 (dk_at dksX6_perform_1 22 rfl rfl)
theorem dX6_perform_47 : decode cX6_perform 47 = .ok (.imul, 1) := dk_104 (dk_at dksX6_perform_1 23 rfl rfl)
theorem dX6_perform_48 : decode cX6_perform 48 = .ok (.istore 4, 2) := dk_54 4 (dk_at dksX6_perform_2 0 rfl rfl)
theorem dX6_perform_50 : decode cX6_perform 50 = .ok (.aload_n 0, 1) := dk_42 (dk_at dksX6_perform_2 2 rfl rfl)
theorem dX6_perform_51 : decode cX6_perform 51 = .ok (.aload_n 0, 1) := dk_42 (dk_at dksX6_perform_2 3 rfl rfl)
theorem dX6_perform_52 : decode cX6_perform 52 = .ok (.getfield 26, 3) := dk_180 0 26 (dk_at dksX6_perform_2 4 rfl rfl)
theorem dX6_perform_55 : decode cX6_perform 55 = .ok (.iload 4, 2) := dk_21 4 (dk_at dksX6_perform_2 7 rfl rfl)
theorem dX6_perform_57 : decode cX6_perform 57 = .ok (.iaload, 1) := dk_46 (dk_at dksX6_perform_2 9 rfl rfl)
theorem dX6_perform_58 : decode cX6_perform 58 = .ok (.aload_n 0, 1) := dk_42 (dk_at dksX6_perform_2 10 rfl rfl)
theorem dX6_perform_59 : decode cX6_perform 59 = .ok (.getfield 26, 3) := dk_180 0 26 (dk_at dksX6_perform_2 11 rfl rfl)
theorem dX6_perform_62 : decode cX6_perform 62 = .ok (.iload 4, 2) := dk_21 4 (dk_at dksX6_perform_2 14 rfl rfl)
theorem dX6_perform_64 : decode cX6_perform 64 = .ok (.iconst 1, 1) := dk_4 (dk_at dksX6_perform_2 16 rfl rfl)
theorem dX6_perform_65 : decode cX6_perform 65 = .ok (.iadd, 1) := dk_96 (dk_at dksX6_perform_2 17 rfl rfl)
theorem dX6_perform_66 : decode cX6_perform 66 = .ok (.iaload, 1) := dk_46 (dk_at dksX6_perform_2 18 rfl rfl)
theorem dX6_perform_67 : decode cX6_perform 67 = .ok (.aload_n 0, 1) := dk_42 (dk_at dksX6_perform_2 19 rfl rfl)
theorem dX6_perform_68 : decode cX6_perform 68 = .ok (.getfield 26, 3) := dk_180 0 26 (dk_at dksX6_perform_2 20 rfl rfl)
theorem dX6_perform_71 : decode cX6_perform 71 = .ok (.iload 4, 2) := dk_21 4 (dk_at dksX6_perform_3 0 rfl rfl)
theorem dX6_perform_73 : decode cX6_perform 73 = .ok (.iconst 2, 1) := dk_5 (dk_at dksX6_perform_3 2 rfl rfl)
theorem dX6_perform_74 : decode cX6_perform 74 = .ok (.iadd, 1) := dk_96 (dk_at dksX6_perform_3 3 rfl rfl)
theorem dX6_perform_75 : decode cX6_perform 75 = .ok (.iaload, 1) := dk_46 (dk_at dksX6_perform_3 4 rfl rfl)
theorem dX6_perform_76 : decode cX6_perform 76 = .ok (.aload_n 0, 1) := dk_42 (dk_at dksX6_perform_3 5 rfl rfl)
theorem dX6_perform_77 : decode cX6_perform 77 = .ok (.getfield 26, 3) := dk_180 0 26 (dk_at dksX6_perform_3 6 rfl rfl)
theorem dX6_perform_80 : decode cX6_perform 80 = .ok (.iload 4, 2) := dk_21 4 (dk_at dksX6_perform_3 9 rfl rfl)
theorem dX6_perform_82 : decode cX6_perform 82 = .ok (.iconst 3, 1) := dk_6 (dk_at dksX6_perform_3 11 rfl rfl)
theorem dX6_perform_83 : decode cX6_perform 83 = .ok (.iadd, 1) := dk_96 (dk_at dksX6_perform_3 12 rfl rfl)
theorem dX6_perform_84 : decode cX6_perform 84 = .ok (.iaload, 1) := dk_46 (dk_at dksX6_perform_3 13 rfl rfl)
theorem dX6_perform_85 : decode cX6_perform 85 = .ok (.aload_n 0, 1) := dk_42 (dk_at dksX6_perform_3 14 rfl rfl)
theorem dX6_perform_86 : decode cX6_perform 86 = .ok (.getfield 26, 3) := dk_180 0 26 (dk_at dksX6_perform_3 15 rfl rfl)
theorem dX6_perform_89 : decode cX6_perform 89 = .ok (.iload 4, 2) := dk_21 4 (dk_at dksX6_perform_3 18 rfl rfl)
theorem dX6_perform_91 : decode cX6_perform 91 = .ok (.iconst 4, 1) := dk_7 (dk_at dksX6_perform_3 20 rfl rfl)
theorem dX6_perform_92 : decode cX6_perform 92 = .ok (.iadd, 1) := dk_96 (dk_at dksX6_perform_3 21 rfl rfl)
theorem dX6_perform_93 : decode cX6_perform 93 = .ok (.iaload, 1) := dk_46 (dk_at dksX6_perform_3 22 rfl rfl)
theorem dX6_perform_94 : decode cX6_perform 94 = .ok (.invokevirtual 366, 3) := dk_182 1 110 (dk_at dksX6_perform_4 0 rfl rfl)
theorem dX6_perform_97 : decode cX6_perform 97 = .ok (.iconst (-1), 1) := dk_2 (dk_at dksX6_perform_4 3 rfl rfl)
theorem dX6_perform_98 : decode cX6_perform 98 = .ok (.if_icmp .ne 7, 3) := dk_160 0 7 (dk_at dksX6_perform_4 4 rfl rfl)
theorem dX6_perform_101 : decode cX6_perform 101 = .ok (.iconst 1, 1) := dk_4 (dk_at dksX6_perform_4 7 rfl rfl)
theorem dX6_perform_102 : decode cX6_perform 102 = .ok (.goto 4, 3) := dk_167 0 4 (dk_at dksX6_perform_4 8 rfl rfl)
theorem dX6_perform_105 : decode cX6_perform 105 = .ok (.iconst 0, 1) := dk_3 (dk_at dksX6_perform_4 11 rfl rfl)
theorem dX6_perform_106 : decode cX6_perform 106 = .ok (.istore_n 3, 1) := dk_62 (dk_at dksX6_perform_4 12 rfl rfl)
theorem dX6_perform_107 : decode cX6_perform 107 = .ok (.iload_n 3, 1) := dk_29 (dk_at dksX6_perform_4 13 rfl rfl)
theorem dX6_perform_108 : decode cX6_perform 108 = .ok (.ifCond .eq 6, 3) := dk_153 0 6 (dk_at dksX6_perform_4 14 rfl rfl)
theorem dX6_perform_111 : decode cX6_perform 111 = .ok (.iinc 2 1, 3) := dk_132 2 1 (dk_at dksX6_perform_4 17 rfl rfl)
theorem dX6_perform_114 : decode cX6_perform 114 = .ok (.goto (-88), 3) := dk_167 255 168 (dk_at dksX6_perform_4 20 rfl rfl)
theorem dX6_perform_117 : decode cX6_perform 117 = .ok (.iload_n 2, 1) := dk_28 (dk_at dksX6_perform_4 23 rfl rfl)
theorem dX6_perform_118 : decode cX6_perform 118 = .ok (.ireturn, 1) := dk_172 (dk_at dksX6_perform_5 0 rfl rfl)
abbrev cX6_most : ByteArray := prog_12_method_124_code
def yX6_most : MethodName := ⟨RX6, "most", "(I)I"⟩
def dkwX6_most_5 : List UInt8 := [180, 0, 38, 17, 1, 176, 27, 96, 16, 8, 100, 46, 172, 19, 1, 137, 172]
abbrev dktX6_most_5 : List UInt8 := dkwX6_most_5 ++ []
def dkwX6_most_4 : List UInt8 := [180, 0, 38, 17, 1, 170, 46, 172, 42, 180, 0, 38, 17, 1, 169, 46, 172, 42, 182, 1, 138, 172, 42]
abbrev dktX6_most_4 : List UInt8 := dkwX6_most_4 ++ dktX6_most_5
def dkwX6_most_3 : List UInt8 := [17, 1, 173, 46, 172, 42, 180, 0, 38, 17, 1, 174, 46, 172, 42, 180, 0, 38, 17, 1, 175, 46, 172, 42]
abbrev dktX6_most_3 : List UInt8 := dkwX6_most_3 ++ dktX6_most_4
def dkwX6_most_2 : List UInt8 := [42, 180, 0, 38, 17, 1, 171, 46, 172, 42, 180, 0, 38, 17, 1, 172, 46, 172, 42, 180, 0, 38]
abbrev dktX6_most_2 : List UInt8 := dkwX6_most_2 ++ dktX6_most_3
def dkwX6_most_1 : List UInt8 := [170, 0, 0, 0, 0, 0, 141, 0, 0, 0, 0, 0, 0, 0, 10, 0, 0, 0, 59, 0, 0, 0, 68, 0, 0, 0, 77, 0, 0, 0, 86, 0, 0, 0, 95, 0, 0, 0, 104, 0, 0, 0, 113, 0, 0, 0, 122, 0, 0, 0, 127, 0, 0, 0, 127, 0, 0, 0, 127]
abbrev dktX6_most_1 : List UInt8 := dkwX6_most_1 ++ dktX6_most_2
def dkwX6_most_0 : List UInt8 := [42, 3, 181, 0, 57, 42, 180, 0, 153, 154, 0, 7, 19, 1, 137, 172, 27]
abbrev dktX6_most_0 : List UInt8 := dkwX6_most_0 ++ dktX6_most_1
theorem dksX6_most_0 : cX6_most.data.toList.drop 0 = dktX6_most_0 := by decide +kernel
theorem dksX6_most_1 : cX6_most.data.toList.drop 17 = dktX6_most_1 := dk_seg dksX6_most_0 17 rfl rfl
theorem dksX6_most_2 : cX6_most.data.toList.drop 76 = dktX6_most_2 := dk_seg dksX6_most_1 59 rfl rfl
theorem dksX6_most_3 : cX6_most.data.toList.drop 98 = dktX6_most_3 := dk_seg dksX6_most_2 22 rfl rfl
theorem dksX6_most_4 : cX6_most.data.toList.drop 122 = dktX6_most_4 := dk_seg dksX6_most_3 24 rfl rfl
theorem dksX6_most_5 : cX6_most.data.toList.drop 145 = dktX6_most_5 := dk_seg dksX6_most_4 23 rfl rfl
theorem dX6_most_0 : decode cX6_most 0 = .ok (.aload_n 0, 1) := dk_42 (dk_at dksX6_most_0 0 rfl rfl)
theorem dX6_most_1 : decode cX6_most 1 = .ok (.iconst 0, 1) := dk_3 (dk_at dksX6_most_0 1 rfl rfl)
theorem dX6_most_2 : decode cX6_most 2 = .ok (.putfield 57, 3) := dk_181 0 57 (dk_at dksX6_most_0 2 rfl rfl)
theorem dX6_most_5 : decode cX6_most 5 = .ok (.aload_n 0, 1) := dk_42 (dk_at dksX6_most_0 5 rfl rfl)
theorem dX6_most_6 : decode cX6_most 6 = .ok (.getfield 153, 3) := dk_180 0 153 (dk_at dksX6_most_0 6 rfl rfl)
theorem dX6_most_9 : decode cX6_most 9 = .ok (.ifCond .ne 7, 3) := dk_154 0 7 (dk_at dksX6_most_0 9 rfl rfl)
theorem dX6_most_12 : decode cX6_most 12 = .ok (.ldc_w 393, 3) := dk_19 1 137 (dk_at dksX6_most_0 12 rfl rfl)
theorem dX6_most_15 : decode cX6_most 15 = .ok (.ireturn, 1) := dk_172 (dk_at dksX6_most_0 15 rfl rfl)
theorem dX6_most_16 : decode cX6_most 16 = .ok (.iload_n 1, 1) := dk_27 (dk_at dksX6_most_0 16 rfl rfl)
theorem dX6_most_17 : decode cX6_most 17 = .ok (.tableswitch 141 0 10 #[59, 68, 77, 86, 95, 104, 113, 122, 127, 127, 127], 59) := by decide +kernel
theorem dX6_most_76 : decode cX6_most 76 = .ok (.aload_n 0, 1) := dk_42 (dk_at dksX6_most_2 0 rfl rfl)
theorem dX6_most_77 : decode cX6_most 77 = .ok (.getfield 38, 3) := dk_180 0 38 (dk_at dksX6_most_2 1 rfl rfl)
theorem dX6_most_80 : decode cX6_most 80 = .ok (.sipush 427, 3) := dk_17 1 171 (dk_at dksX6_most_2 4 rfl rfl)
theorem dX6_most_83 : decode cX6_most 83 = .ok (.iaload, 1) := dk_46 (dk_at dksX6_most_2 7 rfl rfl)
theorem dX6_most_84 : decode cX6_most 84 = .ok (.ireturn, 1) := dk_172 (dk_at dksX6_most_2 8 rfl rfl)
theorem dX6_most_85 : decode cX6_most 85 = .ok (.aload_n 0, 1) := dk_42 (dk_at dksX6_most_2 9 rfl rfl)
theorem dX6_most_86 : decode cX6_most 86 = .ok (.getfield 38, 3) := dk_180 0 38 (dk_at dksX6_most_2 10 rfl rfl)
theorem dX6_most_89 : decode cX6_most 89 = .ok (.sipush 428, 3) := dk_17 1 172 (dk_at dksX6_most_2 13 rfl rfl)
theorem dX6_most_92 : decode cX6_most 92 = .ok (.iaload, 1) := dk_46 (dk_at dksX6_most_2 16 rfl rfl)
theorem dX6_most_93 : decode cX6_most 93 = .ok (.ireturn, 1) := dk_172 (dk_at dksX6_most_2 17 rfl rfl)
theorem dX6_most_94 : decode cX6_most 94 = .ok (.aload_n 0, 1) := dk_42 (dk_at dksX6_most_2 18 rfl rfl)
theorem dX6_most_95 : decode cX6_most 95 = .ok (.getfield 38, 3) := dk_180 0 38 (dk_at dksX6_most_2 19 rfl rfl)
theorem dX6_most_98 : decode cX6_most 98 = .ok (.sipush 429, 3) := dk_17 1 173 (dk_at dksX6_most_3 0 rfl rfl)
theorem dX6_most_101 : decode cX6_most 101 = .ok (.iaload, 1) := dk_46 (dk_at dksX6_most_3 3 rfl rfl)
theorem dX6_most_102 : decode cX6_most 102 = .ok (.ireturn, 1) := dk_172 (dk_at dksX6_most_3 4 rfl rfl)
theorem dX6_most_103 : decode cX6_most 103 = .ok (.aload_n 0, 1) := dk_42 (dk_at dksX6_most_3 5 rfl rfl)
theorem dX6_most_104 : decode cX6_most 104 = .ok (.getfield 38, 3) := dk_180 0 38 (dk_at dksX6_most_3 6 rfl rfl)
theorem dX6_most_107 : decode cX6_most 107 = .ok (.sipush 430, 3) := dk_17 1 174 (dk_at dksX6_most_3 9 rfl rfl)
theorem dX6_most_110 : decode cX6_most 110 = .ok (.iaload, 1) := dk_46 (dk_at dksX6_most_3 12 rfl rfl)
theorem dX6_most_111 : decode cX6_most 111 = .ok (.ireturn, 1) := dk_172 (dk_at dksX6_most_3 13 rfl rfl)
theorem dX6_most_112 : decode cX6_most 112 = .ok (.aload_n 0, 1) := dk_42 (dk_at dksX6_most_3 14 rfl rfl)
theorem dX6_most_113 : decode cX6_most 113 = .ok (.getfield 38, 3) := dk_180 0 38 (dk_at dksX6_most_3 15 rfl rfl)
theorem dX6_most_116 : decode cX6_most 116 = .ok (.sipush 431, 3) := dk_17 1 175 (dk_at dksX6_most_3 18 rfl rfl)
theorem dX6_most_119 : decode cX6_most 119 = .ok (.iaload, 1) := dk_46 (dk_at dksX6_most_3 21 rfl rfl)
theorem dX6_most_120 : decode cX6_most 120 = .ok (.ireturn, 1) := dk_172 (dk_at dksX6_most_3 22 rfl rfl)
theorem dX6_most_121 : decode cX6_most 121 = .ok (.aload_n 0, 1) := dk_42 (dk_at dksX6_most_3 23 rfl rfl)
theorem dX6_most_122 : decode cX6_most 122 = .ok (.getfield 38, 3) := dk_180 0 38 (dk_at dksX6_most_4 0 rfl rfl)
theorem dX6_most_125 : decode cX6_most 125 = .ok (.sipush 426, 3) := dk_17 1 170 (dk_at dksX6_most_4 3 rfl rfl)
theorem dX6_most_128 : decode cX6_most 128 = .ok (.iaload, 1) := dk_46 (dk_at dksX6_most_4 6 rfl rfl)
theorem dX6_most_129 : decode cX6_most 129 = .ok (.ireturn, 1) := dk_172 (dk_at dksX6_most_4 7 rfl rfl)
theorem dX6_most_130 : decode cX6_most 130 = .ok (.aload_n 0, 1) := dk_42 (dk_at dksX6_most_4 8 rfl rfl)
theorem dX6_most_131 : decode cX6_most 131 = .ok (.getfield 38, 3) := dk_180 0 38 (dk_at dksX6_most_4 9 rfl rfl)
theorem dX6_most_134 : decode cX6_most 134 = .ok (.sipush 425, 3) := dk_17 1 169 (dk_at dksX6_most_4 12 rfl rfl)
theorem dX6_most_137 : decode cX6_most 137 = .ok (.iaload, 1) := dk_46 (dk_at dksX6_most_4 15 rfl rfl)
theorem dX6_most_138 : decode cX6_most 138 = .ok (.ireturn, 1) := dk_172 (dk_at dksX6_most_4 16 rfl rfl)
theorem dX6_most_139 : decode cX6_most 139 = .ok (.aload_n 0, 1) := dk_42 (dk_at dksX6_most_4 17 rfl rfl)
theorem dX6_most_140 : decode cX6_most 140 = .ok (.invokevirtual 394, 3) := dk_182 1 138 (dk_at dksX6_most_4 18 rfl rfl)
theorem dX6_most_143 : decode cX6_most 143 = .ok (.ireturn, 1) := dk_172 (dk_at dksX6_most_4 21 rfl rfl)
theorem dX6_most_144 : decode cX6_most 144 = .ok (.aload_n 0, 1) := dk_42 (dk_at dksX6_most_4 22 rfl rfl)
theorem dX6_most_145 : decode cX6_most 145 = .ok (.getfield 38, 3) := dk_180 0 38 (dk_at dksX6_most_5 0 rfl rfl)
theorem dX6_most_148 : decode cX6_most 148 = .ok (.sipush 432, 3) := dk_17 1 176 (dk_at dksX6_most_5 3 rfl rfl)
theorem dX6_most_151 : decode cX6_most 151 = .ok (.iload_n 1, 1) := dk_27 (dk_at dksX6_most_5 6 rfl rfl)
theorem dX6_most_152 : decode cX6_most 152 = .ok (.iadd, 1) := dk_96 (dk_at dksX6_most_5 7 rfl rfl)
theorem dX6_most_153 : decode cX6_most 153 = .ok (.bipush 8, 2) := dk_16 8 (dk_at dksX6_most_5 8 rfl rfl)
theorem dX6_most_155 : decode cX6_most 155 = .ok (.isub, 1) := dk_100 (dk_at dksX6_most_5 10 rfl rfl)
theorem dX6_most_156 : decode cX6_most 156 = .ok (.iaload, 1) := dk_46 (dk_at dksX6_most_5 11 rfl rfl)
theorem dX6_most_157 : decode cX6_most 157 = .ok (.ireturn, 1) := dk_172 (dk_at dksX6_most_5 12 rfl rfl)
theorem dX6_most_158 : decode cX6_most 158 = .ok (.ldc_w 393, 3) := dk_19 1 137 (dk_at dksX6_most_5 13 rfl rfl)
theorem dX6_most_161 : decode cX6_most 161 = .ok (.ireturn, 1) := dk_172 (dk_at dksX6_most_5 16 rfl rfl)
abbrev cX6_count : ByteArray := prog_12_method_125_code
def yX6_count : MethodName := ⟨RX6, "count", "(I)I"⟩
def dkwX6_count_3 : List UInt8 := [42, 180, 0, 181, 172, 19, 1, 137, 172]
abbrev dktX6_count_3 : List UInt8 := dkwX6_count_3 ++ []
def dkwX6_count_2 : List UInt8 := [42, 180, 0, 153, 172, 42, 180, 0, 188, 172, 42, 180, 0, 61, 172, 42, 180, 0, 38, 17, 1, 179, 46, 172]
abbrev dktX6_count_2 : List UInt8 := dkwX6_count_2 ++ dktX6_count_3
def dkwX6_count_1 : List UInt8 := [170, 0, 0, 0, 0, 63, 0, 0, 0, 0, 0, 0, 0, 4, 0, 0, 0, 34, 0, 0, 0, 39, 0, 0, 0, 44, 0, 0, 0, 49, 0, 0, 0, 58]
abbrev dktX6_count_1 : List UInt8 := dkwX6_count_1 ++ dktX6_count_2
def dkwX6_count_0 : List UInt8 := [42, 3, 181, 0, 57, 27]
abbrev dktX6_count_0 : List UInt8 := dkwX6_count_0 ++ dktX6_count_1
theorem dksX6_count_0 : cX6_count.data.toList.drop 0 = dktX6_count_0 := by decide +kernel
theorem dksX6_count_1 : cX6_count.data.toList.drop 6 = dktX6_count_1 := dk_seg dksX6_count_0 6 rfl rfl
theorem dksX6_count_2 : cX6_count.data.toList.drop 40 = dktX6_count_2 := dk_seg dksX6_count_1 34 rfl rfl
theorem dksX6_count_3 : cX6_count.data.toList.drop 64 = dktX6_count_3 := dk_seg dksX6_count_2 24 rfl rfl
theorem dX6_count_0 : decode cX6_count 0 = .ok (.aload_n 0, 1) := dk_42 (dk_at dksX6_count_0 0 rfl rfl)
theorem dX6_count_1 : decode cX6_count 1 = .ok (.iconst 0, 1) := dk_3 (dk_at dksX6_count_0 1 rfl rfl)
theorem dX6_count_2 : decode cX6_count 2 = .ok (.putfield 57, 3) := dk_181 0 57 (dk_at dksX6_count_0 2 rfl rfl)
theorem dX6_count_5 : decode cX6_count 5 = .ok (.iload_n 1, 1) := dk_27 (dk_at dksX6_count_0 5 rfl rfl)
theorem dX6_count_6 : decode cX6_count 6 = .ok (.tableswitch 63 0 4 #[34, 39, 44, 49, 58], 34) := by decide +kernel
theorem dX6_count_40 : decode cX6_count 40 = .ok (.aload_n 0, 1) := dk_42 (dk_at dksX6_count_2 0 rfl rfl)
theorem dX6_count_41 : decode cX6_count 41 = .ok (.getfield 153, 3) := dk_180 0 153 (dk_at dksX6_count_2 1 rfl rfl)
theorem dX6_count_44 : decode cX6_count 44 = .ok (.ireturn, 1) := dk_172 (dk_at dksX6_count_2 4 rfl rfl)
theorem dX6_count_45 : decode cX6_count 45 = .ok (.aload_n 0, 1) := dk_42 (dk_at dksX6_count_2 5 rfl rfl)
theorem dX6_count_46 : decode cX6_count 46 = .ok (.getfield 188, 3) := dk_180 0 188 (dk_at dksX6_count_2 6 rfl rfl)
theorem dX6_count_49 : decode cX6_count 49 = .ok (.ireturn, 1) := dk_172 (dk_at dksX6_count_2 9 rfl rfl)
theorem dX6_count_50 : decode cX6_count 50 = .ok (.aload_n 0, 1) := dk_42 (dk_at dksX6_count_2 10 rfl rfl)
theorem dX6_count_51 : decode cX6_count 51 = .ok (.getfield 61, 3) := dk_180 0 61 (dk_at dksX6_count_2 11 rfl rfl)
theorem dX6_count_54 : decode cX6_count 54 = .ok (.ireturn, 1) := dk_172 (dk_at dksX6_count_2 14 rfl rfl)
theorem dX6_count_55 : decode cX6_count 55 = .ok (.aload_n 0, 1) := dk_42 (dk_at dksX6_count_2 15 rfl rfl)
theorem dX6_count_56 : decode cX6_count 56 = .ok (.getfield 38, 3) := dk_180 0 38 (dk_at dksX6_count_2 16 rfl rfl)
theorem dX6_count_59 : decode cX6_count 59 = .ok (.sipush 435, 3) := dk_17 1 179 (dk_at dksX6_count_2 19 rfl rfl)
theorem dX6_count_62 : decode cX6_count 62 = .ok (.iaload, 1) := dk_46 (dk_at dksX6_count_2 22 rfl rfl)
theorem dX6_count_63 : decode cX6_count 63 = .ok (.ireturn, 1) := dk_172 (dk_at dksX6_count_2 23 rfl rfl)
theorem dX6_count_64 : decode cX6_count 64 = .ok (.aload_n 0, 1) := dk_42 (dk_at dksX6_count_3 0 rfl rfl)
theorem dX6_count_65 : decode cX6_count 65 = .ok (.getfield 181, 3) := dk_180 0 181 (dk_at dksX6_count_3 1 rfl rfl)
theorem dX6_count_68 : decode cX6_count 68 = .ok (.ireturn, 1) := dk_172 (dk_at dksX6_count_3 4 rfl rfl)
theorem dX6_count_69 : decode cX6_count 69 = .ok (.ldc_w 393, 3) := dk_19 1 137 (dk_at dksX6_count_3 5 rfl rfl)
theorem dX6_count_72 : decode cX6_count 72 = .ok (.ireturn, 1) := dk_172 (dk_at dksX6_count_3 8 rfl rfl)
theorem q139 : (Jvm.Cond.initialized "StripeShelfModel") ∈ lw_all := lw_g (lw_at lw_m1 8 rfl) rfl
theorem q1212 : (Jvm.Cond.instantiable "StripeShelfModel" (32 : Nat)) ∈ lw_all := lw_g (lw_at lw_m5 121 rfl) rfl
theorem q1214 : (Jvm.Cond.instanceMethod ({ cls := "StripeShelfModel", name := "<init>", desc := "()V" } : Jvm.MethodName)) ∈ lw_all := lw_g (lw_at lw_m5 123 rfl) rfl
theorem q1215 : (Jvm.Cond.code ({ cls := "StripeShelfModel", name := "<init>", desc := "()V" } : Jvm.MethodName) prog_12_method_1_code (1 : Nat) (Option.none : Option Jvm.ClassFile.FieldType)) ∈ lw_all := lw_g (lw_at lw_m5 124 rfl) rfl
theorem q1216 : (Jvm.Cond.methodLink "StripeShelfModel" (3 : Nat) ({ cls := "java/lang/Object", name := "<init>", desc := "()V" } : Jvm.MethodName)) ∈ lw_all := lw_g (lw_at lw_m5 125 rfl) rfl
theorem q1217 : (Jvm.Cond.fieldLink "StripeShelfModel" (57 : Nat) "StripeShelfModel" "thrown" "I") ∈ lw_all := lw_g (lw_at lw_m5 126 rfl) rfl
theorem q1218 : (Jvm.Cond.fieldLink "StripeShelfModel" (9 : Nat) "StripeShelfModel" "tape" "[B") ∈ lw_all := lw_g (lw_at lw_m5 127 rfl) rfl
theorem q1219 : (Jvm.Cond.fieldLink "StripeShelfModel" (61 : Nat) "StripeShelfModel" "length" "I") ∈ lw_all := lw_g (lw_at lw_m5 128 rfl) rfl
theorem q1220 : (Jvm.Cond.fieldLink "StripeShelfModel" (72 : Nat) "StripeShelfModel" "at" "I") ∈ lw_all := lw_g (lw_at lw_m5 129 rfl) rfl
theorem q1221 : (Jvm.Cond.fieldLink "StripeShelfModel" (79 : Nat) "StripeShelfModel" "fault" "I") ∈ lw_all := lw_g (lw_at lw_m5 130 rfl) rfl
theorem q1222 : (Jvm.Cond.fieldLink "StripeShelfModel" (13 : Nat) "StripeShelfModel" "ruleRead" "[I") ∈ lw_all := lw_g (lw_at lw_m5 131 rfl) rfl
theorem q1223 : (Jvm.Cond.fieldLink "StripeShelfModel" (17 : Nat) "StripeShelfModel" "rule" "[I") ∈ lw_all := lw_g (lw_at lw_m5 132 rfl) rfl
theorem q1224 : (Jvm.Cond.fieldLink "StripeShelfModel" (20 : Nat) "StripeShelfModel" "valueRead" "[I") ∈ lw_all := lw_g (lw_at lw_m5 133 rfl) rfl
theorem q1225 : (Jvm.Cond.fieldLink "StripeShelfModel" (23 : Nat) "StripeShelfModel" "status" "[I") ∈ lw_all := lw_g (lw_at lw_m5 134 rfl) rfl
theorem q1226 : (Jvm.Cond.fieldLink "StripeShelfModel" (26 : Nat) "StripeShelfModel" "script" "[I") ∈ lw_all := lw_g (lw_at lw_m5 135 rfl) rfl
theorem q1227 : (Jvm.Cond.fieldLink "StripeShelfModel" (29 : Nat) "StripeShelfModel" "stepsOf" "[I") ∈ lw_all := lw_g (lw_at lw_m5 136 rfl) rfl
theorem q1228 : (Jvm.Cond.fieldLink "StripeShelfModel" (121 : Nat) "StripeShelfModel" "valuesRead" "I") ∈ lw_all := lw_g (lw_at lw_m5 137 rfl) rfl
theorem q1229 : (Jvm.Cond.fieldLink "StripeShelfModel" (188 : Nat) "StripeShelfModel" "scripts" "I") ∈ lw_all := lw_g (lw_at lw_m5 138 rfl) rfl
theorem q1230 : (Jvm.Cond.fieldLink "StripeShelfModel" (171 : Nat) "StripeShelfModel" "disks" "I") ∈ lw_all := lw_g (lw_at lw_m5 139 rfl) rfl
theorem q1231 : (Jvm.Cond.fieldLink "StripeShelfModel" (153 : Nat) "StripeShelfModel" "addresses" "I") ∈ lw_all := lw_g (lw_at lw_m5 140 rfl) rfl
theorem q1232 : (Jvm.Cond.fieldLink "StripeShelfModel" (32 : Nat) "StripeShelfModel" "powers" "[I") ∈ lw_all := lw_g (lw_at lw_m5 141 rfl) rfl
theorem q1233 : (Jvm.Cond.fieldLink "StripeShelfModel" (35 : Nat) "StripeShelfModel" "logs" "[I") ∈ lw_all := lw_g (lw_at lw_m5 142 rfl) rfl
theorem q1234 : (Jvm.Cond.fieldLink "StripeShelfModel" (38 : Nat) "StripeShelfModel" "now" "[I") ∈ lw_all := lw_g (lw_at lw_m5 143 rfl) rfl
theorem q1235 : (Jvm.Cond.fieldLink "StripeShelfModel" (41 : Nat) "StripeShelfModel" "trial" "[I") ∈ lw_all := lw_g (lw_at lw_m5 144 rfl) rfl
theorem q1236 : (Jvm.Cond.fieldLink "StripeShelfModel" (44 : Nat) "StripeShelfModel" "image" "[I") ∈ lw_all := lw_g (lw_at lw_m5 145 rfl) rfl
theorem q1237 : (Jvm.Cond.fieldLink "StripeShelfModel" (47 : Nat) "StripeShelfModel" "kept" "[I") ∈ lw_all := lw_g (lw_at lw_m5 146 rfl) rfl
theorem q1238 : (Jvm.Cond.fieldLink "StripeShelfModel" (346 : Nat) "StripeShelfModel" "first" "I") ∈ lw_all := lw_g (lw_at lw_m5 147 rfl) rfl
theorem q1239 : (Jvm.Cond.fieldLink "StripeShelfModel" (181 : Nat) "StripeShelfModel" "acts" "I") ∈ lw_all := lw_g (lw_at lw_m5 148 rfl) rfl
theorem q1240 : (Jvm.Cond.fieldLink "StripeShelfModel" (184 : Nat) "StripeShelfModel" "hasImage" "Z") ∈ lw_all := lw_g (lw_at lw_m5 149 rfl) rfl
theorem q1241 : (Jvm.Cond.fieldLink "StripeShelfModel" (50 : Nat) "StripeShelfModel" "value" "[I") ∈ lw_all := lw_g (lw_at lw_m5 150 rfl) rfl
theorem q1242 : (Jvm.Cond.fieldLink "StripeShelfModel" (53 : Nat) "StripeShelfModel" "is" "[Z") ∈ lw_all := lw_g (lw_at lw_m5 151 rfl) rfl
theorem q1243 : (Jvm.Cond.fieldLink "StripeShelfModel" (237 : Nat) "StripeShelfModel" "ways" "I") ∈ lw_all := lw_g (lw_at lw_m5 152 rfl) rfl
theorem q1244 : (Jvm.Cond.fieldLink "StripeShelfModel" (240 : Nat) "StripeShelfModel" "wayReads" "I") ∈ lw_all := lw_g (lw_at lw_m5 153 rfl) rfl
theorem q1245 : (Jvm.Cond.fieldLink "StripeShelfModel" (243 : Nat) "StripeShelfModel" "wayWrites" "I") ∈ lw_all := lw_g (lw_at lw_m5 154 rfl) rfl
theorem q1246 : (Jvm.Cond.fieldLink "StripeShelfModel" (313 : Nat) "StripeShelfModel" "came" "I") ∈ lw_all := lw_g (lw_at lw_m5 155 rfl) rfl
theorem q1247 : (Jvm.Cond.fieldLink "StripeShelfModel" (306 : Nat) "StripeShelfModel" "noted" "I") ∈ lw_all := lw_g (lw_at lw_m5 156 rfl) rfl
theorem q1248 : (Jvm.Cond.fieldLink "StripeShelfModel" (372 : Nat) "StripeShelfModel" "x" "J") ∈ lw_all := lw_g (lw_at lw_m5 157 rfl) rfl
theorem q1249 : (Jvm.Cond.lays "StripeShelfModel" "StripeShelfModel" "thrown" "I") ∈ lw_all := lw_g (lw_at lw_m5 158 rfl) rfl
theorem q1250 : (Jvm.Cond.soleField "StripeShelfModel" "thrown") ∈ lw_all := lw_g (lw_at lw_m5 159 rfl) rfl
theorem q1251 : (Jvm.Cond.laysFinal "StripeShelfModel" "StripeShelfModel" "tape" "[B") ∈ lw_all := lw_g (lw_at lw_m5 160 rfl) rfl
theorem q1252 : (Jvm.Cond.soleField "StripeShelfModel" "tape") ∈ lw_all := lw_g (lw_at lw_m5 161 rfl) rfl
theorem q1253 : (Jvm.Cond.lays "StripeShelfModel" "StripeShelfModel" "length" "I") ∈ lw_all := lw_g (lw_at lw_m5 162 rfl) rfl
theorem q1254 : (Jvm.Cond.soleField "StripeShelfModel" "length") ∈ lw_all := lw_g (lw_at lw_m5 163 rfl) rfl
theorem q1255 : (Jvm.Cond.lays "StripeShelfModel" "StripeShelfModel" "at" "I") ∈ lw_all := lw_g (lw_at lw_m5 164 rfl) rfl
theorem q1256 : (Jvm.Cond.soleField "StripeShelfModel" "at") ∈ lw_all := lw_g (lw_at lw_m5 165 rfl) rfl
theorem q1257 : (Jvm.Cond.lays "StripeShelfModel" "StripeShelfModel" "fault" "I") ∈ lw_all := lw_g (lw_at lw_m5 166 rfl) rfl
theorem q1258 : (Jvm.Cond.soleField "StripeShelfModel" "fault") ∈ lw_all := lw_g (lw_at lw_m5 167 rfl) rfl
theorem q1259 : (Jvm.Cond.laysFinal "StripeShelfModel" "StripeShelfModel" "ruleRead" "[I") ∈ lw_all := lw_g (lw_at lw_m5 168 rfl) rfl
theorem q1260 : (Jvm.Cond.soleField "StripeShelfModel" "ruleRead") ∈ lw_all := lw_g (lw_at lw_m5 169 rfl) rfl
theorem q1261 : (Jvm.Cond.laysFinal "StripeShelfModel" "StripeShelfModel" "rule" "[I") ∈ lw_all := lw_g (lw_at lw_m5 170 rfl) rfl
theorem q1262 : (Jvm.Cond.soleField "StripeShelfModel" "rule") ∈ lw_all := lw_g (lw_at lw_m5 171 rfl) rfl
theorem q1263 : (Jvm.Cond.laysFinal "StripeShelfModel" "StripeShelfModel" "valueRead" "[I") ∈ lw_all := lw_g (lw_at lw_m5 172 rfl) rfl
theorem q1264 : (Jvm.Cond.soleField "StripeShelfModel" "valueRead") ∈ lw_all := lw_g (lw_at lw_m5 173 rfl) rfl
theorem q1265 : (Jvm.Cond.laysFinal "StripeShelfModel" "StripeShelfModel" "status" "[I") ∈ lw_all := lw_g (lw_at lw_m5 174 rfl) rfl
theorem q1266 : (Jvm.Cond.soleField "StripeShelfModel" "status") ∈ lw_all := lw_g (lw_at lw_m5 175 rfl) rfl
theorem q1267 : (Jvm.Cond.laysFinal "StripeShelfModel" "StripeShelfModel" "script" "[I") ∈ lw_all := lw_g (lw_at lw_m5 176 rfl) rfl
theorem q1268 : (Jvm.Cond.soleField "StripeShelfModel" "script") ∈ lw_all := lw_g (lw_at lw_m5 177 rfl) rfl
theorem q1269 : (Jvm.Cond.laysFinal "StripeShelfModel" "StripeShelfModel" "stepsOf" "[I") ∈ lw_all := lw_g (lw_at lw_m5 178 rfl) rfl
theorem q1270 : (Jvm.Cond.soleField "StripeShelfModel" "stepsOf") ∈ lw_all := lw_g (lw_at lw_m5 179 rfl) rfl
theorem q1271 : (Jvm.Cond.lays "StripeShelfModel" "StripeShelfModel" "valuesRead" "I") ∈ lw_all := lw_g (lw_at lw_m5 180 rfl) rfl
theorem q1272 : (Jvm.Cond.soleField "StripeShelfModel" "valuesRead") ∈ lw_all := lw_g (lw_at lw_m5 181 rfl) rfl
theorem q1273 : (Jvm.Cond.lays "StripeShelfModel" "StripeShelfModel" "scripts" "I") ∈ lw_all := lw_g (lw_at lw_m5 182 rfl) rfl
theorem q1274 : (Jvm.Cond.soleField "StripeShelfModel" "scripts") ∈ lw_all := lw_g (lw_at lw_m5 183 rfl) rfl
theorem q1275 : (Jvm.Cond.lays "StripeShelfModel" "StripeShelfModel" "disks" "I") ∈ lw_all := lw_g (lw_at lw_m5 184 rfl) rfl
theorem q1276 : (Jvm.Cond.soleField "StripeShelfModel" "disks") ∈ lw_all := lw_g (lw_at lw_m5 185 rfl) rfl
theorem q1277 : (Jvm.Cond.lays "StripeShelfModel" "StripeShelfModel" "addresses" "I") ∈ lw_all := lw_g (lw_at lw_m5 186 rfl) rfl
theorem q1278 : (Jvm.Cond.soleField "StripeShelfModel" "addresses") ∈ lw_all := lw_g (lw_at lw_m5 187 rfl) rfl
theorem q1279 : (Jvm.Cond.laysFinal "StripeShelfModel" "StripeShelfModel" "powers" "[I") ∈ lw_all := lw_g (lw_at lw_m5 188 rfl) rfl
theorem q1280 : (Jvm.Cond.soleField "StripeShelfModel" "powers") ∈ lw_all := lw_g (lw_at lw_m5 189 rfl) rfl
theorem q1281 : (Jvm.Cond.laysFinal "StripeShelfModel" "StripeShelfModel" "logs" "[I") ∈ lw_all := lw_g (lw_at lw_m5 190 rfl) rfl
theorem q1282 : (Jvm.Cond.soleField "StripeShelfModel" "logs") ∈ lw_all := lw_g (lw_at lw_m5 191 rfl) rfl
theorem q1283 : (Jvm.Cond.laysFinal "StripeShelfModel" "StripeShelfModel" "now" "[I") ∈ lw_all := lw_g (lw_at lw_m5 192 rfl) rfl
theorem q1284 : (Jvm.Cond.soleField "StripeShelfModel" "now") ∈ lw_all := lw_g (lw_at lw_m5 193 rfl) rfl
theorem q1285 : (Jvm.Cond.laysFinal "StripeShelfModel" "StripeShelfModel" "trial" "[I") ∈ lw_all := lw_g (lw_at lw_m5 194 rfl) rfl
theorem q1286 : (Jvm.Cond.soleField "StripeShelfModel" "trial") ∈ lw_all := lw_g (lw_at lw_m5 195 rfl) rfl
theorem q1287 : (Jvm.Cond.laysFinal "StripeShelfModel" "StripeShelfModel" "image" "[I") ∈ lw_all := lw_g (lw_at lw_m5 196 rfl) rfl
theorem q1288 : (Jvm.Cond.soleField "StripeShelfModel" "image") ∈ lw_all := lw_g (lw_at lw_m5 197 rfl) rfl
theorem q1289 : (Jvm.Cond.laysFinal "StripeShelfModel" "StripeShelfModel" "kept" "[I") ∈ lw_all := lw_g (lw_at lw_m5 198 rfl) rfl
theorem q1290 : (Jvm.Cond.soleField "StripeShelfModel" "kept") ∈ lw_all := lw_g (lw_at lw_m5 199 rfl) rfl
theorem q1291 : (Jvm.Cond.lays "StripeShelfModel" "StripeShelfModel" "first" "I") ∈ lw_all := lw_g (lw_at lw_m5 200 rfl) rfl
theorem q1292 : (Jvm.Cond.soleField "StripeShelfModel" "first") ∈ lw_all := lw_g (lw_at lw_m5 201 rfl) rfl
theorem q1293 : (Jvm.Cond.lays "StripeShelfModel" "StripeShelfModel" "acts" "I") ∈ lw_all := lw_g (lw_at lw_m5 202 rfl) rfl
theorem q1294 : (Jvm.Cond.soleField "StripeShelfModel" "acts") ∈ lw_all := lw_g (lw_at lw_m5 203 rfl) rfl
theorem q1295 : (Jvm.Cond.lays "StripeShelfModel" "StripeShelfModel" "hasImage" "Z") ∈ lw_all := lw_g (lw_at lw_m5 204 rfl) rfl
theorem q1296 : (Jvm.Cond.soleField "StripeShelfModel" "hasImage") ∈ lw_all := lw_g (lw_at lw_m5 205 rfl) rfl
theorem q1297 : (Jvm.Cond.laysFinal "StripeShelfModel" "StripeShelfModel" "value" "[I") ∈ lw_all := lw_g (lw_at lw_m5 206 rfl) rfl
theorem q1298 : (Jvm.Cond.soleField "StripeShelfModel" "value") ∈ lw_all := lw_g (lw_at lw_m5 207 rfl) rfl
theorem q1299 : (Jvm.Cond.laysFinal "StripeShelfModel" "StripeShelfModel" "is" "[Z") ∈ lw_all := lw_g (lw_at lw_m5 208 rfl) rfl
theorem q1300 : (Jvm.Cond.soleField "StripeShelfModel" "is") ∈ lw_all := lw_g (lw_at lw_m5 209 rfl) rfl
theorem q1301 : (Jvm.Cond.lays "StripeShelfModel" "StripeShelfModel" "ways" "I") ∈ lw_all := lw_g (lw_at lw_m5 210 rfl) rfl
theorem q1302 : (Jvm.Cond.soleField "StripeShelfModel" "ways") ∈ lw_all := lw_g (lw_at lw_m5 211 rfl) rfl
theorem q1303 : (Jvm.Cond.lays "StripeShelfModel" "StripeShelfModel" "wayReads" "I") ∈ lw_all := lw_g (lw_at lw_m5 212 rfl) rfl
theorem q1304 : (Jvm.Cond.soleField "StripeShelfModel" "wayReads") ∈ lw_all := lw_g (lw_at lw_m5 213 rfl) rfl
theorem q1305 : (Jvm.Cond.lays "StripeShelfModel" "StripeShelfModel" "wayWrites" "I") ∈ lw_all := lw_g (lw_at lw_m5 214 rfl) rfl
theorem q1306 : (Jvm.Cond.soleField "StripeShelfModel" "wayWrites") ∈ lw_all := lw_g (lw_at lw_m5 215 rfl) rfl
theorem q1307 : (Jvm.Cond.lays "StripeShelfModel" "StripeShelfModel" "came" "I") ∈ lw_all := lw_g (lw_at lw_m5 216 rfl) rfl
theorem q1308 : (Jvm.Cond.soleField "StripeShelfModel" "came") ∈ lw_all := lw_g (lw_at lw_m5 217 rfl) rfl
theorem q1309 : (Jvm.Cond.lays "StripeShelfModel" "StripeShelfModel" "noted" "I") ∈ lw_all := lw_g (lw_at lw_m5 218 rfl) rfl
theorem q1310 : (Jvm.Cond.soleField "StripeShelfModel" "noted") ∈ lw_all := lw_g (lw_at lw_m5 219 rfl) rfl
theorem q1311 : (Jvm.Cond.lays "StripeShelfModel" "StripeShelfModel" "x" "J") ∈ lw_all := lw_g (lw_at lw_m5 220 rfl) rfl
theorem q1312 : (Jvm.Cond.soleField "StripeShelfModel" "x") ∈ lw_all := lw_g (lw_at lw_m5 221 rfl) rfl
theorem q1313 : (Jvm.Cond.superclass "StripeShelfModel" "java/lang/Object") ∈ lw_all := lw_g (lw_at lw_m5 222 rfl) rfl
theorem q1316 : (Jvm.Cond.instanceMethod ({ cls := "StripeShelfModel", name := "thrown", desc := "()I" } : Jvm.MethodName)) ∈ lw_all := lw_g (lw_at lw_m5 225 rfl) rfl
theorem q1317 : (Jvm.Cond.selects "StripeShelfModel" ({ cls := "StripeShelfModel", name := "thrown", desc := "()I" } : Jvm.MethodName) ({ cls := "StripeShelfModel", name := "thrown", desc := "()I" } : Jvm.MethodName)) ∈ lw_all := lw_g (lw_at lw_m5 226 rfl) rfl
theorem q1318 : (Jvm.Cond.code ({ cls := "StripeShelfModel", name := "thrown", desc := "()I" } : Jvm.MethodName) prog_12_method_2_code (1 : Nat) (Option.some Jvm.ClassFile.FieldType.int)) ∈ lw_all := lw_g (lw_at lw_m5 227 rfl) rfl
theorem q1320 : (Jvm.Cond.instanceMethod ({ cls := "StripeShelfModel", name := "feed", desc := "(IIIII)I" } : Jvm.MethodName)) ∈ lw_all := lw_g (lw_at lw_m5 229 rfl) rfl
theorem q1321 : (Jvm.Cond.selects "StripeShelfModel" ({ cls := "StripeShelfModel", name := "feed", desc := "(IIIII)I" } : Jvm.MethodName) ({ cls := "StripeShelfModel", name := "feed", desc := "(IIIII)I" } : Jvm.MethodName)) ∈ lw_all := lw_g (lw_at lw_m5 230 rfl) rfl
theorem q1322 : (Jvm.Cond.code ({ cls := "StripeShelfModel", name := "feed", desc := "(IIIII)I" } : Jvm.MethodName) prog_12_method_6_code (6 : Nat) (Option.some Jvm.ClassFile.FieldType.int)) ∈ lw_all := lw_g (lw_at lw_m5 231 rfl) rfl
theorem q1323 : (Jvm.Cond.methodLink "StripeShelfModel" (64 : Nat) ({ cls := "StripeShelfModel", name := "bytesOf", desc := "(I)I" } : Jvm.MethodName)) ∈ lw_all := lw_g (lw_at lw_m5 232 rfl) rfl
theorem q1324 : (Jvm.Cond.static ({ cls := "StripeShelfModel", name := "bytesOf", desc := "(I)I" } : Jvm.MethodName)) ∈ lw_all := lw_g (lw_at lw_m5 233 rfl) rfl
theorem q1325 : (Jvm.Cond.code ({ cls := "StripeShelfModel", name := "bytesOf", desc := "(I)I" } : Jvm.MethodName) prog_12_method_4_code (3 : Nat) (Option.some Jvm.ClassFile.FieldType.int)) ∈ lw_all := lw_g (lw_at lw_m5 234 rfl) rfl
theorem q1326 : (Jvm.Cond.methodLink "StripeShelfModel" (68 : Nat) ({ cls := "StripeShelfModel", name := "brings", desc := "(I)V" } : Jvm.MethodName)) ∈ lw_all := lw_g (lw_at lw_m5 235 rfl) rfl
theorem q1327 : (Jvm.Cond.privateMethod ({ cls := "StripeShelfModel", name := "brings", desc := "(I)V" } : Jvm.MethodName)) ∈ lw_tbl := lw_at lw_m5 236 rfl
theorem q1328 : (Jvm.Cond.instanceMethod ({ cls := "StripeShelfModel", name := "brings", desc := "(I)V" } : Jvm.MethodName)) ∈ lw_all := lw_g (lw_at lw_m5 237 rfl) rfl
theorem q1329 : (Jvm.Cond.code ({ cls := "StripeShelfModel", name := "brings", desc := "(I)V" } : Jvm.MethodName) prog_12_method_5_code (4 : Nat) (Option.none : Option Jvm.ClassFile.FieldType)) ∈ lw_all := lw_g (lw_at lw_m5 238 rfl) rfl
theorem q1331 : (Jvm.Cond.instanceMethod ({ cls := "StripeShelfModel", name := "end", desc := "(I)Z" } : Jvm.MethodName)) ∈ lw_all := lw_g (lw_at lw_m6 0 rfl) rfl
theorem q1332 : (Jvm.Cond.selects "StripeShelfModel" ({ cls := "StripeShelfModel", name := "end", desc := "(I)Z" } : Jvm.MethodName) ({ cls := "StripeShelfModel", name := "end", desc := "(I)Z" } : Jvm.MethodName)) ∈ lw_all := lw_g (lw_at lw_m6 1 rfl) rfl
theorem q1333 : (Jvm.Cond.code ({ cls := "StripeShelfModel", name := "end", desc := "(I)Z" } : Jvm.MethodName) prog_12_method_7_code (2 : Nat) (Option.some Jvm.ClassFile.FieldType.boolean)) ∈ lw_all := lw_g (lw_at lw_m6 2 rfl) rfl
theorem q1335 : (Jvm.Cond.instanceMethod ({ cls := "StripeShelfModel", name := "fault", desc := "(I)I" } : Jvm.MethodName)) ∈ lw_all := lw_g (lw_at lw_m6 4 rfl) rfl
theorem q1336 : (Jvm.Cond.selects "StripeShelfModel" ({ cls := "StripeShelfModel", name := "fault", desc := "(I)I" } : Jvm.MethodName) ({ cls := "StripeShelfModel", name := "fault", desc := "(I)I" } : Jvm.MethodName)) ∈ lw_all := lw_g (lw_at lw_m6 5 rfl) rfl
theorem q1337 : (Jvm.Cond.code ({ cls := "StripeShelfModel", name := "fault", desc := "(I)I" } : Jvm.MethodName) prog_12_method_23_code (2 : Nat) (Option.some Jvm.ClassFile.FieldType.int)) ∈ lw_all := lw_g (lw_at lw_m6 6 rfl) rfl
theorem q1338 : (Jvm.Cond.methodLink "StripeShelfModel" (117 : Nat) ({ cls := "StripeShelfModel", name := "isIn", desc := "(JJJ)Z" } : Jvm.MethodName)) ∈ lw_all := lw_g (lw_at lw_m6 7 rfl) rfl
theorem q1339 : (Jvm.Cond.static ({ cls := "StripeShelfModel", name := "isIn", desc := "(JJJ)Z" } : Jvm.MethodName)) ∈ lw_all := lw_g (lw_at lw_m6 8 rfl) rfl
theorem q1340 : (Jvm.Cond.code ({ cls := "StripeShelfModel", name := "isIn", desc := "(JJJ)Z" } : Jvm.MethodName) prog_12_method_3_code (6 : Nat) (Option.some Jvm.ClassFile.FieldType.boolean)) ∈ lw_all := lw_g (lw_at lw_m6 9 rfl) rfl
theorem q1341 : (Jvm.Cond.methodLink "StripeShelfModel" (144 : Nat) ({ cls := "StripeShelfModel", name := "readShelf", desc := "()V" } : Jvm.MethodName)) ∈ lw_all := lw_g (lw_at lw_m6 10 rfl) rfl
theorem q1342 : (Jvm.Cond.privateMethod ({ cls := "StripeShelfModel", name := "readShelf", desc := "()V" } : Jvm.MethodName)) ∈ lw_tbl := lw_at lw_m6 11 rfl
theorem q1343 : (Jvm.Cond.instanceMethod ({ cls := "StripeShelfModel", name := "readShelf", desc := "()V" } : Jvm.MethodName)) ∈ lw_all := lw_g (lw_at lw_m6 12 rfl) rfl
theorem q1344 : (Jvm.Cond.code ({ cls := "StripeShelfModel", name := "readShelf", desc := "()V" } : Jvm.MethodName) prog_12_method_19_code (2 : Nat) (Option.none : Option Jvm.ClassFile.FieldType)) ∈ lw_all := lw_g (lw_at lw_m6 13 rfl) rfl
theorem q1345 : (Jvm.Cond.methodLink "StripeShelfModel" (132 : Nat) ({ cls := "StripeShelfModel", name := "clause", desc := "(Z)Z" } : Jvm.MethodName)) ∈ lw_all := lw_g (lw_at lw_m6 14 rfl) rfl
theorem q1346 : (Jvm.Cond.privateMethod ({ cls := "StripeShelfModel", name := "clause", desc := "(Z)Z" } : Jvm.MethodName)) ∈ lw_tbl := lw_at lw_m6 15 rfl
theorem q1347 : (Jvm.Cond.instanceMethod ({ cls := "StripeShelfModel", name := "clause", desc := "(Z)Z" } : Jvm.MethodName)) ∈ lw_all := lw_g (lw_at lw_m6 16 rfl) rfl
theorem q1348 : (Jvm.Cond.code ({ cls := "StripeShelfModel", name := "clause", desc := "(Z)Z" } : Jvm.MethodName) prog_12_method_18_code (3 : Nat) (Option.some Jvm.ClassFile.FieldType.boolean)) ∈ lw_all := lw_g (lw_at lw_m6 17 rfl) rfl
theorem q1349 : (Jvm.Cond.methodLink "StripeShelfModel" (82 : Nat) ({ cls := "StripeShelfModel", name := "look", desc := "()I" } : Jvm.MethodName)) ∈ lw_all := lw_g (lw_at lw_m6 18 rfl) rfl
theorem q1350 : (Jvm.Cond.privateMethod ({ cls := "StripeShelfModel", name := "look", desc := "()I" } : Jvm.MethodName)) ∈ lw_tbl := lw_at lw_m6 19 rfl
theorem q1351 : (Jvm.Cond.instanceMethod ({ cls := "StripeShelfModel", name := "look", desc := "()I" } : Jvm.MethodName)) ∈ lw_all := lw_g (lw_at lw_m6 20 rfl) rfl
theorem q1352 : (Jvm.Cond.code ({ cls := "StripeShelfModel", name := "look", desc := "()I" } : Jvm.MethodName) prog_12_method_9_code (1 : Nat) (Option.some Jvm.ClassFile.FieldType.int)) ∈ lw_all := lw_g (lw_at lw_m6 21 rfl) rfl
theorem q1353 : (Jvm.Cond.methodLink "StripeShelfModel" (75 : Nat) ({ cls := "StripeShelfModel", name := "here", desc := "()I" } : Jvm.MethodName)) ∈ lw_all := lw_g (lw_at lw_m6 22 rfl) rfl
theorem q1354 : (Jvm.Cond.privateMethod ({ cls := "StripeShelfModel", name := "here", desc := "()I" } : Jvm.MethodName)) ∈ lw_tbl := lw_at lw_m6 23 rfl
theorem q1355 : (Jvm.Cond.instanceMethod ({ cls := "StripeShelfModel", name := "here", desc := "()I" } : Jvm.MethodName)) ∈ lw_all := lw_g (lw_at lw_m6 24 rfl) rfl
theorem q1356 : (Jvm.Cond.code ({ cls := "StripeShelfModel", name := "here", desc := "()I" } : Jvm.MethodName) prog_12_method_8_code (1 : Nat) (Option.some Jvm.ClassFile.FieldType.int)) ∈ lw_all := lw_g (lw_at lw_m6 25 rfl) rfl
theorem q1357 : (Jvm.Cond.methodLink "StripeShelfModel" (89 : Nat) ({ cls := "StripeShelfModel", name := "fails", desc := "()V" } : Jvm.MethodName)) ∈ lw_all := lw_g (lw_at lw_m6 26 rfl) rfl
theorem q1358 : (Jvm.Cond.privateMethod ({ cls := "StripeShelfModel", name := "fails", desc := "()V" } : Jvm.MethodName)) ∈ lw_tbl := lw_at lw_m6 27 rfl
theorem q1359 : (Jvm.Cond.instanceMethod ({ cls := "StripeShelfModel", name := "fails", desc := "()V" } : Jvm.MethodName)) ∈ lw_all := lw_g (lw_at lw_m6 28 rfl) rfl
theorem q1360 : (Jvm.Cond.code ({ cls := "StripeShelfModel", name := "fails", desc := "()V" } : Jvm.MethodName) prog_12_method_10_code (1 : Nat) (Option.none : Option Jvm.ClassFile.FieldType)) ∈ lw_all := lw_g (lw_at lw_m6 29 rfl) rfl
theorem q1361 : (Jvm.Cond.stringRef "StripeShelfModel" (124 : Nat) "dtcfk") ∈ lw_tbl := lw_at lw_m6 30 rfl
theorem q1362 : (Jvm.Cond.methodLink "StripeShelfModel" (126 : Nat) ({ cls := "StripeShelfModel", name := "items", desc := "([IILjava/lang/String;)V" } : Jvm.MethodName)) ∈ lw_all := lw_g (lw_at lw_m6 31 rfl) rfl
theorem q1363 : (Jvm.Cond.privateMethod ({ cls := "StripeShelfModel", name := "items", desc := "([IILjava/lang/String;)V" } : Jvm.MethodName)) ∈ lw_tbl := lw_at lw_m6 32 rfl
theorem q1364 : (Jvm.Cond.instanceMethod ({ cls := "StripeShelfModel", name := "items", desc := "([IILjava/lang/String;)V" } : Jvm.MethodName)) ∈ lw_all := lw_g (lw_at lw_m6 33 rfl) rfl
theorem q1365 : (Jvm.Cond.code ({ cls := "StripeShelfModel", name := "items", desc := "([IILjava/lang/String;)V" } : Jvm.MethodName) prog_12_method_17_code (7 : Nat) (Option.none : Option Jvm.ClassFile.FieldType)) ∈ lw_all := lw_g (lw_at lw_m6 34 rfl) rfl
theorem q1366 : (Jvm.Cond.methodLink "StripeShelfModel" (95 : Nat) ({ cls := "java/lang/String", name := "length", desc := "()I" } : Jvm.MethodName)) ∈ lw_all := lw_g (lw_at lw_m6 35 rfl) rfl
theorem q1367 : (Jvm.Cond.methodLink "StripeShelfModel" (103 : Nat) ({ cls := "StripeShelfModel", name := "spotOf", desc := "(Ljava/lang/String;I)I" } : Jvm.MethodName)) ∈ lw_all := lw_g (lw_at lw_m6 36 rfl) rfl
theorem q1368 : (Jvm.Cond.static ({ cls := "StripeShelfModel", name := "spotOf", desc := "(Ljava/lang/String;I)I" } : Jvm.MethodName)) ∈ lw_all := lw_g (lw_at lw_m6 37 rfl) rfl
theorem q1369 : (Jvm.Cond.code ({ cls := "StripeShelfModel", name := "spotOf", desc := "(Ljava/lang/String;I)I" } : Jvm.MethodName) prog_12_method_14_code (3 : Nat) (Option.some Jvm.ClassFile.FieldType.int)) ∈ lw_all := lw_g (lw_at lw_m6 38 rfl) rfl
theorem q1370 : (Jvm.Cond.methodLink "StripeShelfModel" (99 : Nat) ({ cls := "java/lang/String", name := "charAt", desc := "(I)C" } : Jvm.MethodName)) ∈ lw_all := lw_g (lw_at lw_m6 39 rfl) rfl
theorem q1390 : (Jvm.Cond.methodLink "StripeShelfModel" (107 : Nat) ({ cls := "StripeShelfModel", name := "number", desc := "()I" } : Jvm.MethodName)) ∈ lw_all := lw_g (lw_at lw_m6 59 rfl) rfl
theorem q1391 : (Jvm.Cond.privateMethod ({ cls := "StripeShelfModel", name := "number", desc := "()I" } : Jvm.MethodName)) ∈ lw_tbl := lw_at lw_m6 60 rfl
theorem q1392 : (Jvm.Cond.instanceMethod ({ cls := "StripeShelfModel", name := "number", desc := "()I" } : Jvm.MethodName)) ∈ lw_all := lw_g (lw_at lw_m6 61 rfl) rfl
theorem q1393 : (Jvm.Cond.code ({ cls := "StripeShelfModel", name := "number", desc := "()I" } : Jvm.MethodName) prog_12_method_13_code (3 : Nat) (Option.some Jvm.ClassFile.FieldType.int)) ∈ lw_all := lw_g (lw_at lw_m6 62 rfl) rfl
theorem q1394 : (Jvm.Cond.methodLink "StripeShelfModel" (92 : Nat) ({ cls := "StripeShelfModel", name := "digit", desc := "()I" } : Jvm.MethodName)) ∈ lw_all := lw_g (lw_at lw_m6 63 rfl) rfl
theorem q1395 : (Jvm.Cond.privateMethod ({ cls := "StripeShelfModel", name := "digit", desc := "()I" } : Jvm.MethodName)) ∈ lw_tbl := lw_at lw_m6 64 rfl
theorem q1396 : (Jvm.Cond.instanceMethod ({ cls := "StripeShelfModel", name := "digit", desc := "()I" } : Jvm.MethodName)) ∈ lw_all := lw_g (lw_at lw_m6 65 rfl) rfl
theorem q1397 : (Jvm.Cond.code ({ cls := "StripeShelfModel", name := "digit", desc := "()I" } : Jvm.MethodName) prog_12_method_12_code (2 : Nat) (Option.some Jvm.ClassFile.FieldType.int)) ∈ lw_all := lw_g (lw_at lw_m6 66 rfl) rfl
theorem q1398 : (Jvm.Cond.methodLink "StripeShelfModel" (85 : Nat) ({ cls := "StripeShelfModel", name := "isDigit", desc := "()Z" } : Jvm.MethodName)) ∈ lw_all := lw_g (lw_at lw_m6 67 rfl) rfl
theorem q1399 : (Jvm.Cond.privateMethod ({ cls := "StripeShelfModel", name := "isDigit", desc := "()Z" } : Jvm.MethodName)) ∈ lw_tbl := lw_at lw_m6 68 rfl
theorem q1400 : (Jvm.Cond.instanceMethod ({ cls := "StripeShelfModel", name := "isDigit", desc := "()Z" } : Jvm.MethodName)) ∈ lw_all := lw_g (lw_at lw_m6 69 rfl) rfl
theorem q1401 : (Jvm.Cond.code ({ cls := "StripeShelfModel", name := "isDigit", desc := "()Z" } : Jvm.MethodName) prog_12_method_11_code (1 : Nat) (Option.some Jvm.ClassFile.FieldType.boolean)) ∈ lw_all := lw_g (lw_at lw_m6 70 rfl) rfl
theorem q1402 : (Jvm.Cond.methodLink "StripeShelfModel" (110 : Nat) ({ cls := "StripeShelfModel", name := "leastOf", desc := "(ZI)I" } : Jvm.MethodName)) ∈ lw_all := lw_g (lw_at lw_m6 71 rfl) rfl
theorem q1403 : (Jvm.Cond.static ({ cls := "StripeShelfModel", name := "leastOf", desc := "(ZI)I" } : Jvm.MethodName)) ∈ lw_all := lw_g (lw_at lw_m6 72 rfl) rfl
theorem q1404 : (Jvm.Cond.code ({ cls := "StripeShelfModel", name := "leastOf", desc := "(ZI)I" } : Jvm.MethodName) prog_12_method_15_code (2 : Nat) (Option.some Jvm.ClassFile.FieldType.int)) ∈ lw_all := lw_g (lw_at lw_m6 73 rfl) rfl
theorem q1405 : (Jvm.Cond.methodLink "StripeShelfModel" (114 : Nat) ({ cls := "StripeShelfModel", name := "mostOf", desc := "(ZI)I" } : Jvm.MethodName)) ∈ lw_all := lw_g (lw_at lw_m6 74 rfl) rfl
theorem q1406 : (Jvm.Cond.static ({ cls := "StripeShelfModel", name := "mostOf", desc := "(ZI)I" } : Jvm.MethodName)) ∈ lw_all := lw_g (lw_at lw_m6 75 rfl) rfl
theorem q1407 : (Jvm.Cond.code ({ cls := "StripeShelfModel", name := "mostOf", desc := "(ZI)I" } : Jvm.MethodName) prog_12_method_16_code (2 : Nat) (Option.some Jvm.ClassFile.FieldType.int)) ∈ lw_all := lw_g (lw_at lw_m6 76 rfl) rfl
theorem q1408 : (Jvm.Cond.stringRef "StripeShelfModel" (130 : Nat) "ax") ∈ lw_tbl := lw_at lw_m6 77 rfl
theorem q1409 : (Jvm.Cond.methodLink "StripeShelfModel" (147 : Nat) ({ cls := "StripeShelfModel", name := "readScript", desc := "()V" } : Jvm.MethodName)) ∈ lw_all := lw_g (lw_at lw_m6 78 rfl) rfl
theorem q1410 : (Jvm.Cond.privateMethod ({ cls := "StripeShelfModel", name := "readScript", desc := "()V" } : Jvm.MethodName)) ∈ lw_tbl := lw_at lw_m6 79 rfl
theorem q1411 : (Jvm.Cond.instanceMethod ({ cls := "StripeShelfModel", name := "readScript", desc := "()V" } : Jvm.MethodName)) ∈ lw_all := lw_g (lw_at lw_m6 80 rfl) rfl
theorem q1412 : (Jvm.Cond.code ({ cls := "StripeShelfModel", name := "readScript", desc := "()V" } : Jvm.MethodName) prog_12_method_22_code (3 : Nat) (Option.none : Option Jvm.ClassFile.FieldType)) ∈ lw_all := lw_g (lw_at lw_m6 81 rfl) rfl
theorem q1413 : (Jvm.Cond.methodLink "StripeShelfModel" (141 : Nat) ({ cls := "StripeShelfModel", name := "readStep", desc := "(I)V" } : Jvm.MethodName)) ∈ lw_all := lw_g (lw_at lw_m6 82 rfl) rfl
theorem q1414 : (Jvm.Cond.privateMethod ({ cls := "StripeShelfModel", name := "readStep", desc := "(I)V" } : Jvm.MethodName)) ∈ lw_tbl := lw_at lw_m6 83 rfl
theorem q1415 : (Jvm.Cond.instanceMethod ({ cls := "StripeShelfModel", name := "readStep", desc := "(I)V" } : Jvm.MethodName)) ∈ lw_all := lw_g (lw_at lw_m6 84 rfl) rfl
theorem q1416 : (Jvm.Cond.code ({ cls := "StripeShelfModel", name := "readStep", desc := "(I)V" } : Jvm.MethodName) prog_12_method_21_code (5 : Nat) (Option.none : Option Jvm.ClassFile.FieldType)) ∈ lw_all := lw_g (lw_at lw_m6 85 rfl) rfl
theorem q1417 : (Jvm.Cond.stringRef "StripeShelfModel" (136 : Nat) "wlnrspzyf") ∈ lw_tbl := lw_at lw_m6 86 rfl
theorem q1418 : (Jvm.Cond.methodLink "StripeShelfModel" (138 : Nat) ({ cls := "StripeShelfModel", name := "numbersOf", desc := "(I)I" } : Jvm.MethodName)) ∈ lw_all := lw_g (lw_at lw_m6 87 rfl) rfl
theorem q1419 : (Jvm.Cond.static ({ cls := "StripeShelfModel", name := "numbersOf", desc := "(I)I" } : Jvm.MethodName)) ∈ lw_all := lw_g (lw_at lw_m6 88 rfl) rfl
theorem q1420 : (Jvm.Cond.code ({ cls := "StripeShelfModel", name := "numbersOf", desc := "(I)I" } : Jvm.MethodName) prog_12_method_20_code (1 : Nat) (Option.some Jvm.ClassFile.FieldType.int)) ∈ lw_all := lw_g (lw_at lw_m6 89 rfl) rfl
theorem q1422 : (Jvm.Cond.instanceMethod ({ cls := "StripeShelfModel", name := "times", desc := "(II)I" } : Jvm.MethodName)) ∈ lw_all := lw_g (lw_at lw_m6 91 rfl) rfl
theorem q1423 : (Jvm.Cond.selects "StripeShelfModel" ({ cls := "StripeShelfModel", name := "times", desc := "(II)I" } : Jvm.MethodName) ({ cls := "StripeShelfModel", name := "times", desc := "(II)I" } : Jvm.MethodName)) ∈ lw_all := lw_g (lw_at lw_m6 92 rfl) rfl
theorem q1424 : (Jvm.Cond.code ({ cls := "StripeShelfModel", name := "times", desc := "(II)I" } : Jvm.MethodName) prog_12_method_29_code (3 : Nat) (Option.some Jvm.ClassFile.FieldType.int)) ∈ lw_all := lw_g (lw_at lw_m6 93 rfl) rfl
theorem q1425 : (Jvm.Cond.methodLink "StripeShelfModel" (156 : Nat) ({ cls := "StripeShelfModel", name := "isByte", desc := "(I)Z" } : Jvm.MethodName)) ∈ lw_all := lw_g (lw_at lw_m6 94 rfl) rfl
theorem q1426 : (Jvm.Cond.static ({ cls := "StripeShelfModel", name := "isByte", desc := "(I)Z" } : Jvm.MethodName)) ∈ lw_all := lw_g (lw_at lw_m6 95 rfl) rfl
theorem q1427 : (Jvm.Cond.code ({ cls := "StripeShelfModel", name := "isByte", desc := "(I)Z" } : Jvm.MethodName) prog_12_method_28_code (1 : Nat) (Option.some Jvm.ClassFile.FieldType.boolean)) ∈ lw_all := lw_g (lw_at lw_m6 96 rfl) rfl
theorem q1428 : (Jvm.Cond.methodLink "StripeShelfModel" (160 : Nat) ({ cls := "StripeShelfModel", name := "product", desc := "(II)I" } : Jvm.MethodName)) ∈ lw_all := lw_g (lw_at lw_m6 97 rfl) rfl
theorem q1429 : (Jvm.Cond.privateMethod ({ cls := "StripeShelfModel", name := "product", desc := "(II)I" } : Jvm.MethodName)) ∈ lw_tbl := lw_at lw_m6 98 rfl
theorem q1430 : (Jvm.Cond.instanceMethod ({ cls := "StripeShelfModel", name := "product", desc := "(II)I" } : Jvm.MethodName)) ∈ lw_all := lw_g (lw_at lw_m6 99 rfl) rfl
theorem q1431 : (Jvm.Cond.code ({ cls := "StripeShelfModel", name := "product", desc := "(II)I" } : Jvm.MethodName) prog_12_method_26_code (3 : Nat) (Option.some Jvm.ClassFile.FieldType.int)) ∈ lw_all := lw_g (lw_at lw_m6 100 rfl) rfl
theorem q1433 : (Jvm.Cond.instanceMethod ({ cls := "StripeShelfModel", name := "over", desc := "(II)I" } : Jvm.MethodName)) ∈ lw_all := lw_g (lw_at lw_m6 102 rfl) rfl
theorem q1434 : (Jvm.Cond.selects "StripeShelfModel" ({ cls := "StripeShelfModel", name := "over", desc := "(II)I" } : Jvm.MethodName) ({ cls := "StripeShelfModel", name := "over", desc := "(II)I" } : Jvm.MethodName)) ∈ lw_all := lw_g (lw_at lw_m6 103 rfl) rfl
theorem q1435 : (Jvm.Cond.code ({ cls := "StripeShelfModel", name := "over", desc := "(II)I" } : Jvm.MethodName) prog_12_method_30_code (3 : Nat) (Option.some Jvm.ClassFile.FieldType.int)) ∈ lw_all := lw_g (lw_at lw_m6 104 rfl) rfl
theorem q1436 : (Jvm.Cond.methodLink "StripeShelfModel" (164 : Nat) ({ cls := "StripeShelfModel", name := "quotient", desc := "(II)I" } : Jvm.MethodName)) ∈ lw_all := lw_g (lw_at lw_m6 105 rfl) rfl
theorem q1437 : (Jvm.Cond.privateMethod ({ cls := "StripeShelfModel", name := "quotient", desc := "(II)I" } : Jvm.MethodName)) ∈ lw_tbl := lw_at lw_m6 106 rfl
theorem q1438 : (Jvm.Cond.instanceMethod ({ cls := "StripeShelfModel", name := "quotient", desc := "(II)I" } : Jvm.MethodName)) ∈ lw_all := lw_g (lw_at lw_m6 107 rfl) rfl
theorem q1439 : (Jvm.Cond.code ({ cls := "StripeShelfModel", name := "quotient", desc := "(II)I" } : Jvm.MethodName) prog_12_method_27_code (3 : Nat) (Option.some Jvm.ClassFile.FieldType.int)) ∈ lw_all := lw_g (lw_at lw_m6 108 rfl) rfl
theorem q1441 : (Jvm.Cond.instanceMethod ({ cls := "StripeShelfModel", name := "power", desc := "(I)I" } : Jvm.MethodName)) ∈ lw_all := lw_g (lw_at lw_m6 110 rfl) rfl
theorem q1442 : (Jvm.Cond.selects "StripeShelfModel" ({ cls := "StripeShelfModel", name := "power", desc := "(I)I" } : Jvm.MethodName) ({ cls := "StripeShelfModel", name := "power", desc := "(I)I" } : Jvm.MethodName)) ∈ lw_all := lw_g (lw_at lw_m6 111 rfl) rfl
theorem q1443 : (Jvm.Cond.code ({ cls := "StripeShelfModel", name := "power", desc := "(I)I" } : Jvm.MethodName) prog_12_method_31_code (2 : Nat) (Option.some Jvm.ClassFile.FieldType.int)) ∈ lw_all := lw_g (lw_at lw_m6 112 rfl) rfl
theorem q1444 : (Jvm.Cond.constantLong "StripeShelfModel" (167 : Nat) (999 : Int64)) ∈ lw_all := lw_g (lw_at lw_m6 113 rfl) rfl
theorem q1446 : (Jvm.Cond.instanceMethod ({ cls := "StripeShelfModel", name := "logOf", desc := "(I)I" } : Jvm.MethodName)) ∈ lw_all := lw_g (lw_at lw_m6 115 rfl) rfl
theorem q1447 : (Jvm.Cond.selects "StripeShelfModel" ({ cls := "StripeShelfModel", name := "logOf", desc := "(I)I" } : Jvm.MethodName) ({ cls := "StripeShelfModel", name := "logOf", desc := "(I)I" } : Jvm.MethodName)) ∈ lw_all := lw_g (lw_at lw_m6 116 rfl) rfl
theorem q1448 : (Jvm.Cond.code ({ cls := "StripeShelfModel", name := "logOf", desc := "(I)I" } : Jvm.MethodName) prog_12_method_32_code (2 : Nat) (Option.some Jvm.ClassFile.FieldType.int)) ∈ lw_all := lw_g (lw_at lw_m6 117 rfl) rfl
theorem q1449 : (Jvm.Cond.constantLong "StripeShelfModel" (169 : Nat) (255 : Int64)) ∈ lw_all := lw_g (lw_at lw_m6 118 rfl) rfl
theorem q1451 : (Jvm.Cond.instanceMethod ({ cls := "StripeShelfModel", name := "text", desc := "(I)I" } : Jvm.MethodName)) ∈ lw_all := lw_g (lw_at lw_m6 120 rfl) rfl
theorem q1452 : (Jvm.Cond.selects "StripeShelfModel" ({ cls := "StripeShelfModel", name := "text", desc := "(I)I" } : Jvm.MethodName) ({ cls := "StripeShelfModel", name := "text", desc := "(I)I" } : Jvm.MethodName)) ∈ lw_all := lw_g (lw_at lw_m6 121 rfl) rfl
theorem q1453 : (Jvm.Cond.code ({ cls := "StripeShelfModel", name := "text", desc := "(I)I" } : Jvm.MethodName) prog_12_method_34_code (4 : Nat) (Option.some Jvm.ClassFile.FieldType.int)) ∈ lw_all := lw_g (lw_at lw_m6 122 rfl) rfl
theorem q1454 : (Jvm.Cond.methodLink "StripeShelfModel" (191 : Nat) ({ cls := "StripeShelfModel", name := "fault", desc := "(I)I" } : Jvm.MethodName)) ∈ lw_all := lw_g (lw_at lw_m6 123 rfl) rfl
theorem q1455 : (Jvm.Cond.methodLink "StripeShelfModel" (193 : Nat) ({ cls := "StripeShelfModel", name := "begins", desc := "()V" } : Jvm.MethodName)) ∈ lw_all := lw_g (lw_at lw_m6 124 rfl) rfl
theorem q1456 : (Jvm.Cond.privateMethod ({ cls := "StripeShelfModel", name := "begins", desc := "()V" } : Jvm.MethodName)) ∈ lw_tbl := lw_at lw_m6 125 rfl
theorem q1457 : (Jvm.Cond.instanceMethod ({ cls := "StripeShelfModel", name := "begins", desc := "()V" } : Jvm.MethodName)) ∈ lw_all := lw_g (lw_at lw_m6 126 rfl) rfl
theorem q1458 : (Jvm.Cond.code ({ cls := "StripeShelfModel", name := "begins", desc := "()V" } : Jvm.MethodName) prog_12_method_33_code (2 : Nat) (Option.none : Option Jvm.ClassFile.FieldType)) ∈ lw_all := lw_g (lw_at lw_m6 127 rfl) rfl
theorem q1459 : (Jvm.Cond.methodLink "StripeShelfModel" (174 : Nat) ({ cls := "StripeShelfModel", name := "laysField", desc := "()V" } : Jvm.MethodName)) ∈ lw_all := lw_g (lw_at lw_m6 128 rfl) rfl
theorem q1460 : (Jvm.Cond.privateMethod ({ cls := "StripeShelfModel", name := "laysField", desc := "()V" } : Jvm.MethodName)) ∈ lw_tbl := lw_at lw_m6 129 rfl
theorem q1461 : (Jvm.Cond.instanceMethod ({ cls := "StripeShelfModel", name := "laysField", desc := "()V" } : Jvm.MethodName)) ∈ lw_all := lw_g (lw_at lw_m6 130 rfl) rfl
theorem q1462 : (Jvm.Cond.code ({ cls := "StripeShelfModel", name := "laysField", desc := "()V" } : Jvm.MethodName) prog_12_method_25_code (3 : Nat) (Option.none : Option Jvm.ClassFile.FieldType)) ∈ lw_all := lw_g (lw_at lw_m6 131 rfl) rfl
theorem q1463 : (Jvm.Cond.methodLink "StripeShelfModel" (150 : Nat) ({ cls := "StripeShelfModel", name := "modulusOf", desc := "(I)I" } : Jvm.MethodName)) ∈ lw_all := lw_g (lw_at lw_m6 132 rfl) rfl
theorem q1464 : (Jvm.Cond.static ({ cls := "StripeShelfModel", name := "modulusOf", desc := "(I)I" } : Jvm.MethodName)) ∈ lw_all := lw_g (lw_at lw_m6 133 rfl) rfl
theorem q1465 : (Jvm.Cond.code ({ cls := "StripeShelfModel", name := "modulusOf", desc := "(I)I" } : Jvm.MethodName) prog_12_method_24_code (1 : Nat) (Option.some Jvm.ClassFile.FieldType.int)) ∈ lw_all := lw_g (lw_at lw_m6 134 rfl) rfl
theorem q1466 : (Jvm.Cond.methodLink "StripeShelfModel" (177 : Nat) ({ cls := "StripeShelfModel", name := "writes", desc := "([III)V" } : Jvm.MethodName)) ∈ lw_all := lw_g (lw_at lw_m6 135 rfl) rfl
theorem q1467 : (Jvm.Cond.privateMethod ({ cls := "StripeShelfModel", name := "writes", desc := "([III)V" } : Jvm.MethodName)) ∈ lw_tbl := lw_at lw_m6 136 rfl
theorem q1468 : (Jvm.Cond.instanceMethod ({ cls := "StripeShelfModel", name := "writes", desc := "([III)V" } : Jvm.MethodName)) ∈ lw_all := lw_g (lw_at lw_m6 137 rfl) rfl
theorem q1469 : (Jvm.Cond.code ({ cls := "StripeShelfModel", name := "writes", desc := "([III)V" } : Jvm.MethodName) prog_12_method_54_code (12 : Nat) (Option.none : Option Jvm.ClassFile.FieldType)) ∈ lw_all := lw_g (lw_at lw_m6 138 rfl) rfl
theorem q1470 : (Jvm.Cond.methodLink "StripeShelfModel" (217 : Nat) ({ cls := "StripeShelfModel", name := "stripeOf", desc := "(I)I" } : Jvm.MethodName)) ∈ lw_all := lw_g (lw_at lw_m6 139 rfl) rfl
theorem q1471 : (Jvm.Cond.privateMethod ({ cls := "StripeShelfModel", name := "stripeOf", desc := "(I)I" } : Jvm.MethodName)) ∈ lw_tbl := lw_at lw_m6 140 rfl
theorem q1472 : (Jvm.Cond.instanceMethod ({ cls := "StripeShelfModel", name := "stripeOf", desc := "(I)I" } : Jvm.MethodName)) ∈ lw_all := lw_g (lw_at lw_m6 141 rfl) rfl
theorem q1473 : (Jvm.Cond.code ({ cls := "StripeShelfModel", name := "stripeOf", desc := "(I)I" } : Jvm.MethodName) prog_12_method_41_code (2 : Nat) (Option.some Jvm.ClassFile.FieldType.int)) ∈ lw_all := lw_g (lw_at lw_m6 142 rfl) rfl
theorem q1474 : (Jvm.Cond.methodLink "StripeShelfModel" (220 : Nat) ({ cls := "StripeShelfModel", name := "byteOf", desc := "(I)I" } : Jvm.MethodName)) ∈ lw_all := lw_g (lw_at lw_m6 143 rfl) rfl
theorem q1475 : (Jvm.Cond.privateMethod ({ cls := "StripeShelfModel", name := "byteOf", desc := "(I)I" } : Jvm.MethodName)) ∈ lw_tbl := lw_at lw_m6 144 rfl
theorem q1476 : (Jvm.Cond.instanceMethod ({ cls := "StripeShelfModel", name := "byteOf", desc := "(I)I" } : Jvm.MethodName)) ∈ lw_all := lw_g (lw_at lw_m6 145 rfl) rfl
theorem q1477 : (Jvm.Cond.code ({ cls := "StripeShelfModel", name := "byteOf", desc := "(I)I" } : Jvm.MethodName) prog_12_method_39_code (2 : Nat) (Option.some Jvm.ClassFile.FieldType.int)) ∈ lw_all := lw_g (lw_at lw_m6 146 rfl) rfl
theorem q1478 : (Jvm.Cond.methodLink "StripeShelfModel" (230 : Nat) ({ cls := "StripeShelfModel", name := "partOf", desc := "(I)I" } : Jvm.MethodName)) ∈ lw_all := lw_g (lw_at lw_m6 147 rfl) rfl
theorem q1479 : (Jvm.Cond.privateMethod ({ cls := "StripeShelfModel", name := "partOf", desc := "(I)I" } : Jvm.MethodName)) ∈ lw_tbl := lw_at lw_m6 148 rfl
theorem q1480 : (Jvm.Cond.instanceMethod ({ cls := "StripeShelfModel", name := "partOf", desc := "(I)I" } : Jvm.MethodName)) ∈ lw_all := lw_g (lw_at lw_m6 149 rfl) rfl
theorem q1481 : (Jvm.Cond.code ({ cls := "StripeShelfModel", name := "partOf", desc := "(I)I" } : Jvm.MethodName) prog_12_method_40_code (2 : Nat) (Option.some Jvm.ClassFile.FieldType.int)) ∈ lw_all := lw_g (lw_at lw_m6 150 rfl) rfl
theorem q1482 : (Jvm.Cond.methodLink "StripeShelfModel" (223 : Nat) ({ cls := "StripeShelfModel", name := "lays", desc := "([IIIII)V" } : Jvm.MethodName)) ∈ lw_all := lw_g (lw_at lw_m6 151 rfl) rfl
theorem q1483 : (Jvm.Cond.privateMethod ({ cls := "StripeShelfModel", name := "lays", desc := "([IIIII)V" } : Jvm.MethodName)) ∈ lw_tbl := lw_at lw_m6 152 rfl
theorem q1484 : (Jvm.Cond.instanceMethod ({ cls := "StripeShelfModel", name := "lays", desc := "([IIIII)V" } : Jvm.MethodName)) ∈ lw_all := lw_g (lw_at lw_m6 153 rfl) rfl
theorem q1485 : (Jvm.Cond.code ({ cls := "StripeShelfModel", name := "lays", desc := "([IIIII)V" } : Jvm.MethodName) prog_12_method_44_code (8 : Nat) (Option.none : Option Jvm.ClassFile.FieldType)) ∈ lw_all := lw_g (lw_at lw_m6 154 rfl) rfl
theorem q1486 : (Jvm.Cond.methodLink "StripeShelfModel" (199 : Nat) ({ cls := "StripeShelfModel", name := "diskOf", desc := "(II)I" } : Jvm.MethodName)) ∈ lw_all := lw_g (lw_at lw_m6 155 rfl) rfl
theorem q1487 : (Jvm.Cond.privateMethod ({ cls := "StripeShelfModel", name := "diskOf", desc := "(II)I" } : Jvm.MethodName)) ∈ lw_tbl := lw_at lw_m6 156 rfl
theorem q1488 : (Jvm.Cond.instanceMethod ({ cls := "StripeShelfModel", name := "diskOf", desc := "(II)I" } : Jvm.MethodName)) ∈ lw_all := lw_g (lw_at lw_m6 157 rfl) rfl
theorem q1489 : (Jvm.Cond.code ({ cls := "StripeShelfModel", name := "diskOf", desc := "(II)I" } : Jvm.MethodName) prog_12_method_37_code (4 : Nat) (Option.some Jvm.ClassFile.FieldType.int)) ∈ lw_all := lw_g (lw_at lw_m6 158 rfl) rfl
theorem q1490 : (Jvm.Cond.methodLink "StripeShelfModel" (196 : Nat) ({ cls := "StripeShelfModel", name := "pDisk", desc := "(I)I" } : Jvm.MethodName)) ∈ lw_all := lw_g (lw_at lw_m6 159 rfl) rfl
theorem q1491 : (Jvm.Cond.privateMethod ({ cls := "StripeShelfModel", name := "pDisk", desc := "(I)I" } : Jvm.MethodName)) ∈ lw_tbl := lw_at lw_m6 160 rfl
theorem q1492 : (Jvm.Cond.instanceMethod ({ cls := "StripeShelfModel", name := "pDisk", desc := "(I)I" } : Jvm.MethodName)) ∈ lw_all := lw_g (lw_at lw_m6 161 rfl) rfl
theorem q1493 : (Jvm.Cond.code ({ cls := "StripeShelfModel", name := "pDisk", desc := "(I)I" } : Jvm.MethodName) prog_12_method_36_code (2 : Nat) (Option.some Jvm.ClassFile.FieldType.int)) ∈ lw_all := lw_g (lw_at lw_m6 162 rfl) rfl
theorem q1494 : (Jvm.Cond.methodLink "StripeShelfModel" (202 : Nat) ({ cls := "StripeShelfModel", name := "isThere", desc := "([III)Z" } : Jvm.MethodName)) ∈ lw_all := lw_g (lw_at lw_m6 163 rfl) rfl
theorem q1495 : (Jvm.Cond.static ({ cls := "StripeShelfModel", name := "isThere", desc := "([III)Z" } : Jvm.MethodName)) ∈ lw_all := lw_g (lw_at lw_m6 164 rfl) rfl
theorem q1496 : (Jvm.Cond.code ({ cls := "StripeShelfModel", name := "isThere", desc := "([III)Z" } : Jvm.MethodName) prog_12_method_43_code (3 : Nat) (Option.some Jvm.ClassFile.FieldType.boolean)) ∈ lw_all := lw_g (lw_at lw_m6 165 rfl) rfl
theorem q1497 : (Jvm.Cond.methodLink "StripeShelfModel" (206 : Nat) ({ cls := "StripeShelfModel", name := "spot", desc := "(III)I" } : Jvm.MethodName)) ∈ lw_all := lw_g (lw_at lw_m6 166 rfl) rfl
theorem q1498 : (Jvm.Cond.static ({ cls := "StripeShelfModel", name := "spot", desc := "(III)I" } : Jvm.MethodName)) ∈ lw_all := lw_g (lw_at lw_m6 167 rfl) rfl
theorem q1499 : (Jvm.Cond.code ({ cls := "StripeShelfModel", name := "spot", desc := "(III)I" } : Jvm.MethodName) prog_12_method_42_code (3 : Nat) (Option.some Jvm.ClassFile.FieldType.int)) ∈ lw_all := lw_g (lw_at lw_m6 168 rfl) rfl
theorem q1500 : (Jvm.Cond.methodLink "StripeShelfModel" (250 : Nat) ({ cls := "StripeShelfModel", name := "chooses", desc := "(I)V" } : Jvm.MethodName)) ∈ lw_all := lw_g (lw_at lw_m6 169 rfl) rfl
theorem q1501 : (Jvm.Cond.privateMethod ({ cls := "StripeShelfModel", name := "chooses", desc := "(I)V" } : Jvm.MethodName)) ∈ lw_tbl := lw_at lw_m6 170 rfl
theorem q1502 : (Jvm.Cond.instanceMethod ({ cls := "StripeShelfModel", name := "chooses", desc := "(I)V" } : Jvm.MethodName)) ∈ lw_all := lw_g (lw_at lw_m6 171 rfl) rfl
theorem q1503 : (Jvm.Cond.code ({ cls := "StripeShelfModel", name := "chooses", desc := "(I)V" } : Jvm.MethodName) prog_12_method_53_code (6 : Nat) (Option.none : Option Jvm.ClassFile.FieldType)) ∈ lw_all := lw_g (lw_at lw_m6 172 rfl) rfl
theorem q1504 : (Jvm.Cond.methodLink "StripeShelfModel" (246 : Nat) ({ cls := "StripeShelfModel", name := "tries", desc := "(III)V" } : Jvm.MethodName)) ∈ lw_all := lw_g (lw_at lw_m6 173 rfl) rfl
theorem q1505 : (Jvm.Cond.privateMethod ({ cls := "StripeShelfModel", name := "tries", desc := "(III)V" } : Jvm.MethodName)) ∈ lw_tbl := lw_at lw_m6 174 rfl
theorem q1506 : (Jvm.Cond.instanceMethod ({ cls := "StripeShelfModel", name := "tries", desc := "(III)V" } : Jvm.MethodName)) ∈ lw_all := lw_g (lw_at lw_m6 175 rfl) rfl
theorem q1507 : (Jvm.Cond.code ({ cls := "StripeShelfModel", name := "tries", desc := "(III)V" } : Jvm.MethodName) prog_12_method_52_code (4 : Nat) (Option.none : Option Jvm.ClassFile.FieldType)) ∈ lw_all := lw_g (lw_at lw_m6 176 rfl) rfl
theorem q1508 : (Jvm.Cond.methodLink "StripeShelfModel" (253 : Nat) ({ cls := "StripeShelfModel", name := "isRead", desc := "(II)Z" } : Jvm.MethodName)) ∈ lw_all := lw_g (lw_at lw_m6 177 rfl) rfl
theorem q1509 : (Jvm.Cond.privateMethod ({ cls := "StripeShelfModel", name := "isRead", desc := "(II)Z" } : Jvm.MethodName)) ∈ lw_tbl := lw_at lw_m6 178 rfl
theorem q1510 : (Jvm.Cond.instanceMethod ({ cls := "StripeShelfModel", name := "isRead", desc := "(II)Z" } : Jvm.MethodName)) ∈ lw_all := lw_g (lw_at lw_m6 179 rfl) rfl
theorem q1511 : (Jvm.Cond.code ({ cls := "StripeShelfModel", name := "isRead", desc := "(II)Z" } : Jvm.MethodName) prog_12_method_55_code (4 : Nat) (Option.some Jvm.ClassFile.FieldType.boolean)) ∈ lw_all := lw_g (lw_at lw_m6 180 rfl) rfl
theorem q1512 : (Jvm.Cond.methodLink "StripeShelfModel" (257 : Nat) ({ cls := "StripeShelfModel", name := "countsRole", desc := "([IIIZ)V" } : Jvm.MethodName)) ∈ lw_all := lw_g (lw_at lw_m6 181 rfl) rfl
theorem q1513 : (Jvm.Cond.privateMethod ({ cls := "StripeShelfModel", name := "countsRole", desc := "([IIIZ)V" } : Jvm.MethodName)) ∈ lw_tbl := lw_at lw_m6 182 rfl
theorem q1514 : (Jvm.Cond.instanceMethod ({ cls := "StripeShelfModel", name := "countsRole", desc := "([IIIZ)V" } : Jvm.MethodName)) ∈ lw_all := lw_g (lw_at lw_m6 183 rfl) rfl
theorem q1515 : (Jvm.Cond.code ({ cls := "StripeShelfModel", name := "countsRole", desc := "([IIIZ)V" } : Jvm.MethodName) prog_12_method_50_code (5 : Nat) (Option.none : Option Jvm.ClassFile.FieldType)) ∈ lw_all := lw_g (lw_at lw_m6 184 rfl) rfl
theorem q1516 : (Jvm.Cond.methodLink "StripeShelfModel" (233 : Nat) ({ cls := "StripeShelfModel", name := "counts", desc := "([IIZ)V" } : Jvm.MethodName)) ∈ lw_all := lw_g (lw_at lw_m6 185 rfl) rfl
theorem q1517 : (Jvm.Cond.privateMethod ({ cls := "StripeShelfModel", name := "counts", desc := "([IIZ)V" } : Jvm.MethodName)) ∈ lw_tbl := lw_at lw_m6 186 rfl
theorem q1518 : (Jvm.Cond.instanceMethod ({ cls := "StripeShelfModel", name := "counts", desc := "([IIZ)V" } : Jvm.MethodName)) ∈ lw_all := lw_g (lw_at lw_m6 187 rfl) rfl
theorem q1519 : (Jvm.Cond.code ({ cls := "StripeShelfModel", name := "counts", desc := "([IIZ)V" } : Jvm.MethodName) prog_12_method_49_code (4 : Nat) (Option.none : Option Jvm.ClassFile.FieldType)) ∈ lw_all := lw_g (lw_at lw_m6 188 rfl) rfl
theorem q1520 : (Jvm.Cond.methodLink "StripeShelfModel" (227 : Nat) ({ cls := "StripeShelfModel", name := "solves", desc := "()V" } : Jvm.MethodName)) ∈ lw_all := lw_g (lw_at lw_m6 189 rfl) rfl
theorem q1521 : (Jvm.Cond.privateMethod ({ cls := "StripeShelfModel", name := "solves", desc := "()V" } : Jvm.MethodName)) ∈ lw_tbl := lw_at lw_m6 190 rfl
theorem q1522 : (Jvm.Cond.instanceMethod ({ cls := "StripeShelfModel", name := "solves", desc := "()V" } : Jvm.MethodName)) ∈ lw_all := lw_g (lw_at lw_m6 191 rfl) rfl
theorem q1523 : (Jvm.Cond.code ({ cls := "StripeShelfModel", name := "solves", desc := "()V" } : Jvm.MethodName) prog_12_method_47_code (7 : Nat) (Option.none : Option Jvm.ClassFile.FieldType)) ∈ lw_all := lw_g (lw_at lw_m6 192 rfl) rfl
theorem q1524 : (Jvm.Cond.methodLink "StripeShelfModel" (210 : Nat) ({ cls := "StripeShelfModel", name := "missing", desc := "(I)I" } : Jvm.MethodName)) ∈ lw_all := lw_g (lw_at lw_m6 193 rfl) rfl
theorem q1525 : (Jvm.Cond.privateMethod ({ cls := "StripeShelfModel", name := "missing", desc := "(I)I" } : Jvm.MethodName)) ∈ lw_tbl := lw_at lw_m6 194 rfl
theorem q1526 : (Jvm.Cond.instanceMethod ({ cls := "StripeShelfModel", name := "missing", desc := "(I)I" } : Jvm.MethodName)) ∈ lw_all := lw_g (lw_at lw_m6 195 rfl) rfl
theorem q1527 : (Jvm.Cond.code ({ cls := "StripeShelfModel", name := "missing", desc := "(I)I" } : Jvm.MethodName) prog_12_method_45_code (3 : Nat) (Option.some Jvm.ClassFile.FieldType.int)) ∈ lw_all := lw_g (lw_at lw_m6 196 rfl) rfl
theorem q1528 : (Jvm.Cond.methodLink "StripeShelfModel" (213 : Nat) ({ cls := "StripeShelfModel", name := "sum", desc := "(ZII)I" } : Jvm.MethodName)) ∈ lw_all := lw_g (lw_at lw_m6 197 rfl) rfl
theorem q1529 : (Jvm.Cond.privateMethod ({ cls := "StripeShelfModel", name := "sum", desc := "(ZII)I" } : Jvm.MethodName)) ∈ lw_tbl := lw_at lw_m6 198 rfl
theorem q1530 : (Jvm.Cond.instanceMethod ({ cls := "StripeShelfModel", name := "sum", desc := "(ZII)I" } : Jvm.MethodName)) ∈ lw_all := lw_g (lw_at lw_m6 199 rfl) rfl
theorem q1531 : (Jvm.Cond.code ({ cls := "StripeShelfModel", name := "sum", desc := "(ZII)I" } : Jvm.MethodName) prog_12_method_46_code (6 : Nat) (Option.some Jvm.ClassFile.FieldType.int)) ∈ lw_all := lw_g (lw_at lw_m6 200 rfl) rfl
theorem q1532 : (Jvm.Cond.methodLink "StripeShelfModel" (261 : Nat) ({ cls := "StripeShelfModel", name := "puts", desc := "([IIIII)V" } : Jvm.MethodName)) ∈ lw_all := lw_g (lw_at lw_m6 201 rfl) rfl
theorem q1533 : (Jvm.Cond.privateMethod ({ cls := "StripeShelfModel", name := "puts", desc := "([IIIII)V" } : Jvm.MethodName)) ∈ lw_tbl := lw_at lw_m6 202 rfl
theorem q1534 : (Jvm.Cond.instanceMethod ({ cls := "StripeShelfModel", name := "puts", desc := "([IIIII)V" } : Jvm.MethodName)) ∈ lw_all := lw_g (lw_at lw_m6 203 rfl) rfl
theorem q1535 : (Jvm.Cond.code ({ cls := "StripeShelfModel", name := "puts", desc := "([IIIII)V" } : Jvm.MethodName) prog_12_method_51_code (7 : Nat) (Option.none : Option Jvm.ClassFile.FieldType)) ∈ lw_all := lw_g (lw_at lw_m6 204 rfl) rfl
theorem q1537 : (Jvm.Cond.instanceMethod ({ cls := "StripeShelfModel", name := "write", desc := "(II)I" } : Jvm.MethodName)) ∈ lw_all := lw_g (lw_at lw_m6 206 rfl) rfl
theorem q1538 : (Jvm.Cond.selects "StripeShelfModel" ({ cls := "StripeShelfModel", name := "write", desc := "(II)I" } : Jvm.MethodName) ({ cls := "StripeShelfModel", name := "write", desc := "(II)I" } : Jvm.MethodName)) ∈ lw_all := lw_g (lw_at lw_m6 207 rfl) rfl
theorem q1539 : (Jvm.Cond.code ({ cls := "StripeShelfModel", name := "write", desc := "(II)I" } : Jvm.MethodName) prog_12_method_81_code (3 : Nat) (Option.some Jvm.ClassFile.FieldType.int)) ∈ lw_all := lw_g (lw_at lw_m6 208 rfl) rfl
theorem q1540 : (Jvm.Cond.methodLink "StripeShelfModel" (369 : Nat) ({ cls := "StripeShelfModel", name := "act", desc := "(IIIII)I" } : Jvm.MethodName)) ∈ lw_all := lw_g (lw_at lw_m6 209 rfl) rfl
theorem q1541 : (Jvm.Cond.privateMethod ({ cls := "StripeShelfModel", name := "act", desc := "(IIIII)I" } : Jvm.MethodName)) ∈ lw_tbl := lw_at lw_m6 210 rfl
theorem q1542 : (Jvm.Cond.instanceMethod ({ cls := "StripeShelfModel", name := "act", desc := "(IIIII)I" } : Jvm.MethodName)) ∈ lw_all := lw_g (lw_at lw_m6 211 rfl) rfl
theorem q1543 : (Jvm.Cond.code ({ cls := "StripeShelfModel", name := "act", desc := "(IIIII)I" } : Jvm.MethodName) prog_12_method_80_code (7 : Nat) (Option.some Jvm.ClassFile.FieldType.int)) ∈ lw_all := lw_g (lw_at lw_m6 212 rfl) rfl
theorem q1544 : (Jvm.Cond.methodLink "StripeShelfModel" (366 : Nat) ({ cls := "StripeShelfModel", name := "tries", desc := "(IIIII)I" } : Jvm.MethodName)) ∈ lw_all := lw_g (lw_at lw_m6 213 rfl) rfl
theorem q1545 : (Jvm.Cond.privateMethod ({ cls := "StripeShelfModel", name := "tries", desc := "(IIIII)I" } : Jvm.MethodName)) ∈ lw_tbl := lw_at lw_m6 214 rfl
theorem q1546 : (Jvm.Cond.instanceMethod ({ cls := "StripeShelfModel", name := "tries", desc := "(IIIII)I" } : Jvm.MethodName)) ∈ lw_all := lw_g (lw_at lw_m6 215 rfl) rfl
theorem q1547 : (Jvm.Cond.code ({ cls := "StripeShelfModel", name := "tries", desc := "(IIIII)I" } : Jvm.MethodName) prog_12_method_79_code (7 : Nat) (Option.some Jvm.ClassFile.FieldType.int)) ∈ lw_all := lw_g (lw_at lw_m6 216 rfl) rfl
theorem q1548 : (Jvm.Cond.methodLink "StripeShelfModel" (349 : Nat) ({ cls := "StripeShelfModel", name := "copyRow", desc := "([II[II)V" } : Jvm.MethodName)) ∈ lw_all := lw_g (lw_at lw_m6 217 rfl) rfl
theorem q1549 : (Jvm.Cond.static ({ cls := "StripeShelfModel", name := "copyRow", desc := "([II[II)V" } : Jvm.MethodName)) ∈ lw_all := lw_g (lw_at lw_m6 218 rfl) rfl
theorem q1550 : (Jvm.Cond.code ({ cls := "StripeShelfModel", name := "copyRow", desc := "([II[II)V" } : Jvm.MethodName) prog_12_method_35_code (5 : Nat) (Option.none : Option Jvm.ClassFile.FieldType)) ∈ lw_all := lw_g (lw_at lw_m6 219 rfl) rfl
theorem q1551 : (Jvm.Cond.methodLink "StripeShelfModel" (353 : Nat) ({ cls := "StripeShelfModel", name := "does", desc := "([IIIIII)I" } : Jvm.MethodName)) ∈ lw_all := lw_g (lw_at lw_m6 220 rfl) rfl
theorem q1552 : (Jvm.Cond.privateMethod ({ cls := "StripeShelfModel", name := "does", desc := "([IIIIII)I" } : Jvm.MethodName)) ∈ lw_tbl := lw_at lw_m6 221 rfl
theorem q1553 : (Jvm.Cond.instanceMethod ({ cls := "StripeShelfModel", name := "does", desc := "([IIIIII)I" } : Jvm.MethodName)) ∈ lw_all := lw_g (lw_at lw_m6 222 rfl) rfl
theorem q1554 : (Jvm.Cond.code ({ cls := "StripeShelfModel", name := "does", desc := "([IIIIII)I" } : Jvm.MethodName) prog_12_method_69_code (9 : Nat) (Option.some Jvm.ClassFile.FieldType.int)) ∈ lw_all := lw_g (lw_at lw_m6 223 rfl) rfl
theorem q1555 : (Jvm.Cond.methodLink "StripeShelfModel" (302 : Nat) ({ cls := "StripeShelfModel", name := "stops", desc := "([IIIIII)I" } : Jvm.MethodName)) ∈ lw_all := lw_g (lw_at lw_m6 224 rfl) rfl
theorem q1556 : (Jvm.Cond.privateMethod ({ cls := "StripeShelfModel", name := "stops", desc := "([IIIIII)I" } : Jvm.MethodName)) ∈ lw_tbl := lw_at lw_m6 225 rfl
theorem q1557 : (Jvm.Cond.instanceMethod ({ cls := "StripeShelfModel", name := "stops", desc := "([IIIIII)I" } : Jvm.MethodName)) ∈ lw_all := lw_g (lw_at lw_m6 226 rfl) rfl
theorem q1558 : (Jvm.Cond.code ({ cls := "StripeShelfModel", name := "stops", desc := "([IIIIII)I" } : Jvm.MethodName) prog_12_method_68_code (7 : Nat) (Option.some Jvm.ClassFile.FieldType.int)) ∈ lw_all := lw_g (lw_at lw_m6 227 rfl) rfl
theorem q1559 : (Jvm.Cond.methodLink "StripeShelfModel" (281 : Nat) ({ cls := "StripeShelfModel", name := "isAddress", desc := "(I)Z" } : Jvm.MethodName)) ∈ lw_all := lw_g (lw_at lw_m6 228 rfl) rfl
theorem q1560 : (Jvm.Cond.privateMethod ({ cls := "StripeShelfModel", name := "isAddress", desc := "(I)Z" } : Jvm.MethodName)) ∈ lw_tbl := lw_at lw_m6 229 rfl
theorem q1561 : (Jvm.Cond.instanceMethod ({ cls := "StripeShelfModel", name := "isAddress", desc := "(I)Z" } : Jvm.MethodName)) ∈ lw_all := lw_g (lw_at lw_m6 230 rfl) rfl
theorem q1562 : (Jvm.Cond.code ({ cls := "StripeShelfModel", name := "isAddress", desc := "(I)Z" } : Jvm.MethodName) prog_12_method_61_code (2 : Nat) (Option.some Jvm.ClassFile.FieldType.boolean)) ∈ lw_all := lw_g (lw_at lw_m6 231 rfl) rfl
theorem q1563 : (Jvm.Cond.methodLink "StripeShelfModel" (278 : Nat) ({ cls := "StripeShelfModel", name := "isDisk", desc := "(I)Z" } : Jvm.MethodName)) ∈ lw_all := lw_g (lw_at lw_m6 232 rfl) rfl
theorem q1564 : (Jvm.Cond.privateMethod ({ cls := "StripeShelfModel", name := "isDisk", desc := "(I)Z" } : Jvm.MethodName)) ∈ lw_tbl := lw_at lw_m6 233 rfl
theorem q1565 : (Jvm.Cond.instanceMethod ({ cls := "StripeShelfModel", name := "isDisk", desc := "(I)Z" } : Jvm.MethodName)) ∈ lw_all := lw_g (lw_at lw_m6 234 rfl) rfl
theorem q1566 : (Jvm.Cond.code ({ cls := "StripeShelfModel", name := "isDisk", desc := "(I)Z" } : Jvm.MethodName) prog_12_method_62_code (2 : Nat) (Option.some Jvm.ClassFile.FieldType.boolean)) ∈ lw_all := lw_g (lw_at lw_m6 235 rfl) rfl
theorem q1567 : (Jvm.Cond.methodLink "StripeShelfModel" (284 : Nat) ({ cls := "StripeShelfModel", name := "lost", desc := "([I)I" } : Jvm.MethodName)) ∈ lw_all := lw_g (lw_at lw_m6 236 rfl) rfl
theorem q1568 : (Jvm.Cond.privateMethod ({ cls := "StripeShelfModel", name := "lost", desc := "([I)I" } : Jvm.MethodName)) ∈ lw_tbl := lw_at lw_m6 237 rfl
theorem q1569 : (Jvm.Cond.instanceMethod ({ cls := "StripeShelfModel", name := "lost", desc := "([I)I" } : Jvm.MethodName)) ∈ lw_all := lw_g (lw_at lw_m6 238 rfl) rfl
theorem q1570 : (Jvm.Cond.code ({ cls := "StripeShelfModel", name := "lost", desc := "([I)I" } : Jvm.MethodName) prog_12_method_64_code (4 : Nat) (Option.some Jvm.ClassFile.FieldType.int)) ∈ lw_all := lw_g (lw_at lw_m6 239 rfl) rfl
theorem q1571 : (Jvm.Cond.constantLong "StripeShelfModel" (288 : Nat) (12 : Int64)) ∈ lw_all := lw_g (lw_at lw_m7 0 rfl) rfl
theorem q1572 : (Jvm.Cond.methodLink "StripeShelfModel" (290 : Nat) ({ cls := "StripeShelfModel", name := "isPlace", desc := "(III)Z" } : Jvm.MethodName)) ∈ lw_all := lw_g (lw_at lw_m7 1 rfl) rfl
theorem q1573 : (Jvm.Cond.privateMethod ({ cls := "StripeShelfModel", name := "isPlace", desc := "(III)Z" } : Jvm.MethodName)) ∈ lw_tbl := lw_at lw_m7 2 rfl
theorem q1574 : (Jvm.Cond.instanceMethod ({ cls := "StripeShelfModel", name := "isPlace", desc := "(III)Z" } : Jvm.MethodName)) ∈ lw_all := lw_g (lw_at lw_m7 3 rfl) rfl
theorem q1575 : (Jvm.Cond.code ({ cls := "StripeShelfModel", name := "isPlace", desc := "(III)Z" } : Jvm.MethodName) prog_12_method_63_code (4 : Nat) (Option.some Jvm.ClassFile.FieldType.boolean)) ∈ lw_all := lw_g (lw_at lw_m7 4 rfl) rfl
theorem q1576 : (Jvm.Cond.constantLong "StripeShelfModel" (294 : Nat) (2 : Int64)) ∈ lw_all := lw_g (lw_at lw_m7 5 rfl) rfl
theorem q1577 : (Jvm.Cond.methodLink "StripeShelfModel" (296 : Nat) ({ cls := "StripeShelfModel", name := "isSmall", desc := "([II)Z" } : Jvm.MethodName)) ∈ lw_all := lw_g (lw_at lw_m7 6 rfl) rfl
theorem q1578 : (Jvm.Cond.privateMethod ({ cls := "StripeShelfModel", name := "isSmall", desc := "([II)Z" } : Jvm.MethodName)) ∈ lw_tbl := lw_at lw_m7 7 rfl
theorem q1579 : (Jvm.Cond.instanceMethod ({ cls := "StripeShelfModel", name := "isSmall", desc := "([II)Z" } : Jvm.MethodName)) ∈ lw_all := lw_g (lw_at lw_m7 8 rfl) rfl
theorem q1580 : (Jvm.Cond.code ({ cls := "StripeShelfModel", name := "isSmall", desc := "([II)Z" } : Jvm.MethodName) prog_12_method_65_code (4 : Nat) (Option.some Jvm.ClassFile.FieldType.boolean)) ∈ lw_all := lw_g (lw_at lw_m7 9 rfl) rfl
theorem q1581 : (Jvm.Cond.methodLink "StripeShelfModel" (299 : Nat) ({ cls := "StripeShelfModel", name := "toClean", desc := "([I)I" } : Jvm.MethodName)) ∈ lw_all := lw_g (lw_at lw_m7 10 rfl) rfl
theorem q1582 : (Jvm.Cond.privateMethod ({ cls := "StripeShelfModel", name := "toClean", desc := "([I)I" } : Jvm.MethodName)) ∈ lw_tbl := lw_at lw_m7 11 rfl
theorem q1583 : (Jvm.Cond.instanceMethod ({ cls := "StripeShelfModel", name := "toClean", desc := "([I)I" } : Jvm.MethodName)) ∈ lw_all := lw_g (lw_at lw_m7 12 rfl) rfl
theorem q1584 : (Jvm.Cond.code ({ cls := "StripeShelfModel", name := "toClean", desc := "([I)I" } : Jvm.MethodName) prog_12_method_66_code (4 : Nat) (Option.some Jvm.ClassFile.FieldType.int)) ∈ lw_all := lw_g (lw_at lw_m7 13 rfl) rfl
theorem q1585 : (Jvm.Cond.methodLink "StripeShelfModel" (271 : Nat) ({ cls := "StripeShelfModel", name := "isDirty", desc := "([II)Z" } : Jvm.MethodName)) ∈ lw_all := lw_g (lw_at lw_m7 14 rfl) rfl
theorem q1586 : (Jvm.Cond.static ({ cls := "StripeShelfModel", name := "isDirty", desc := "([II)Z" } : Jvm.MethodName)) ∈ lw_all := lw_g (lw_at lw_m7 15 rfl) rfl
theorem q1587 : (Jvm.Cond.code ({ cls := "StripeShelfModel", name := "isDirty", desc := "([II)Z" } : Jvm.MethodName) prog_12_method_58_code (2 : Nat) (Option.some Jvm.ClassFile.FieldType.boolean)) ∈ lw_all := lw_g (lw_at lw_m7 16 rfl) rfl
theorem q1588 : (Jvm.Cond.methodLink "StripeShelfModel" (267 : Nat) ({ cls := "StripeShelfModel", name := "isAll", desc := "([II)Z" } : Jvm.MethodName)) ∈ lw_all := lw_g (lw_at lw_m7 17 rfl) rfl
theorem q1589 : (Jvm.Cond.privateMethod ({ cls := "StripeShelfModel", name := "isAll", desc := "([II)Z" } : Jvm.MethodName)) ∈ lw_tbl := lw_at lw_m7 18 rfl
theorem q1590 : (Jvm.Cond.instanceMethod ({ cls := "StripeShelfModel", name := "isAll", desc := "([II)Z" } : Jvm.MethodName)) ∈ lw_all := lw_g (lw_at lw_m7 19 rfl) rfl
theorem q1591 : (Jvm.Cond.code ({ cls := "StripeShelfModel", name := "isAll", desc := "([II)Z" } : Jvm.MethodName) prog_12_method_57_code (4 : Nat) (Option.some Jvm.ClassFile.FieldType.boolean)) ∈ lw_all := lw_g (lw_at lw_m7 20 rfl) rfl
theorem q1592 : (Jvm.Cond.methodLink "StripeShelfModel" (309 : Nat) ({ cls := "StripeShelfModel", name := "reads", desc := "([II)I" } : Jvm.MethodName)) ∈ lw_all := lw_g (lw_at lw_m7 21 rfl) rfl
theorem q1593 : (Jvm.Cond.privateMethod ({ cls := "StripeShelfModel", name := "reads", desc := "([II)I" } : Jvm.MethodName)) ∈ lw_tbl := lw_at lw_m7 22 rfl
theorem q1594 : (Jvm.Cond.instanceMethod ({ cls := "StripeShelfModel", name := "reads", desc := "([II)I" } : Jvm.MethodName)) ∈ lw_all := lw_g (lw_at lw_m7 23 rfl) rfl
theorem q1595 : (Jvm.Cond.code ({ cls := "StripeShelfModel", name := "reads", desc := "([II)I" } : Jvm.MethodName) prog_12_method_48_code (3 : Nat) (Option.some Jvm.ClassFile.FieldType.int)) ∈ lw_all := lw_g (lw_at lw_m7 24 rfl) rfl
theorem q1596 : (Jvm.Cond.methodLink "StripeShelfModel" (316 : Nat) ({ cls := "StripeShelfModel", name := "loses", desc := "([II)V" } : Jvm.MethodName)) ∈ lw_all := lw_g (lw_at lw_m7 25 rfl) rfl
theorem q1597 : (Jvm.Cond.static ({ cls := "StripeShelfModel", name := "loses", desc := "([II)V" } : Jvm.MethodName)) ∈ lw_all := lw_g (lw_at lw_m7 26 rfl) rfl
theorem q1598 : (Jvm.Cond.code ({ cls := "StripeShelfModel", name := "loses", desc := "([II)V" } : Jvm.MethodName) prog_12_method_70_code (3 : Nat) (Option.none : Option Jvm.ClassFile.FieldType)) ∈ lw_all := lw_g (lw_at lw_m7 27 rfl) rfl
theorem q1599 : (Jvm.Cond.methodLink "StripeShelfModel" (320 : Nat) ({ cls := "StripeShelfModel", name := "rebuilds", desc := "([II)V" } : Jvm.MethodName)) ∈ lw_all := lw_g (lw_at lw_m7 28 rfl) rfl
theorem q1600 : (Jvm.Cond.privateMethod ({ cls := "StripeShelfModel", name := "rebuilds", desc := "([II)V" } : Jvm.MethodName)) ∈ lw_tbl := lw_at lw_m7 29 rfl
theorem q1601 : (Jvm.Cond.instanceMethod ({ cls := "StripeShelfModel", name := "rebuilds", desc := "([II)V" } : Jvm.MethodName)) ∈ lw_all := lw_g (lw_at lw_m7 30 rfl) rfl
theorem q1602 : (Jvm.Cond.code ({ cls := "StripeShelfModel", name := "rebuilds", desc := "([II)V" } : Jvm.MethodName) prog_12_method_71_code (7 : Nat) (Option.none : Option Jvm.ClassFile.FieldType)) ∈ lw_all := lw_g (lw_at lw_m7 31 rfl) rfl
theorem q1603 : (Jvm.Cond.methodLink "StripeShelfModel" (340 : Nat) ({ cls := "StripeShelfModel", name := "roleOf", desc := "(II)I" } : Jvm.MethodName)) ∈ lw_all := lw_g (lw_at lw_m7 32 rfl) rfl
theorem q1604 : (Jvm.Cond.privateMethod ({ cls := "StripeShelfModel", name := "roleOf", desc := "(II)I" } : Jvm.MethodName)) ∈ lw_tbl := lw_at lw_m7 33 rfl
theorem q1605 : (Jvm.Cond.instanceMethod ({ cls := "StripeShelfModel", name := "roleOf", desc := "(II)I" } : Jvm.MethodName)) ∈ lw_all := lw_g (lw_at lw_m7 34 rfl) rfl
theorem q1606 : (Jvm.Cond.code ({ cls := "StripeShelfModel", name := "roleOf", desc := "(II)I" } : Jvm.MethodName) prog_12_method_38_code (4 : Nat) (Option.some Jvm.ClassFile.FieldType.int)) ∈ lw_all := lw_g (lw_at lw_m7 35 rfl) rfl
theorem q1607 : (Jvm.Cond.methodLink "StripeShelfModel" (323 : Nat) ({ cls := "StripeShelfModel", name := "scrubsOn", desc := "([II)V" } : Jvm.MethodName)) ∈ lw_all := lw_g (lw_at lw_m7 36 rfl) rfl
theorem q1608 : (Jvm.Cond.privateMethod ({ cls := "StripeShelfModel", name := "scrubsOn", desc := "([II)V" } : Jvm.MethodName)) ∈ lw_tbl := lw_at lw_m7 37 rfl
theorem q1609 : (Jvm.Cond.instanceMethod ({ cls := "StripeShelfModel", name := "scrubsOn", desc := "([II)V" } : Jvm.MethodName)) ∈ lw_all := lw_g (lw_at lw_m7 38 rfl) rfl
theorem q1610 : (Jvm.Cond.code ({ cls := "StripeShelfModel", name := "scrubsOn", desc := "([II)V" } : Jvm.MethodName) prog_12_method_72_code (5 : Nat) (Option.none : Option Jvm.ClassFile.FieldType)) ∈ lw_all := lw_g (lw_at lw_m7 39 rfl) rfl
theorem q1611 : (Jvm.Cond.methodLink "StripeShelfModel" (343 : Nat) ({ cls := "StripeShelfModel", name := "scrubs", desc := "([II)I" } : Jvm.MethodName)) ∈ lw_all := lw_g (lw_at lw_m7 40 rfl) rfl
theorem q1612 : (Jvm.Cond.privateMethod ({ cls := "StripeShelfModel", name := "scrubs", desc := "([II)I" } : Jvm.MethodName)) ∈ lw_tbl := lw_at lw_m7 41 rfl
theorem q1613 : (Jvm.Cond.instanceMethod ({ cls := "StripeShelfModel", name := "scrubs", desc := "([II)I" } : Jvm.MethodName)) ∈ lw_all := lw_g (lw_at lw_m7 42 rfl) rfl
theorem q1614 : (Jvm.Cond.code ({ cls := "StripeShelfModel", name := "scrubs", desc := "([II)I" } : Jvm.MethodName) prog_12_method_60_code (6 : Nat) (Option.some Jvm.ClassFile.FieldType.int)) ∈ lw_all := lw_g (lw_at lw_m7 43 rfl) rfl
theorem q1615 : (Jvm.Cond.methodLink "StripeShelfModel" (274 : Nat) ({ cls := "StripeShelfModel", name := "mends", desc := "([III)I" } : Jvm.MethodName)) ∈ lw_all := lw_g (lw_at lw_m7 44 rfl) rfl
theorem q1616 : (Jvm.Cond.privateMethod ({ cls := "StripeShelfModel", name := "mends", desc := "([III)I" } : Jvm.MethodName)) ∈ lw_tbl := lw_at lw_m7 45 rfl
theorem q1617 : (Jvm.Cond.instanceMethod ({ cls := "StripeShelfModel", name := "mends", desc := "([III)I" } : Jvm.MethodName)) ∈ lw_all := lw_g (lw_at lw_m7 46 rfl) rfl
theorem q1618 : (Jvm.Cond.code ({ cls := "StripeShelfModel", name := "mends", desc := "([III)I" } : Jvm.MethodName) prog_12_method_59_code (7 : Nat) (Option.some Jvm.ClassFile.FieldType.int)) ∈ lw_all := lw_g (lw_at lw_m7 47 rfl) rfl
theorem q1619 : (Jvm.Cond.methodLink "StripeShelfModel" (264 : Nat) ({ cls := "StripeShelfModel", name := "wrong", desc := "()I" } : Jvm.MethodName)) ∈ lw_all := lw_g (lw_at lw_m7 48 rfl) rfl
theorem q1620 : (Jvm.Cond.privateMethod ({ cls := "StripeShelfModel", name := "wrong", desc := "()I" } : Jvm.MethodName)) ∈ lw_tbl := lw_at lw_m7 49 rfl
theorem q1621 : (Jvm.Cond.instanceMethod ({ cls := "StripeShelfModel", name := "wrong", desc := "()I" } : Jvm.MethodName)) ∈ lw_all := lw_g (lw_at lw_m7 50 rfl) rfl
theorem q1622 : (Jvm.Cond.code ({ cls := "StripeShelfModel", name := "wrong", desc := "()I" } : Jvm.MethodName) prog_12_method_56_code (5 : Nat) (Option.some Jvm.ClassFile.FieldType.int)) ∈ lw_all := lw_g (lw_at lw_m7 51 rfl) rfl
theorem q1623 : (Jvm.Cond.methodLink "StripeShelfModel" (326 : Nat) ({ cls := "StripeShelfModel", name := "tears", desc := "([IIII)V" } : Jvm.MethodName)) ∈ lw_all := lw_g (lw_at lw_m7 52 rfl) rfl
theorem q1624 : (Jvm.Cond.privateMethod ({ cls := "StripeShelfModel", name := "tears", desc := "([IIII)V" } : Jvm.MethodName)) ∈ lw_tbl := lw_at lw_m7 53 rfl
theorem q1625 : (Jvm.Cond.instanceMethod ({ cls := "StripeShelfModel", name := "tears", desc := "([IIII)V" } : Jvm.MethodName)) ∈ lw_all := lw_g (lw_at lw_m7 54 rfl) rfl
theorem q1626 : (Jvm.Cond.code ({ cls := "StripeShelfModel", name := "tears", desc := "([IIII)V" } : Jvm.MethodName) prog_12_method_73_code (9 : Nat) (Option.none : Option Jvm.ClassFile.FieldType)) ∈ lw_all := lw_g (lw_at lw_m7 55 rfl) rfl
theorem q1627 : (Jvm.Cond.methodLink "StripeShelfModel" (330 : Nat) ({ cls := "StripeShelfModel", name := "bitsOf", desc := "(I)I" } : Jvm.MethodName)) ∈ lw_all := lw_g (lw_at lw_m7 56 rfl) rfl
theorem q1628 : (Jvm.Cond.static ({ cls := "StripeShelfModel", name := "bitsOf", desc := "(I)I" } : Jvm.MethodName)) ∈ lw_all := lw_g (lw_at lw_m7 57 rfl) rfl
theorem q1629 : (Jvm.Cond.code ({ cls := "StripeShelfModel", name := "bitsOf", desc := "(I)I" } : Jvm.MethodName) prog_12_method_67_code (3 : Nat) (Option.some Jvm.ClassFile.FieldType.int)) ∈ lw_all := lw_g (lw_at lw_m7 58 rfl) rfl
theorem q1630 : (Jvm.Cond.methodLink "StripeShelfModel" (333 : Nat) ({ cls := "StripeShelfModel", name := "cleans", desc := "([I)I" } : Jvm.MethodName)) ∈ lw_all := lw_g (lw_at lw_m7 59 rfl) rfl
theorem q1631 : (Jvm.Cond.privateMethod ({ cls := "StripeShelfModel", name := "cleans", desc := "([I)I" } : Jvm.MethodName)) ∈ lw_tbl := lw_at lw_m7 60 rfl
theorem q1632 : (Jvm.Cond.instanceMethod ({ cls := "StripeShelfModel", name := "cleans", desc := "([I)I" } : Jvm.MethodName)) ∈ lw_all := lw_g (lw_at lw_m7 61 rfl) rfl
theorem q1633 : (Jvm.Cond.code ({ cls := "StripeShelfModel", name := "cleans", desc := "([I)I" } : Jvm.MethodName) prog_12_method_74_code (7 : Nat) (Option.some Jvm.ClassFile.FieldType.int)) ∈ lw_all := lw_g (lw_at lw_m7 62 rfl) rfl
theorem q1634 : (Jvm.Cond.methodLink "StripeShelfModel" (336 : Nat) ({ cls := "StripeShelfModel", name := "fills", desc := "([IIIII)I" } : Jvm.MethodName)) ∈ lw_all := lw_g (lw_at lw_m7 63 rfl) rfl
theorem q1635 : (Jvm.Cond.privateMethod ({ cls := "StripeShelfModel", name := "fills", desc := "([IIIII)I" } : Jvm.MethodName)) ∈ lw_tbl := lw_at lw_m7 64 rfl
theorem q1636 : (Jvm.Cond.instanceMethod ({ cls := "StripeShelfModel", name := "fills", desc := "([IIIII)I" } : Jvm.MethodName)) ∈ lw_all := lw_g (lw_at lw_m7 65 rfl) rfl
theorem q1637 : (Jvm.Cond.code ({ cls := "StripeShelfModel", name := "fills", desc := "([IIIII)I" } : Jvm.MethodName) prog_12_method_75_code (8 : Nat) (Option.some Jvm.ClassFile.FieldType.int)) ∈ lw_all := lw_g (lw_at lw_m7 66 rfl) rfl
theorem q1638 : (Jvm.Cond.methodLink "StripeShelfModel" (356 : Nat) ({ cls := "StripeShelfModel", name := "remember", desc := "()V" } : Jvm.MethodName)) ∈ lw_all := lw_g (lw_at lw_m7 67 rfl) rfl
theorem q1639 : (Jvm.Cond.privateMethod ({ cls := "StripeShelfModel", name := "remember", desc := "()V" } : Jvm.MethodName)) ∈ lw_tbl := lw_at lw_m7 68 rfl
theorem q1640 : (Jvm.Cond.instanceMethod ({ cls := "StripeShelfModel", name := "remember", desc := "()V" } : Jvm.MethodName)) ∈ lw_all := lw_g (lw_at lw_m7 69 rfl) rfl
theorem q1641 : (Jvm.Cond.code ({ cls := "StripeShelfModel", name := "remember", desc := "()V" } : Jvm.MethodName) prog_12_method_77_code (1 : Nat) (Option.none : Option Jvm.ClassFile.FieldType)) ∈ lw_all := lw_g (lw_at lw_m7 70 rfl) rfl
theorem q1642 : (Jvm.Cond.methodLink "StripeShelfModel" (359 : Nat) ({ cls := "StripeShelfModel", name := "costs", desc := "([I)I" } : Jvm.MethodName)) ∈ lw_all := lw_g (lw_at lw_m7 71 rfl) rfl
theorem q1643 : (Jvm.Cond.static ({ cls := "StripeShelfModel", name := "costs", desc := "([I)I" } : Jvm.MethodName)) ∈ lw_all := lw_g (lw_at lw_m7 72 rfl) rfl
theorem q1644 : (Jvm.Cond.code ({ cls := "StripeShelfModel", name := "costs", desc := "([I)I" } : Jvm.MethodName) prog_12_method_76_code (1 : Nat) (Option.some Jvm.ClassFile.FieldType.int)) ∈ lw_all := lw_g (lw_at lw_m7 73 rfl) rfl
theorem q1645 : (Jvm.Cond.methodLink "StripeShelfModel" (362 : Nat) ({ cls := "StripeShelfModel", name := "notes", desc := "(II)V" } : Jvm.MethodName)) ∈ lw_all := lw_g (lw_at lw_m7 74 rfl) rfl
theorem q1646 : (Jvm.Cond.privateMethod ({ cls := "StripeShelfModel", name := "notes", desc := "(II)V" } : Jvm.MethodName)) ∈ lw_tbl := lw_at lw_m7 75 rfl
theorem q1647 : (Jvm.Cond.instanceMethod ({ cls := "StripeShelfModel", name := "notes", desc := "(II)V" } : Jvm.MethodName)) ∈ lw_all := lw_g (lw_at lw_m7 76 rfl) rfl
theorem q1648 : (Jvm.Cond.code ({ cls := "StripeShelfModel", name := "notes", desc := "(II)V" } : Jvm.MethodName) prog_12_method_78_code (4 : Nat) (Option.none : Option Jvm.ClassFile.FieldType)) ∈ lw_all := lw_g (lw_at lw_m7 77 rfl) rfl
theorem q1650 : (Jvm.Cond.instanceMethod ({ cls := "StripeShelfModel", name := "lose", desc := "(I)I" } : Jvm.MethodName)) ∈ lw_all := lw_g (lw_at lw_m7 79 rfl) rfl
theorem q1651 : (Jvm.Cond.selects "StripeShelfModel" ({ cls := "StripeShelfModel", name := "lose", desc := "(I)I" } : Jvm.MethodName) ({ cls := "StripeShelfModel", name := "lose", desc := "(I)I" } : Jvm.MethodName)) ∈ lw_all := lw_g (lw_at lw_m7 80 rfl) rfl
theorem q1652 : (Jvm.Cond.code ({ cls := "StripeShelfModel", name := "lose", desc := "(I)I" } : Jvm.MethodName) prog_12_method_82_code (2 : Nat) (Option.some Jvm.ClassFile.FieldType.int)) ∈ lw_all := lw_g (lw_at lw_m7 81 rfl) rfl
theorem q1654 : (Jvm.Cond.instanceMethod ({ cls := "StripeShelfModel", name := "replace", desc := "(I)I" } : Jvm.MethodName)) ∈ lw_all := lw_g (lw_at lw_m7 83 rfl) rfl
theorem q1655 : (Jvm.Cond.selects "StripeShelfModel" ({ cls := "StripeShelfModel", name := "replace", desc := "(I)I" } : Jvm.MethodName) ({ cls := "StripeShelfModel", name := "replace", desc := "(I)I" } : Jvm.MethodName)) ∈ lw_all := lw_g (lw_at lw_m7 84 rfl) rfl
theorem q1656 : (Jvm.Cond.code ({ cls := "StripeShelfModel", name := "replace", desc := "(I)I" } : Jvm.MethodName) prog_12_method_83_code (2 : Nat) (Option.some Jvm.ClassFile.FieldType.int)) ∈ lw_all := lw_g (lw_at lw_m7 85 rfl) rfl
theorem q1658 : (Jvm.Cond.instanceMethod ({ cls := "StripeShelfModel", name := "rebuild", desc := "(II)I" } : Jvm.MethodName)) ∈ lw_all := lw_g (lw_at lw_m7 87 rfl) rfl
theorem q1659 : (Jvm.Cond.selects "StripeShelfModel" ({ cls := "StripeShelfModel", name := "rebuild", desc := "(II)I" } : Jvm.MethodName) ({ cls := "StripeShelfModel", name := "rebuild", desc := "(II)I" } : Jvm.MethodName)) ∈ lw_all := lw_g (lw_at lw_m7 88 rfl) rfl
theorem q1660 : (Jvm.Cond.code ({ cls := "StripeShelfModel", name := "rebuild", desc := "(II)I" } : Jvm.MethodName) prog_12_method_84_code (3 : Nat) (Option.some Jvm.ClassFile.FieldType.int)) ∈ lw_all := lw_g (lw_at lw_m7 89 rfl) rfl
theorem q1662 : (Jvm.Cond.instanceMethod ({ cls := "StripeShelfModel", name := "scrub", desc := "(I)I" } : Jvm.MethodName)) ∈ lw_all := lw_g (lw_at lw_m7 91 rfl) rfl
theorem q1663 : (Jvm.Cond.selects "StripeShelfModel" ({ cls := "StripeShelfModel", name := "scrub", desc := "(I)I" } : Jvm.MethodName) ({ cls := "StripeShelfModel", name := "scrub", desc := "(I)I" } : Jvm.MethodName)) ∈ lw_all := lw_g (lw_at lw_m7 92 rfl) rfl
theorem q1664 : (Jvm.Cond.code ({ cls := "StripeShelfModel", name := "scrub", desc := "(I)I" } : Jvm.MethodName) prog_12_method_85_code (2 : Nat) (Option.some Jvm.ClassFile.FieldType.int)) ∈ lw_all := lw_g (lw_at lw_m7 93 rfl) rfl
theorem q1666 : (Jvm.Cond.instanceMethod ({ cls := "StripeShelfModel", name := "spoil", desc := "(IIII)I" } : Jvm.MethodName)) ∈ lw_all := lw_g (lw_at lw_m7 95 rfl) rfl
theorem q1667 : (Jvm.Cond.selects "StripeShelfModel" ({ cls := "StripeShelfModel", name := "spoil", desc := "(IIII)I" } : Jvm.MethodName) ({ cls := "StripeShelfModel", name := "spoil", desc := "(IIII)I" } : Jvm.MethodName)) ∈ lw_all := lw_g (lw_at lw_m7 96 rfl) rfl
theorem q1668 : (Jvm.Cond.code ({ cls := "StripeShelfModel", name := "spoil", desc := "(IIII)I" } : Jvm.MethodName) prog_12_method_86_code (5 : Nat) (Option.some Jvm.ClassFile.FieldType.int)) ∈ lw_all := lw_g (lw_at lw_m7 97 rfl) rfl
theorem q1670 : (Jvm.Cond.instanceMethod ({ cls := "StripeShelfModel", name := "tear", desc := "(III)I" } : Jvm.MethodName)) ∈ lw_all := lw_g (lw_at lw_m7 99 rfl) rfl
theorem q1671 : (Jvm.Cond.selects "StripeShelfModel" ({ cls := "StripeShelfModel", name := "tear", desc := "(III)I" } : Jvm.MethodName) ({ cls := "StripeShelfModel", name := "tear", desc := "(III)I" } : Jvm.MethodName)) ∈ lw_all := lw_g (lw_at lw_m7 100 rfl) rfl
theorem q1672 : (Jvm.Cond.code ({ cls := "StripeShelfModel", name := "tear", desc := "(III)I" } : Jvm.MethodName) prog_12_method_87_code (4 : Nat) (Option.some Jvm.ClassFile.FieldType.int)) ∈ lw_all := lw_g (lw_at lw_m7 101 rfl) rfl
theorem q1674 : (Jvm.Cond.instanceMethod ({ cls := "StripeShelfModel", name := "clean", desc := "()I" } : Jvm.MethodName)) ∈ lw_all := lw_g (lw_at lw_m7 103 rfl) rfl
theorem q1675 : (Jvm.Cond.selects "StripeShelfModel" ({ cls := "StripeShelfModel", name := "clean", desc := "()I" } : Jvm.MethodName) ({ cls := "StripeShelfModel", name := "clean", desc := "()I" } : Jvm.MethodName)) ∈ lw_all := lw_g (lw_at lw_m7 104 rfl) rfl
theorem q1676 : (Jvm.Cond.code ({ cls := "StripeShelfModel", name := "clean", desc := "()I" } : Jvm.MethodName) prog_12_method_88_code (1 : Nat) (Option.some Jvm.ClassFile.FieldType.int)) ∈ lw_all := lw_g (lw_at lw_m7 105 rfl) rfl
theorem q1678 : (Jvm.Cond.instanceMethod ({ cls := "StripeShelfModel", name := "full", desc := "(IIII)I" } : Jvm.MethodName)) ∈ lw_all := lw_g (lw_at lw_m7 107 rfl) rfl
theorem q1679 : (Jvm.Cond.selects "StripeShelfModel" ({ cls := "StripeShelfModel", name := "full", desc := "(IIII)I" } : Jvm.MethodName) ({ cls := "StripeShelfModel", name := "full", desc := "(IIII)I" } : Jvm.MethodName)) ∈ lw_all := lw_g (lw_at lw_m7 108 rfl) rfl
theorem q1680 : (Jvm.Cond.code ({ cls := "StripeShelfModel", name := "full", desc := "(IIII)I" } : Jvm.MethodName) prog_12_method_89_code (5 : Nat) (Option.some Jvm.ClassFile.FieldType.int)) ∈ lw_all := lw_g (lw_at lw_m7 109 rfl) rfl
theorem q1682 : (Jvm.Cond.instanceMethod ({ cls := "StripeShelfModel", name := "years", desc := "(IJ)I" } : Jvm.MethodName)) ∈ lw_all := lw_g (lw_at lw_m7 111 rfl) rfl
theorem q1683 : (Jvm.Cond.selects "StripeShelfModel" ({ cls := "StripeShelfModel", name := "years", desc := "(IJ)I" } : Jvm.MethodName) ({ cls := "StripeShelfModel", name := "years", desc := "(IJ)I" } : Jvm.MethodName)) ∈ lw_all := lw_g (lw_at lw_m7 112 rfl) rfl
theorem q1684 : (Jvm.Cond.code ({ cls := "StripeShelfModel", name := "years", desc := "(IJ)I" } : Jvm.MethodName) prog_12_method_93_code (6 : Nat) (Option.some Jvm.ClassFile.FieldType.int)) ∈ lw_all := lw_g (lw_at lw_m7 113 rfl) rfl
theorem q1685 : (Jvm.Cond.constantLong "StripeShelfModel" (386 : Nat) (40 : Int64)) ∈ lw_all := lw_g (lw_at lw_m7 114 rfl) rfl
theorem q1686 : (Jvm.Cond.methodLink "StripeShelfModel" (388 : Nat) ({ cls := "StripeShelfModel", name := "happens", desc := "()I" } : Jvm.MethodName)) ∈ lw_all := lw_g (lw_at lw_m7 115 rfl) rfl
theorem q1687 : (Jvm.Cond.privateMethod ({ cls := "StripeShelfModel", name := "happens", desc := "()I" } : Jvm.MethodName)) ∈ lw_tbl := lw_at lw_m7 116 rfl
theorem q1688 : (Jvm.Cond.instanceMethod ({ cls := "StripeShelfModel", name := "happens", desc := "()I" } : Jvm.MethodName)) ∈ lw_all := lw_g (lw_at lw_m7 117 rfl) rfl
theorem q1689 : (Jvm.Cond.code ({ cls := "StripeShelfModel", name := "happens", desc := "()I" } : Jvm.MethodName) prog_12_method_91_code (5 : Nat) (Option.some Jvm.ClassFile.FieldType.int)) ∈ lw_all := lw_g (lw_at lw_m7 118 rfl) rfl
theorem q1690 : (Jvm.Cond.methodLink "StripeShelfModel" (380 : Nat) ({ cls := "StripeShelfModel", name := "draw", desc := "(I)I" } : Jvm.MethodName)) ∈ lw_all := lw_g (lw_at lw_m7 119 rfl) rfl
theorem q1691 : (Jvm.Cond.privateMethod ({ cls := "StripeShelfModel", name := "draw", desc := "(I)I" } : Jvm.MethodName)) ∈ lw_tbl := lw_at lw_m7 120 rfl
theorem q1692 : (Jvm.Cond.instanceMethod ({ cls := "StripeShelfModel", name := "draw", desc := "(I)I" } : Jvm.MethodName)) ∈ lw_all := lw_g (lw_at lw_m7 121 rfl) rfl
theorem q1693 : (Jvm.Cond.code ({ cls := "StripeShelfModel", name := "draw", desc := "(I)I" } : Jvm.MethodName) prog_12_method_90_code (2 : Nat) (Option.some Jvm.ClassFile.FieldType.int)) ∈ lw_all := lw_g (lw_at lw_m7 122 rfl) rfl
theorem q1694 : (Jvm.Cond.constantLong "StripeShelfModel" (376 : Nat) (6364136223846793005 : Int64)) ∈ lw_all := lw_g (lw_at lw_m7 123 rfl) rfl
theorem q1695 : (Jvm.Cond.constantLong "StripeShelfModel" (378 : Nat) (1442695040888963407 : Int64)) ∈ lw_all := lw_g (lw_at lw_m7 124 rfl) rfl
theorem q1696 : (Jvm.Cond.methodLink "StripeShelfModel" (383 : Nat) ({ cls := "StripeShelfModel", name := "happensTorn", desc := "()I" } : Jvm.MethodName)) ∈ lw_all := lw_g (lw_at lw_m7 125 rfl) rfl
theorem q1697 : (Jvm.Cond.privateMethod ({ cls := "StripeShelfModel", name := "happensTorn", desc := "()I" } : Jvm.MethodName)) ∈ lw_tbl := lw_at lw_m7 126 rfl
theorem q1698 : (Jvm.Cond.instanceMethod ({ cls := "StripeShelfModel", name := "happensTorn", desc := "()I" } : Jvm.MethodName)) ∈ lw_all := lw_g (lw_at lw_m7 127 rfl) rfl
theorem q1699 : (Jvm.Cond.code ({ cls := "StripeShelfModel", name := "happensTorn", desc := "()I" } : Jvm.MethodName) prog_12_method_92_code (4 : Nat) (Option.some Jvm.ClassFile.FieldType.int)) ∈ lw_all := lw_g (lw_at lw_m7 128 rfl) rfl
theorem q1701 : (Jvm.Cond.instanceMethod ({ cls := "StripeShelfModel", name := "status", desc := "(I)I" } : Jvm.MethodName)) ∈ lw_all := lw_g (lw_at lw_m7 130 rfl) rfl
theorem q1702 : (Jvm.Cond.selects "StripeShelfModel" ({ cls := "StripeShelfModel", name := "status", desc := "(I)I" } : Jvm.MethodName) ({ cls := "StripeShelfModel", name := "status", desc := "(I)I" } : Jvm.MethodName)) ∈ lw_all := lw_g (lw_at lw_m7 131 rfl) rfl
theorem q1703 : (Jvm.Cond.code ({ cls := "StripeShelfModel", name := "status", desc := "(I)I" } : Jvm.MethodName) prog_12_method_94_code (2 : Nat) (Option.some Jvm.ClassFile.FieldType.int)) ∈ lw_all := lw_g (lw_at lw_m7 132 rfl) rfl
theorem q1704 : (Jvm.Cond.constantLong "StripeShelfModel" (391 : Nat) (3 : Int64)) ∈ lw_all := lw_g (lw_at lw_m7 133 rfl) rfl
theorem q1706 : (Jvm.Cond.instanceMethod ({ cls := "StripeShelfModel", name := "undo", desc := "()I" } : Jvm.MethodName)) ∈ lw_all := lw_g (lw_at lw_m7 135 rfl) rfl
theorem q1707 : (Jvm.Cond.selects "StripeShelfModel" ({ cls := "StripeShelfModel", name := "undo", desc := "()I" } : Jvm.MethodName) ({ cls := "StripeShelfModel", name := "undo", desc := "()I" } : Jvm.MethodName)) ∈ lw_all := lw_g (lw_at lw_m7 136 rfl) rfl
theorem q1708 : (Jvm.Cond.code ({ cls := "StripeShelfModel", name := "undo", desc := "()I" } : Jvm.MethodName) prog_12_method_95_code (1 : Nat) (Option.some Jvm.ClassFile.FieldType.int)) ∈ lw_all := lw_g (lw_at lw_m7 137 rfl) rfl
theorem q1710 : (Jvm.Cond.instanceMethod ({ cls := "StripeShelfModel", name := "log", desc := "(II)I" } : Jvm.MethodName)) ∈ lw_all := lw_g (lw_at lw_m7 139 rfl) rfl
theorem q1711 : (Jvm.Cond.selects "StripeShelfModel" ({ cls := "StripeShelfModel", name := "log", desc := "(II)I" } : Jvm.MethodName) ({ cls := "StripeShelfModel", name := "log", desc := "(II)I" } : Jvm.MethodName)) ∈ lw_all := lw_g (lw_at lw_m7 140 rfl) rfl
theorem q1712 : (Jvm.Cond.code ({ cls := "StripeShelfModel", name := "log", desc := "(II)I" } : Jvm.MethodName) prog_12_method_96_code (3 : Nat) (Option.some Jvm.ClassFile.FieldType.int)) ∈ lw_all := lw_g (lw_at lw_m7 141 rfl) rfl
theorem q1713 : (Jvm.Cond.constant "StripeShelfModel" (393 : Nat) (-1000000 : Int32)) ∈ lw_all := lw_g (lw_at lw_m7 142 rfl) rfl
theorem q1715 : (Jvm.Cond.instanceMethod ({ cls := "StripeShelfModel", name := "image", desc := "()I" } : Jvm.MethodName)) ∈ lw_all := lw_g (lw_at lw_m7 144 rfl) rfl
theorem q1716 : (Jvm.Cond.selects "StripeShelfModel" ({ cls := "StripeShelfModel", name := "image", desc := "()I" } : Jvm.MethodName) ({ cls := "StripeShelfModel", name := "image", desc := "()I" } : Jvm.MethodName)) ∈ lw_all := lw_g (lw_at lw_m7 145 rfl) rfl
theorem q1717 : (Jvm.Cond.code ({ cls := "StripeShelfModel", name := "image", desc := "()I" } : Jvm.MethodName) prog_12_method_97_code (1 : Nat) (Option.some Jvm.ClassFile.FieldType.int)) ∈ lw_all := lw_g (lw_at lw_m7 146 rfl) rfl
theorem q1719 : (Jvm.Cond.instanceMethod ({ cls := "StripeShelfModel", name := "back", desc := "()I" } : Jvm.MethodName)) ∈ lw_all := lw_g (lw_at lw_m7 148 rfl) rfl
theorem q1720 : (Jvm.Cond.selects "StripeShelfModel" ({ cls := "StripeShelfModel", name := "back", desc := "()I" } : Jvm.MethodName) ({ cls := "StripeShelfModel", name := "back", desc := "()I" } : Jvm.MethodName)) ∈ lw_all := lw_g (lw_at lw_m7 149 rfl) rfl
theorem q1721 : (Jvm.Cond.code ({ cls := "StripeShelfModel", name := "back", desc := "()I" } : Jvm.MethodName) prog_12_method_98_code (1 : Nat) (Option.some Jvm.ClassFile.FieldType.int)) ∈ lw_all := lw_g (lw_at lw_m7 150 rfl) rfl
theorem q1723 : (Jvm.Cond.instanceMethod ({ cls := "StripeShelfModel", name := "rule", desc := "(I)I" } : Jvm.MethodName)) ∈ lw_all := lw_g (lw_at lw_m7 152 rfl) rfl
theorem q1724 : (Jvm.Cond.selects "StripeShelfModel" ({ cls := "StripeShelfModel", name := "rule", desc := "(I)I" } : Jvm.MethodName) ({ cls := "StripeShelfModel", name := "rule", desc := "(I)I" } : Jvm.MethodName)) ∈ lw_all := lw_g (lw_at lw_m7 153 rfl) rfl
theorem q1725 : (Jvm.Cond.code ({ cls := "StripeShelfModel", name := "rule", desc := "(I)I" } : Jvm.MethodName) prog_12_method_99_code (2 : Nat) (Option.some Jvm.ClassFile.FieldType.int)) ∈ lw_all := lw_g (lw_at lw_m7 154 rfl) rfl
theorem q1727 : (Jvm.Cond.instanceMethod ({ cls := "StripeShelfModel", name := "place", desc := "(II)I" } : Jvm.MethodName)) ∈ lw_all := lw_g (lw_at lw_m7 156 rfl) rfl
theorem q1728 : (Jvm.Cond.selects "StripeShelfModel" ({ cls := "StripeShelfModel", name := "place", desc := "(II)I" } : Jvm.MethodName) ({ cls := "StripeShelfModel", name := "place", desc := "(II)I" } : Jvm.MethodName)) ∈ lw_all := lw_g (lw_at lw_m7 157 rfl) rfl
theorem q1729 : (Jvm.Cond.code ({ cls := "StripeShelfModel", name := "place", desc := "(II)I" } : Jvm.MethodName) prog_12_method_100_code (3 : Nat) (Option.some Jvm.ClassFile.FieldType.int)) ∈ lw_all := lw_g (lw_at lw_m7 158 rfl) rfl
theorem q1731 : (Jvm.Cond.instanceMethod ({ cls := "StripeShelfModel", name := "part", desc := "(II)I" } : Jvm.MethodName)) ∈ lw_all := lw_g (lw_at lw_m7 160 rfl) rfl
theorem q1732 : (Jvm.Cond.selects "StripeShelfModel" ({ cls := "StripeShelfModel", name := "part", desc := "(II)I" } : Jvm.MethodName) ({ cls := "StripeShelfModel", name := "part", desc := "(II)I" } : Jvm.MethodName)) ∈ lw_all := lw_g (lw_at lw_m7 161 rfl) rfl
theorem q1733 : (Jvm.Cond.code ({ cls := "StripeShelfModel", name := "part", desc := "(II)I" } : Jvm.MethodName) prog_12_method_101_code (3 : Nat) (Option.some Jvm.ClassFile.FieldType.int)) ∈ lw_all := lw_g (lw_at lw_m7 162 rfl) rfl
theorem q1735 : (Jvm.Cond.instanceMethod ({ cls := "StripeShelfModel", name := "read", desc := "(I)I" } : Jvm.MethodName)) ∈ lw_all := lw_g (lw_at lw_m7 164 rfl) rfl
theorem q1736 : (Jvm.Cond.selects "StripeShelfModel" ({ cls := "StripeShelfModel", name := "read", desc := "(I)I" } : Jvm.MethodName) ({ cls := "StripeShelfModel", name := "read", desc := "(I)I" } : Jvm.MethodName)) ∈ lw_all := lw_g (lw_at lw_m7 165 rfl) rfl
theorem q1737 : (Jvm.Cond.code ({ cls := "StripeShelfModel", name := "read", desc := "(I)I" } : Jvm.MethodName) prog_12_method_102_code (2 : Nat) (Option.some Jvm.ClassFile.FieldType.int)) ∈ lw_all := lw_g (lw_at lw_m7 166 rfl) rfl
theorem q1739 : (Jvm.Cond.instanceMethod ({ cls := "StripeShelfModel", name := "cell", desc := "(III)I" } : Jvm.MethodName)) ∈ lw_all := lw_g (lw_at lw_m7 168 rfl) rfl
theorem q1740 : (Jvm.Cond.selects "StripeShelfModel" ({ cls := "StripeShelfModel", name := "cell", desc := "(III)I" } : Jvm.MethodName) ({ cls := "StripeShelfModel", name := "cell", desc := "(III)I" } : Jvm.MethodName)) ∈ lw_all := lw_g (lw_at lw_m7 169 rfl) rfl
theorem q1741 : (Jvm.Cond.code ({ cls := "StripeShelfModel", name := "cell", desc := "(III)I" } : Jvm.MethodName) prog_12_method_103_code (4 : Nat) (Option.some Jvm.ClassFile.FieldType.int)) ∈ lw_all := lw_g (lw_at lw_m7 170 rfl) rfl
theorem q1743 : (Jvm.Cond.instanceMethod ({ cls := "StripeShelfModel", name := "disk", desc := "(II)I" } : Jvm.MethodName)) ∈ lw_all := lw_g (lw_at lw_m7 172 rfl) rfl
theorem q1744 : (Jvm.Cond.selects "StripeShelfModel" ({ cls := "StripeShelfModel", name := "disk", desc := "(II)I" } : Jvm.MethodName) ({ cls := "StripeShelfModel", name := "disk", desc := "(II)I" } : Jvm.MethodName)) ∈ lw_all := lw_g (lw_at lw_m7 173 rfl) rfl
theorem q1745 : (Jvm.Cond.code ({ cls := "StripeShelfModel", name := "disk", desc := "(II)I" } : Jvm.MethodName) prog_12_method_104_code (3 : Nat) (Option.some Jvm.ClassFile.FieldType.int)) ∈ lw_all := lw_g (lw_at lw_m7 174 rfl) rfl
theorem q1747 : (Jvm.Cond.instanceMethod ({ cls := "StripeShelfModel", name := "cost", desc := "(II)I" } : Jvm.MethodName)) ∈ lw_all := lw_g (lw_at lw_m7 176 rfl) rfl
theorem q1748 : (Jvm.Cond.selects "StripeShelfModel" ({ cls := "StripeShelfModel", name := "cost", desc := "(II)I" } : Jvm.MethodName) ({ cls := "StripeShelfModel", name := "cost", desc := "(II)I" } : Jvm.MethodName)) ∈ lw_all := lw_g (lw_at lw_m7 177 rfl) rfl
theorem q1749 : (Jvm.Cond.code ({ cls := "StripeShelfModel", name := "cost", desc := "(II)I" } : Jvm.MethodName) prog_12_method_105_code (3 : Nat) (Option.some Jvm.ClassFile.FieldType.int)) ∈ lw_all := lw_g (lw_at lw_m7 178 rfl) rfl
theorem q1751 : (Jvm.Cond.instanceMethod ({ cls := "StripeShelfModel", name := "told", desc := "(IIIII)I" } : Jvm.MethodName)) ∈ lw_all := lw_g (lw_at lw_m7 180 rfl) rfl
theorem q1752 : (Jvm.Cond.selects "StripeShelfModel" ({ cls := "StripeShelfModel", name := "told", desc := "(IIIII)I" } : Jvm.MethodName) ({ cls := "StripeShelfModel", name := "told", desc := "(IIIII)I" } : Jvm.MethodName)) ∈ lw_all := lw_g (lw_at lw_m7 181 rfl) rfl
theorem q1753 : (Jvm.Cond.code ({ cls := "StripeShelfModel", name := "told", desc := "(IIIII)I" } : Jvm.MethodName) prog_12_method_106_code (7 : Nat) (Option.some Jvm.ClassFile.FieldType.int)) ∈ lw_all := lw_g (lw_at lw_m7 182 rfl) rfl
theorem q1755 : (Jvm.Cond.instanceMethod ({ cls := "StripeShelfModel", name := "who", desc := "(II)I" } : Jvm.MethodName)) ∈ lw_all := lw_g (lw_at lw_m7 184 rfl) rfl
theorem q1756 : (Jvm.Cond.selects "StripeShelfModel" ({ cls := "StripeShelfModel", name := "who", desc := "(II)I" } : Jvm.MethodName) ({ cls := "StripeShelfModel", name := "who", desc := "(II)I" } : Jvm.MethodName)) ∈ lw_all := lw_g (lw_at lw_m7 185 rfl) rfl
theorem q1757 : (Jvm.Cond.code ({ cls := "StripeShelfModel", name := "who", desc := "(II)I" } : Jvm.MethodName) prog_12_method_107_code (4 : Nat) (Option.some Jvm.ClassFile.FieldType.int)) ∈ lw_all := lw_g (lw_at lw_m7 186 rfl) rfl
theorem q1759 : (Jvm.Cond.instanceMethod ({ cls := "StripeShelfModel", name := "more", desc := "()I" } : Jvm.MethodName)) ∈ lw_all := lw_g (lw_at lw_m7 188 rfl) rfl
theorem q1760 : (Jvm.Cond.selects "StripeShelfModel" ({ cls := "StripeShelfModel", name := "more", desc := "()I" } : Jvm.MethodName) ({ cls := "StripeShelfModel", name := "more", desc := "()I" } : Jvm.MethodName)) ∈ lw_all := lw_g (lw_at lw_m7 189 rfl) rfl
theorem q1761 : (Jvm.Cond.code ({ cls := "StripeShelfModel", name := "more", desc := "()I" } : Jvm.MethodName) prog_12_method_108_code (3 : Nat) (Option.some Jvm.ClassFile.FieldType.int)) ∈ lw_all := lw_g (lw_at lw_m7 190 rfl) rfl
theorem q1763 : (Jvm.Cond.instanceMethod ({ cls := "StripeShelfModel", name := "left", desc := "(I)I" } : Jvm.MethodName)) ∈ lw_all := lw_g (lw_at lw_m7 192 rfl) rfl
theorem q1764 : (Jvm.Cond.selects "StripeShelfModel" ({ cls := "StripeShelfModel", name := "left", desc := "(I)I" } : Jvm.MethodName) ({ cls := "StripeShelfModel", name := "left", desc := "(I)I" } : Jvm.MethodName)) ∈ lw_all := lw_g (lw_at lw_m7 193 rfl) rfl
theorem q1765 : (Jvm.Cond.code ({ cls := "StripeShelfModel", name := "left", desc := "(I)I" } : Jvm.MethodName) prog_12_method_109_code (4 : Nat) (Option.some Jvm.ClassFile.FieldType.int)) ∈ lw_all := lw_g (lw_at lw_m7 194 rfl) rfl
theorem q1767 : (Jvm.Cond.instanceMethod ({ cls := "StripeShelfModel", name := "risk", desc := "()I" } : Jvm.MethodName)) ∈ lw_all := lw_g (lw_at lw_m7 196 rfl) rfl
theorem q1768 : (Jvm.Cond.selects "StripeShelfModel" ({ cls := "StripeShelfModel", name := "risk", desc := "()I" } : Jvm.MethodName) ({ cls := "StripeShelfModel", name := "risk", desc := "()I" } : Jvm.MethodName)) ∈ lw_all := lw_g (lw_at lw_m7 197 rfl) rfl
theorem q1769 : (Jvm.Cond.code ({ cls := "StripeShelfModel", name := "risk", desc := "()I" } : Jvm.MethodName) prog_12_method_110_code (4 : Nat) (Option.some Jvm.ClassFile.FieldType.int)) ∈ lw_all := lw_g (lw_at lw_m7 198 rfl) rfl
theorem q1770 : (Jvm.Cond.methodLink "StripeShelfModel" (394 : Nat) ({ cls := "StripeShelfModel", name := "lostBits", desc := "()I" } : Jvm.MethodName)) ∈ lw_all := lw_g (lw_at lw_m7 199 rfl) rfl
theorem q1771 : (Jvm.Cond.privateMethod ({ cls := "StripeShelfModel", name := "lostBits", desc := "()I" } : Jvm.MethodName)) ∈ lw_tbl := lw_at lw_m7 200 rfl
theorem q1772 : (Jvm.Cond.instanceMethod ({ cls := "StripeShelfModel", name := "lostBits", desc := "()I" } : Jvm.MethodName)) ∈ lw_all := lw_g (lw_at lw_m7 201 rfl) rfl
theorem q1773 : (Jvm.Cond.code ({ cls := "StripeShelfModel", name := "lostBits", desc := "()I" } : Jvm.MethodName) prog_12_method_123_code (3 : Nat) (Option.some Jvm.ClassFile.FieldType.int)) ∈ lw_all := lw_g (lw_at lw_m7 202 rfl) rfl
theorem q1775 : (Jvm.Cond.instanceMethod ({ cls := "StripeShelfModel", name := "first", desc := "(I)I" } : Jvm.MethodName)) ∈ lw_all := lw_g (lw_at lw_m7 204 rfl) rfl
theorem q1776 : (Jvm.Cond.selects "StripeShelfModel" ({ cls := "StripeShelfModel", name := "first", desc := "(I)I" } : Jvm.MethodName) ({ cls := "StripeShelfModel", name := "first", desc := "(I)I" } : Jvm.MethodName)) ∈ lw_all := lw_g (lw_at lw_m7 205 rfl) rfl
theorem q1777 : (Jvm.Cond.code ({ cls := "StripeShelfModel", name := "first", desc := "(I)I" } : Jvm.MethodName) prog_12_method_111_code (4 : Nat) (Option.some Jvm.ClassFile.FieldType.int)) ∈ lw_all := lw_g (lw_at lw_m7 206 rfl) rfl
theorem q1779 : (Jvm.Cond.instanceMethod ({ cls := "StripeShelfModel", name := "votes", desc := "(II)I" } : Jvm.MethodName)) ∈ lw_all := lw_g (lw_at lw_m7 208 rfl) rfl
theorem q1780 : (Jvm.Cond.selects "StripeShelfModel" ({ cls := "StripeShelfModel", name := "votes", desc := "(II)I" } : Jvm.MethodName) ({ cls := "StripeShelfModel", name := "votes", desc := "(II)I" } : Jvm.MethodName)) ∈ lw_all := lw_g (lw_at lw_m7 209 rfl) rfl
theorem q1781 : (Jvm.Cond.code ({ cls := "StripeShelfModel", name := "votes", desc := "(II)I" } : Jvm.MethodName) prog_12_method_113_code (7 : Nat) (Option.some Jvm.ClassFile.FieldType.int)) ∈ lw_all := lw_g (lw_at lw_m7 210 rfl) rfl
theorem q1782 : (Jvm.Cond.methodLink "StripeShelfModel" (397 : Nat) ({ cls := "StripeShelfModel", name := "areThere", desc := "(III)Z" } : Jvm.MethodName)) ∈ lw_all := lw_g (lw_at lw_m7 211 rfl) rfl
theorem q1783 : (Jvm.Cond.privateMethod ({ cls := "StripeShelfModel", name := "areThere", desc := "(III)Z" } : Jvm.MethodName)) ∈ lw_tbl := lw_at lw_m7 212 rfl
theorem q1784 : (Jvm.Cond.instanceMethod ({ cls := "StripeShelfModel", name := "areThere", desc := "(III)Z" } : Jvm.MethodName)) ∈ lw_all := lw_g (lw_at lw_m7 213 rfl) rfl
theorem q1785 : (Jvm.Cond.code ({ cls := "StripeShelfModel", name := "areThere", desc := "(III)Z" } : Jvm.MethodName) prog_12_method_112_code (5 : Nat) (Option.some Jvm.ClassFile.FieldType.boolean)) ∈ lw_all := lw_g (lw_at lw_m7 214 rfl) rfl
theorem q1787 : (Jvm.Cond.instanceMethod ({ cls := "StripeShelfModel", name := "fit", desc := "()I" } : Jvm.MethodName)) ∈ lw_all := lw_g (lw_at lw_m7 216 rfl) rfl
theorem q1788 : (Jvm.Cond.selects "StripeShelfModel" ({ cls := "StripeShelfModel", name := "fit", desc := "()I" } : Jvm.MethodName) ({ cls := "StripeShelfModel", name := "fit", desc := "()I" } : Jvm.MethodName)) ∈ lw_all := lw_g (lw_at lw_m7 217 rfl) rfl
theorem q1789 : (Jvm.Cond.code ({ cls := "StripeShelfModel", name := "fit", desc := "()I" } : Jvm.MethodName) prog_12_method_115_code (3 : Nat) (Option.some Jvm.ClassFile.FieldType.int)) ∈ lw_all := lw_g (lw_at lw_m7 218 rfl) rfl
theorem q1790 : (Jvm.Cond.methodLink "StripeShelfModel" (400 : Nat) ({ cls := "StripeShelfModel", name := "isFit", desc := "(I)Z" } : Jvm.MethodName)) ∈ lw_all := lw_g (lw_at lw_m7 219 rfl) rfl
theorem q1791 : (Jvm.Cond.privateMethod ({ cls := "StripeShelfModel", name := "isFit", desc := "(I)Z" } : Jvm.MethodName)) ∈ lw_tbl := lw_at lw_m7 220 rfl
theorem q1792 : (Jvm.Cond.instanceMethod ({ cls := "StripeShelfModel", name := "isFit", desc := "(I)Z" } : Jvm.MethodName)) ∈ lw_all := lw_g (lw_at lw_m7 221 rfl) rfl
theorem q1793 : (Jvm.Cond.code ({ cls := "StripeShelfModel", name := "isFit", desc := "(I)Z" } : Jvm.MethodName) prog_12_method_114_code (3 : Nat) (Option.some Jvm.ClassFile.FieldType.boolean)) ∈ lw_all := lw_g (lw_at lw_m7 222 rfl) rfl
theorem q1795 : (Jvm.Cond.instanceMethod ({ cls := "StripeShelfModel", name := "checked", desc := "(I)I" } : Jvm.MethodName)) ∈ lw_all := lw_g (lw_at lw_m7 224 rfl) rfl
theorem q1796 : (Jvm.Cond.selects "StripeShelfModel" ({ cls := "StripeShelfModel", name := "checked", desc := "(I)I" } : Jvm.MethodName) ({ cls := "StripeShelfModel", name := "checked", desc := "(I)I" } : Jvm.MethodName)) ∈ lw_all := lw_g (lw_at lw_m7 225 rfl) rfl
theorem q1797 : (Jvm.Cond.code ({ cls := "StripeShelfModel", name := "checked", desc := "(I)I" } : Jvm.MethodName) prog_12_method_116_code (3 : Nat) (Option.some Jvm.ClassFile.FieldType.int)) ∈ lw_all := lw_g (lw_at lw_m7 226 rfl) rfl
theorem q1799 : (Jvm.Cond.instanceMethod ({ cls := "StripeShelfModel", name := "equal", desc := "()I" } : Jvm.MethodName)) ∈ lw_all := lw_g (lw_at lw_m7 228 rfl) rfl
theorem q1800 : (Jvm.Cond.selects "StripeShelfModel" ({ cls := "StripeShelfModel", name := "equal", desc := "()I" } : Jvm.MethodName) ({ cls := "StripeShelfModel", name := "equal", desc := "()I" } : Jvm.MethodName)) ∈ lw_all := lw_g (lw_at lw_m7 229 rfl) rfl
theorem q1801 : (Jvm.Cond.code ({ cls := "StripeShelfModel", name := "equal", desc := "()I" } : Jvm.MethodName) prog_12_method_117_code (4 : Nat) (Option.some Jvm.ClassFile.FieldType.int)) ∈ lw_all := lw_g (lw_at lw_m7 230 rfl) rfl
theorem q1803 : (Jvm.Cond.instanceMethod ({ cls := "StripeShelfModel", name := "span", desc := "(I)I" } : Jvm.MethodName)) ∈ lw_all := lw_g (lw_at lw_m7 232 rfl) rfl
theorem q1804 : (Jvm.Cond.selects "StripeShelfModel" ({ cls := "StripeShelfModel", name := "span", desc := "(I)I" } : Jvm.MethodName) ({ cls := "StripeShelfModel", name := "span", desc := "(I)I" } : Jvm.MethodName)) ∈ lw_all := lw_g (lw_at lw_m7 233 rfl) rfl
theorem q1805 : (Jvm.Cond.code ({ cls := "StripeShelfModel", name := "span", desc := "(I)I" } : Jvm.MethodName) prog_12_method_118_code (6 : Nat) (Option.some Jvm.ClassFile.FieldType.int)) ∈ lw_all := lw_g (lw_at lw_m7 234 rfl) rfl
theorem q1807 : (Jvm.Cond.instanceMethod ({ cls := "StripeShelfModel", name := "step", desc := "(III)I" } : Jvm.MethodName)) ∈ lw_all := lw_g (lw_at lw_m7 236 rfl) rfl
theorem q1808 : (Jvm.Cond.selects "StripeShelfModel" ({ cls := "StripeShelfModel", name := "step", desc := "(III)I" } : Jvm.MethodName) ({ cls := "StripeShelfModel", name := "step", desc := "(III)I" } : Jvm.MethodName)) ∈ lw_all := lw_g (lw_at lw_m7 237 rfl) rfl
theorem q1809 : (Jvm.Cond.code ({ cls := "StripeShelfModel", name := "step", desc := "(III)I" } : Jvm.MethodName) prog_12_method_120_code (4 : Nat) (Option.some Jvm.ClassFile.FieldType.int)) ∈ lw_all := lw_g (lw_at lw_m7 238 rfl) rfl
theorem q1810 : (Jvm.Cond.methodLink "StripeShelfModel" (403 : Nat) ({ cls := "StripeShelfModel", name := "isScript", desc := "(I)Z" } : Jvm.MethodName)) ∈ lw_all := lw_g (lw_at lw_m7 239 rfl) rfl
theorem q1811 : (Jvm.Cond.privateMethod ({ cls := "StripeShelfModel", name := "isScript", desc := "(I)Z" } : Jvm.MethodName)) ∈ lw_tbl := lw_at lw_m8 0 rfl
theorem q1812 : (Jvm.Cond.instanceMethod ({ cls := "StripeShelfModel", name := "isScript", desc := "(I)Z" } : Jvm.MethodName)) ∈ lw_all := lw_g (lw_at lw_m8 1 rfl) rfl
theorem q1813 : (Jvm.Cond.code ({ cls := "StripeShelfModel", name := "isScript", desc := "(I)Z" } : Jvm.MethodName) prog_12_method_119_code (2 : Nat) (Option.some Jvm.ClassFile.FieldType.boolean)) ∈ lw_all := lw_g (lw_at lw_m8 2 rfl) rfl
theorem q1814 : (Jvm.Cond.constantLong "StripeShelfModel" (406 : Nat) (4 : Int64)) ∈ lw_all := lw_g (lw_at lw_m8 3 rfl) rfl
theorem q1816 : (Jvm.Cond.instanceMethod ({ cls := "StripeShelfModel", name := "run", desc := "(II)I" } : Jvm.MethodName)) ∈ lw_all := lw_g (lw_at lw_m8 5 rfl) rfl
theorem q1817 : (Jvm.Cond.selects "StripeShelfModel" ({ cls := "StripeShelfModel", name := "run", desc := "(II)I" } : Jvm.MethodName) ({ cls := "StripeShelfModel", name := "run", desc := "(II)I" } : Jvm.MethodName)) ∈ lw_all := lw_g (lw_at lw_m8 6 rfl) rfl
theorem q1818 : (Jvm.Cond.code ({ cls := "StripeShelfModel", name := "run", desc := "(II)I" } : Jvm.MethodName) prog_12_method_121_code (6 : Nat) (Option.some Jvm.ClassFile.FieldType.int)) ∈ lw_all := lw_g (lw_at lw_m8 7 rfl) rfl
theorem q1820 : (Jvm.Cond.instanceMethod ({ cls := "StripeShelfModel", name := "perform", desc := "(I)I" } : Jvm.MethodName)) ∈ lw_all := lw_g (lw_at lw_m8 9 rfl) rfl
theorem q1821 : (Jvm.Cond.selects "StripeShelfModel" ({ cls := "StripeShelfModel", name := "perform", desc := "(I)I" } : Jvm.MethodName) ({ cls := "StripeShelfModel", name := "perform", desc := "(I)I" } : Jvm.MethodName)) ∈ lw_all := lw_g (lw_at lw_m8 10 rfl) rfl
theorem q1822 : (Jvm.Cond.code ({ cls := "StripeShelfModel", name := "perform", desc := "(I)I" } : Jvm.MethodName) prog_12_method_122_code (5 : Nat) (Option.some Jvm.ClassFile.FieldType.int)) ∈ lw_all := lw_g (lw_at lw_m8 11 rfl) rfl
theorem q1824 : (Jvm.Cond.instanceMethod ({ cls := "StripeShelfModel", name := "most", desc := "(I)I" } : Jvm.MethodName)) ∈ lw_all := lw_g (lw_at lw_m8 13 rfl) rfl
theorem q1825 : (Jvm.Cond.selects "StripeShelfModel" ({ cls := "StripeShelfModel", name := "most", desc := "(I)I" } : Jvm.MethodName) ({ cls := "StripeShelfModel", name := "most", desc := "(I)I" } : Jvm.MethodName)) ∈ lw_all := lw_g (lw_at lw_m8 14 rfl) rfl
theorem q1826 : (Jvm.Cond.code ({ cls := "StripeShelfModel", name := "most", desc := "(I)I" } : Jvm.MethodName) prog_12_method_124_code (2 : Nat) (Option.some Jvm.ClassFile.FieldType.int)) ∈ lw_all := lw_g (lw_at lw_m8 15 rfl) rfl
theorem q1828 : (Jvm.Cond.instanceMethod ({ cls := "StripeShelfModel", name := "count", desc := "(I)I" } : Jvm.MethodName)) ∈ lw_all := lw_g (lw_at lw_m8 17 rfl) rfl
theorem q1829 : (Jvm.Cond.selects "StripeShelfModel" ({ cls := "StripeShelfModel", name := "count", desc := "(I)I" } : Jvm.MethodName) ({ cls := "StripeShelfModel", name := "count", desc := "(I)I" } : Jvm.MethodName)) ∈ lw_all := lw_g (lw_at lw_m8 18 rfl) rfl
theorem q1830 : (Jvm.Cond.code ({ cls := "StripeShelfModel", name := "count", desc := "(I)I" } : Jvm.MethodName) prog_12_method_125_code (2 : Nat) (Option.some Jvm.ClassFile.FieldType.int)) ∈ lw_all := lw_g (lw_at lw_m8 19 rfl) rfl
theorem q1840 : (Jvm.Cond.castable "StripeShelfModel" "java/lang/Object") ∈ lw_tbl := lw_at lw_m8 29 rfl
theorem in_X6 : ∀ w ∈ wsX60, w ∈ lw_all := lw_in wsX60 [1249, 1251, 1253, 1255, 1257, 1259, 1261, 1263, 1265, 1267, 1269, 1271, 1273, 1275, 1277, 1279, 1281, 1283, 1285, 1287, 1289, 1291, 1293, 1295, 1297, 1299, 1301, 1303, 1305, 1307, 1309, 1311] (by decide +kernel) (by decide +kernel)
