/-! EaterWebs -/
set_option maxRecDepth 100000
def RX0 : String := "EaterWebs"
def TX0 : u_T := fun k => match k with
  | 0 => ("EaterWebs", "finding", "I", false)
  | 1 => ("EaterWebs", "findings", "[I", true)
  | 2 => ("EaterWebs", "asked", "I", false)
  | 3 => ("EaterWebs", "upper", "J", false)
  | 4 => ("EaterWebs", "lower", "J", false)
  | 5 => ("EaterWebs", "now", "I", false)
  | 6 => ("EaterWebs", "texts", "[[B", true)
  | 7 => ("EaterWebs", "itemBeing", "I", false)
  | 8 => ("EaterWebs", "itemSign", "I", false)
  | 9 => ("EaterWebs", "itemOther", "I", false)
  | 10 => ("EaterWebs", "beings", "[LEaterWebs$Being;", true)
  | 11 => ("EaterWebs", "links", "[I", true)
  | 12 => ("EaterWebs", "leasts", "[I", true)
  | 13 => ("EaterWebs", "mosts", "[I", true)
  | 14 => ("EaterWebs", "effects", "[I", true)
  | 15 => ("EaterWebs", "doors", "[I", true)
  | 16 => ("EaterWebs", "caught", "J", false)
  | 17 => ("EaterWebs", "got", "[J", true)
  | 18 => ("EaterWebs", "next", "[I", true)
  | 19 => ("EaterWebs", "catches", "[I", true)
  | 20 => ("EaterWebs", "fallen", "I", false)
  | 21 => ("EaterWebs", "past", "[I", true)
  | 22 => ("EaterWebs", "caughtBy", "J", false)
  | 23 => ("EaterWebs", "size", "I", false)
  | 24 => ("EaterWebs", "who", "[I", true)
  | 25 => ("EaterWebs", "table", "[I", true)
  | 26 => ("EaterWebs", "above", "I", false)
  | 27 => ("EaterWebs", "below", "I", false)
  | _ => ("EaterWebs", "h", "J", false)
def tyX0 : Nat → FieldType := fun k => match k with
  | 0 => .int
  | 1 => .array .int
  | 2 => .int
  | 3 => .long
  | 4 => .long
  | 5 => .int
  | 6 => .array (.array .byte)
  | 7 => .int
  | 8 => .int
  | 9 => .int
  | 10 => .array (.object "EaterWebs$Being")
  | 11 => .array .int
  | 12 => .array .int
  | 13 => .array .int
  | 14 => .array .int
  | 15 => .array .int
  | 16 => .long
  | 17 => .array .long
  | 18 => .array .int
  | 19 => .array .int
  | 20 => .int
  | 21 => .array .int
  | 22 => .long
  | 23 => .int
  | 24 => .array .int
  | 25 => .array .int
  | 26 => .int
  | 27 => .int
  | _ => .long
abbrev wsX00 : List Cond := u_ws RX0 TX0 29
set_option maxRecDepth 100000 in
theorem nmX0 : ∀ a, a < 29 → ∀ b, b < 29 → a ≠ b → (TX0 a).2.1 ≠ (TX0 b).2.1 := by decide +kernel
set_option maxRecDepth 100000 in
theorem tyX0_ok : ∀ k, k < 29 → parseFieldDescriptor (TX0 k).2.2.1 = some (tyX0 k) := by decide +kernel
abbrev cX0_init : ByteArray := prog_1_method_1_code
def yX0_init : MethodName := ⟨RX0, "<init>", "()V"⟩
def dkwX0_init_5 : List UInt8 := [16, 36, 188, 10, 181, 0, 60, 177]
abbrev dktX0_init_5 : List UInt8 := dkwX0_init_5 ++ []
def dkwX0_init_4 : List UInt8 := [188, 10, 181, 0, 51, 42, 17, 9, 104, 188, 10, 181, 0, 54, 42, 16, 8, 188, 10, 181, 0, 57, 42]
abbrev dktX0_init_4 : List UInt8 := dkwX0_init_4 ++ dktX0_init_5
def dkwX0_init_3 : List UInt8 := [188, 10, 181, 0, 41, 42, 16, 64, 188, 11, 181, 0, 44, 42, 16, 8, 188, 10, 181, 0, 48, 42, 16, 8]
abbrev dktX0_init_3 : List UInt8 := dkwX0_init_3 ++ dktX0_init_4
def dkwX0_init_2 : List UInt8 := [188, 10, 181, 0, 32, 42, 16, 64, 188, 10, 181, 0, 35, 42, 16, 64, 188, 10, 181, 0, 38, 42, 16, 32]
abbrev dktX0_init_2 : List UInt8 := dkwX0_init_2 ++ dktX0_init_3
def dkwX0_init_1 : List UInt8 := [181, 0, 19, 42, 16, 8, 189, 0, 23, 181, 0, 25, 42, 16, 64, 188, 10, 181, 0, 29, 42, 16, 64]
abbrev dktX0_init_1 : List UInt8 := dkwX0_init_1 ++ dktX0_init_2
def dkwX0_init_0 : List UInt8 := [42, 183, 0, 1, 42, 16, 6, 188, 10, 181, 0, 7, 42, 10, 181, 0, 13, 42, 7, 189, 0, 17]
abbrev dktX0_init_0 : List UInt8 := dkwX0_init_0 ++ dktX0_init_1
theorem dksX0_init_0 : cX0_init.data.toList.drop 0 = dktX0_init_0 := by decide +kernel
theorem dksX0_init_1 : cX0_init.data.toList.drop 22 = dktX0_init_1 := dk_seg dksX0_init_0 22 rfl rfl
theorem dksX0_init_2 : cX0_init.data.toList.drop 45 = dktX0_init_2 := dk_seg dksX0_init_1 23 rfl rfl
theorem dksX0_init_3 : cX0_init.data.toList.drop 69 = dktX0_init_3 := dk_seg dksX0_init_2 24 rfl rfl
theorem dksX0_init_4 : cX0_init.data.toList.drop 93 = dktX0_init_4 := dk_seg dksX0_init_3 24 rfl rfl
theorem dksX0_init_5 : cX0_init.data.toList.drop 116 = dktX0_init_5 := dk_seg dksX0_init_4 23 rfl rfl
theorem dX0_init_0 : decode cX0_init 0 = .ok (.aload_n 0, 1) := dk_42 (dk_at dksX0_init_0 0 rfl rfl)
theorem dX0_init_1 : decode cX0_init 1 = .ok (.invokespecial 1, 3) := dk_183 0 1 (dk_at dksX0_init_0 1 rfl rfl)
theorem dX0_init_4 : decode cX0_init 4 = .ok (.aload_n 0, 1) := dk_42 (dk_at dksX0_init_0 4 rfl rfl)
theorem dX0_init_5 : decode cX0_init 5 = .ok (.bipush 6, 2) := dk_16 6 (dk_at dksX0_init_0 5 rfl rfl)
theorem dX0_init_7 : decode cX0_init 7 = .ok (.newarray .int, 2) := dk_188_10 (dk_at dksX0_init_0 7 rfl rfl)
theorem dX0_init_9 : decode cX0_init 9 = .ok (.putfield 7, 3) := dk_181 0 7 (dk_at dksX0_init_0 9 rfl rfl)
theorem dX0_init_12 : decode cX0_init 12 = .ok (.aload_n 0, 1) := dk_42 (dk_at dksX0_init_0 12 rfl rfl)
theorem dX0_init_13 : decode cX0_init 13 = .ok (.lconst 1, 1) := dk_10 (dk_at dksX0_init_0 13 rfl rfl)
theorem dX0_init_14 : decode cX0_init 14 = .ok (.putfield 13, 3) := dk_181 0 13 (dk_at dksX0_init_0 14 rfl rfl)
theorem dX0_init_17 : decode cX0_init 17 = .ok (.aload_n 0, 1) := dk_42 (dk_at dksX0_init_0 17 rfl rfl)
theorem dX0_init_18 : decode cX0_init 18 = .ok (.iconst 4, 1) := dk_7 (dk_at dksX0_init_0 18 rfl rfl)
theorem dX0_init_19 : decode cX0_init 19 = .ok (.anewarray 17, 3) := dk_189 0 17 (dk_at dksX0_init_0 19 rfl rfl)
theorem dX0_init_22 : decode cX0_init 22 = .ok (.putfield 19, 3) := dk_181 0 19 (dk_at dksX0_init_1 0 rfl rfl)
theorem dX0_init_25 : decode cX0_init 25 = .ok (.aload_n 0, 1) := dk_42 (dk_at dksX0_init_1 3 rfl rfl)
theorem dX0_init_26 : decode cX0_init 26 = .ok (.bipush 8, 2) := dk_16 8 (dk_at dksX0_init_1 4 rfl rfl)
theorem dX0_init_28 : decode cX0_init 28 = .ok (.anewarray 23, 3) := dk_189 0 23 (dk_at dksX0_init_1 6 rfl rfl)
theorem dX0_init_31 : decode cX0_init 31 = .ok (.putfield 25, 3) := dk_181 0 25 (dk_at dksX0_init_1 9 rfl rfl)
theorem dX0_init_34 : decode cX0_init 34 = .ok (.aload_n 0, 1) := dk_42 (dk_at dksX0_init_1 12 rfl rfl)
theorem dX0_init_35 : decode cX0_init 35 = .ok (.bipush 64, 2) := dk_16 64 (dk_at dksX0_init_1 13 rfl rfl)
theorem dX0_init_37 : decode cX0_init 37 = .ok (.newarray .int, 2) := dk_188_10 (dk_at dksX0_init_1 15 rfl rfl)
theorem dX0_init_39 : decode cX0_init 39 = .ok (.putfield 29, 3) := dk_181 0 29 (dk_at dksX0_init_1 17 rfl rfl)
theorem dX0_init_42 : decode cX0_init 42 = .ok (.aload_n 0, 1) := dk_42 (dk_at dksX0_init_1 20 rfl rfl)
theorem dX0_init_43 : decode cX0_init 43 = .ok (.bipush 64, 2) := dk_16 64 (dk_at dksX0_init_1 21 rfl rfl)
theorem dX0_init_45 : decode cX0_init 45 = .ok (.newarray .int, 2) := dk_188_10 (dk_at dksX0_init_2 0 rfl rfl)
theorem dX0_init_47 : decode cX0_init 47 = .ok (.putfield 32, 3) := dk_181 0 32 (dk_at dksX0_init_2 2 rfl rfl)
theorem dX0_init_50 : decode cX0_init 50 = .ok (.aload_n 0, 1) := dk_42 (dk_at dksX0_init_2 5 rfl rfl)
theorem dX0_init_51 : decode cX0_init 51 = .ok (.bipush 64, 2) := dk_16 64 (dk_at dksX0_init_2 6 rfl rfl)
theorem dX0_init_53 : decode cX0_init 53 = .ok (.newarray .int, 2) := dk_188_10 (dk_at dksX0_init_2 8 rfl rfl)
theorem dX0_init_55 : decode cX0_init 55 = .ok (.putfield 35, 3) := dk_181 0 35 (dk_at dksX0_init_2 10 rfl rfl)
theorem dX0_init_58 : decode cX0_init 58 = .ok (.aload_n 0, 1) := dk_42 (dk_at dksX0_init_2 13 rfl rfl)
theorem dX0_init_59 : decode cX0_init 59 = .ok (.bipush 64, 2) := dk_16 64 (dk_at dksX0_init_2 14 rfl rfl)
theorem dX0_init_61 : decode cX0_init 61 = .ok (.newarray .int, 2) := dk_188_10 (dk_at dksX0_init_2 16 rfl rfl)
theorem dX0_init_63 : decode cX0_init 63 = .ok (.putfield 38, 3) := dk_181 0 38 (dk_at dksX0_init_2 18 rfl rfl)
theorem dX0_init_66 : decode cX0_init 66 = .ok (.aload_n 0, 1) := dk_42 (dk_at dksX0_init_2 21 rfl rfl)
theorem dX0_init_67 : decode cX0_init 67 = .ok (.bipush 32, 2) := dk_16 32 (dk_at dksX0_init_2 22 rfl rfl)
theorem dX0_init_69 : decode cX0_init 69 = .ok (.newarray .int, 2) := dk_188_10 (dk_at dksX0_init_3 0 rfl rfl)
theorem dX0_init_71 : decode cX0_init 71 = .ok (.putfield 41, 3) := dk_181 0 41 (dk_at dksX0_init_3 2 rfl rfl)
theorem dX0_init_74 : decode cX0_init 74 = .ok (.aload_n 0, 1) := dk_42 (dk_at dksX0_init_3 5 rfl rfl)
theorem dX0_init_75 : decode cX0_init 75 = .ok (.bipush 64, 2) := dk_16 64 (dk_at dksX0_init_3 6 rfl rfl)
theorem dX0_init_77 : decode cX0_init 77 = .ok (.newarray .long, 2) := dk_188_11 (dk_at dksX0_init_3 8 rfl rfl)
theorem dX0_init_79 : decode cX0_init 79 = .ok (.putfield 44, 3) := dk_181 0 44 (dk_at dksX0_init_3 10 rfl rfl)
theorem dX0_init_82 : decode cX0_init 82 = .ok (.aload_n 0, 1) := dk_42 (dk_at dksX0_init_3 13 rfl rfl)
theorem dX0_init_83 : decode cX0_init 83 = .ok (.bipush 8, 2) := dk_16 8 (dk_at dksX0_init_3 14 rfl rfl)
theorem dX0_init_85 : decode cX0_init 85 = .ok (.newarray .int, 2) := dk_188_10 (dk_at dksX0_init_3 16 rfl rfl)
theorem dX0_init_87 : decode cX0_init 87 = .ok (.putfield 48, 3) := dk_181 0 48 (dk_at dksX0_init_3 18 rfl rfl)
theorem dX0_init_90 : decode cX0_init 90 = .ok (.aload_n 0, 1) := dk_42 (dk_at dksX0_init_3 21 rfl rfl)
theorem dX0_init_91 : decode cX0_init 91 = .ok (.bipush 8, 2) := dk_16 8 (dk_at dksX0_init_3 22 rfl rfl)
theorem dX0_init_93 : decode cX0_init 93 = .ok (.newarray .int, 2) := dk_188_10 (dk_at dksX0_init_4 0 rfl rfl)
theorem dX0_init_95 : decode cX0_init 95 = .ok (.putfield 51, 3) := dk_181 0 51 (dk_at dksX0_init_4 2 rfl rfl)
theorem dX0_init_98 : decode cX0_init 98 = .ok (.aload_n 0, 1) := dk_42 (dk_at dksX0_init_4 5 rfl rfl)
theorem dX0_init_99 : decode cX0_init 99 = .ok (.sipush 2408, 3) := dk_17 9 104 (dk_at dksX0_init_4 6 rfl rfl)
theorem dX0_init_102 : decode cX0_init 102 = .ok (.newarray .int, 2) := dk_188_10 (dk_at dksX0_init_4 9 rfl rfl)
theorem dX0_init_104 : decode cX0_init 104 = .ok (.putfield 54, 3) := dk_181 0 54 (dk_at dksX0_init_4 11 rfl rfl)
theorem dX0_init_107 : decode cX0_init 107 = .ok (.aload_n 0, 1) := dk_42 (dk_at dksX0_init_4 14 rfl rfl)
theorem dX0_init_108 : decode cX0_init 108 = .ok (.bipush 8, 2) := dk_16 8 (dk_at dksX0_init_4 15 rfl rfl)
theorem dX0_init_110 : decode cX0_init 110 = .ok (.newarray .int, 2) := dk_188_10 (dk_at dksX0_init_4 17 rfl rfl)
theorem dX0_init_112 : decode cX0_init 112 = .ok (.putfield 57, 3) := dk_181 0 57 (dk_at dksX0_init_4 19 rfl rfl)
theorem dX0_init_115 : decode cX0_init 115 = .ok (.aload_n 0, 1) := dk_42 (dk_at dksX0_init_4 22 rfl rfl)
theorem dX0_init_116 : decode cX0_init 116 = .ok (.bipush 36, 2) := dk_16 36 (dk_at dksX0_init_5 0 rfl rfl)
theorem dX0_init_118 : decode cX0_init 118 = .ok (.newarray .int, 2) := dk_188_10 (dk_at dksX0_init_5 2 rfl rfl)
theorem dX0_init_120 : decode cX0_init 120 = .ok (.putfield 60, 3) := dk_181 0 60 (dk_at dksX0_init_5 4 rfl rfl)
theorem dX0_init_123 : decode cX0_init 123 = .ok (.return_, 1) := dk_177 (dk_at dksX0_init_5 7 rfl rfl)
abbrev cX0_text : ByteArray := prog_1_method_6_code
def yX0_text : MethodName := ⟨RX0, "text", "(II)I"⟩
def dkwX0_text_2 : List UInt8 := [172, 78, 42, 8, 182, 0, 86, 172]
abbrev dktX0_text_2 : List UInt8 := dkwX0_text_2 ++ []
def dkwX0_text_1 : List UInt8 := [28, 162, 0, 15, 45, 21, 4, 16, 32, 84, 132, 4, 1, 167, 255, 241, 42, 180, 0, 19, 27, 45, 83, 28]
abbrev dktX0_text_1 : List UInt8 := dkwX0_text_1 ++ dktX0_text_2
def dkwX0_text_0 : List UInt8 := [27, 184, 0, 80, 153, 0, 9, 28, 16, 60, 164, 0, 5, 2, 172, 28, 188, 8, 78, 3, 54, 4, 21, 4]
abbrev dktX0_text_0 : List UInt8 := dkwX0_text_0 ++ dktX0_text_1
theorem dksX0_text_0 : cX0_text.data.toList.drop 0 = dktX0_text_0 := by decide +kernel
theorem dksX0_text_1 : cX0_text.data.toList.drop 24 = dktX0_text_1 := dk_seg dksX0_text_0 24 rfl rfl
theorem dksX0_text_2 : cX0_text.data.toList.drop 48 = dktX0_text_2 := dk_seg dksX0_text_1 24 rfl rfl
theorem dX0_text_0 : decode cX0_text 0 = .ok (.iload_n 1, 1) := dk_27 (dk_at dksX0_text_0 0 rfl rfl)
theorem dX0_text_1 : decode cX0_text 1 = .ok (.invokestatic 80, 3) := dk_184 0 80 (dk_at dksX0_text_0 1 rfl rfl)
theorem dX0_text_4 : decode cX0_text 4 = .ok (.ifCond .eq 9, 3) := dk_153 0 9 (dk_at dksX0_text_0 4 rfl rfl)
theorem dX0_text_7 : decode cX0_text 7 = .ok (.iload_n 2, 1) := dk_28 (dk_at dksX0_text_0 7 rfl rfl)
theorem dX0_text_8 : decode cX0_text 8 = .ok (.bipush 60, 2) := dk_16 60 (dk_at dksX0_text_0 8 rfl rfl)
theorem dX0_text_10 : decode cX0_text 10 = .ok (.if_icmp .le 5, 3) := dk_164 0 5 (dk_at dksX0_text_0 10 rfl rfl)
theorem dX0_text_13 : decode cX0_text 13 = .ok (.iconst (-1), 1) := dk_2 (dk_at dksX0_text_0 13 rfl rfl)
theorem dX0_text_14 : decode cX0_text 14 = .ok (.ireturn, 1) := dk_172 (dk_at dksX0_text_0 14 rfl rfl)
theorem dX0_text_15 : decode cX0_text 15 = .ok (.iload_n 2, 1) := dk_28 (dk_at dksX0_text_0 15 rfl rfl)
theorem dX0_text_16 : decode cX0_text 16 = .ok (.newarray .byte, 2) := dk_188_8 (dk_at dksX0_text_0 16 rfl rfl)
theorem dX0_text_18 : decode cX0_text 18 = .ok (.astore_n 3, 1) := dk_78 (dk_at dksX0_text_0 18 rfl rfl)
theorem dX0_text_19 : decode cX0_text 19 = .ok (.iconst 0, 1) := dk_3 (dk_at dksX0_text_0 19 rfl rfl)
theorem dX0_text_20 : decode cX0_text 20 = .ok (.istore 4, 2) := dk_54 4 (dk_at dksX0_text_0 20 rfl rfl)
theorem dX0_text_22 : decode cX0_text 22 = .ok (.iload 4, 2) := dk_21 4 (dk_at dksX0_text_0 22 rfl rfl)
theorem dX0_text_24 : decode cX0_text 24 = .ok (.iload_n 2, 1) := dk_28 (dk_at dksX0_text_1 0 rfl rfl)
theorem dX0_text_25 : decode cX0_text 25 = .ok (.if_icmp .ge 15, 3) := dk_162 0 15 (dk_at dksX0_text_1 1 rfl rfl)
theorem dX0_text_28 : decode cX0_text 28 = .ok (.aload_n 3, 1) := dk_45 (dk_at dksX0_text_1 4 rfl rfl)
theorem dX0_text_29 : decode cX0_text 29 = .ok (.iload 4, 2) := dk_21 4 (dk_at dksX0_text_1 5 rfl rfl)
theorem dX0_text_31 : decode cX0_text 31 = .ok (.bipush 32, 2) := dk_16 32 (dk_at dksX0_text_1 7 rfl rfl)
theorem dX0_text_33 : decode cX0_text 33 = .ok (.bastore, 1) := dk_84 (dk_at dksX0_text_1 9 rfl rfl)
theorem dX0_text_34 : decode cX0_text 34 = .ok (.iinc 4 1, 3) := dk_132 4 1 (dk_at dksX0_text_1 10 rfl rfl)
theorem dX0_text_37 : decode cX0_text 37 = .ok (.goto (-15), 3) := dk_167 255 241 (dk_at dksX0_text_1 13 rfl rfl)
theorem dX0_text_40 : decode cX0_text 40 = .ok (.aload_n 0, 1) := dk_42 (dk_at dksX0_text_1 16 rfl rfl)
theorem dX0_text_41 : decode cX0_text 41 = .ok (.getfield 19, 3) := dk_180 0 19 (dk_at dksX0_text_1 17 rfl rfl)
theorem dX0_text_44 : decode cX0_text 44 = .ok (.iload_n 1, 1) := dk_27 (dk_at dksX0_text_1 20 rfl rfl)
theorem dX0_text_45 : decode cX0_text 45 = .ok (.aload_n 3, 1) := dk_45 (dk_at dksX0_text_1 21 rfl rfl)
theorem dX0_text_46 : decode cX0_text 46 = .ok (.aastore, 1) := dk_83 (dk_at dksX0_text_1 22 rfl rfl)
theorem dX0_text_47 : decode cX0_text 47 = .ok (.iload_n 2, 1) := dk_28 (dk_at dksX0_text_1 23 rfl rfl)
theorem dX0_text_48 : decode cX0_text 48 = .ok (.ireturn, 1) := dk_172 (dk_at dksX0_text_2 0 rfl rfl)
theorem dX0_text_49 : decode cX0_text 49 = .ok (.astore_n 3, 1) := dk_78 (dk_at dksX0_text_2 1 rfl rfl)
theorem dX0_text_50 : decode cX0_text 50 = .ok (.aload_n 0, 1) := dk_42 (dk_at dksX0_text_2 2 rfl rfl)
theorem dX0_text_51 : decode cX0_text 51 = .ok (.iconst 5, 1) := dk_8 (dk_at dksX0_text_2 3 rfl rfl)
theorem dX0_text_52 : decode cX0_text 52 = .ok (.invokevirtual 86, 3) := dk_182 0 86 (dk_at dksX0_text_2 4 rfl rfl)
theorem dX0_text_55 : decode cX0_text 55 = .ok (.ireturn, 1) := dk_172 (dk_at dksX0_text_2 7 rfl rfl)
abbrev cX0_isText : ByteArray := prog_1_method_5_code
def yX0_isText : MethodName := ⟨RX0, "isText", "(I)Z"⟩
def dkwX0_isText_0 : List UInt8 := [26, 3, 6, 184, 0, 76, 172]
abbrev dktX0_isText_0 : List UInt8 := dkwX0_isText_0 ++ []
theorem dksX0_isText_0 : cX0_isText.data.toList.drop 0 = dktX0_isText_0 := by decide +kernel
theorem dX0_isText_0 : decode cX0_isText 0 = .ok (.iload_n 0, 1) := dk_26 (dk_at dksX0_isText_0 0 rfl rfl)
theorem dX0_isText_1 : decode cX0_isText 1 = .ok (.iconst 0, 1) := dk_3 (dk_at dksX0_isText_0 1 rfl rfl)
theorem dX0_isText_2 : decode cX0_isText 2 = .ok (.iconst 3, 1) := dk_6 (dk_at dksX0_isText_0 2 rfl rfl)
theorem dX0_isText_3 : decode cX0_isText 3 = .ok (.invokestatic 76, 3) := dk_184 0 76 (dk_at dksX0_isText_0 3 rfl rfl)
theorem dX0_isText_6 : decode cX0_isText 6 = .ok (.ireturn, 1) := dk_172 (dk_at dksX0_isText_0 6 rfl rfl)
abbrev cX0_isIn : ByteArray := prog_1_method_2_code
def yX0_isIn : MethodName := ⟨RX0, "isIn", "(III)Z"⟩
def dkwX0_isIn_0 : List UInt8 := [26, 27, 161, 0, 12, 26, 28, 163, 0, 7, 4, 167, 0, 4, 3, 172]
abbrev dktX0_isIn_0 : List UInt8 := dkwX0_isIn_0 ++ []
theorem dksX0_isIn_0 : cX0_isIn.data.toList.drop 0 = dktX0_isIn_0 := by decide +kernel
theorem dX0_isIn_0 : decode cX0_isIn 0 = .ok (.iload_n 0, 1) := dk_26 (dk_at dksX0_isIn_0 0 rfl rfl)
theorem dX0_isIn_1 : decode cX0_isIn 1 = .ok (.iload_n 1, 1) := dk_27 (dk_at dksX0_isIn_0 1 rfl rfl)
theorem dX0_isIn_2 : decode cX0_isIn 2 = .ok (.if_icmp .lt 12, 3) := dk_161 0 12 (dk_at dksX0_isIn_0 2 rfl rfl)
theorem dX0_isIn_5 : decode cX0_isIn 5 = .ok (.iload_n 0, 1) := dk_26 (dk_at dksX0_isIn_0 5 rfl rfl)
theorem dX0_isIn_6 : decode cX0_isIn 6 = .ok (.iload_n 2, 1) := dk_28 (dk_at dksX0_isIn_0 6 rfl rfl)
theorem dX0_isIn_7 : decode cX0_isIn 7 = .ok (.if_icmp .gt 7, 3) := dk_163 0 7 (dk_at dksX0_isIn_0 7 rfl rfl)
theorem dX0_isIn_10 : decode cX0_isIn 10 = .ok (.iconst 1, 1) := dk_4 (dk_at dksX0_isIn_0 10 rfl rfl)
theorem dX0_isIn_11 : decode cX0_isIn 11 = .ok (.goto 4, 3) := dk_167 0 4 (dk_at dksX0_isIn_0 11 rfl rfl)
theorem dX0_isIn_14 : decode cX0_isIn 14 = .ok (.iconst 0, 1) := dk_3 (dk_at dksX0_isIn_0 14 rfl rfl)
theorem dX0_isIn_15 : decode cX0_isIn 15 = .ok (.ireturn, 1) := dk_172 (dk_at dksX0_isIn_0 15 rfl rfl)
abbrev cX0_met : ByteArray := prog_1_method_3_code
def yX0_met : MethodName := ⟨RX0, "met", "(I)I"⟩
def dkwX0_met_0 : List UInt8 := [42, 27, 181, 0, 63, 42, 180, 0, 7, 27, 92, 46, 4, 96, 79, 16, 253, 172]
abbrev dktX0_met_0 : List UInt8 := dkwX0_met_0 ++ []
theorem dksX0_met_0 : cX0_met.data.toList.drop 0 = dktX0_met_0 := by decide +kernel
theorem dX0_met_0 : decode cX0_met 0 = .ok (.aload_n 0, 1) := dk_42 (dk_at dksX0_met_0 0 rfl rfl)
theorem dX0_met_1 : decode cX0_met 1 = .ok (.iload_n 1, 1) := dk_27 (dk_at dksX0_met_0 1 rfl rfl)
theorem dX0_met_2 : decode cX0_met 2 = .ok (.putfield 63, 3) := dk_181 0 63 (dk_at dksX0_met_0 2 rfl rfl)
theorem dX0_met_5 : decode cX0_met 5 = .ok (.aload_n 0, 1) := dk_42 (dk_at dksX0_met_0 5 rfl rfl)
theorem dX0_met_6 : decode cX0_met 6 = .ok (.getfield 7, 3) := dk_180 0 7 (dk_at dksX0_met_0 6 rfl rfl)
theorem dX0_met_9 : decode cX0_met 9 = .ok (.iload_n 1, 1) := dk_27 (dk_at dksX0_met_0 9 rfl rfl)
theorem dX0_met_10 : decode cX0_met 10 = .ok (.dup2, 1) := dk_92 (dk_at dksX0_met_0 10 rfl rfl)
theorem dX0_met_11 : decode cX0_met 11 = .ok (.iaload, 1) := dk_46 (dk_at dksX0_met_0 11 rfl rfl)
theorem dX0_met_12 : decode cX0_met 12 = .ok (.iconst 1, 1) := dk_4 (dk_at dksX0_met_0 12 rfl rfl)
theorem dX0_met_13 : decode cX0_met 13 = .ok (.iadd, 1) := dk_96 (dk_at dksX0_met_0 13 rfl rfl)
theorem dX0_met_14 : decode cX0_met 14 = .ok (.iastore, 1) := dk_79 (dk_at dksX0_met_0 14 rfl rfl)
theorem dX0_met_15 : decode cX0_met 15 = .ok (.bipush (-3), 2) := dk_16 253 (dk_at dksX0_met_0 15 rfl rfl)
theorem dX0_met_17 : decode cX0_met 17 = .ok (.ireturn, 1) := dk_172 (dk_at dksX0_met_0 17 rfl rfl)
abbrev cX0_lay : ByteArray := prog_1_method_7_code
def yX0_lay : MethodName := ⟨RX0, "lay", "(III)I"⟩
def dkwX0_lay_2 : List UInt8 := [182, 0, 86, 172]
abbrev dktX0_lay_2 : List UInt8 := dkwX0_lay_2 ++ []
def dkwX0_lay_1 : List UInt8 := [50, 28, 29, 145, 84, 17, 3, 232, 21, 4, 96, 172, 58, 4, 42, 4, 182, 0, 86, 172, 58, 4, 42, 5]
abbrev dktX0_lay_1 : List UInt8 := dkwX0_lay_1 ++ dktX0_lay_2
def dkwX0_lay_0 : List UInt8 := [27, 184, 0, 80, 154, 0, 5, 2, 172, 42, 180, 0, 19, 27, 50, 28, 51, 54, 4, 42, 180, 0, 19, 27]
abbrev dktX0_lay_0 : List UInt8 := dkwX0_lay_0 ++ dktX0_lay_1
theorem dksX0_lay_0 : cX0_lay.data.toList.drop 0 = dktX0_lay_0 := by decide +kernel
theorem dksX0_lay_1 : cX0_lay.data.toList.drop 24 = dktX0_lay_1 := dk_seg dksX0_lay_0 24 rfl rfl
theorem dksX0_lay_2 : cX0_lay.data.toList.drop 48 = dktX0_lay_2 := dk_seg dksX0_lay_1 24 rfl rfl
theorem dX0_lay_0 : decode cX0_lay 0 = .ok (.iload_n 1, 1) := dk_27 (dk_at dksX0_lay_0 0 rfl rfl)
theorem dX0_lay_1 : decode cX0_lay 1 = .ok (.invokestatic 80, 3) := dk_184 0 80 (dk_at dksX0_lay_0 1 rfl rfl)
theorem dX0_lay_4 : decode cX0_lay 4 = .ok (.ifCond .ne 5, 3) := dk_154 0 5 (dk_at dksX0_lay_0 4 rfl rfl)
theorem dX0_lay_7 : decode cX0_lay 7 = .ok (.iconst (-1), 1) := dk_2 (dk_at dksX0_lay_0 7 rfl rfl)
theorem dX0_lay_8 : decode cX0_lay 8 = .ok (.ireturn, 1) := dk_172 (dk_at dksX0_lay_0 8 rfl rfl)
theorem dX0_lay_9 : decode cX0_lay 9 = .ok (.aload_n 0, 1) := dk_42 (dk_at dksX0_lay_0 9 rfl rfl)
theorem dX0_lay_10 : decode cX0_lay 10 = .ok (.getfield 19, 3) := dk_180 0 19 (dk_at dksX0_lay_0 10 rfl rfl)
theorem dX0_lay_13 : decode cX0_lay 13 = .ok (.iload_n 1, 1) := dk_27 (dk_at dksX0_lay_0 13 rfl rfl)
theorem dX0_lay_14 : decode cX0_lay 14 = .ok (.aaload, 1) := dk_50 (dk_at dksX0_lay_0 14 rfl rfl)
theorem dX0_lay_15 : decode cX0_lay 15 = .ok (.iload_n 2, 1) := dk_28 (dk_at dksX0_lay_0 15 rfl rfl)
theorem dX0_lay_16 : decode cX0_lay 16 = .ok (.baload, 1) := dk_51 (dk_at dksX0_lay_0 16 rfl rfl)
theorem dX0_lay_17 : decode cX0_lay 17 = .ok (.istore 4, 2) := dk_54 4 (dk_at dksX0_lay_0 17 rfl rfl)
theorem dX0_lay_19 : decode cX0_lay 19 = .ok (.aload_n 0, 1) := dk_42 (dk_at dksX0_lay_0 19 rfl rfl)
theorem dX0_lay_20 : decode cX0_lay 20 = .ok (.getfield 19, 3) := dk_180 0 19 (dk_at dksX0_lay_0 20 rfl rfl)
theorem dX0_lay_23 : decode cX0_lay 23 = .ok (.iload_n 1, 1) := dk_27 (dk_at dksX0_lay_0 23 rfl rfl)
theorem dX0_lay_24 : decode cX0_lay 24 = .ok (.aaload, 1) := dk_50 (dk_at dksX0_lay_1 0 rfl rfl)
theorem dX0_lay_25 : decode cX0_lay 25 = .ok (.iload_n 2, 1) := dk_28 (dk_at dksX0_lay_1 1 rfl rfl)
theorem dX0_lay_26 : decode cX0_lay 26 = .ok (.iload_n 3, 1) := dk_29 (dk_at dksX0_lay_1 2 rfl rfl)
theorem dX0_lay_27 : decode cX0_lay 27 = .ok (.i2b, 1) := dk_145 (dk_at dksX0_lay_1 3 rfl rfl)
theorem dX0_lay_28 : decode cX0_lay 28 = .ok (.bastore, 1) := dk_84 (dk_at dksX0_lay_1 4 rfl rfl)
theorem dX0_lay_29 : decode cX0_lay 29 = .ok (.sipush 1000, 3) := dk_17 3 232 (dk_at dksX0_lay_1 5 rfl rfl)
theorem dX0_lay_32 : decode cX0_lay 32 = .ok (.iload 4, 2) := dk_21 4 (dk_at dksX0_lay_1 8 rfl rfl)
theorem dX0_lay_34 : decode cX0_lay 34 = .ok (.iadd, 1) := dk_96 (dk_at dksX0_lay_1 10 rfl rfl)
theorem dX0_lay_35 : decode cX0_lay 35 = .ok (.ireturn, 1) := dk_172 (dk_at dksX0_lay_1 11 rfl rfl)
theorem dX0_lay_36 : decode cX0_lay 36 = .ok (.astore 4, 2) := dk_58 4 (dk_at dksX0_lay_1 12 rfl rfl)
theorem dX0_lay_38 : decode cX0_lay 38 = .ok (.aload_n 0, 1) := dk_42 (dk_at dksX0_lay_1 14 rfl rfl)
theorem dX0_lay_39 : decode cX0_lay 39 = .ok (.iconst 1, 1) := dk_4 (dk_at dksX0_lay_1 15 rfl rfl)
theorem dX0_lay_40 : decode cX0_lay 40 = .ok (.invokevirtual 86, 3) := dk_182 0 86 (dk_at dksX0_lay_1 16 rfl rfl)
theorem dX0_lay_43 : decode cX0_lay 43 = .ok (.ireturn, 1) := dk_172 (dk_at dksX0_lay_1 19 rfl rfl)
theorem dX0_lay_44 : decode cX0_lay 44 = .ok (.astore 4, 2) := dk_58 4 (dk_at dksX0_lay_1 20 rfl rfl)
theorem dX0_lay_46 : decode cX0_lay 46 = .ok (.aload_n 0, 1) := dk_42 (dk_at dksX0_lay_1 22 rfl rfl)
theorem dX0_lay_47 : decode cX0_lay 47 = .ok (.iconst 2, 1) := dk_5 (dk_at dksX0_lay_1 23 rfl rfl)
theorem dX0_lay_48 : decode cX0_lay 48 = .ok (.invokevirtual 86, 3) := dk_182 0 86 (dk_at dksX0_lay_2 0 rfl rfl)
theorem dX0_lay_51 : decode cX0_lay 51 = .ok (.ireturn, 1) := dk_172 (dk_at dksX0_lay_2 3 rfl rfl)
abbrev cX0_burn : ByteArray := prog_1_method_8_code
def yX0_burn : MethodName := ⟨RX0, "burn", "(I)I"⟩
def dkwX0_burn_1 : List UInt8 := [4, 172, 77, 42, 4, 182, 0, 86, 172]
abbrev dktX0_burn_1 : List UInt8 := dkwX0_burn_1 ++ []
def dkwX0_burn_0 : List UInt8 := [27, 184, 0, 80, 154, 0, 5, 2, 172, 42, 180, 0, 19, 27, 50, 190, 61, 42, 180, 0, 19, 27, 1, 83]
abbrev dktX0_burn_0 : List UInt8 := dkwX0_burn_0 ++ dktX0_burn_1
theorem dksX0_burn_0 : cX0_burn.data.toList.drop 0 = dktX0_burn_0 := by decide +kernel
theorem dksX0_burn_1 : cX0_burn.data.toList.drop 24 = dktX0_burn_1 := dk_seg dksX0_burn_0 24 rfl rfl
theorem dX0_burn_0 : decode cX0_burn 0 = .ok (.iload_n 1, 1) := dk_27 (dk_at dksX0_burn_0 0 rfl rfl)
theorem dX0_burn_1 : decode cX0_burn 1 = .ok (.invokestatic 80, 3) := dk_184 0 80 (dk_at dksX0_burn_0 1 rfl rfl)
theorem dX0_burn_4 : decode cX0_burn 4 = .ok (.ifCond .ne 5, 3) := dk_154 0 5 (dk_at dksX0_burn_0 4 rfl rfl)
theorem dX0_burn_7 : decode cX0_burn 7 = .ok (.iconst (-1), 1) := dk_2 (dk_at dksX0_burn_0 7 rfl rfl)
theorem dX0_burn_8 : decode cX0_burn 8 = .ok (.ireturn, 1) := dk_172 (dk_at dksX0_burn_0 8 rfl rfl)
theorem dX0_burn_9 : decode cX0_burn 9 = .ok (.aload_n 0, 1) := dk_42 (dk_at dksX0_burn_0 9 rfl rfl)
theorem dX0_burn_10 : decode cX0_burn 10 = .ok (.getfield 19, 3) := dk_180 0 19 (dk_at dksX0_burn_0 10 rfl rfl)
theorem dX0_burn_13 : decode cX0_burn 13 = .ok (.iload_n 1, 1) := dk_27 (dk_at dksX0_burn_0 13 rfl rfl)
theorem dX0_burn_14 : decode cX0_burn 14 = .ok (.aaload, 1) := dk_50 (dk_at dksX0_burn_0 14 rfl rfl)
theorem dX0_burn_15 : decode cX0_burn 15 = .ok (.arraylength, 1) := dk_190 (dk_at dksX0_burn_0 15 rfl rfl)
theorem dX0_burn_16 : decode cX0_burn 16 = .ok (.istore_n 2, 1) := dk_61 (dk_at dksX0_burn_0 16 rfl rfl)
theorem dX0_burn_17 : decode cX0_burn 17 = .ok (.aload_n 0, 1) := dk_42 (dk_at dksX0_burn_0 17 rfl rfl)
theorem dX0_burn_18 : decode cX0_burn 18 = .ok (.getfield 19, 3) := dk_180 0 19 (dk_at dksX0_burn_0 18 rfl rfl)
theorem dX0_burn_21 : decode cX0_burn 21 = .ok (.iload_n 1, 1) := dk_27 (dk_at dksX0_burn_0 21 rfl rfl)
theorem dX0_burn_22 : decode cX0_burn 22 = .ok (.aconst_null, 1) := dk_1 (dk_at dksX0_burn_0 22 rfl rfl)
theorem dX0_burn_23 : decode cX0_burn 23 = .ok (.aastore, 1) := dk_83 (dk_at dksX0_burn_0 23 rfl rfl)
theorem dX0_burn_24 : decode cX0_burn 24 = .ok (.iconst 1, 1) := dk_4 (dk_at dksX0_burn_1 0 rfl rfl)
theorem dX0_burn_25 : decode cX0_burn 25 = .ok (.ireturn, 1) := dk_172 (dk_at dksX0_burn_1 1 rfl rfl)
theorem dX0_burn_26 : decode cX0_burn 26 = .ok (.astore_n 2, 1) := dk_77 (dk_at dksX0_burn_1 2 rfl rfl)
theorem dX0_burn_27 : decode cX0_burn 27 = .ok (.aload_n 0, 1) := dk_42 (dk_at dksX0_burn_1 3 rfl rfl)
theorem dX0_burn_28 : decode cX0_burn 28 = .ok (.iconst 1, 1) := dk_4 (dk_at dksX0_burn_1 4 rfl rfl)
theorem dX0_burn_29 : decode cX0_burn 29 = .ok (.invokevirtual 86, 3) := dk_182 0 86 (dk_at dksX0_burn_1 5 rfl rfl)
theorem dX0_burn_32 : decode cX0_burn 32 = .ok (.ireturn, 1) := dk_172 (dk_at dksX0_burn_1 8 rfl rfl)
abbrev cX0_copy : ByteArray := prog_1_method_9_code
def yX0_copy : MethodName := ⟨RX0, "copy", "(IIIII)I"⟩
def dkwX0_copy_2 : List UInt8 := [42, 5, 182, 0, 86, 172]
abbrev dktX0_copy_2 : List UInt8 := dkwX0_copy_2 ++ []
def dkwX0_copy_1 : List UInt8 := [180, 0, 19, 29, 50, 21, 4, 21, 5, 184, 0, 94, 4, 172, 58, 6, 42, 4, 182, 0, 86, 172, 58, 6]
abbrev dktX0_copy_1 : List UInt8 := dkwX0_copy_1 ++ dktX0_copy_2
def dkwX0_copy_0 : List UInt8 := [27, 184, 0, 80, 153, 0, 10, 29, 184, 0, 80, 154, 0, 5, 2, 172, 42, 180, 0, 19, 27, 50, 28, 42]
abbrev dktX0_copy_0 : List UInt8 := dkwX0_copy_0 ++ dktX0_copy_1
theorem dksX0_copy_0 : cX0_copy.data.toList.drop 0 = dktX0_copy_0 := by decide +kernel
theorem dksX0_copy_1 : cX0_copy.data.toList.drop 24 = dktX0_copy_1 := dk_seg dksX0_copy_0 24 rfl rfl
theorem dksX0_copy_2 : cX0_copy.data.toList.drop 48 = dktX0_copy_2 := dk_seg dksX0_copy_1 24 rfl rfl
theorem dX0_copy_0 : decode cX0_copy 0 = .ok (.iload_n 1, 1) := dk_27 (dk_at dksX0_copy_0 0 rfl rfl)
theorem dX0_copy_1 : decode cX0_copy 1 = .ok (.invokestatic 80, 3) := dk_184 0 80 (dk_at dksX0_copy_0 1 rfl rfl)
theorem dX0_copy_4 : decode cX0_copy 4 = .ok (.ifCond .eq 10, 3) := dk_153 0 10 (dk_at dksX0_copy_0 4 rfl rfl)
theorem dX0_copy_7 : decode cX0_copy 7 = .ok (.iload_n 3, 1) := dk_29 (dk_at dksX0_copy_0 7 rfl rfl)
theorem dX0_copy_8 : decode cX0_copy 8 = .ok (.invokestatic 80, 3) := dk_184 0 80 (dk_at dksX0_copy_0 8 rfl rfl)
theorem dX0_copy_11 : decode cX0_copy 11 = .ok (.ifCond .ne 5, 3) := dk_154 0 5 (dk_at dksX0_copy_0 11 rfl rfl)
theorem dX0_copy_14 : decode cX0_copy 14 = .ok (.iconst (-1), 1) := dk_2 (dk_at dksX0_copy_0 14 rfl rfl)
theorem dX0_copy_15 : decode cX0_copy 15 = .ok (.ireturn, 1) := dk_172 (dk_at dksX0_copy_0 15 rfl rfl)
theorem dX0_copy_16 : decode cX0_copy 16 = .ok (.aload_n 0, 1) := dk_42 (dk_at dksX0_copy_0 16 rfl rfl)
theorem dX0_copy_17 : decode cX0_copy 17 = .ok (.getfield 19, 3) := dk_180 0 19 (dk_at dksX0_copy_0 17 rfl rfl)
theorem dX0_copy_20 : decode cX0_copy 20 = .ok (.iload_n 1, 1) := dk_27 (dk_at dksX0_copy_0 20 rfl rfl)
theorem dX0_copy_21 : decode cX0_copy 21 = .ok (.aaload, 1) := dk_50 (dk_at dksX0_copy_0 21 rfl rfl)
theorem dX0_copy_22 : decode cX0_copy 22 = .ok (.iload_n 2, 1) := dk_28 (dk_at dksX0_copy_0 22 rfl rfl)
theorem dX0_copy_23 : decode cX0_copy 23 = .ok (.aload_n 0, 1) := dk_42 (dk_at dksX0_copy_0 23 rfl rfl)
theorem dX0_copy_24 : decode cX0_copy 24 = .ok (.getfield 19, 3) := dk_180 0 19 (dk_at dksX0_copy_1 0 rfl rfl)
theorem dX0_copy_27 : decode cX0_copy 27 = .ok (.iload_n 3, 1) := dk_29 (dk_at dksX0_copy_1 3 rfl rfl)
theorem dX0_copy_28 : decode cX0_copy 28 = .ok (.aaload, 1) := dk_50 (dk_at dksX0_copy_1 4 rfl rfl)
theorem dX0_copy_29 : decode cX0_copy 29 = .ok (.iload 4, 2) := dk_21 4 (dk_at dksX0_copy_1 5 rfl rfl)
theorem dX0_copy_31 : decode cX0_copy 31 = .ok (.iload 5, 2) := dk_21 5 (dk_at dksX0_copy_1 7 rfl rfl)
theorem dX0_copy_33 : decode cX0_copy 33 = .ok (.invokestatic 94, 3) := dk_184 0 94 (dk_at dksX0_copy_1 9 rfl rfl)
theorem dX0_copy_36 : decode cX0_copy 36 = .ok (.iconst 1, 1) := dk_4 (dk_at dksX0_copy_1 12 rfl rfl)
theorem dX0_copy_37 : decode cX0_copy 37 = .ok (.ireturn, 1) := dk_172 (dk_at dksX0_copy_1 13 rfl rfl)
theorem dX0_copy_38 : decode cX0_copy 38 = .ok (.astore 6, 2) := dk_58 6 (dk_at dksX0_copy_1 14 rfl rfl)
theorem dX0_copy_40 : decode cX0_copy 40 = .ok (.aload_n 0, 1) := dk_42 (dk_at dksX0_copy_1 16 rfl rfl)
theorem dX0_copy_41 : decode cX0_copy 41 = .ok (.iconst 1, 1) := dk_4 (dk_at dksX0_copy_1 17 rfl rfl)
theorem dX0_copy_42 : decode cX0_copy 42 = .ok (.invokevirtual 86, 3) := dk_182 0 86 (dk_at dksX0_copy_1 18 rfl rfl)
theorem dX0_copy_45 : decode cX0_copy 45 = .ok (.ireturn, 1) := dk_172 (dk_at dksX0_copy_1 21 rfl rfl)
theorem dX0_copy_46 : decode cX0_copy 46 = .ok (.astore 6, 2) := dk_58 6 (dk_at dksX0_copy_1 22 rfl rfl)
theorem dX0_copy_48 : decode cX0_copy 48 = .ok (.aload_n 0, 1) := dk_42 (dk_at dksX0_copy_2 0 rfl rfl)
theorem dX0_copy_49 : decode cX0_copy 49 = .ok (.iconst 2, 1) := dk_5 (dk_at dksX0_copy_2 1 rfl rfl)
theorem dX0_copy_50 : decode cX0_copy 50 = .ok (.invokevirtual 86, 3) := dk_182 0 86 (dk_at dksX0_copy_2 2 rfl rfl)
theorem dX0_copy_53 : decode cX0_copy 53 = .ok (.ireturn, 1) := dk_172 (dk_at dksX0_copy_2 5 rfl rfl)
abbrev cX0_fault : ByteArray := prog_1_method_12_code
def yX0_fault : MethodName := ⟨RX0, "fault", "(I)I"⟩
def dkwX0_fault_1 : List UInt8 := [167, 0, 13, 42, 42, 180, 0, 19, 27, 50, 182, 0, 142, 172]
abbrev dktX0_fault_1 : List UInt8 := dkwX0_fault_1 ++ []
def dkwX0_fault_0 : List UInt8 := [27, 184, 0, 80, 154, 0, 5, 2, 172, 42, 180, 0, 19, 27, 50, 199, 0, 11, 42, 4, 182, 0, 86]
abbrev dktX0_fault_0 : List UInt8 := dkwX0_fault_0 ++ dktX0_fault_1
theorem dksX0_fault_0 : cX0_fault.data.toList.drop 0 = dktX0_fault_0 := by decide +kernel
theorem dksX0_fault_1 : cX0_fault.data.toList.drop 23 = dktX0_fault_1 := dk_seg dksX0_fault_0 23 rfl rfl
theorem dX0_fault_0 : decode cX0_fault 0 = .ok (.iload_n 1, 1) := dk_27 (dk_at dksX0_fault_0 0 rfl rfl)
theorem dX0_fault_1 : decode cX0_fault 1 = .ok (.invokestatic 80, 3) := dk_184 0 80 (dk_at dksX0_fault_0 1 rfl rfl)
theorem dX0_fault_4 : decode cX0_fault 4 = .ok (.ifCond .ne 5, 3) := dk_154 0 5 (dk_at dksX0_fault_0 4 rfl rfl)
theorem dX0_fault_7 : decode cX0_fault 7 = .ok (.iconst (-1), 1) := dk_2 (dk_at dksX0_fault_0 7 rfl rfl)
theorem dX0_fault_8 : decode cX0_fault 8 = .ok (.ireturn, 1) := dk_172 (dk_at dksX0_fault_0 8 rfl rfl)
theorem dX0_fault_9 : decode cX0_fault 9 = .ok (.aload_n 0, 1) := dk_42 (dk_at dksX0_fault_0 9 rfl rfl)
theorem dX0_fault_10 : decode cX0_fault 10 = .ok (.getfield 19, 3) := dk_180 0 19 (dk_at dksX0_fault_0 10 rfl rfl)
theorem dX0_fault_13 : decode cX0_fault 13 = .ok (.iload_n 1, 1) := dk_27 (dk_at dksX0_fault_0 13 rfl rfl)
theorem dX0_fault_14 : decode cX0_fault 14 = .ok (.aaload, 1) := dk_50 (dk_at dksX0_fault_0 14 rfl rfl)
theorem dX0_fault_15 : decode cX0_fault 15 = .ok (.ifnonnull 11, 3) := dk_199 0 11 (dk_at dksX0_fault_0 15 rfl rfl)
theorem dX0_fault_18 : decode cX0_fault 18 = .ok (.aload_n 0, 1) := dk_42 (dk_at dksX0_fault_0 18 rfl rfl)
theorem dX0_fault_19 : decode cX0_fault 19 = .ok (.iconst 1, 1) := dk_4 (dk_at dksX0_fault_0 19 rfl rfl)
theorem dX0_fault_20 : decode cX0_fault 20 = .ok (.invokevirtual 86, 3) := dk_182 0 86 (dk_at dksX0_fault_0 20 rfl rfl)
theorem dX0_fault_23 : decode cX0_fault 23 = .ok (.goto 13, 3) := dk_167 0 13 (dk_at dksX0_fault_1 0 rfl rfl)
theorem dX0_fault_26 : decode cX0_fault 26 = .ok (.aload_n 0, 1) := dk_42 (dk_at dksX0_fault_1 3 rfl rfl)
theorem dX0_fault_27 : decode cX0_fault 27 = .ok (.aload_n 0, 1) := dk_42 (dk_at dksX0_fault_1 4 rfl rfl)
theorem dX0_fault_28 : decode cX0_fault 28 = .ok (.getfield 19, 3) := dk_180 0 19 (dk_at dksX0_fault_1 5 rfl rfl)
theorem dX0_fault_31 : decode cX0_fault 31 = .ok (.iload_n 1, 1) := dk_27 (dk_at dksX0_fault_1 8 rfl rfl)
theorem dX0_fault_32 : decode cX0_fault 32 = .ok (.aaload, 1) := dk_50 (dk_at dksX0_fault_1 9 rfl rfl)
theorem dX0_fault_33 : decode cX0_fault 33 = .ok (.invokevirtual 142, 3) := dk_182 0 142 (dk_at dksX0_fault_1 10 rfl rfl)
theorem dX0_fault_36 : decode cX0_fault 36 = .ok (.ireturn, 1) := dk_172 (dk_at dksX0_fault_1 13 rfl rfl)
abbrev cX0_faultOf : ByteArray := prog_1_method_11_code
def yX0_faultOf : MethodName := ⟨RX0, "faultOf", "([B)I"⟩
def dkwX0_faultOf_1 : List UInt8 := [182, 0, 138, 154, 0, 8, 44, 180, 0, 115, 172, 44, 182, 0, 132, 167, 255, 232, 16, 247, 172]
abbrev dktX0_faultOf_1 : List UInt8 := dkwX0_faultOf_1 ++ []
def dkwX0_faultOf_0 : List UInt8 := [187, 0, 103, 89, 43, 183, 0, 129, 77, 44, 182, 0, 132, 44, 182, 0, 135, 154, 0, 23, 42, 44]
abbrev dktX0_faultOf_0 : List UInt8 := dkwX0_faultOf_0 ++ dktX0_faultOf_1
theorem dksX0_faultOf_0 : cX0_faultOf.data.toList.drop 0 = dktX0_faultOf_0 := by decide +kernel
theorem dksX0_faultOf_1 : cX0_faultOf.data.toList.drop 22 = dktX0_faultOf_1 := dk_seg dksX0_faultOf_0 22 rfl rfl
theorem dX0_faultOf_0 : decode cX0_faultOf 0 = .ok (.new 103, 3) := dk_187 0 103 (dk_at dksX0_faultOf_0 0 rfl rfl)
theorem dX0_faultOf_3 : decode cX0_faultOf 3 = .ok (.dup, 1) := dk_89 (dk_at dksX0_faultOf_0 3 rfl rfl)
theorem dX0_faultOf_4 : decode cX0_faultOf 4 = .ok (.aload_n 1, 1) := dk_43 (dk_at dksX0_faultOf_0 4 rfl rfl)
theorem dX0_faultOf_5 : decode cX0_faultOf 5 = .ok (.invokespecial 129, 3) := dk_183 0 129 (dk_at dksX0_faultOf_0 5 rfl rfl)
theorem dX0_faultOf_8 : decode cX0_faultOf 8 = .ok (.astore_n 2, 1) := dk_77 (dk_at dksX0_faultOf_0 8 rfl rfl)
theorem dX0_faultOf_9 : decode cX0_faultOf 9 = .ok (.aload_n 2, 1) := dk_44 (dk_at dksX0_faultOf_0 9 rfl rfl)
theorem dX0_faultOf_10 : decode cX0_faultOf 10 = .ok (.invokevirtual 132, 3) := dk_182 0 132 (dk_at dksX0_faultOf_0 10 rfl rfl)
theorem dX0_faultOf_13 : decode cX0_faultOf 13 = .ok (.aload_n 2, 1) := dk_44 (dk_at dksX0_faultOf_0 13 rfl rfl)
theorem dX0_faultOf_14 : decode cX0_faultOf 14 = .ok (.invokevirtual 135, 3) := dk_182 0 135 (dk_at dksX0_faultOf_0 14 rfl rfl)
theorem dX0_faultOf_17 : decode cX0_faultOf 17 = .ok (.ifCond .ne 23, 3) := dk_154 0 23 (dk_at dksX0_faultOf_0 17 rfl rfl)
theorem dX0_faultOf_20 : decode cX0_faultOf 20 = .ok (.aload_n 0, 1) := dk_42 (dk_at dksX0_faultOf_0 20 rfl rfl)
theorem dX0_faultOf_21 : decode cX0_faultOf 21 = .ok (.aload_n 2, 1) := dk_44 (dk_at dksX0_faultOf_0 21 rfl rfl)
theorem dX0_faultOf_22 : decode cX0_faultOf 22 = .ok (.invokevirtual 138, 3) := dk_182 0 138 (dk_at dksX0_faultOf_1 0 rfl rfl)
theorem dX0_faultOf_25 : decode cX0_faultOf 25 = .ok (.ifCond .ne 8, 3) := dk_154 0 8 (dk_at dksX0_faultOf_1 3 rfl rfl)
theorem dX0_faultOf_28 : decode cX0_faultOf 28 = .ok (.aload_n 2, 1) := dk_44 (dk_at dksX0_faultOf_1 6 rfl rfl)
theorem dX0_faultOf_29 : decode cX0_faultOf 29 = .ok (.getfield 115, 3) := dk_180 0 115 (dk_at dksX0_faultOf_1 7 rfl rfl)
theorem dX0_faultOf_32 : decode cX0_faultOf 32 = .ok (.ireturn, 1) := dk_172 (dk_at dksX0_faultOf_1 10 rfl rfl)
theorem dX0_faultOf_33 : decode cX0_faultOf 33 = .ok (.aload_n 2, 1) := dk_44 (dk_at dksX0_faultOf_1 11 rfl rfl)
theorem dX0_faultOf_34 : decode cX0_faultOf 34 = .ok (.invokevirtual 132, 3) := dk_182 0 132 (dk_at dksX0_faultOf_1 12 rfl rfl)
theorem dX0_faultOf_37 : decode cX0_faultOf 37 = .ok (.goto (-24), 3) := dk_167 255 232 (dk_at dksX0_faultOf_1 15 rfl rfl)
theorem dX0_faultOf_40 : decode cX0_faultOf 40 = .ok (.bipush (-9), 2) := dk_16 247 (dk_at dksX0_faultOf_1 18 rfl rfl)
theorem dX0_faultOf_42 : decode cX0_faultOf 42 = .ok (.ireturn, 1) := dk_172 (dk_at dksX0_faultOf_1 20 rfl rfl)
abbrev cX0_isItem : ByteArray := prog_1_method_10_code
def yX0_isItem : MethodName := ⟨RX0, "isItem", "(LEaterWebs$Reader;)Z"⟩
def dkwX0_isItem_6 : List UInt8 := [4, 96, 181, 0, 115, 43, 5, 16, 99, 182, 0, 121, 172]
abbrev dktX0_isItem_6 : List UInt8 := dkwX0_isItem_6 ++ []
def dkwX0_isItem_5 : List UInt8 := [182, 0, 102, 154, 0, 5, 3, 172, 42, 43, 182, 0, 108, 16, 97, 100, 181, 0, 126, 43, 89, 180, 0, 115]
abbrev dktX0_isItem_5 : List UInt8 := dkwX0_isItem_5 ++ dktX0_isItem_6
def dkwX0_isItem_4 : List UInt8 := [160, 0, 12, 43, 4, 6, 182, 0, 121, 167, 0, 11, 43, 16, 6, 18, 125, 182, 0, 121, 172, 43]
abbrev dktX0_isItem_4 : List UInt8 := dkwX0_isItem_4 ++ dktX0_isItem_5
def dkwX0_isItem_3 : List UInt8 := [89, 180, 0, 115, 4, 96, 181, 0, 115, 42, 180, 0, 118, 16, 62, 159, 0, 30, 42, 180, 0, 118, 16, 33]
abbrev dktX0_isItem_3 : List UInt8 := dkwX0_isItem_3 ++ dktX0_isItem_4
def dkwX0_isItem_2 : List UInt8 := [159, 0, 23, 42, 180, 0, 118, 16, 42, 159, 0, 14, 42, 180, 0, 118, 16, 62, 159, 0, 5, 3, 172, 43]
abbrev dktX0_isItem_2 : List UInt8 := dkwX0_isItem_2 ++ dktX0_isItem_3
def dkwX0_isItem_1 : List UInt8 := [180, 0, 115, 4, 96, 181, 0, 115, 42, 43, 182, 0, 108, 181, 0, 118, 42, 180, 0, 118, 16, 33]
abbrev dktX0_isItem_1 : List UInt8 := dkwX0_isItem_1 ++ dktX0_isItem_2
def dkwX0_isItem_0 : List UInt8 := [43, 182, 0, 102, 154, 0, 5, 3, 172, 42, 43, 182, 0, 108, 16, 97, 100, 181, 0, 112, 43, 89]
abbrev dktX0_isItem_0 : List UInt8 := dkwX0_isItem_0 ++ dktX0_isItem_1
theorem dksX0_isItem_0 : cX0_isItem.data.toList.drop 0 = dktX0_isItem_0 := by decide +kernel
theorem dksX0_isItem_1 : cX0_isItem.data.toList.drop 22 = dktX0_isItem_1 := dk_seg dksX0_isItem_0 22 rfl rfl
theorem dksX0_isItem_2 : cX0_isItem.data.toList.drop 44 = dktX0_isItem_2 := dk_seg dksX0_isItem_1 22 rfl rfl
theorem dksX0_isItem_3 : cX0_isItem.data.toList.drop 68 = dktX0_isItem_3 := dk_seg dksX0_isItem_2 24 rfl rfl
theorem dksX0_isItem_4 : cX0_isItem.data.toList.drop 92 = dktX0_isItem_4 := dk_seg dksX0_isItem_3 24 rfl rfl
theorem dksX0_isItem_5 : cX0_isItem.data.toList.drop 114 = dktX0_isItem_5 := dk_seg dksX0_isItem_4 22 rfl rfl
theorem dksX0_isItem_6 : cX0_isItem.data.toList.drop 138 = dktX0_isItem_6 := dk_seg dksX0_isItem_5 24 rfl rfl
theorem dX0_isItem_0 : decode cX0_isItem 0 = .ok (.aload_n 1, 1) := dk_43 (dk_at dksX0_isItem_0 0 rfl rfl)
theorem dX0_isItem_1 : decode cX0_isItem 1 = .ok (.invokevirtual 102, 3) := dk_182 0 102 (dk_at dksX0_isItem_0 1 rfl rfl)
theorem dX0_isItem_4 : decode cX0_isItem 4 = .ok (.ifCond .ne 5, 3) := dk_154 0 5 (dk_at dksX0_isItem_0 4 rfl rfl)
theorem dX0_isItem_7 : decode cX0_isItem 7 = .ok (.iconst 0, 1) := dk_3 (dk_at dksX0_isItem_0 7 rfl rfl)
theorem dX0_isItem_8 : decode cX0_isItem 8 = .ok (.ireturn, 1) := dk_172 (dk_at dksX0_isItem_0 8 rfl rfl)
theorem dX0_isItem_9 : decode cX0_isItem 9 = .ok (.aload_n 0, 1) := dk_42 (dk_at dksX0_isItem_0 9 rfl rfl)
theorem dX0_isItem_10 : decode cX0_isItem 10 = .ok (.aload_n 1, 1) := dk_43 (dk_at dksX0_isItem_0 10 rfl rfl)
theorem dX0_isItem_11 : decode cX0_isItem 11 = .ok (.invokevirtual 108, 3) := dk_182 0 108 (dk_at dksX0_isItem_0 11 rfl rfl)
theorem dX0_isItem_14 : decode cX0_isItem 14 = .ok (.bipush 97, 2) := dk_16 97 (dk_at dksX0_isItem_0 14 rfl rfl)
theorem dX0_isItem_16 : decode cX0_isItem 16 = .ok (.isub, 1) := dk_100 (dk_at dksX0_isItem_0 16 rfl rfl)
theorem dX0_isItem_17 : decode cX0_isItem 17 = .ok (.putfield 112, 3) := dk_181 0 112 (dk_at dksX0_isItem_0 17 rfl rfl)
theorem dX0_isItem_20 : decode cX0_isItem 20 = .ok (.aload_n 1, 1) := dk_43 (dk_at dksX0_isItem_0 20 rfl rfl)
theorem dX0_isItem_21 : decode cX0_isItem 21 = .ok (.dup, 1) := dk_89 (dk_at dksX0_isItem_0 21 rfl rfl)
theorem dX0_isItem_22 : decode cX0_isItem 22 = .ok (.getfield 115, 3) := dk_180 0 115 (dk_at dksX0_isItem_1 0 rfl rfl)
theorem dX0_isItem_25 : decode cX0_isItem 25 = .ok (.iconst 1, 1) := dk_4 (dk_at dksX0_isItem_1 3 rfl rfl)
theorem dX0_isItem_26 : decode cX0_isItem 26 = .ok (.iadd, 1) := dk_96 (dk_at dksX0_isItem_1 4 rfl rfl)
theorem dX0_isItem_27 : decode cX0_isItem 27 = .ok (.putfield 115, 3) := dk_181 0 115 (dk_at dksX0_isItem_1 5 rfl rfl)
theorem dX0_isItem_30 : decode cX0_isItem 30 = .ok (.aload_n 0, 1) := dk_42 (dk_at dksX0_isItem_1 8 rfl rfl)
theorem dX0_isItem_31 : decode cX0_isItem 31 = .ok (.aload_n 1, 1) := dk_43 (dk_at dksX0_isItem_1 9 rfl rfl)
theorem dX0_isItem_32 : decode cX0_isItem 32 = .ok (.invokevirtual 108, 3) := dk_182 0 108 (dk_at dksX0_isItem_1 10 rfl rfl)
theorem dX0_isItem_35 : decode cX0_isItem 35 = .ok (.putfield 118, 3) := dk_181 0 118 (dk_at dksX0_isItem_1 13 rfl rfl)
theorem dX0_isItem_38 : decode cX0_isItem 38 = .ok (.aload_n 0, 1) := dk_42 (dk_at dksX0_isItem_1 16 rfl rfl)
theorem dX0_isItem_39 : decode cX0_isItem 39 = .ok (.getfield 118, 3) := dk_180 0 118 (dk_at dksX0_isItem_1 17 rfl rfl)
theorem dX0_isItem_42 : decode cX0_isItem 42 = .ok (.bipush 33, 2) := dk_16 33 (dk_at dksX0_isItem_1 20 rfl rfl)
theorem dX0_isItem_44 : decode cX0_isItem 44 = .ok (.if_icmp .eq 23, 3) := dk_159 0 23 (dk_at dksX0_isItem_2 0 rfl rfl)
theorem dX0_isItem_47 : decode cX0_isItem 47 = .ok (.aload_n 0, 1) := dk_42 (dk_at dksX0_isItem_2 3 rfl rfl)
theorem dX0_isItem_48 : decode cX0_isItem 48 = .ok (.getfield 118, 3) := dk_180 0 118 (dk_at dksX0_isItem_2 4 rfl rfl)
theorem dX0_isItem_51 : decode cX0_isItem 51 = .ok (.bipush 42, 2) := dk_16 42 (dk_at dksX0_isItem_2 7 rfl rfl)
theorem dX0_isItem_53 : decode cX0_isItem 53 = .ok (.if_icmp .eq 14, 3) := dk_159 0 14 (dk_at dksX0_isItem_2 9 rfl rfl)
theorem dX0_isItem_56 : decode cX0_isItem 56 = .ok (.aload_n 0, 1) := dk_42 (dk_at dksX0_isItem_2 12 rfl rfl)
theorem dX0_isItem_57 : decode cX0_isItem 57 = .ok (.getfield 118, 3) := dk_180 0 118 (dk_at dksX0_isItem_2 13 rfl rfl)
theorem dX0_isItem_60 : decode cX0_isItem 60 = .ok (.bipush 62, 2) := dk_16 62 (dk_at dksX0_isItem_2 16 rfl rfl)
theorem dX0_isItem_62 : decode cX0_isItem 62 = .ok (.if_icmp .eq 5, 3) := dk_159 0 5 (dk_at dksX0_isItem_2 18 rfl rfl)
theorem dX0_isItem_65 : decode cX0_isItem 65 = .ok (.iconst 0, 1) := dk_3 (dk_at dksX0_isItem_2 21 rfl rfl)
theorem dX0_isItem_66 : decode cX0_isItem 66 = .ok (.ireturn, 1) := dk_172 (dk_at dksX0_isItem_2 22 rfl rfl)
theorem dX0_isItem_67 : decode cX0_isItem 67 = .ok (.aload_n 1, 1) := dk_43 (dk_at dksX0_isItem_2 23 rfl rfl)
theorem dX0_isItem_68 : decode cX0_isItem 68 = .ok (.dup, 1) := dk_89 (dk_at dksX0_isItem_3 0 rfl rfl)
theorem dX0_isItem_69 : decode cX0_isItem 69 = .ok (.getfield 115, 3) := dk_180 0 115 (dk_at dksX0_isItem_3 1 rfl rfl)
theorem dX0_isItem_72 : decode cX0_isItem 72 = .ok (.iconst 1, 1) := dk_4 (dk_at dksX0_isItem_3 4 rfl rfl)
theorem dX0_isItem_73 : decode cX0_isItem 73 = .ok (.iadd, 1) := dk_96 (dk_at dksX0_isItem_3 5 rfl rfl)
theorem dX0_isItem_74 : decode cX0_isItem 74 = .ok (.putfield 115, 3) := dk_181 0 115 (dk_at dksX0_isItem_3 6 rfl rfl)
theorem dX0_isItem_77 : decode cX0_isItem 77 = .ok (.aload_n 0, 1) := dk_42 (dk_at dksX0_isItem_3 9 rfl rfl)
theorem dX0_isItem_78 : decode cX0_isItem 78 = .ok (.getfield 118, 3) := dk_180 0 118 (dk_at dksX0_isItem_3 10 rfl rfl)
theorem dX0_isItem_81 : decode cX0_isItem 81 = .ok (.bipush 62, 2) := dk_16 62 (dk_at dksX0_isItem_3 13 rfl rfl)
theorem dX0_isItem_83 : decode cX0_isItem 83 = .ok (.if_icmp .eq 30, 3) := dk_159 0 30 (dk_at dksX0_isItem_3 15 rfl rfl)
theorem dX0_isItem_86 : decode cX0_isItem 86 = .ok (.aload_n 0, 1) := dk_42 (dk_at dksX0_isItem_3 18 rfl rfl)
theorem dX0_isItem_87 : decode cX0_isItem 87 = .ok (.getfield 118, 3) := dk_180 0 118 (dk_at dksX0_isItem_3 19 rfl rfl)
theorem dX0_isItem_90 : decode cX0_isItem 90 = .ok (.bipush 33, 2) := dk_16 33 (dk_at dksX0_isItem_3 22 rfl rfl)
theorem dX0_isItem_92 : decode cX0_isItem 92 = .ok (.if_icmp .ne 12, 3) := dk_160 0 12 (dk_at dksX0_isItem_4 0 rfl rfl)
theorem dX0_isItem_95 : decode cX0_isItem 95 = .ok (.aload_n 1, 1) := dk_43 (dk_at dksX0_isItem_4 3 rfl rfl)
theorem dX0_isItem_96 : decode cX0_isItem 96 = .ok (.iconst 1, 1) := dk_4 (dk_at dksX0_isItem_4 4 rfl rfl)
theorem dX0_isItem_97 : decode cX0_isItem 97 = .ok (.iconst 3, 1) := dk_6 (dk_at dksX0_isItem_4 5 rfl rfl)
theorem dX0_isItem_98 : decode cX0_isItem 98 = .ok (.invokevirtual 121, 3) := dk_182 0 121 (dk_at dksX0_isItem_4 6 rfl rfl)
theorem dX0_isItem_101 : decode cX0_isItem 101 = .ok (.goto 11, 3) := dk_167 0 11 (dk_at dksX0_isItem_4 9 rfl rfl)
theorem dX0_isItem_104 : decode cX0_isItem 104 = .ok (.aload_n 1, 1) := dk_43 (dk_at dksX0_isItem_4 12 rfl rfl)
theorem dX0_isItem_105 : decode cX0_isItem 105 = .ok (.bipush 6, 2) := dk_16 6 (dk_at dksX0_isItem_4 13 rfl rfl)
theorem dX0_isItem_107 : decode cX0_isItem 107 = .ok (.ldc 125, 2) := dk_18 125 (dk_at dksX0_isItem_4 15 rfl rfl)
theorem dX0_isItem_109 : decode cX0_isItem 109 = .ok (.invokevirtual 121, 3) := dk_182 0 121 (dk_at dksX0_isItem_4 17 rfl rfl)
theorem dX0_isItem_112 : decode cX0_isItem 112 = .ok (.ireturn, 1) := dk_172 (dk_at dksX0_isItem_4 20 rfl rfl)
theorem dX0_isItem_113 : decode cX0_isItem 113 = .ok (.aload_n 1, 1) := dk_43 (dk_at dksX0_isItem_4 21 rfl rfl)
theorem dX0_isItem_114 : decode cX0_isItem 114 = .ok (.invokevirtual 102, 3) := dk_182 0 102 (dk_at dksX0_isItem_5 0 rfl rfl)
theorem dX0_isItem_117 : decode cX0_isItem 117 = .ok (.ifCond .ne 5, 3) := dk_154 0 5 (dk_at dksX0_isItem_5 3 rfl rfl)
theorem dX0_isItem_120 : decode cX0_isItem 120 = .ok (.iconst 0, 1) := dk_3 (dk_at dksX0_isItem_5 6 rfl rfl)
theorem dX0_isItem_121 : decode cX0_isItem 121 = .ok (.ireturn, 1) := dk_172 (dk_at dksX0_isItem_5 7 rfl rfl)
theorem dX0_isItem_122 : decode cX0_isItem 122 = .ok (.aload_n 0, 1) := dk_42 (dk_at dksX0_isItem_5 8 rfl rfl)
theorem dX0_isItem_123 : decode cX0_isItem 123 = .ok (.aload_n 1, 1) := dk_43 (dk_at dksX0_isItem_5 9 rfl rfl)
theorem dX0_isItem_124 : decode cX0_isItem 124 = .ok (.invokevirtual 108, 3) := dk_182 0 108 (dk_at dksX0_isItem_5 10 rfl rfl)
theorem dX0_isItem_127 : decode cX0_isItem 127 = .ok (.bipush 97, 2) := dk_16 97 (dk_at dksX0_isItem_5 13 rfl rfl)
theorem dX0_isItem_129 : decode cX0_isItem 129 = .ok (.isub, 1) := dk_100 (dk_at dksX0_isItem_5 15 rfl rfl)
theorem dX0_isItem_130 : decode cX0_isItem 130 = .ok (.putfield 126, 3) := dk_181 0 126 (dk_at dksX0_isItem_5 16 rfl rfl)
theorem dX0_isItem_133 : decode cX0_isItem 133 = .ok (.aload_n 1, 1) := dk_43 (dk_at dksX0_isItem_5 19 rfl rfl)
theorem dX0_isItem_134 : decode cX0_isItem 134 = .ok (.dup, 1) := dk_89 (dk_at dksX0_isItem_5 20 rfl rfl)
theorem dX0_isItem_135 : decode cX0_isItem 135 = .ok (.getfield 115, 3) := dk_180 0 115 (dk_at dksX0_isItem_5 21 rfl rfl)
theorem dX0_isItem_138 : decode cX0_isItem 138 = .ok (.iconst 1, 1) := dk_4 (dk_at dksX0_isItem_6 0 rfl rfl)
theorem dX0_isItem_139 : decode cX0_isItem 139 = .ok (.iadd, 1) := dk_96 (dk_at dksX0_isItem_6 1 rfl rfl)
theorem dX0_isItem_140 : decode cX0_isItem 140 = .ok (.putfield 115, 3) := dk_181 0 115 (dk_at dksX0_isItem_6 2 rfl rfl)
theorem dX0_isItem_143 : decode cX0_isItem 143 = .ok (.aload_n 1, 1) := dk_43 (dk_at dksX0_isItem_6 5 rfl rfl)
theorem dX0_isItem_144 : decode cX0_isItem 144 = .ok (.iconst 2, 1) := dk_5 (dk_at dksX0_isItem_6 6 rfl rfl)
theorem dX0_isItem_145 : decode cX0_isItem 145 = .ok (.bipush 99, 2) := dk_16 99 (dk_at dksX0_isItem_6 7 rfl rfl)
theorem dX0_isItem_147 : decode cX0_isItem 147 = .ok (.invokevirtual 121, 3) := dk_182 0 121 (dk_at dksX0_isItem_6 9 rfl rfl)
theorem dX0_isItem_150 : decode cX0_isItem 150 = .ok (.ireturn, 1) := dk_172 (dk_at dksX0_isItem_6 12 rfl rfl)
abbrev cX0_read : ByteArray := prog_1_method_14_code
def yX0_read : MethodName := ⟨RX0, "read", "(I)I"⟩
def dkwX0_read_4 : List UInt8 := [62, 44, 182, 0, 132, 167, 255, 218, 29, 172]
abbrev dktX0_read_4 : List UInt8 := dkwX0_read_4 ++ []
def dkwX0_read_3 : List UInt8 := [44, 182, 0, 138, 153, 0, 18, 42, 44, 180, 0, 160, 182, 0, 163, 153, 0, 7, 4, 167, 0, 4, 3, 96]
abbrev dktX0_read_3 : List UInt8 := dkwX0_read_3 ++ dktX0_read_4
def dkwX0_read_2 : List UInt8 := [180, 0, 19, 27, 50, 183, 0, 129, 77, 3, 62, 44, 182, 0, 132, 44, 182, 0, 135, 154, 0, 37, 29, 42]
abbrev dktX0_read_2 : List UInt8 := dkwX0_read_2 ++ dktX0_read_3
def dkwX0_read_1 : List UInt8 := [42, 42, 180, 0, 19, 27, 50, 182, 0, 142, 16, 247, 159, 0, 6, 16, 252, 172, 187, 0, 103, 89, 42]
abbrev dktX0_read_1 : List UInt8 := dkwX0_read_1 ++ dktX0_read_2
def dkwX0_read_0 : List UInt8 := [27, 184, 0, 80, 154, 0, 5, 2, 172, 42, 180, 0, 19, 27, 50, 199, 0, 9, 42, 4, 182, 0, 86, 172]
abbrev dktX0_read_0 : List UInt8 := dkwX0_read_0 ++ dktX0_read_1
theorem dksX0_read_0 : cX0_read.data.toList.drop 0 = dktX0_read_0 := by decide +kernel
theorem dksX0_read_1 : cX0_read.data.toList.drop 24 = dktX0_read_1 := dk_seg dksX0_read_0 24 rfl rfl
theorem dksX0_read_2 : cX0_read.data.toList.drop 47 = dktX0_read_2 := dk_seg dksX0_read_1 23 rfl rfl
theorem dksX0_read_3 : cX0_read.data.toList.drop 71 = dktX0_read_3 := dk_seg dksX0_read_2 24 rfl rfl
theorem dksX0_read_4 : cX0_read.data.toList.drop 95 = dktX0_read_4 := dk_seg dksX0_read_3 24 rfl rfl
theorem dX0_read_0 : decode cX0_read 0 = .ok (.iload_n 1, 1) := dk_27 (dk_at dksX0_read_0 0 rfl rfl)
theorem dX0_read_1 : decode cX0_read 1 = .ok (.invokestatic 80, 3) := dk_184 0 80 (dk_at dksX0_read_0 1 rfl rfl)
theorem dX0_read_4 : decode cX0_read 4 = .ok (.ifCond .ne 5, 3) := dk_154 0 5 (dk_at dksX0_read_0 4 rfl rfl)
theorem dX0_read_7 : decode cX0_read 7 = .ok (.iconst (-1), 1) := dk_2 (dk_at dksX0_read_0 7 rfl rfl)
theorem dX0_read_8 : decode cX0_read 8 = .ok (.ireturn, 1) := dk_172 (dk_at dksX0_read_0 8 rfl rfl)
theorem dX0_read_9 : decode cX0_read 9 = .ok (.aload_n 0, 1) := dk_42 (dk_at dksX0_read_0 9 rfl rfl)
theorem dX0_read_10 : decode cX0_read 10 = .ok (.getfield 19, 3) := dk_180 0 19 (dk_at dksX0_read_0 10 rfl rfl)
theorem dX0_read_13 : decode cX0_read 13 = .ok (.iload_n 1, 1) := dk_27 (dk_at dksX0_read_0 13 rfl rfl)
theorem dX0_read_14 : decode cX0_read 14 = .ok (.aaload, 1) := dk_50 (dk_at dksX0_read_0 14 rfl rfl)
theorem dX0_read_15 : decode cX0_read 15 = .ok (.ifnonnull 9, 3) := dk_199 0 9 (dk_at dksX0_read_0 15 rfl rfl)
theorem dX0_read_18 : decode cX0_read 18 = .ok (.aload_n 0, 1) := dk_42 (dk_at dksX0_read_0 18 rfl rfl)
theorem dX0_read_19 : decode cX0_read 19 = .ok (.iconst 1, 1) := dk_4 (dk_at dksX0_read_0 19 rfl rfl)
theorem dX0_read_20 : decode cX0_read 20 = .ok (.invokevirtual 86, 3) := dk_182 0 86 (dk_at dksX0_read_0 20 rfl rfl)
theorem dX0_read_23 : decode cX0_read 23 = .ok (.ireturn, 1) := dk_172 (dk_at dksX0_read_0 23 rfl rfl)
theorem dX0_read_24 : decode cX0_read 24 = .ok (.aload_n 0, 1) := dk_42 (dk_at dksX0_read_1 0 rfl rfl)
theorem dX0_read_25 : decode cX0_read 25 = .ok (.aload_n 0, 1) := dk_42 (dk_at dksX0_read_1 1 rfl rfl)
theorem dX0_read_26 : decode cX0_read 26 = .ok (.getfield 19, 3) := dk_180 0 19 (dk_at dksX0_read_1 2 rfl rfl)
theorem dX0_read_29 : decode cX0_read 29 = .ok (.iload_n 1, 1) := dk_27 (dk_at dksX0_read_1 5 rfl rfl)
theorem dX0_read_30 : decode cX0_read 30 = .ok (.aaload, 1) := dk_50 (dk_at dksX0_read_1 6 rfl rfl)
theorem dX0_read_31 : decode cX0_read 31 = .ok (.invokevirtual 142, 3) := dk_182 0 142 (dk_at dksX0_read_1 7 rfl rfl)
theorem dX0_read_34 : decode cX0_read 34 = .ok (.bipush (-9), 2) := dk_16 247 (dk_at dksX0_read_1 10 rfl rfl)
theorem dX0_read_36 : decode cX0_read 36 = .ok (.if_icmp .eq 6, 3) := dk_159 0 6 (dk_at dksX0_read_1 12 rfl rfl)
theorem dX0_read_39 : decode cX0_read 39 = .ok (.bipush (-4), 2) := dk_16 252 (dk_at dksX0_read_1 15 rfl rfl)
theorem dX0_read_41 : decode cX0_read 41 = .ok (.ireturn, 1) := dk_172 (dk_at dksX0_read_1 17 rfl rfl)
theorem dX0_read_42 : decode cX0_read 42 = .ok (.new 103, 3) := dk_187 0 103 (dk_at dksX0_read_1 18 rfl rfl)
theorem dX0_read_45 : decode cX0_read 45 = .ok (.dup, 1) := dk_89 (dk_at dksX0_read_1 21 rfl rfl)
theorem dX0_read_46 : decode cX0_read 46 = .ok (.aload_n 0, 1) := dk_42 (dk_at dksX0_read_1 22 rfl rfl)
theorem dX0_read_47 : decode cX0_read 47 = .ok (.getfield 19, 3) := dk_180 0 19 (dk_at dksX0_read_2 0 rfl rfl)
theorem dX0_read_50 : decode cX0_read 50 = .ok (.iload_n 1, 1) := dk_27 (dk_at dksX0_read_2 3 rfl rfl)
theorem dX0_read_51 : decode cX0_read 51 = .ok (.aaload, 1) := dk_50 (dk_at dksX0_read_2 4 rfl rfl)
theorem dX0_read_52 : decode cX0_read 52 = .ok (.invokespecial 129, 3) := dk_183 0 129 (dk_at dksX0_read_2 5 rfl rfl)
theorem dX0_read_55 : decode cX0_read 55 = .ok (.astore_n 2, 1) := dk_77 (dk_at dksX0_read_2 8 rfl rfl)
theorem dX0_read_56 : decode cX0_read 56 = .ok (.iconst 0, 1) := dk_3 (dk_at dksX0_read_2 9 rfl rfl)
theorem dX0_read_57 : decode cX0_read 57 = .ok (.istore_n 3, 1) := dk_62 (dk_at dksX0_read_2 10 rfl rfl)
theorem dX0_read_58 : decode cX0_read 58 = .ok (.aload_n 2, 1) := dk_44 (dk_at dksX0_read_2 11 rfl rfl)
theorem dX0_read_59 : decode cX0_read 59 = .ok (.invokevirtual 132, 3) := dk_182 0 132 (dk_at dksX0_read_2 12 rfl rfl)
theorem dX0_read_62 : decode cX0_read 62 = .ok (.aload_n 2, 1) := dk_44 (dk_at dksX0_read_2 15 rfl rfl)
theorem dX0_read_63 : decode cX0_read 63 = .ok (.invokevirtual 135, 3) := dk_182 0 135 (dk_at dksX0_read_2 16 rfl rfl)
theorem dX0_read_66 : decode cX0_read 66 = .ok (.ifCond .ne 37, 3) := dk_154 0 37 (dk_at dksX0_read_2 19 rfl rfl)
theorem dX0_read_69 : decode cX0_read 69 = .ok (.iload_n 3, 1) := dk_29 (dk_at dksX0_read_2 22 rfl rfl)
theorem dX0_read_70 : decode cX0_read 70 = .ok (.aload_n 0, 1) := dk_42 (dk_at dksX0_read_2 23 rfl rfl)
theorem dX0_read_71 : decode cX0_read 71 = .ok (.aload_n 2, 1) := dk_44 (dk_at dksX0_read_3 0 rfl rfl)
theorem dX0_read_72 : decode cX0_read 72 = .ok (.invokevirtual 138, 3) := dk_182 0 138 (dk_at dksX0_read_3 1 rfl rfl)
theorem dX0_read_75 : decode cX0_read 75 = .ok (.ifCond .eq 18, 3) := dk_153 0 18 (dk_at dksX0_read_3 4 rfl rfl)
theorem dX0_read_78 : decode cX0_read 78 = .ok (.aload_n 0, 1) := dk_42 (dk_at dksX0_read_3 7 rfl rfl)
theorem dX0_read_79 : decode cX0_read 79 = .ok (.aload_n 2, 1) := dk_44 (dk_at dksX0_read_3 8 rfl rfl)
theorem dX0_read_80 : decode cX0_read 80 = .ok (.getfield 160, 3) := dk_180 0 160 (dk_at dksX0_read_3 9 rfl rfl)
theorem dX0_read_83 : decode cX0_read 83 = .ok (.invokevirtual 163, 3) := dk_182 0 163 (dk_at dksX0_read_3 12 rfl rfl)
theorem dX0_read_86 : decode cX0_read 86 = .ok (.ifCond .eq 7, 3) := dk_153 0 7 (dk_at dksX0_read_3 15 rfl rfl)
theorem dX0_read_89 : decode cX0_read 89 = .ok (.iconst 1, 1) := dk_4 (dk_at dksX0_read_3 18 rfl rfl)
theorem dX0_read_90 : decode cX0_read 90 = .ok (.goto 4, 3) := dk_167 0 4 (dk_at dksX0_read_3 19 rfl rfl)
theorem dX0_read_93 : decode cX0_read 93 = .ok (.iconst 0, 1) := dk_3 (dk_at dksX0_read_3 22 rfl rfl)
theorem dX0_read_94 : decode cX0_read 94 = .ok (.iadd, 1) := dk_96 (dk_at dksX0_read_3 23 rfl rfl)
theorem dX0_read_95 : decode cX0_read 95 = .ok (.istore_n 3, 1) := dk_62 (dk_at dksX0_read_4 0 rfl rfl)
theorem dX0_read_96 : decode cX0_read 96 = .ok (.aload_n 2, 1) := dk_44 (dk_at dksX0_read_4 1 rfl rfl)
theorem dX0_read_97 : decode cX0_read 97 = .ok (.invokevirtual 132, 3) := dk_182 0 132 (dk_at dksX0_read_4 2 rfl rfl)
theorem dX0_read_100 : decode cX0_read 100 = .ok (.goto (-38), 3) := dk_167 255 218 (dk_at dksX0_read_4 5 rfl rfl)
theorem dX0_read_103 : decode cX0_read 103 = .ok (.iload_n 3, 1) := dk_29 (dk_at dksX0_read_4 8 rfl rfl)
theorem dX0_read_104 : decode cX0_read 104 = .ok (.ireturn, 1) := dk_172 (dk_at dksX0_read_4 9 rfl rfl)
abbrev cX0_does : ByteArray := prog_1_method_13_code
def yX0_does : MethodName := ⟨RX0, "does", "(I)Z"⟩
def dkwX0_does_4 : List UInt8 := [3, 54, 4, 21, 4, 153, 0, 16, 42, 42, 180, 0, 112, 42, 180, 0, 126, 27, 182, 0, 156, 21, 4, 172]
abbrev dktX0_does_4 : List UInt8 := dkwX0_does_4 ++ []
def dkwX0_does_3 : List UInt8 := [45, 198, 0, 23, 44, 5, 182, 0, 153, 153, 0, 15, 45, 6, 182, 0, 153, 154, 0, 7, 4, 167, 0, 4]
abbrev dktX0_does_3 : List UInt8 := dkwX0_does_3 ++ dktX0_does_4
def dkwX0_does_2 : List UInt8 := [44, 198, 0, 7, 4, 167, 0, 4, 3, 172, 42, 180, 0, 25, 42, 180, 0, 126, 50, 78, 44, 198, 0, 27]
abbrev dktX0_does_2 : List UInt8 := dkwX0_does_2 ++ dktX0_does_3
def dkwX0_does_1 : List UInt8 := [27, 182, 0, 146, 4, 172, 42, 180, 0, 118, 16, 42, 160, 0, 22, 44, 198, 0, 8, 44, 27, 181, 0, 150]
abbrev dktX0_does_1 : List UInt8 := dkwX0_does_1 ++ dktX0_does_2
def dkwX0_does_0 : List UInt8 := [42, 180, 0, 25, 42, 180, 0, 112, 50, 77, 42, 180, 0, 118, 16, 33, 160, 0, 14, 42, 42, 180, 0, 112]
abbrev dktX0_does_0 : List UInt8 := dkwX0_does_0 ++ dktX0_does_1
theorem dksX0_does_0 : cX0_does.data.toList.drop 0 = dktX0_does_0 := by decide +kernel
theorem dksX0_does_1 : cX0_does.data.toList.drop 24 = dktX0_does_1 := dk_seg dksX0_does_0 24 rfl rfl
theorem dksX0_does_2 : cX0_does.data.toList.drop 48 = dktX0_does_2 := dk_seg dksX0_does_1 24 rfl rfl
theorem dksX0_does_3 : cX0_does.data.toList.drop 72 = dktX0_does_3 := dk_seg dksX0_does_2 24 rfl rfl
theorem dksX0_does_4 : cX0_does.data.toList.drop 96 = dktX0_does_4 := dk_seg dksX0_does_3 24 rfl rfl
theorem dX0_does_0 : decode cX0_does 0 = .ok (.aload_n 0, 1) := dk_42 (dk_at dksX0_does_0 0 rfl rfl)
theorem dX0_does_1 : decode cX0_does 1 = .ok (.getfield 25, 3) := dk_180 0 25 (dk_at dksX0_does_0 1 rfl rfl)
theorem dX0_does_4 : decode cX0_does 4 = .ok (.aload_n 0, 1) := dk_42 (dk_at dksX0_does_0 4 rfl rfl)
theorem dX0_does_5 : decode cX0_does 5 = .ok (.getfield 112, 3) := dk_180 0 112 (dk_at dksX0_does_0 5 rfl rfl)
theorem dX0_does_8 : decode cX0_does 8 = .ok (.aaload, 1) := dk_50 (dk_at dksX0_does_0 8 rfl rfl)
theorem dX0_does_9 : decode cX0_does 9 = .ok (.astore_n 2, 1) := dk_77 (dk_at dksX0_does_0 9 rfl rfl)
theorem dX0_does_10 : decode cX0_does 10 = .ok (.aload_n 0, 1) := dk_42 (dk_at dksX0_does_0 10 rfl rfl)
theorem dX0_does_11 : decode cX0_does 11 = .ok (.getfield 118, 3) := dk_180 0 118 (dk_at dksX0_does_0 11 rfl rfl)
theorem dX0_does_14 : decode cX0_does 14 = .ok (.bipush 33, 2) := dk_16 33 (dk_at dksX0_does_0 14 rfl rfl)
theorem dX0_does_16 : decode cX0_does 16 = .ok (.if_icmp .ne 14, 3) := dk_160 0 14 (dk_at dksX0_does_0 16 rfl rfl)
theorem dX0_does_19 : decode cX0_does 19 = .ok (.aload_n 0, 1) := dk_42 (dk_at dksX0_does_0 19 rfl rfl)
theorem dX0_does_20 : decode cX0_does 20 = .ok (.aload_n 0, 1) := dk_42 (dk_at dksX0_does_0 20 rfl rfl)
theorem dX0_does_21 : decode cX0_does 21 = .ok (.getfield 112, 3) := dk_180 0 112 (dk_at dksX0_does_0 21 rfl rfl)
theorem dX0_does_24 : decode cX0_does 24 = .ok (.iload_n 1, 1) := dk_27 (dk_at dksX0_does_1 0 rfl rfl)
theorem dX0_does_25 : decode cX0_does 25 = .ok (.invokevirtual 146, 3) := dk_182 0 146 (dk_at dksX0_does_1 1 rfl rfl)
theorem dX0_does_28 : decode cX0_does 28 = .ok (.iconst 1, 1) := dk_4 (dk_at dksX0_does_1 4 rfl rfl)
theorem dX0_does_29 : decode cX0_does 29 = .ok (.ireturn, 1) := dk_172 (dk_at dksX0_does_1 5 rfl rfl)
theorem dX0_does_30 : decode cX0_does 30 = .ok (.aload_n 0, 1) := dk_42 (dk_at dksX0_does_1 6 rfl rfl)
theorem dX0_does_31 : decode cX0_does 31 = .ok (.getfield 118, 3) := dk_180 0 118 (dk_at dksX0_does_1 7 rfl rfl)
theorem dX0_does_34 : decode cX0_does 34 = .ok (.bipush 42, 2) := dk_16 42 (dk_at dksX0_does_1 10 rfl rfl)
theorem dX0_does_36 : decode cX0_does 36 = .ok (.if_icmp .ne 22, 3) := dk_160 0 22 (dk_at dksX0_does_1 12 rfl rfl)
theorem dX0_does_39 : decode cX0_does 39 = .ok (.aload_n 2, 1) := dk_44 (dk_at dksX0_does_1 15 rfl rfl)
theorem dX0_does_40 : decode cX0_does 40 = .ok (.ifnull 8, 3) := dk_198 0 8 (dk_at dksX0_does_1 16 rfl rfl)
theorem dX0_does_43 : decode cX0_does 43 = .ok (.aload_n 2, 1) := dk_44 (dk_at dksX0_does_1 19 rfl rfl)
theorem dX0_does_44 : decode cX0_does 44 = .ok (.iload_n 1, 1) := dk_27 (dk_at dksX0_does_1 20 rfl rfl)
theorem dX0_does_45 : decode cX0_does 45 = .ok (.putfield 150, 3) := dk_181 0 150 (dk_at dksX0_does_1 21 rfl rfl)
theorem dX0_does_48 : decode cX0_does 48 = .ok (.aload_n 2, 1) := dk_44 (dk_at dksX0_does_2 0 rfl rfl)
theorem dX0_does_49 : decode cX0_does 49 = .ok (.ifnull 7, 3) := dk_198 0 7 (dk_at dksX0_does_2 1 rfl rfl)
theorem dX0_does_52 : decode cX0_does 52 = .ok (.iconst 1, 1) := dk_4 (dk_at dksX0_does_2 4 rfl rfl)
theorem dX0_does_53 : decode cX0_does 53 = .ok (.goto 4, 3) := dk_167 0 4 (dk_at dksX0_does_2 5 rfl rfl)
theorem dX0_does_56 : decode cX0_does 56 = .ok (.iconst 0, 1) := dk_3 (dk_at dksX0_does_2 8 rfl rfl)
theorem dX0_does_57 : decode cX0_does 57 = .ok (.ireturn, 1) := dk_172 (dk_at dksX0_does_2 9 rfl rfl)
theorem dX0_does_58 : decode cX0_does 58 = .ok (.aload_n 0, 1) := dk_42 (dk_at dksX0_does_2 10 rfl rfl)
theorem dX0_does_59 : decode cX0_does 59 = .ok (.getfield 25, 3) := dk_180 0 25 (dk_at dksX0_does_2 11 rfl rfl)
theorem dX0_does_62 : decode cX0_does 62 = .ok (.aload_n 0, 1) := dk_42 (dk_at dksX0_does_2 14 rfl rfl)
theorem dX0_does_63 : decode cX0_does 63 = .ok (.getfield 126, 3) := dk_180 0 126 (dk_at dksX0_does_2 15 rfl rfl)
theorem dX0_does_66 : decode cX0_does 66 = .ok (.aaload, 1) := dk_50 (dk_at dksX0_does_2 18 rfl rfl)
theorem dX0_does_67 : decode cX0_does 67 = .ok (.astore_n 3, 1) := dk_78 (dk_at dksX0_does_2 19 rfl rfl)
theorem dX0_does_68 : decode cX0_does 68 = .ok (.aload_n 2, 1) := dk_44 (dk_at dksX0_does_2 20 rfl rfl)
theorem dX0_does_69 : decode cX0_does 69 = .ok (.ifnull 27, 3) := dk_198 0 27 (dk_at dksX0_does_2 21 rfl rfl)
theorem dX0_does_72 : decode cX0_does 72 = .ok (.aload_n 3, 1) := dk_45 (dk_at dksX0_does_3 0 rfl rfl)
theorem dX0_does_73 : decode cX0_does 73 = .ok (.ifnull 23, 3) := dk_198 0 23 (dk_at dksX0_does_3 1 rfl rfl)
theorem dX0_does_76 : decode cX0_does 76 = .ok (.aload_n 2, 1) := dk_44 (dk_at dksX0_does_3 4 rfl rfl)
theorem dX0_does_77 : decode cX0_does 77 = .ok (.iconst 2, 1) := dk_5 (dk_at dksX0_does_3 5 rfl rfl)
theorem dX0_does_78 : decode cX0_does 78 = .ok (.invokevirtual 153, 3) := dk_182 0 153 (dk_at dksX0_does_3 6 rfl rfl)
theorem dX0_does_81 : decode cX0_does 81 = .ok (.ifCond .eq 15, 3) := dk_153 0 15 (dk_at dksX0_does_3 9 rfl rfl)
theorem dX0_does_84 : decode cX0_does 84 = .ok (.aload_n 3, 1) := dk_45 (dk_at dksX0_does_3 12 rfl rfl)
theorem dX0_does_85 : decode cX0_does 85 = .ok (.iconst 3, 1) := dk_6 (dk_at dksX0_does_3 13 rfl rfl)
theorem dX0_does_86 : decode cX0_does 86 = .ok (.invokevirtual 153, 3) := dk_182 0 153 (dk_at dksX0_does_3 14 rfl rfl)
theorem dX0_does_89 : decode cX0_does 89 = .ok (.ifCond .ne 7, 3) := dk_154 0 7 (dk_at dksX0_does_3 17 rfl rfl)
theorem dX0_does_92 : decode cX0_does 92 = .ok (.iconst 1, 1) := dk_4 (dk_at dksX0_does_3 20 rfl rfl)
theorem dX0_does_93 : decode cX0_does 93 = .ok (.goto 4, 3) := dk_167 0 4 (dk_at dksX0_does_3 21 rfl rfl)
theorem dX0_does_96 : decode cX0_does 96 = .ok (.iconst 0, 1) := dk_3 (dk_at dksX0_does_4 0 rfl rfl)
theorem dX0_does_97 : decode cX0_does 97 = .ok (.istore 4, 2) := dk_54 4 (dk_at dksX0_does_4 1 rfl rfl)
theorem dX0_does_99 : decode cX0_does 99 = .ok (.iload 4, 2) := dk_21 4 (dk_at dksX0_does_4 3 rfl rfl)
theorem dX0_does_101 : decode cX0_does 101 = .ok (.ifCond .eq 16, 3) := dk_153 0 16 (dk_at dksX0_does_4 5 rfl rfl)
theorem dX0_does_104 : decode cX0_does 104 = .ok (.aload_n 0, 1) := dk_42 (dk_at dksX0_does_4 8 rfl rfl)
theorem dX0_does_105 : decode cX0_does 105 = .ok (.aload_n 0, 1) := dk_42 (dk_at dksX0_does_4 9 rfl rfl)
theorem dX0_does_106 : decode cX0_does 106 = .ok (.getfield 112, 3) := dk_180 0 112 (dk_at dksX0_does_4 10 rfl rfl)
theorem dX0_does_109 : decode cX0_does 109 = .ok (.aload_n 0, 1) := dk_42 (dk_at dksX0_does_4 13 rfl rfl)
theorem dX0_does_110 : decode cX0_does 110 = .ok (.getfield 126, 3) := dk_180 0 126 (dk_at dksX0_does_4 14 rfl rfl)
theorem dX0_does_113 : decode cX0_does 113 = .ok (.iload_n 1, 1) := dk_27 (dk_at dksX0_does_4 17 rfl rfl)
theorem dX0_does_114 : decode cX0_does 114 = .ok (.invokevirtual 156, 3) := dk_182 0 156 (dk_at dksX0_does_4 18 rfl rfl)
theorem dX0_does_117 : decode cX0_does 117 = .ok (.iload 4, 2) := dk_21 4 (dk_at dksX0_does_4 21 rfl rfl)
theorem dX0_does_119 : decode cX0_does 119 = .ok (.ireturn, 1) := dk_172 (dk_at dksX0_does_4 23 rfl rfl)
abbrev cX0_come : ByteArray := prog_1_method_21_code
def yX0_come : MethodName := ⟨RX0, "come", "(II)V"⟩
def dkwX0_come_0 : List UInt8 := [42, 27, 182, 0, 185, 42, 180, 0, 25, 27, 42, 28, 182, 0, 188, 83, 177]
abbrev dktX0_come_0 : List UInt8 := dkwX0_come_0 ++ []
theorem dksX0_come_0 : cX0_come.data.toList.drop 0 = dktX0_come_0 := by decide +kernel
theorem dX0_come_0 : decode cX0_come 0 = .ok (.aload_n 0, 1) := dk_42 (dk_at dksX0_come_0 0 rfl rfl)
theorem dX0_come_1 : decode cX0_come 1 = .ok (.iload_n 1, 1) := dk_27 (dk_at dksX0_come_0 1 rfl rfl)
theorem dX0_come_2 : decode cX0_come 2 = .ok (.invokevirtual 185, 3) := dk_182 0 185 (dk_at dksX0_come_0 2 rfl rfl)
theorem dX0_come_5 : decode cX0_come 5 = .ok (.aload_n 0, 1) := dk_42 (dk_at dksX0_come_0 5 rfl rfl)
theorem dX0_come_6 : decode cX0_come 6 = .ok (.getfield 25, 3) := dk_180 0 25 (dk_at dksX0_come_0 6 rfl rfl)
theorem dX0_come_9 : decode cX0_come 9 = .ok (.iload_n 1, 1) := dk_27 (dk_at dksX0_come_0 9 rfl rfl)
theorem dX0_come_10 : decode cX0_come 10 = .ok (.aload_n 0, 1) := dk_42 (dk_at dksX0_come_0 10 rfl rfl)
theorem dX0_come_11 : decode cX0_come 11 = .ok (.iload_n 2, 1) := dk_28 (dk_at dksX0_come_0 11 rfl rfl)
theorem dX0_come_12 : decode cX0_come 12 = .ok (.invokevirtual 188, 3) := dk_182 0 188 (dk_at dksX0_come_0 12 rfl rfl)
theorem dX0_come_15 : decode cX0_come 15 = .ok (.aastore, 1) := dk_83 (dk_at dksX0_come_0 15 rfl rfl)
theorem dX0_come_16 : decode cX0_come 16 = .ok (.return_, 1) := dk_177 (dk_at dksX0_come_0 16 rfl rfl)
abbrev cX0_clear : ByteArray := prog_1_method_20_code
def yX0_clear : MethodName := ⟨RX0, "clear", "(I)V"⟩
def dkwX0_clear_4 : List UInt8 := [17, 3, 232, 79, 132, 2, 1, 167, 255, 225, 177]
abbrev dktX0_clear_4 : List UInt8 := dkwX0_clear_4 ++ []
def dkwX0_clear_3 : List UInt8 := [28, 7, 162, 0, 32, 42, 180, 0, 41, 7, 27, 104, 28, 96, 28, 5, 112, 154, 0, 7, 3, 167, 0, 6]
abbrev dktX0_clear_3 : List UInt8 := dkwX0_clear_3 ++ dktX0_clear_4
def dkwX0_clear_2 : List UInt8 := [184, 0, 181, 3, 79, 132, 2, 1, 167, 255, 211, 42, 180, 0, 38, 27, 27, 184, 0, 181, 2, 79, 3, 61]
abbrev dktX0_clear_2 : List UInt8 := dkwX0_clear_2 ++ dktX0_clear_3
def dkwX0_clear_1 : List UInt8 := [27, 3, 182, 0, 156, 42, 180, 0, 38, 27, 28, 184, 0, 181, 3, 79, 42, 180, 0, 38, 28, 27]
abbrev dktX0_clear_1 : List UInt8 := dkwX0_clear_1 ++ dktX0_clear_2
def dkwX0_clear_0 : List UInt8 := [42, 180, 0, 25, 27, 1, 83, 3, 61, 28, 16, 8, 162, 0, 45, 42, 27, 28, 3, 182, 0, 156, 42, 28]
abbrev dktX0_clear_0 : List UInt8 := dkwX0_clear_0 ++ dktX0_clear_1
theorem dksX0_clear_0 : cX0_clear.data.toList.drop 0 = dktX0_clear_0 := by decide +kernel
theorem dksX0_clear_1 : cX0_clear.data.toList.drop 24 = dktX0_clear_1 := dk_seg dksX0_clear_0 24 rfl rfl
theorem dksX0_clear_2 : cX0_clear.data.toList.drop 46 = dktX0_clear_2 := dk_seg dksX0_clear_1 22 rfl rfl
theorem dksX0_clear_3 : cX0_clear.data.toList.drop 70 = dktX0_clear_3 := dk_seg dksX0_clear_2 24 rfl rfl
theorem dksX0_clear_4 : cX0_clear.data.toList.drop 94 = dktX0_clear_4 := dk_seg dksX0_clear_3 24 rfl rfl
theorem dX0_clear_0 : decode cX0_clear 0 = .ok (.aload_n 0, 1) := dk_42 (dk_at dksX0_clear_0 0 rfl rfl)
theorem dX0_clear_1 : decode cX0_clear 1 = .ok (.getfield 25, 3) := dk_180 0 25 (dk_at dksX0_clear_0 1 rfl rfl)
theorem dX0_clear_4 : decode cX0_clear 4 = .ok (.iload_n 1, 1) := dk_27 (dk_at dksX0_clear_0 4 rfl rfl)
theorem dX0_clear_5 : decode cX0_clear 5 = .ok (.aconst_null, 1) := dk_1 (dk_at dksX0_clear_0 5 rfl rfl)
theorem dX0_clear_6 : decode cX0_clear 6 = .ok (.aastore, 1) := dk_83 (dk_at dksX0_clear_0 6 rfl rfl)
theorem dX0_clear_7 : decode cX0_clear 7 = .ok (.iconst 0, 1) := dk_3 (dk_at dksX0_clear_0 7 rfl rfl)
theorem dX0_clear_8 : decode cX0_clear 8 = .ok (.istore_n 2, 1) := dk_61 (dk_at dksX0_clear_0 8 rfl rfl)
theorem dX0_clear_9 : decode cX0_clear 9 = .ok (.iload_n 2, 1) := dk_28 (dk_at dksX0_clear_0 9 rfl rfl)
theorem dX0_clear_10 : decode cX0_clear 10 = .ok (.bipush 8, 2) := dk_16 8 (dk_at dksX0_clear_0 10 rfl rfl)
theorem dX0_clear_12 : decode cX0_clear 12 = .ok (.if_icmp .ge 45, 3) := dk_162 0 45 (dk_at dksX0_clear_0 12 rfl rfl)
theorem dX0_clear_15 : decode cX0_clear 15 = .ok (.aload_n 0, 1) := dk_42 (dk_at dksX0_clear_0 15 rfl rfl)
theorem dX0_clear_16 : decode cX0_clear 16 = .ok (.iload_n 1, 1) := dk_27 (dk_at dksX0_clear_0 16 rfl rfl)
theorem dX0_clear_17 : decode cX0_clear 17 = .ok (.iload_n 2, 1) := dk_28 (dk_at dksX0_clear_0 17 rfl rfl)
theorem dX0_clear_18 : decode cX0_clear 18 = .ok (.iconst 0, 1) := dk_3 (dk_at dksX0_clear_0 18 rfl rfl)
theorem dX0_clear_19 : decode cX0_clear 19 = .ok (.invokevirtual 156, 3) := dk_182 0 156 (dk_at dksX0_clear_0 19 rfl rfl)
theorem dX0_clear_22 : decode cX0_clear 22 = .ok (.aload_n 0, 1) := dk_42 (dk_at dksX0_clear_0 22 rfl rfl)
theorem dX0_clear_23 : decode cX0_clear 23 = .ok (.iload_n 2, 1) := dk_28 (dk_at dksX0_clear_0 23 rfl rfl)
theorem dX0_clear_24 : decode cX0_clear 24 = .ok (.iload_n 1, 1) := dk_27 (dk_at dksX0_clear_1 0 rfl rfl)
theorem dX0_clear_25 : decode cX0_clear 25 = .ok (.iconst 0, 1) := dk_3 (dk_at dksX0_clear_1 1 rfl rfl)
theorem dX0_clear_26 : decode cX0_clear 26 = .ok (.invokevirtual 156, 3) := dk_182 0 156 (dk_at dksX0_clear_1 2 rfl rfl)
theorem dX0_clear_29 : decode cX0_clear 29 = .ok (.aload_n 0, 1) := dk_42 (dk_at dksX0_clear_1 5 rfl rfl)
theorem dX0_clear_30 : decode cX0_clear 30 = .ok (.getfield 38, 3) := dk_180 0 38 (dk_at dksX0_clear_1 6 rfl rfl)
theorem dX0_clear_33 : decode cX0_clear 33 = .ok (.iload_n 1, 1) := dk_27 (dk_at dksX0_clear_1 9 rfl rfl)
theorem dX0_clear_34 : decode cX0_clear 34 = .ok (.iload_n 2, 1) := dk_28 (dk_at dksX0_clear_1 10 rfl rfl)
theorem dX0_clear_35 : decode cX0_clear 35 = .ok (.invokestatic 181, 3) := dk_184 0 181 (dk_at dksX0_clear_1 11 rfl rfl)
theorem dX0_clear_38 : decode cX0_clear 38 = .ok (.iconst 0, 1) := dk_3 (dk_at dksX0_clear_1 14 rfl rfl)
theorem dX0_clear_39 : decode cX0_clear 39 = .ok (.iastore, 1) := dk_79 (dk_at dksX0_clear_1 15 rfl rfl)
theorem dX0_clear_40 : decode cX0_clear 40 = .ok (.aload_n 0, 1) := dk_42 (dk_at dksX0_clear_1 16 rfl rfl)
theorem dX0_clear_41 : decode cX0_clear 41 = .ok (.getfield 38, 3) := dk_180 0 38 (dk_at dksX0_clear_1 17 rfl rfl)
theorem dX0_clear_44 : decode cX0_clear 44 = .ok (.iload_n 2, 1) := dk_28 (dk_at dksX0_clear_1 20 rfl rfl)
theorem dX0_clear_45 : decode cX0_clear 45 = .ok (.iload_n 1, 1) := dk_27 (dk_at dksX0_clear_1 21 rfl rfl)
theorem dX0_clear_46 : decode cX0_clear 46 = .ok (.invokestatic 181, 3) := dk_184 0 181 (dk_at dksX0_clear_2 0 rfl rfl)
theorem dX0_clear_49 : decode cX0_clear 49 = .ok (.iconst 0, 1) := dk_3 (dk_at dksX0_clear_2 3 rfl rfl)
theorem dX0_clear_50 : decode cX0_clear 50 = .ok (.iastore, 1) := dk_79 (dk_at dksX0_clear_2 4 rfl rfl)
theorem dX0_clear_51 : decode cX0_clear 51 = .ok (.iinc 2 1, 3) := dk_132 2 1 (dk_at dksX0_clear_2 5 rfl rfl)
theorem dX0_clear_54 : decode cX0_clear 54 = .ok (.goto (-45), 3) := dk_167 255 211 (dk_at dksX0_clear_2 8 rfl rfl)
theorem dX0_clear_57 : decode cX0_clear 57 = .ok (.aload_n 0, 1) := dk_42 (dk_at dksX0_clear_2 11 rfl rfl)
theorem dX0_clear_58 : decode cX0_clear 58 = .ok (.getfield 38, 3) := dk_180 0 38 (dk_at dksX0_clear_2 12 rfl rfl)
theorem dX0_clear_61 : decode cX0_clear 61 = .ok (.iload_n 1, 1) := dk_27 (dk_at dksX0_clear_2 15 rfl rfl)
theorem dX0_clear_62 : decode cX0_clear 62 = .ok (.iload_n 1, 1) := dk_27 (dk_at dksX0_clear_2 16 rfl rfl)
theorem dX0_clear_63 : decode cX0_clear 63 = .ok (.invokestatic 181, 3) := dk_184 0 181 (dk_at dksX0_clear_2 17 rfl rfl)
theorem dX0_clear_66 : decode cX0_clear 66 = .ok (.iconst (-1), 1) := dk_2 (dk_at dksX0_clear_2 20 rfl rfl)
theorem dX0_clear_67 : decode cX0_clear 67 = .ok (.iastore, 1) := dk_79 (dk_at dksX0_clear_2 21 rfl rfl)
theorem dX0_clear_68 : decode cX0_clear 68 = .ok (.iconst 0, 1) := dk_3 (dk_at dksX0_clear_2 22 rfl rfl)
theorem dX0_clear_69 : decode cX0_clear 69 = .ok (.istore_n 2, 1) := dk_61 (dk_at dksX0_clear_2 23 rfl rfl)
theorem dX0_clear_70 : decode cX0_clear 70 = .ok (.iload_n 2, 1) := dk_28 (dk_at dksX0_clear_3 0 rfl rfl)
theorem dX0_clear_71 : decode cX0_clear 71 = .ok (.iconst 4, 1) := dk_7 (dk_at dksX0_clear_3 1 rfl rfl)
theorem dX0_clear_72 : decode cX0_clear 72 = .ok (.if_icmp .ge 32, 3) := dk_162 0 32 (dk_at dksX0_clear_3 2 rfl rfl)
theorem dX0_clear_75 : decode cX0_clear 75 = .ok (.aload_n 0, 1) := dk_42 (dk_at dksX0_clear_3 5 rfl rfl)
theorem dX0_clear_76 : decode cX0_clear 76 = .ok (.getfield 41, 3) := dk_180 0 41 (dk_at dksX0_clear_3 6 rfl rfl)
theorem dX0_clear_79 : decode cX0_clear 79 = .ok (.iconst 4, 1) := dk_7 (dk_at dksX0_clear_3 9 rfl rfl)
theorem dX0_clear_80 : decode cX0_clear 80 = .ok (.iload_n 1, 1) := dk_27 (dk_at dksX0_clear_3 10 rfl rfl)
theorem dX0_clear_81 : decode cX0_clear 81 = .ok (.imul, 1) := dk_104 (dk_at dksX0_clear_3 11 rfl rfl)
theorem dX0_clear_82 : decode cX0_clear 82 = .ok (.iload_n 2, 1) := dk_28 (dk_at dksX0_clear_3 12 rfl rfl)
theorem dX0_clear_83 : decode cX0_clear 83 = .ok (.iadd, 1) := dk_96 (dk_at dksX0_clear_3 13 rfl rfl)
theorem dX0_clear_84 : decode cX0_clear 84 = .ok (.iload_n 2, 1) := dk_28 (dk_at dksX0_clear_3 14 rfl rfl)
theorem dX0_clear_85 : decode cX0_clear 85 = .ok (.iconst 2, 1) := dk_5 (dk_at dksX0_clear_3 15 rfl rfl)
theorem dX0_clear_86 : decode cX0_clear 86 = .ok (.irem, 1) := dk_112 (dk_at dksX0_clear_3 16 rfl rfl)
theorem dX0_clear_87 : decode cX0_clear 87 = .ok (.ifCond .ne 7, 3) := dk_154 0 7 (dk_at dksX0_clear_3 17 rfl rfl)
theorem dX0_clear_90 : decode cX0_clear 90 = .ok (.iconst 0, 1) := dk_3 (dk_at dksX0_clear_3 20 rfl rfl)
theorem dX0_clear_91 : decode cX0_clear 91 = .ok (.goto 6, 3) := dk_167 0 6 (dk_at dksX0_clear_3 21 rfl rfl)
theorem dX0_clear_94 : decode cX0_clear 94 = .ok (.sipush 1000, 3) := dk_17 3 232 (dk_at dksX0_clear_4 0 rfl rfl)
theorem dX0_clear_97 : decode cX0_clear 97 = .ok (.iastore, 1) := dk_79 (dk_at dksX0_clear_4 3 rfl rfl)
theorem dX0_clear_98 : decode cX0_clear 98 = .ok (.iinc 2 1, 3) := dk_132 2 1 (dk_at dksX0_clear_4 4 rfl rfl)
theorem dX0_clear_101 : decode cX0_clear 101 = .ok (.goto (-31), 3) := dk_167 255 225 (dk_at dksX0_clear_4 7 rfl rfl)
theorem dX0_clear_104 : decode cX0_clear 104 = .ok (.return_, 1) := dk_177 (dk_at dksX0_clear_4 10 rfl rfl)
abbrev cX0_setLink : ByteArray := prog_1_method_19_code
def yX0_setLink : MethodName := ⟨RX0, "setLink", "(III)V"⟩
def dkwX0_setLink_2 : List UInt8 := [79, 177]
abbrev dktX0_setLink_2 : List UInt8 := dkwX0_setLink_2 ++ []
def dkwX0_setLink_1 : List UInt8 := [180, 0, 32, 21, 4, 3, 79, 42, 180, 0, 35, 21, 4, 17, 3, 232, 79, 42, 180, 0, 29, 21, 4, 29]
abbrev dktX0_setLink_1 : List UInt8 := dkwX0_setLink_1 ++ dktX0_setLink_2
def dkwX0_setLink_0 : List UInt8 := [27, 28, 184, 0, 181, 54, 4, 42, 180, 0, 29, 21, 4, 46, 153, 0, 7, 29, 154, 0, 21, 42]
abbrev dktX0_setLink_0 : List UInt8 := dkwX0_setLink_0 ++ dktX0_setLink_1
theorem dksX0_setLink_0 : cX0_setLink.data.toList.drop 0 = dktX0_setLink_0 := by decide +kernel
theorem dksX0_setLink_1 : cX0_setLink.data.toList.drop 22 = dktX0_setLink_1 := dk_seg dksX0_setLink_0 22 rfl rfl
theorem dksX0_setLink_2 : cX0_setLink.data.toList.drop 46 = dktX0_setLink_2 := dk_seg dksX0_setLink_1 24 rfl rfl
theorem dX0_setLink_0 : decode cX0_setLink 0 = .ok (.iload_n 1, 1) := dk_27 (dk_at dksX0_setLink_0 0 rfl rfl)
theorem dX0_setLink_1 : decode cX0_setLink 1 = .ok (.iload_n 2, 1) := dk_28 (dk_at dksX0_setLink_0 1 rfl rfl)
theorem dX0_setLink_2 : decode cX0_setLink 2 = .ok (.invokestatic 181, 3) := dk_184 0 181 (dk_at dksX0_setLink_0 2 rfl rfl)
theorem dX0_setLink_5 : decode cX0_setLink 5 = .ok (.istore 4, 2) := dk_54 4 (dk_at dksX0_setLink_0 5 rfl rfl)
theorem dX0_setLink_7 : decode cX0_setLink 7 = .ok (.aload_n 0, 1) := dk_42 (dk_at dksX0_setLink_0 7 rfl rfl)
theorem dX0_setLink_8 : decode cX0_setLink 8 = .ok (.getfield 29, 3) := dk_180 0 29 (dk_at dksX0_setLink_0 8 rfl rfl)
theorem dX0_setLink_11 : decode cX0_setLink 11 = .ok (.iload 4, 2) := dk_21 4 (dk_at dksX0_setLink_0 11 rfl rfl)
theorem dX0_setLink_13 : decode cX0_setLink 13 = .ok (.iaload, 1) := dk_46 (dk_at dksX0_setLink_0 13 rfl rfl)
theorem dX0_setLink_14 : decode cX0_setLink 14 = .ok (.ifCond .eq 7, 3) := dk_153 0 7 (dk_at dksX0_setLink_0 14 rfl rfl)
theorem dX0_setLink_17 : decode cX0_setLink 17 = .ok (.iload_n 3, 1) := dk_29 (dk_at dksX0_setLink_0 17 rfl rfl)
theorem dX0_setLink_18 : decode cX0_setLink 18 = .ok (.ifCond .ne 21, 3) := dk_154 0 21 (dk_at dksX0_setLink_0 18 rfl rfl)
theorem dX0_setLink_21 : decode cX0_setLink 21 = .ok (.aload_n 0, 1) := dk_42 (dk_at dksX0_setLink_0 21 rfl rfl)
theorem dX0_setLink_22 : decode cX0_setLink 22 = .ok (.getfield 32, 3) := dk_180 0 32 (dk_at dksX0_setLink_1 0 rfl rfl)
theorem dX0_setLink_25 : decode cX0_setLink 25 = .ok (.iload 4, 2) := dk_21 4 (dk_at dksX0_setLink_1 3 rfl rfl)
theorem dX0_setLink_27 : decode cX0_setLink 27 = .ok (.iconst 0, 1) := dk_3 (dk_at dksX0_setLink_1 5 rfl rfl)
theorem dX0_setLink_28 : decode cX0_setLink 28 = .ok (.iastore, 1) := dk_79 (dk_at dksX0_setLink_1 6 rfl rfl)
theorem dX0_setLink_29 : decode cX0_setLink 29 = .ok (.aload_n 0, 1) := dk_42 (dk_at dksX0_setLink_1 7 rfl rfl)
theorem dX0_setLink_30 : decode cX0_setLink 30 = .ok (.getfield 35, 3) := dk_180 0 35 (dk_at dksX0_setLink_1 8 rfl rfl)
theorem dX0_setLink_33 : decode cX0_setLink 33 = .ok (.iload 4, 2) := dk_21 4 (dk_at dksX0_setLink_1 11 rfl rfl)
theorem dX0_setLink_35 : decode cX0_setLink 35 = .ok (.sipush 1000, 3) := dk_17 3 232 (dk_at dksX0_setLink_1 13 rfl rfl)
theorem dX0_setLink_38 : decode cX0_setLink 38 = .ok (.iastore, 1) := dk_79 (dk_at dksX0_setLink_1 16 rfl rfl)
theorem dX0_setLink_39 : decode cX0_setLink 39 = .ok (.aload_n 0, 1) := dk_42 (dk_at dksX0_setLink_1 17 rfl rfl)
theorem dX0_setLink_40 : decode cX0_setLink 40 = .ok (.getfield 29, 3) := dk_180 0 29 (dk_at dksX0_setLink_1 18 rfl rfl)
theorem dX0_setLink_43 : decode cX0_setLink 43 = .ok (.iload 4, 2) := dk_21 4 (dk_at dksX0_setLink_1 21 rfl rfl)
theorem dX0_setLink_45 : decode cX0_setLink 45 = .ok (.iload_n 3, 1) := dk_29 (dk_at dksX0_setLink_1 23 rfl rfl)
theorem dX0_setLink_46 : decode cX0_setLink 46 = .ok (.iastore, 1) := dk_79 (dk_at dksX0_setLink_2 0 rfl rfl)
theorem dX0_setLink_47 : decode cX0_setLink 47 = .ok (.return_, 1) := dk_177 (dk_at dksX0_setLink_2 1 rfl rfl)
abbrev cX0_pair : ByteArray := prog_1_method_17_code
def yX0_pair : MethodName := ⟨RX0, "pair", "(II)I"⟩
def dkwX0_pair_0 : List UInt8 := [16, 8, 26, 104, 27, 96, 172]
abbrev dktX0_pair_0 : List UInt8 := dkwX0_pair_0 ++ []
theorem dksX0_pair_0 : cX0_pair.data.toList.drop 0 = dktX0_pair_0 := by decide +kernel
theorem dX0_pair_0 : decode cX0_pair 0 = .ok (.bipush 8, 2) := dk_16 8 (dk_at dksX0_pair_0 0 rfl rfl)
theorem dX0_pair_2 : decode cX0_pair 2 = .ok (.iload_n 0, 1) := dk_26 (dk_at dksX0_pair_0 2 rfl rfl)
theorem dX0_pair_3 : decode cX0_pair 3 = .ok (.imul, 1) := dk_104 (dk_at dksX0_pair_0 3 rfl rfl)
theorem dX0_pair_4 : decode cX0_pair 4 = .ok (.iload_n 1, 1) := dk_27 (dk_at dksX0_pair_0 4 rfl rfl)
theorem dX0_pair_5 : decode cX0_pair 5 = .ok (.iadd, 1) := dk_96 (dk_at dksX0_pair_0 5 rfl rfl)
theorem dX0_pair_6 : decode cX0_pair 6 = .ok (.ireturn, 1) := dk_172 (dk_at dksX0_pair_0 6 rfl rfl)
abbrev cX0_made : ByteArray := prog_1_method_18_code
def yX0_made : MethodName := ⟨RX0, "made", "(I)LEaterWebs$Being;"⟩
def dkwX0_made_3 : List UInt8 := [187, 0, 173, 89, 42, 180, 0, 175, 183, 0, 178, 176]
abbrev dktX0_made_3 : List UInt8 := dkwX0_made_3 ++ []
def dkwX0_made_2 : List UInt8 := [187, 0, 23, 89, 183, 0, 166, 176, 187, 0, 167, 89, 183, 0, 169, 176, 187, 0, 170, 89, 183, 0, 172, 176]
abbrev dktX0_made_2 : List UInt8 := dkwX0_made_2 ++ dktX0_made_3
def dkwX0_made_1 : List UInt8 := [170, 0, 0, 0, 0, 0, 51, 0, 0, 0, 0, 0, 0, 0, 2, 0, 0, 0, 27, 0, 0, 0, 35, 0, 0, 0, 43]
abbrev dktX0_made_1 : List UInt8 := dkwX0_made_1 ++ dktX0_made_2
def dkwX0_made_0 : List UInt8 := [27]
abbrev dktX0_made_0 : List UInt8 := dkwX0_made_0 ++ dktX0_made_1
theorem dksX0_made_0 : cX0_made.data.toList.drop 0 = dktX0_made_0 := by decide +kernel
theorem dksX0_made_1 : cX0_made.data.toList.drop 1 = dktX0_made_1 := dk_seg dksX0_made_0 1 rfl rfl
theorem dksX0_made_2 : cX0_made.data.toList.drop 28 = dktX0_made_2 := dk_seg dksX0_made_1 27 rfl rfl
theorem dksX0_made_3 : cX0_made.data.toList.drop 52 = dktX0_made_3 := dk_seg dksX0_made_2 24 rfl rfl
theorem dX0_made_0 : decode cX0_made 0 = .ok (.iload_n 1, 1) := dk_27 (dk_at dksX0_made_0 0 rfl rfl)
theorem dX0_made_1 : decode cX0_made 1 = .ok (.tableswitch 51 0 2 #[27, 35, 43], 27) := by decide +kernel
theorem dX0_made_28 : decode cX0_made 28 = .ok (.new 23, 3) := dk_187 0 23 (dk_at dksX0_made_2 0 rfl rfl)
theorem dX0_made_31 : decode cX0_made 31 = .ok (.dup, 1) := dk_89 (dk_at dksX0_made_2 3 rfl rfl)
theorem dX0_made_32 : decode cX0_made 32 = .ok (.invokespecial 166, 3) := dk_183 0 166 (dk_at dksX0_made_2 4 rfl rfl)
theorem dX0_made_35 : decode cX0_made 35 = .ok (.areturn, 1) := dk_176 (dk_at dksX0_made_2 7 rfl rfl)
theorem dX0_made_36 : decode cX0_made 36 = .ok (.new 167, 3) := dk_187 0 167 (dk_at dksX0_made_2 8 rfl rfl)
theorem dX0_made_39 : decode cX0_made 39 = .ok (.dup, 1) := dk_89 (dk_at dksX0_made_2 11 rfl rfl)
theorem dX0_made_40 : decode cX0_made 40 = .ok (.invokespecial 169, 3) := dk_183 0 169 (dk_at dksX0_made_2 12 rfl rfl)
theorem dX0_made_43 : decode cX0_made 43 = .ok (.areturn, 1) := dk_176 (dk_at dksX0_made_2 15 rfl rfl)
theorem dX0_made_44 : decode cX0_made 44 = .ok (.new 170, 3) := dk_187 0 170 (dk_at dksX0_made_2 16 rfl rfl)
theorem dX0_made_47 : decode cX0_made 47 = .ok (.dup, 1) := dk_89 (dk_at dksX0_made_2 19 rfl rfl)
theorem dX0_made_48 : decode cX0_made 48 = .ok (.invokespecial 172, 3) := dk_183 0 172 (dk_at dksX0_made_2 20 rfl rfl)
theorem dX0_made_51 : decode cX0_made 51 = .ok (.areturn, 1) := dk_176 (dk_at dksX0_made_2 23 rfl rfl)
theorem dX0_made_52 : decode cX0_made 52 = .ok (.new 173, 3) := dk_187 0 173 (dk_at dksX0_made_3 0 rfl rfl)
theorem dX0_made_55 : decode cX0_made 55 = .ok (.dup, 1) := dk_89 (dk_at dksX0_made_3 3 rfl rfl)
theorem dX0_made_56 : decode cX0_made 56 = .ok (.aload_n 0, 1) := dk_42 (dk_at dksX0_made_3 4 rfl rfl)
theorem dX0_made_57 : decode cX0_made 57 = .ok (.getfield 175, 3) := dk_180 0 175 (dk_at dksX0_made_3 5 rfl rfl)
theorem dX0_made_60 : decode cX0_made 60 = .ok (.invokespecial 178, 3) := dk_183 0 178 (dk_at dksX0_made_3 8 rfl rfl)
theorem dX0_made_63 : decode cX0_made 63 = .ok (.areturn, 1) := dk_176 (dk_at dksX0_made_3 11 rfl rfl)
abbrev cX0_being : ByteArray := prog_1_method_22_code
def yX0_being : MethodName := ⟨RX0, "being", "(II)I"⟩
def dkwX0_being_1 : List UInt8 := [199, 0, 7, 3, 167, 0, 4, 4, 62, 42, 27, 28, 182, 0, 146, 29, 172]
abbrev dktX0_being_1 : List UInt8 := dkwX0_being_1 ++ []
def dkwX0_being_0 : List UInt8 := [27, 184, 0, 192, 153, 0, 12, 28, 3, 6, 184, 0, 76, 154, 0, 5, 2, 172, 42, 180, 0, 25, 27, 50]
abbrev dktX0_being_0 : List UInt8 := dkwX0_being_0 ++ dktX0_being_1
theorem dksX0_being_0 : cX0_being.data.toList.drop 0 = dktX0_being_0 := by decide +kernel
theorem dksX0_being_1 : cX0_being.data.toList.drop 24 = dktX0_being_1 := dk_seg dksX0_being_0 24 rfl rfl
theorem dX0_being_0 : decode cX0_being 0 = .ok (.iload_n 1, 1) := dk_27 (dk_at dksX0_being_0 0 rfl rfl)
theorem dX0_being_1 : decode cX0_being 1 = .ok (.invokestatic 192, 3) := dk_184 0 192 (dk_at dksX0_being_0 1 rfl rfl)
theorem dX0_being_4 : decode cX0_being 4 = .ok (.ifCond .eq 12, 3) := dk_153 0 12 (dk_at dksX0_being_0 4 rfl rfl)
theorem dX0_being_7 : decode cX0_being 7 = .ok (.iload_n 2, 1) := dk_28 (dk_at dksX0_being_0 7 rfl rfl)
theorem dX0_being_8 : decode cX0_being 8 = .ok (.iconst 0, 1) := dk_3 (dk_at dksX0_being_0 8 rfl rfl)
theorem dX0_being_9 : decode cX0_being 9 = .ok (.iconst 3, 1) := dk_6 (dk_at dksX0_being_0 9 rfl rfl)
theorem dX0_being_10 : decode cX0_being 10 = .ok (.invokestatic 76, 3) := dk_184 0 76 (dk_at dksX0_being_0 10 rfl rfl)
theorem dX0_being_13 : decode cX0_being 13 = .ok (.ifCond .ne 5, 3) := dk_154 0 5 (dk_at dksX0_being_0 13 rfl rfl)
theorem dX0_being_16 : decode cX0_being 16 = .ok (.iconst (-1), 1) := dk_2 (dk_at dksX0_being_0 16 rfl rfl)
theorem dX0_being_17 : decode cX0_being 17 = .ok (.ireturn, 1) := dk_172 (dk_at dksX0_being_0 17 rfl rfl)
theorem dX0_being_18 : decode cX0_being 18 = .ok (.aload_n 0, 1) := dk_42 (dk_at dksX0_being_0 18 rfl rfl)
theorem dX0_being_19 : decode cX0_being 19 = .ok (.getfield 25, 3) := dk_180 0 25 (dk_at dksX0_being_0 19 rfl rfl)
theorem dX0_being_22 : decode cX0_being 22 = .ok (.iload_n 1, 1) := dk_27 (dk_at dksX0_being_0 22 rfl rfl)
theorem dX0_being_23 : decode cX0_being 23 = .ok (.aaload, 1) := dk_50 (dk_at dksX0_being_0 23 rfl rfl)
theorem dX0_being_24 : decode cX0_being 24 = .ok (.ifnonnull 7, 3) := dk_199 0 7 (dk_at dksX0_being_1 0 rfl rfl)
theorem dX0_being_27 : decode cX0_being 27 = .ok (.iconst 0, 1) := dk_3 (dk_at dksX0_being_1 3 rfl rfl)
theorem dX0_being_28 : decode cX0_being 28 = .ok (.goto 4, 3) := dk_167 0 4 (dk_at dksX0_being_1 4 rfl rfl)
theorem dX0_being_31 : decode cX0_being 31 = .ok (.iconst 1, 1) := dk_4 (dk_at dksX0_being_1 7 rfl rfl)
theorem dX0_being_32 : decode cX0_being 32 = .ok (.istore_n 3, 1) := dk_62 (dk_at dksX0_being_1 8 rfl rfl)
theorem dX0_being_33 : decode cX0_being 33 = .ok (.aload_n 0, 1) := dk_42 (dk_at dksX0_being_1 9 rfl rfl)
theorem dX0_being_34 : decode cX0_being 34 = .ok (.iload_n 1, 1) := dk_27 (dk_at dksX0_being_1 10 rfl rfl)
theorem dX0_being_35 : decode cX0_being 35 = .ok (.iload_n 2, 1) := dk_28 (dk_at dksX0_being_1 11 rfl rfl)
theorem dX0_being_36 : decode cX0_being 36 = .ok (.invokevirtual 146, 3) := dk_182 0 146 (dk_at dksX0_being_1 12 rfl rfl)
theorem dX0_being_39 : decode cX0_being 39 = .ok (.iload_n 3, 1) := dk_29 (dk_at dksX0_being_1 15 rfl rfl)
theorem dX0_being_40 : decode cX0_being 40 = .ok (.ireturn, 1) := dk_172 (dk_at dksX0_being_1 16 rfl rfl)
abbrev cX0_isBeing : ByteArray := prog_1_method_15_code
def yX0_isBeing : MethodName := ⟨RX0, "isBeing", "(I)Z"⟩
def dkwX0_isBeing_0 : List UInt8 := [26, 3, 16, 7, 184, 0, 76, 172]
abbrev dktX0_isBeing_0 : List UInt8 := dkwX0_isBeing_0 ++ []
theorem dksX0_isBeing_0 : cX0_isBeing.data.toList.drop 0 = dktX0_isBeing_0 := by decide +kernel
theorem dX0_isBeing_0 : decode cX0_isBeing 0 = .ok (.iload_n 0, 1) := dk_26 (dk_at dksX0_isBeing_0 0 rfl rfl)
theorem dX0_isBeing_1 : decode cX0_isBeing 1 = .ok (.iconst 0, 1) := dk_3 (dk_at dksX0_isBeing_0 1 rfl rfl)
theorem dX0_isBeing_2 : decode cX0_isBeing 2 = .ok (.bipush 7, 2) := dk_16 7 (dk_at dksX0_isBeing_0 2 rfl rfl)
theorem dX0_isBeing_4 : decode cX0_isBeing 4 = .ok (.invokestatic 76, 3) := dk_184 0 76 (dk_at dksX0_isBeing_0 4 rfl rfl)
theorem dX0_isBeing_7 : decode cX0_isBeing 7 = .ok (.ireturn, 1) := dk_172 (dk_at dksX0_isBeing_0 7 rfl rfl)
abbrev cX0_drop : ByteArray := prog_1_method_23_code
def yX0_drop : MethodName := ⟨RX0, "drop", "(I)I"⟩
def dkwX0_drop_1 : List UInt8 := [4, 172, 77, 42, 4, 182, 0, 86, 172]
abbrev dktX0_drop_1 : List UInt8 := dkwX0_drop_1 ++ []
def dkwX0_drop_0 : List UInt8 := [27, 184, 0, 192, 154, 0, 5, 2, 172, 42, 180, 0, 25, 27, 50, 182, 0, 194, 61, 42, 27, 182, 0, 185]
abbrev dktX0_drop_0 : List UInt8 := dkwX0_drop_0 ++ dktX0_drop_1
theorem dksX0_drop_0 : cX0_drop.data.toList.drop 0 = dktX0_drop_0 := by decide +kernel
theorem dksX0_drop_1 : cX0_drop.data.toList.drop 24 = dktX0_drop_1 := dk_seg dksX0_drop_0 24 rfl rfl
theorem dX0_drop_0 : decode cX0_drop 0 = .ok (.iload_n 1, 1) := dk_27 (dk_at dksX0_drop_0 0 rfl rfl)
theorem dX0_drop_1 : decode cX0_drop 1 = .ok (.invokestatic 192, 3) := dk_184 0 192 (dk_at dksX0_drop_0 1 rfl rfl)
theorem dX0_drop_4 : decode cX0_drop 4 = .ok (.ifCond .ne 5, 3) := dk_154 0 5 (dk_at dksX0_drop_0 4 rfl rfl)
theorem dX0_drop_7 : decode cX0_drop 7 = .ok (.iconst (-1), 1) := dk_2 (dk_at dksX0_drop_0 7 rfl rfl)
theorem dX0_drop_8 : decode cX0_drop 8 = .ok (.ireturn, 1) := dk_172 (dk_at dksX0_drop_0 8 rfl rfl)
theorem dX0_drop_9 : decode cX0_drop 9 = .ok (.aload_n 0, 1) := dk_42 (dk_at dksX0_drop_0 9 rfl rfl)
theorem dX0_drop_10 : decode cX0_drop 10 = .ok (.getfield 25, 3) := dk_180 0 25 (dk_at dksX0_drop_0 10 rfl rfl)
theorem dX0_drop_13 : decode cX0_drop 13 = .ok (.iload_n 1, 1) := dk_27 (dk_at dksX0_drop_0 13 rfl rfl)
theorem dX0_drop_14 : decode cX0_drop 14 = .ok (.aaload, 1) := dk_50 (dk_at dksX0_drop_0 14 rfl rfl)
theorem dX0_drop_15 : decode cX0_drop 15 = .ok (.invokevirtual 194, 3) := dk_182 0 194 (dk_at dksX0_drop_0 15 rfl rfl)
theorem dX0_drop_18 : decode cX0_drop 18 = .ok (.istore_n 2, 1) := dk_61 (dk_at dksX0_drop_0 18 rfl rfl)
theorem dX0_drop_19 : decode cX0_drop 19 = .ok (.aload_n 0, 1) := dk_42 (dk_at dksX0_drop_0 19 rfl rfl)
theorem dX0_drop_20 : decode cX0_drop 20 = .ok (.iload_n 1, 1) := dk_27 (dk_at dksX0_drop_0 20 rfl rfl)
theorem dX0_drop_21 : decode cX0_drop 21 = .ok (.invokevirtual 185, 3) := dk_182 0 185 (dk_at dksX0_drop_0 21 rfl rfl)
theorem dX0_drop_24 : decode cX0_drop 24 = .ok (.iconst 1, 1) := dk_4 (dk_at dksX0_drop_1 0 rfl rfl)
theorem dX0_drop_25 : decode cX0_drop 25 = .ok (.ireturn, 1) := dk_172 (dk_at dksX0_drop_1 1 rfl rfl)
theorem dX0_drop_26 : decode cX0_drop 26 = .ok (.astore_n 2, 1) := dk_77 (dk_at dksX0_drop_1 2 rfl rfl)
theorem dX0_drop_27 : decode cX0_drop 27 = .ok (.aload_n 0, 1) := dk_42 (dk_at dksX0_drop_1 3 rfl rfl)
theorem dX0_drop_28 : decode cX0_drop 28 = .ok (.iconst 1, 1) := dk_4 (dk_at dksX0_drop_1 4 rfl rfl)
theorem dX0_drop_29 : decode cX0_drop 29 = .ok (.invokevirtual 86, 3) := dk_182 0 86 (dk_at dksX0_drop_1 5 rfl rfl)
theorem dX0_drop_32 : decode cX0_drop 32 = .ok (.ireturn, 1) := dk_172 (dk_at dksX0_drop_1 8 rfl rfl)
abbrev cX0_stock : ByteArray := prog_1_method_24_code
def yX0_stock : MethodName := ⟨RX0, "stock", "(II)I"⟩
def dkwX0_stock_1 : List UInt8 := [180, 0, 150, 62, 42, 180, 0, 25, 27, 50, 28, 181, 0, 150, 29, 172, 78, 42, 4, 182, 0, 86, 172]
abbrev dktX0_stock_1 : List UInt8 := dkwX0_stock_1 ++ []
def dkwX0_stock_0 : List UInt8 := [27, 184, 0, 192, 153, 0, 10, 28, 184, 0, 197, 154, 0, 5, 2, 172, 42, 180, 0, 25, 27, 50]
abbrev dktX0_stock_0 : List UInt8 := dkwX0_stock_0 ++ dktX0_stock_1
theorem dksX0_stock_0 : cX0_stock.data.toList.drop 0 = dktX0_stock_0 := by decide +kernel
theorem dksX0_stock_1 : cX0_stock.data.toList.drop 22 = dktX0_stock_1 := dk_seg dksX0_stock_0 22 rfl rfl
theorem dX0_stock_0 : decode cX0_stock 0 = .ok (.iload_n 1, 1) := dk_27 (dk_at dksX0_stock_0 0 rfl rfl)
theorem dX0_stock_1 : decode cX0_stock 1 = .ok (.invokestatic 192, 3) := dk_184 0 192 (dk_at dksX0_stock_0 1 rfl rfl)
theorem dX0_stock_4 : decode cX0_stock 4 = .ok (.ifCond .eq 10, 3) := dk_153 0 10 (dk_at dksX0_stock_0 4 rfl rfl)
theorem dX0_stock_7 : decode cX0_stock 7 = .ok (.iload_n 2, 1) := dk_28 (dk_at dksX0_stock_0 7 rfl rfl)
theorem dX0_stock_8 : decode cX0_stock 8 = .ok (.invokestatic 197, 3) := dk_184 0 197 (dk_at dksX0_stock_0 8 rfl rfl)
theorem dX0_stock_11 : decode cX0_stock 11 = .ok (.ifCond .ne 5, 3) := dk_154 0 5 (dk_at dksX0_stock_0 11 rfl rfl)
theorem dX0_stock_14 : decode cX0_stock 14 = .ok (.iconst (-1), 1) := dk_2 (dk_at dksX0_stock_0 14 rfl rfl)
theorem dX0_stock_15 : decode cX0_stock 15 = .ok (.ireturn, 1) := dk_172 (dk_at dksX0_stock_0 15 rfl rfl)
theorem dX0_stock_16 : decode cX0_stock 16 = .ok (.aload_n 0, 1) := dk_42 (dk_at dksX0_stock_0 16 rfl rfl)
theorem dX0_stock_17 : decode cX0_stock 17 = .ok (.getfield 25, 3) := dk_180 0 25 (dk_at dksX0_stock_0 17 rfl rfl)
theorem dX0_stock_20 : decode cX0_stock 20 = .ok (.iload_n 1, 1) := dk_27 (dk_at dksX0_stock_0 20 rfl rfl)
theorem dX0_stock_21 : decode cX0_stock 21 = .ok (.aaload, 1) := dk_50 (dk_at dksX0_stock_0 21 rfl rfl)
theorem dX0_stock_22 : decode cX0_stock 22 = .ok (.getfield 150, 3) := dk_180 0 150 (dk_at dksX0_stock_1 0 rfl rfl)
theorem dX0_stock_25 : decode cX0_stock 25 = .ok (.istore_n 3, 1) := dk_62 (dk_at dksX0_stock_1 3 rfl rfl)
theorem dX0_stock_26 : decode cX0_stock 26 = .ok (.aload_n 0, 1) := dk_42 (dk_at dksX0_stock_1 4 rfl rfl)
theorem dX0_stock_27 : decode cX0_stock 27 = .ok (.getfield 25, 3) := dk_180 0 25 (dk_at dksX0_stock_1 5 rfl rfl)
theorem dX0_stock_30 : decode cX0_stock 30 = .ok (.iload_n 1, 1) := dk_27 (dk_at dksX0_stock_1 8 rfl rfl)
theorem dX0_stock_31 : decode cX0_stock 31 = .ok (.aaload, 1) := dk_50 (dk_at dksX0_stock_1 9 rfl rfl)
theorem dX0_stock_32 : decode cX0_stock 32 = .ok (.iload_n 2, 1) := dk_28 (dk_at dksX0_stock_1 10 rfl rfl)
theorem dX0_stock_33 : decode cX0_stock 33 = .ok (.putfield 150, 3) := dk_181 0 150 (dk_at dksX0_stock_1 11 rfl rfl)
theorem dX0_stock_36 : decode cX0_stock 36 = .ok (.iload_n 3, 1) := dk_29 (dk_at dksX0_stock_1 14 rfl rfl)
theorem dX0_stock_37 : decode cX0_stock 37 = .ok (.ireturn, 1) := dk_172 (dk_at dksX0_stock_1 15 rfl rfl)
theorem dX0_stock_38 : decode cX0_stock 38 = .ok (.astore_n 3, 1) := dk_78 (dk_at dksX0_stock_1 16 rfl rfl)
theorem dX0_stock_39 : decode cX0_stock 39 = .ok (.aload_n 0, 1) := dk_42 (dk_at dksX0_stock_1 17 rfl rfl)
theorem dX0_stock_40 : decode cX0_stock 40 = .ok (.iconst 1, 1) := dk_4 (dk_at dksX0_stock_1 18 rfl rfl)
theorem dX0_stock_41 : decode cX0_stock 41 = .ok (.invokevirtual 86, 3) := dk_182 0 86 (dk_at dksX0_stock_1 19 rfl rfl)
theorem dX0_stock_44 : decode cX0_stock 44 = .ok (.ireturn, 1) := dk_172 (dk_at dksX0_stock_1 22 rfl rfl)
abbrev cX0_isMuch : ByteArray := prog_1_method_16_code
def yX0_isMuch : MethodName := ⟨RX0, "isMuch", "(I)Z"⟩
def dkwX0_isMuch_0 : List UInt8 := [26, 3, 18, 125, 184, 0, 76, 172]
abbrev dktX0_isMuch_0 : List UInt8 := dkwX0_isMuch_0 ++ []
theorem dksX0_isMuch_0 : cX0_isMuch.data.toList.drop 0 = dktX0_isMuch_0 := by decide +kernel
theorem dX0_isMuch_0 : decode cX0_isMuch 0 = .ok (.iload_n 0, 1) := dk_26 (dk_at dksX0_isMuch_0 0 rfl rfl)
theorem dX0_isMuch_1 : decode cX0_isMuch 1 = .ok (.iconst 0, 1) := dk_3 (dk_at dksX0_isMuch_0 1 rfl rfl)
theorem dX0_isMuch_2 : decode cX0_isMuch 2 = .ok (.ldc 125, 2) := dk_18 125 (dk_at dksX0_isMuch_0 2 rfl rfl)
theorem dX0_isMuch_4 : decode cX0_isMuch 4 = .ok (.invokestatic 76, 3) := dk_184 0 76 (dk_at dksX0_isMuch_0 4 rfl rfl)
theorem dX0_isMuch_7 : decode cX0_isMuch 7 = .ok (.ireturn, 1) := dk_172 (dk_at dksX0_isMuch_0 7 rfl rfl)
abbrev cX0_plant : ByteArray := prog_1_method_25_code
def yX0_plant : MethodName := ⟨RX0, "plant", "(III)I"⟩
def dkwX0_plant_3 : List UInt8 := [182, 0, 86, 172]
abbrev dktX0_plant_3 : List UInt8 := dkwX0_plant_3 ++ []
def dkwX0_plant_2 : List UInt8 := [181, 0, 200, 25, 4, 29, 181, 0, 203, 4, 172, 58, 4, 42, 4, 182, 0, 86, 172, 58, 4, 42, 6]
abbrev dktX0_plant_2 : List UInt8 := dkwX0_plant_2 ++ dktX0_plant_3
def dkwX0_plant_1 : List UInt8 := [184, 0, 76, 154, 0, 5, 2, 172, 42, 180, 0, 25, 27, 50, 192, 0, 167, 58, 4, 25, 4, 28]
abbrev dktX0_plant_1 : List UInt8 := dkwX0_plant_1 ++ dktX0_plant_2
def dkwX0_plant_0 : List UInt8 := [27, 184, 0, 192, 153, 0, 24, 28, 3, 17, 3, 232, 184, 0, 76, 153, 0, 13, 29, 4, 18, 125]
abbrev dktX0_plant_0 : List UInt8 := dkwX0_plant_0 ++ dktX0_plant_1
theorem dksX0_plant_0 : cX0_plant.data.toList.drop 0 = dktX0_plant_0 := by decide +kernel
theorem dksX0_plant_1 : cX0_plant.data.toList.drop 22 = dktX0_plant_1 := dk_seg dksX0_plant_0 22 rfl rfl
theorem dksX0_plant_2 : cX0_plant.data.toList.drop 44 = dktX0_plant_2 := dk_seg dksX0_plant_1 22 rfl rfl
theorem dksX0_plant_3 : cX0_plant.data.toList.drop 67 = dktX0_plant_3 := dk_seg dksX0_plant_2 23 rfl rfl
theorem dX0_plant_0 : decode cX0_plant 0 = .ok (.iload_n 1, 1) := dk_27 (dk_at dksX0_plant_0 0 rfl rfl)
theorem dX0_plant_1 : decode cX0_plant 1 = .ok (.invokestatic 192, 3) := dk_184 0 192 (dk_at dksX0_plant_0 1 rfl rfl)
theorem dX0_plant_4 : decode cX0_plant 4 = .ok (.ifCond .eq 24, 3) := dk_153 0 24 (dk_at dksX0_plant_0 4 rfl rfl)
theorem dX0_plant_7 : decode cX0_plant 7 = .ok (.iload_n 2, 1) := dk_28 (dk_at dksX0_plant_0 7 rfl rfl)
theorem dX0_plant_8 : decode cX0_plant 8 = .ok (.iconst 0, 1) := dk_3 (dk_at dksX0_plant_0 8 rfl rfl)
theorem dX0_plant_9 : decode cX0_plant 9 = .ok (.sipush 1000, 3) := dk_17 3 232 (dk_at dksX0_plant_0 9 rfl rfl)
theorem dX0_plant_12 : decode cX0_plant 12 = .ok (.invokestatic 76, 3) := dk_184 0 76 (dk_at dksX0_plant_0 12 rfl rfl)
theorem dX0_plant_15 : decode cX0_plant 15 = .ok (.ifCond .eq 13, 3) := dk_153 0 13 (dk_at dksX0_plant_0 15 rfl rfl)
theorem dX0_plant_18 : decode cX0_plant 18 = .ok (.iload_n 3, 1) := dk_29 (dk_at dksX0_plant_0 18 rfl rfl)
theorem dX0_plant_19 : decode cX0_plant 19 = .ok (.iconst 1, 1) := dk_4 (dk_at dksX0_plant_0 19 rfl rfl)
theorem dX0_plant_20 : decode cX0_plant 20 = .ok (.ldc 125, 2) := dk_18 125 (dk_at dksX0_plant_0 20 rfl rfl)
theorem dX0_plant_22 : decode cX0_plant 22 = .ok (.invokestatic 76, 3) := dk_184 0 76 (dk_at dksX0_plant_1 0 rfl rfl)
theorem dX0_plant_25 : decode cX0_plant 25 = .ok (.ifCond .ne 5, 3) := dk_154 0 5 (dk_at dksX0_plant_1 3 rfl rfl)
theorem dX0_plant_28 : decode cX0_plant 28 = .ok (.iconst (-1), 1) := dk_2 (dk_at dksX0_plant_1 6 rfl rfl)
theorem dX0_plant_29 : decode cX0_plant 29 = .ok (.ireturn, 1) := dk_172 (dk_at dksX0_plant_1 7 rfl rfl)
theorem dX0_plant_30 : decode cX0_plant 30 = .ok (.aload_n 0, 1) := dk_42 (dk_at dksX0_plant_1 8 rfl rfl)
theorem dX0_plant_31 : decode cX0_plant 31 = .ok (.getfield 25, 3) := dk_180 0 25 (dk_at dksX0_plant_1 9 rfl rfl)
theorem dX0_plant_34 : decode cX0_plant 34 = .ok (.iload_n 1, 1) := dk_27 (dk_at dksX0_plant_1 12 rfl rfl)
theorem dX0_plant_35 : decode cX0_plant 35 = .ok (.aaload, 1) := dk_50 (dk_at dksX0_plant_1 13 rfl rfl)
theorem dX0_plant_36 : decode cX0_plant 36 = .ok (.checkcast 167, 3) := dk_192 0 167 (dk_at dksX0_plant_1 14 rfl rfl)
theorem dX0_plant_39 : decode cX0_plant 39 = .ok (.astore 4, 2) := dk_58 4 (dk_at dksX0_plant_1 17 rfl rfl)
theorem dX0_plant_41 : decode cX0_plant 41 = .ok (.aload 4, 2) := dk_25 4 (dk_at dksX0_plant_1 19 rfl rfl)
theorem dX0_plant_43 : decode cX0_plant 43 = .ok (.iload_n 2, 1) := dk_28 (dk_at dksX0_plant_1 21 rfl rfl)
theorem dX0_plant_44 : decode cX0_plant 44 = .ok (.putfield 200, 3) := dk_181 0 200 (dk_at dksX0_plant_2 0 rfl rfl)
theorem dX0_plant_47 : decode cX0_plant 47 = .ok (.aload 4, 2) := dk_25 4 (dk_at dksX0_plant_2 3 rfl rfl)
theorem dX0_plant_49 : decode cX0_plant 49 = .ok (.iload_n 3, 1) := dk_29 (dk_at dksX0_plant_2 5 rfl rfl)
theorem dX0_plant_50 : decode cX0_plant 50 = .ok (.putfield 203, 3) := dk_181 0 203 (dk_at dksX0_plant_2 6 rfl rfl)
theorem dX0_plant_53 : decode cX0_plant 53 = .ok (.iconst 1, 1) := dk_4 (dk_at dksX0_plant_2 9 rfl rfl)
theorem dX0_plant_54 : decode cX0_plant 54 = .ok (.ireturn, 1) := dk_172 (dk_at dksX0_plant_2 10 rfl rfl)
theorem dX0_plant_55 : decode cX0_plant 55 = .ok (.astore 4, 2) := dk_58 4 (dk_at dksX0_plant_2 11 rfl rfl)
theorem dX0_plant_57 : decode cX0_plant 57 = .ok (.aload_n 0, 1) := dk_42 (dk_at dksX0_plant_2 13 rfl rfl)
theorem dX0_plant_58 : decode cX0_plant 58 = .ok (.iconst 1, 1) := dk_4 (dk_at dksX0_plant_2 14 rfl rfl)
theorem dX0_plant_59 : decode cX0_plant 59 = .ok (.invokevirtual 86, 3) := dk_182 0 86 (dk_at dksX0_plant_2 15 rfl rfl)
theorem dX0_plant_62 : decode cX0_plant 62 = .ok (.ireturn, 1) := dk_172 (dk_at dksX0_plant_2 18 rfl rfl)
theorem dX0_plant_63 : decode cX0_plant 63 = .ok (.astore 4, 2) := dk_58 4 (dk_at dksX0_plant_2 19 rfl rfl)
theorem dX0_plant_65 : decode cX0_plant 65 = .ok (.aload_n 0, 1) := dk_42 (dk_at dksX0_plant_2 21 rfl rfl)
theorem dX0_plant_66 : decode cX0_plant 66 = .ok (.iconst 3, 1) := dk_6 (dk_at dksX0_plant_2 22 rfl rfl)
theorem dX0_plant_67 : decode cX0_plant 67 = .ok (.invokevirtual 86, 3) := dk_182 0 86 (dk_at dksX0_plant_3 0 rfl rfl)
theorem dX0_plant_70 : decode cX0_plant 70 = .ok (.ireturn, 1) := dk_172 (dk_at dksX0_plant_3 3 rfl rfl)
abbrev cX0_eater : ByteArray := prog_1_method_26_code
def yX0_eater : MethodName := ⟨RX0, "eater", "(III)I"⟩
def dkwX0_eater_3 : List UInt8 := [182, 0, 86, 172]
abbrev dktX0_eater_3 : List UInt8 := dkwX0_eater_3 ++ []
def dkwX0_eater_2 : List UInt8 := [181, 0, 208, 25, 4, 29, 181, 0, 211, 4, 172, 58, 4, 42, 4, 182, 0, 86, 172, 58, 4, 42, 6]
abbrev dktX0_eater_2 : List UInt8 := dkwX0_eater_2 ++ dktX0_eater_3
def dkwX0_eater_1 : List UInt8 := [184, 0, 76, 154, 0, 5, 2, 172, 42, 180, 0, 25, 27, 50, 192, 0, 170, 58, 4, 25, 4, 28]
abbrev dktX0_eater_1 : List UInt8 := dkwX0_eater_1 ++ dktX0_eater_2
def dkwX0_eater_0 : List UInt8 := [27, 184, 0, 192, 153, 0, 24, 28, 3, 17, 3, 232, 184, 0, 76, 153, 0, 13, 29, 3, 16, 100]
abbrev dktX0_eater_0 : List UInt8 := dkwX0_eater_0 ++ dktX0_eater_1
theorem dksX0_eater_0 : cX0_eater.data.toList.drop 0 = dktX0_eater_0 := by decide +kernel
theorem dksX0_eater_1 : cX0_eater.data.toList.drop 22 = dktX0_eater_1 := dk_seg dksX0_eater_0 22 rfl rfl
theorem dksX0_eater_2 : cX0_eater.data.toList.drop 44 = dktX0_eater_2 := dk_seg dksX0_eater_1 22 rfl rfl
theorem dksX0_eater_3 : cX0_eater.data.toList.drop 67 = dktX0_eater_3 := dk_seg dksX0_eater_2 23 rfl rfl
theorem dX0_eater_0 : decode cX0_eater 0 = .ok (.iload_n 1, 1) := dk_27 (dk_at dksX0_eater_0 0 rfl rfl)
theorem dX0_eater_1 : decode cX0_eater 1 = .ok (.invokestatic 192, 3) := dk_184 0 192 (dk_at dksX0_eater_0 1 rfl rfl)
theorem dX0_eater_4 : decode cX0_eater 4 = .ok (.ifCond .eq 24, 3) := dk_153 0 24 (dk_at dksX0_eater_0 4 rfl rfl)
theorem dX0_eater_7 : decode cX0_eater 7 = .ok (.iload_n 2, 1) := dk_28 (dk_at dksX0_eater_0 7 rfl rfl)
theorem dX0_eater_8 : decode cX0_eater 8 = .ok (.iconst 0, 1) := dk_3 (dk_at dksX0_eater_0 8 rfl rfl)
theorem dX0_eater_9 : decode cX0_eater 9 = .ok (.sipush 1000, 3) := dk_17 3 232 (dk_at dksX0_eater_0 9 rfl rfl)
theorem dX0_eater_12 : decode cX0_eater 12 = .ok (.invokestatic 76, 3) := dk_184 0 76 (dk_at dksX0_eater_0 12 rfl rfl)
theorem dX0_eater_15 : decode cX0_eater 15 = .ok (.ifCond .eq 13, 3) := dk_153 0 13 (dk_at dksX0_eater_0 15 rfl rfl)
theorem dX0_eater_18 : decode cX0_eater 18 = .ok (.iload_n 3, 1) := dk_29 (dk_at dksX0_eater_0 18 rfl rfl)
theorem dX0_eater_19 : decode cX0_eater 19 = .ok (.iconst 0, 1) := dk_3 (dk_at dksX0_eater_0 19 rfl rfl)
theorem dX0_eater_20 : decode cX0_eater 20 = .ok (.bipush 100, 2) := dk_16 100 (dk_at dksX0_eater_0 20 rfl rfl)
theorem dX0_eater_22 : decode cX0_eater 22 = .ok (.invokestatic 76, 3) := dk_184 0 76 (dk_at dksX0_eater_1 0 rfl rfl)
theorem dX0_eater_25 : decode cX0_eater 25 = .ok (.ifCond .ne 5, 3) := dk_154 0 5 (dk_at dksX0_eater_1 3 rfl rfl)
theorem dX0_eater_28 : decode cX0_eater 28 = .ok (.iconst (-1), 1) := dk_2 (dk_at dksX0_eater_1 6 rfl rfl)
theorem dX0_eater_29 : decode cX0_eater 29 = .ok (.ireturn, 1) := dk_172 (dk_at dksX0_eater_1 7 rfl rfl)
theorem dX0_eater_30 : decode cX0_eater 30 = .ok (.aload_n 0, 1) := dk_42 (dk_at dksX0_eater_1 8 rfl rfl)
theorem dX0_eater_31 : decode cX0_eater 31 = .ok (.getfield 25, 3) := dk_180 0 25 (dk_at dksX0_eater_1 9 rfl rfl)
theorem dX0_eater_34 : decode cX0_eater 34 = .ok (.iload_n 1, 1) := dk_27 (dk_at dksX0_eater_1 12 rfl rfl)
theorem dX0_eater_35 : decode cX0_eater 35 = .ok (.aaload, 1) := dk_50 (dk_at dksX0_eater_1 13 rfl rfl)
theorem dX0_eater_36 : decode cX0_eater 36 = .ok (.checkcast 170, 3) := dk_192 0 170 (dk_at dksX0_eater_1 14 rfl rfl)
theorem dX0_eater_39 : decode cX0_eater 39 = .ok (.astore 4, 2) := dk_58 4 (dk_at dksX0_eater_1 17 rfl rfl)
theorem dX0_eater_41 : decode cX0_eater 41 = .ok (.aload 4, 2) := dk_25 4 (dk_at dksX0_eater_1 19 rfl rfl)
theorem dX0_eater_43 : decode cX0_eater 43 = .ok (.iload_n 2, 1) := dk_28 (dk_at dksX0_eater_1 21 rfl rfl)
theorem dX0_eater_44 : decode cX0_eater 44 = .ok (.putfield 208, 3) := dk_181 0 208 (dk_at dksX0_eater_2 0 rfl rfl)
theorem dX0_eater_47 : decode cX0_eater 47 = .ok (.aload 4, 2) := dk_25 4 (dk_at dksX0_eater_2 3 rfl rfl)
theorem dX0_eater_49 : decode cX0_eater 49 = .ok (.iload_n 3, 1) := dk_29 (dk_at dksX0_eater_2 5 rfl rfl)
theorem dX0_eater_50 : decode cX0_eater 50 = .ok (.putfield 211, 3) := dk_181 0 211 (dk_at dksX0_eater_2 6 rfl rfl)
theorem dX0_eater_53 : decode cX0_eater 53 = .ok (.iconst 1, 1) := dk_4 (dk_at dksX0_eater_2 9 rfl rfl)
theorem dX0_eater_54 : decode cX0_eater 54 = .ok (.ireturn, 1) := dk_172 (dk_at dksX0_eater_2 10 rfl rfl)
theorem dX0_eater_55 : decode cX0_eater 55 = .ok (.astore 4, 2) := dk_58 4 (dk_at dksX0_eater_2 11 rfl rfl)
theorem dX0_eater_57 : decode cX0_eater 57 = .ok (.aload_n 0, 1) := dk_42 (dk_at dksX0_eater_2 13 rfl rfl)
theorem dX0_eater_58 : decode cX0_eater 58 = .ok (.iconst 1, 1) := dk_4 (dk_at dksX0_eater_2 14 rfl rfl)
theorem dX0_eater_59 : decode cX0_eater 59 = .ok (.invokevirtual 86, 3) := dk_182 0 86 (dk_at dksX0_eater_2 15 rfl rfl)
theorem dX0_eater_62 : decode cX0_eater 62 = .ok (.ireturn, 1) := dk_172 (dk_at dksX0_eater_2 18 rfl rfl)
theorem dX0_eater_63 : decode cX0_eater 63 = .ok (.astore 4, 2) := dk_58 4 (dk_at dksX0_eater_2 19 rfl rfl)
theorem dX0_eater_65 : decode cX0_eater 65 = .ok (.aload_n 0, 1) := dk_42 (dk_at dksX0_eater_2 21 rfl rfl)
theorem dX0_eater_66 : decode cX0_eater 66 = .ok (.iconst 3, 1) := dk_6 (dk_at dksX0_eater_2 22 rfl rfl)
theorem dX0_eater_67 : decode cX0_eater 67 = .ok (.invokevirtual 86, 3) := dk_182 0 86 (dk_at dksX0_eater_3 0 rfl rfl)
theorem dX0_eater_70 : decode cX0_eater 70 = .ok (.ireturn, 1) := dk_172 (dk_at dksX0_eater_3 3 rfl rfl)
abbrev cX0_link : ByteArray := prog_1_method_27_code
def yX0_link : MethodName := ⟨RX0, "link", "(III)I"⟩
def dkwX0_link_4 : List UInt8 := [42, 27, 28, 29, 182, 0, 156, 21, 4, 172]
abbrev dktX0_link_4 : List UInt8 := dkwX0_link_4 ++ []
def dkwX0_link_3 : List UInt8 := [182, 0, 153, 153, 0, 9, 42, 6, 182, 0, 86, 172, 42, 180, 0, 29, 27, 28, 184, 0, 181, 46, 54, 4]
abbrev dktX0_link_3 : List UInt8 := dkwX0_link_3 ++ dktX0_link_4
def dkwX0_link_2 : List UInt8 := [182, 0, 86, 172, 42, 180, 0, 25, 27, 50, 5, 182, 0, 153, 153, 0, 16, 42, 180, 0, 25, 28, 50, 6]
abbrev dktX0_link_2 : List UInt8 := dkwX0_link_2 ++ dktX0_link_3
def dkwX0_link_1 : List UInt8 := [2, 172, 42, 180, 0, 25, 27, 50, 198, 0, 12, 42, 180, 0, 25, 28, 50, 199, 0, 9, 42, 4]
abbrev dktX0_link_1 : List UInt8 := dkwX0_link_1 ++ dktX0_link_2
def dkwX0_link_0 : List UInt8 := [27, 184, 0, 192, 153, 0, 20, 28, 184, 0, 192, 153, 0, 13, 29, 3, 16, 99, 184, 0, 76, 154, 0, 5]
abbrev dktX0_link_0 : List UInt8 := dkwX0_link_0 ++ dktX0_link_1
theorem dksX0_link_0 : cX0_link.data.toList.drop 0 = dktX0_link_0 := by decide +kernel
theorem dksX0_link_1 : cX0_link.data.toList.drop 24 = dktX0_link_1 := dk_seg dksX0_link_0 24 rfl rfl
theorem dksX0_link_2 : cX0_link.data.toList.drop 46 = dktX0_link_2 := dk_seg dksX0_link_1 22 rfl rfl
theorem dksX0_link_3 : cX0_link.data.toList.drop 70 = dktX0_link_3 := dk_seg dksX0_link_2 24 rfl rfl
theorem dksX0_link_4 : cX0_link.data.toList.drop 94 = dktX0_link_4 := dk_seg dksX0_link_3 24 rfl rfl
theorem dX0_link_0 : decode cX0_link 0 = .ok (.iload_n 1, 1) := dk_27 (dk_at dksX0_link_0 0 rfl rfl)
theorem dX0_link_1 : decode cX0_link 1 = .ok (.invokestatic 192, 3) := dk_184 0 192 (dk_at dksX0_link_0 1 rfl rfl)
theorem dX0_link_4 : decode cX0_link 4 = .ok (.ifCond .eq 20, 3) := dk_153 0 20 (dk_at dksX0_link_0 4 rfl rfl)
theorem dX0_link_7 : decode cX0_link 7 = .ok (.iload_n 2, 1) := dk_28 (dk_at dksX0_link_0 7 rfl rfl)
theorem dX0_link_8 : decode cX0_link 8 = .ok (.invokestatic 192, 3) := dk_184 0 192 (dk_at dksX0_link_0 8 rfl rfl)
theorem dX0_link_11 : decode cX0_link 11 = .ok (.ifCond .eq 13, 3) := dk_153 0 13 (dk_at dksX0_link_0 11 rfl rfl)
theorem dX0_link_14 : decode cX0_link 14 = .ok (.iload_n 3, 1) := dk_29 (dk_at dksX0_link_0 14 rfl rfl)
theorem dX0_link_15 : decode cX0_link 15 = .ok (.iconst 0, 1) := dk_3 (dk_at dksX0_link_0 15 rfl rfl)
theorem dX0_link_16 : decode cX0_link 16 = .ok (.bipush 99, 2) := dk_16 99 (dk_at dksX0_link_0 16 rfl rfl)
theorem dX0_link_18 : decode cX0_link 18 = .ok (.invokestatic 76, 3) := dk_184 0 76 (dk_at dksX0_link_0 18 rfl rfl)
theorem dX0_link_21 : decode cX0_link 21 = .ok (.ifCond .ne 5, 3) := dk_154 0 5 (dk_at dksX0_link_0 21 rfl rfl)
theorem dX0_link_24 : decode cX0_link 24 = .ok (.iconst (-1), 1) := dk_2 (dk_at dksX0_link_1 0 rfl rfl)
theorem dX0_link_25 : decode cX0_link 25 = .ok (.ireturn, 1) := dk_172 (dk_at dksX0_link_1 1 rfl rfl)
theorem dX0_link_26 : decode cX0_link 26 = .ok (.aload_n 0, 1) := dk_42 (dk_at dksX0_link_1 2 rfl rfl)
theorem dX0_link_27 : decode cX0_link 27 = .ok (.getfield 25, 3) := dk_180 0 25 (dk_at dksX0_link_1 3 rfl rfl)
theorem dX0_link_30 : decode cX0_link 30 = .ok (.iload_n 1, 1) := dk_27 (dk_at dksX0_link_1 6 rfl rfl)
theorem dX0_link_31 : decode cX0_link 31 = .ok (.aaload, 1) := dk_50 (dk_at dksX0_link_1 7 rfl rfl)
theorem dX0_link_32 : decode cX0_link 32 = .ok (.ifnull 12, 3) := dk_198 0 12 (dk_at dksX0_link_1 8 rfl rfl)
theorem dX0_link_35 : decode cX0_link 35 = .ok (.aload_n 0, 1) := dk_42 (dk_at dksX0_link_1 11 rfl rfl)
theorem dX0_link_36 : decode cX0_link 36 = .ok (.getfield 25, 3) := dk_180 0 25 (dk_at dksX0_link_1 12 rfl rfl)
theorem dX0_link_39 : decode cX0_link 39 = .ok (.iload_n 2, 1) := dk_28 (dk_at dksX0_link_1 15 rfl rfl)
theorem dX0_link_40 : decode cX0_link 40 = .ok (.aaload, 1) := dk_50 (dk_at dksX0_link_1 16 rfl rfl)
theorem dX0_link_41 : decode cX0_link 41 = .ok (.ifnonnull 9, 3) := dk_199 0 9 (dk_at dksX0_link_1 17 rfl rfl)
theorem dX0_link_44 : decode cX0_link 44 = .ok (.aload_n 0, 1) := dk_42 (dk_at dksX0_link_1 20 rfl rfl)
theorem dX0_link_45 : decode cX0_link 45 = .ok (.iconst 1, 1) := dk_4 (dk_at dksX0_link_1 21 rfl rfl)
theorem dX0_link_46 : decode cX0_link 46 = .ok (.invokevirtual 86, 3) := dk_182 0 86 (dk_at dksX0_link_2 0 rfl rfl)
theorem dX0_link_49 : decode cX0_link 49 = .ok (.ireturn, 1) := dk_172 (dk_at dksX0_link_2 3 rfl rfl)
theorem dX0_link_50 : decode cX0_link 50 = .ok (.aload_n 0, 1) := dk_42 (dk_at dksX0_link_2 4 rfl rfl)
theorem dX0_link_51 : decode cX0_link 51 = .ok (.getfield 25, 3) := dk_180 0 25 (dk_at dksX0_link_2 5 rfl rfl)
theorem dX0_link_54 : decode cX0_link 54 = .ok (.iload_n 1, 1) := dk_27 (dk_at dksX0_link_2 8 rfl rfl)
theorem dX0_link_55 : decode cX0_link 55 = .ok (.aaload, 1) := dk_50 (dk_at dksX0_link_2 9 rfl rfl)
theorem dX0_link_56 : decode cX0_link 56 = .ok (.iconst 2, 1) := dk_5 (dk_at dksX0_link_2 10 rfl rfl)
theorem dX0_link_57 : decode cX0_link 57 = .ok (.invokevirtual 153, 3) := dk_182 0 153 (dk_at dksX0_link_2 11 rfl rfl)
theorem dX0_link_60 : decode cX0_link 60 = .ok (.ifCond .eq 16, 3) := dk_153 0 16 (dk_at dksX0_link_2 14 rfl rfl)
theorem dX0_link_63 : decode cX0_link 63 = .ok (.aload_n 0, 1) := dk_42 (dk_at dksX0_link_2 17 rfl rfl)
theorem dX0_link_64 : decode cX0_link 64 = .ok (.getfield 25, 3) := dk_180 0 25 (dk_at dksX0_link_2 18 rfl rfl)
theorem dX0_link_67 : decode cX0_link 67 = .ok (.iload_n 2, 1) := dk_28 (dk_at dksX0_link_2 21 rfl rfl)
theorem dX0_link_68 : decode cX0_link 68 = .ok (.aaload, 1) := dk_50 (dk_at dksX0_link_2 22 rfl rfl)
theorem dX0_link_69 : decode cX0_link 69 = .ok (.iconst 3, 1) := dk_6 (dk_at dksX0_link_2 23 rfl rfl)
theorem dX0_link_70 : decode cX0_link 70 = .ok (.invokevirtual 153, 3) := dk_182 0 153 (dk_at dksX0_link_3 0 rfl rfl)
theorem dX0_link_73 : decode cX0_link 73 = .ok (.ifCond .eq 9, 3) := dk_153 0 9 (dk_at dksX0_link_3 3 rfl rfl)
theorem dX0_link_76 : decode cX0_link 76 = .ok (.aload_n 0, 1) := dk_42 (dk_at dksX0_link_3 6 rfl rfl)
theorem dX0_link_77 : decode cX0_link 77 = .ok (.iconst 3, 1) := dk_6 (dk_at dksX0_link_3 7 rfl rfl)
theorem dX0_link_78 : decode cX0_link 78 = .ok (.invokevirtual 86, 3) := dk_182 0 86 (dk_at dksX0_link_3 8 rfl rfl)
theorem dX0_link_81 : decode cX0_link 81 = .ok (.ireturn, 1) := dk_172 (dk_at dksX0_link_3 11 rfl rfl)
theorem dX0_link_82 : decode cX0_link 82 = .ok (.aload_n 0, 1) := dk_42 (dk_at dksX0_link_3 12 rfl rfl)
theorem dX0_link_83 : decode cX0_link 83 = .ok (.getfield 29, 3) := dk_180 0 29 (dk_at dksX0_link_3 13 rfl rfl)
theorem dX0_link_86 : decode cX0_link 86 = .ok (.iload_n 1, 1) := dk_27 (dk_at dksX0_link_3 16 rfl rfl)
theorem dX0_link_87 : decode cX0_link 87 = .ok (.iload_n 2, 1) := dk_28 (dk_at dksX0_link_3 17 rfl rfl)
theorem dX0_link_88 : decode cX0_link 88 = .ok (.invokestatic 181, 3) := dk_184 0 181 (dk_at dksX0_link_3 18 rfl rfl)
theorem dX0_link_91 : decode cX0_link 91 = .ok (.iaload, 1) := dk_46 (dk_at dksX0_link_3 21 rfl rfl)
theorem dX0_link_92 : decode cX0_link 92 = .ok (.istore 4, 2) := dk_54 4 (dk_at dksX0_link_3 22 rfl rfl)
theorem dX0_link_94 : decode cX0_link 94 = .ok (.aload_n 0, 1) := dk_42 (dk_at dksX0_link_4 0 rfl rfl)
theorem dX0_link_95 : decode cX0_link 95 = .ok (.iload_n 1, 1) := dk_27 (dk_at dksX0_link_4 1 rfl rfl)
theorem dX0_link_96 : decode cX0_link 96 = .ok (.iload_n 2, 1) := dk_28 (dk_at dksX0_link_4 2 rfl rfl)
theorem dX0_link_97 : decode cX0_link 97 = .ok (.iload_n 3, 1) := dk_29 (dk_at dksX0_link_4 3 rfl rfl)
theorem dX0_link_98 : decode cX0_link 98 = .ok (.invokevirtual 156, 3) := dk_182 0 156 (dk_at dksX0_link_4 4 rfl rfl)
theorem dX0_link_101 : decode cX0_link 101 = .ok (.iload 4, 2) := dk_21 4 (dk_at dksX0_link_4 7 rfl rfl)
theorem dX0_link_103 : decode cX0_link 103 = .ok (.ireturn, 1) := dk_172 (dk_at dksX0_link_4 9 rfl rfl)
abbrev cX0_take : ByteArray := prog_1_method_28_code
def yX0_take : MethodName := ⟨RX0, "take", "(II)I"⟩
def dkwX0_take_1 : List UInt8 := [180, 0, 214, 62, 42, 180, 0, 25, 27, 50, 28, 181, 0, 214, 29, 172, 78, 42, 4, 182, 0, 86, 172]
abbrev dktX0_take_1 : List UInt8 := dkwX0_take_1 ++ []
def dkwX0_take_0 : List UInt8 := [27, 184, 0, 192, 153, 0, 10, 28, 184, 0, 197, 154, 0, 5, 2, 172, 42, 180, 0, 25, 27, 50]
abbrev dktX0_take_0 : List UInt8 := dkwX0_take_0 ++ dktX0_take_1
theorem dksX0_take_0 : cX0_take.data.toList.drop 0 = dktX0_take_0 := by decide +kernel
theorem dksX0_take_1 : cX0_take.data.toList.drop 22 = dktX0_take_1 := dk_seg dksX0_take_0 22 rfl rfl
theorem dX0_take_0 : decode cX0_take 0 = .ok (.iload_n 1, 1) := dk_27 (dk_at dksX0_take_0 0 rfl rfl)
theorem dX0_take_1 : decode cX0_take 1 = .ok (.invokestatic 192, 3) := dk_184 0 192 (dk_at dksX0_take_0 1 rfl rfl)
theorem dX0_take_4 : decode cX0_take 4 = .ok (.ifCond .eq 10, 3) := dk_153 0 10 (dk_at dksX0_take_0 4 rfl rfl)
theorem dX0_take_7 : decode cX0_take 7 = .ok (.iload_n 2, 1) := dk_28 (dk_at dksX0_take_0 7 rfl rfl)
theorem dX0_take_8 : decode cX0_take 8 = .ok (.invokestatic 197, 3) := dk_184 0 197 (dk_at dksX0_take_0 8 rfl rfl)
theorem dX0_take_11 : decode cX0_take 11 = .ok (.ifCond .ne 5, 3) := dk_154 0 5 (dk_at dksX0_take_0 11 rfl rfl)
theorem dX0_take_14 : decode cX0_take 14 = .ok (.iconst (-1), 1) := dk_2 (dk_at dksX0_take_0 14 rfl rfl)
theorem dX0_take_15 : decode cX0_take 15 = .ok (.ireturn, 1) := dk_172 (dk_at dksX0_take_0 15 rfl rfl)
theorem dX0_take_16 : decode cX0_take 16 = .ok (.aload_n 0, 1) := dk_42 (dk_at dksX0_take_0 16 rfl rfl)
theorem dX0_take_17 : decode cX0_take 17 = .ok (.getfield 25, 3) := dk_180 0 25 (dk_at dksX0_take_0 17 rfl rfl)
theorem dX0_take_20 : decode cX0_take 20 = .ok (.iload_n 1, 1) := dk_27 (dk_at dksX0_take_0 20 rfl rfl)
theorem dX0_take_21 : decode cX0_take 21 = .ok (.aaload, 1) := dk_50 (dk_at dksX0_take_0 21 rfl rfl)
theorem dX0_take_22 : decode cX0_take 22 = .ok (.getfield 214, 3) := dk_180 0 214 (dk_at dksX0_take_1 0 rfl rfl)
theorem dX0_take_25 : decode cX0_take 25 = .ok (.istore_n 3, 1) := dk_62 (dk_at dksX0_take_1 3 rfl rfl)
theorem dX0_take_26 : decode cX0_take 26 = .ok (.aload_n 0, 1) := dk_42 (dk_at dksX0_take_1 4 rfl rfl)
theorem dX0_take_27 : decode cX0_take 27 = .ok (.getfield 25, 3) := dk_180 0 25 (dk_at dksX0_take_1 5 rfl rfl)
theorem dX0_take_30 : decode cX0_take 30 = .ok (.iload_n 1, 1) := dk_27 (dk_at dksX0_take_1 8 rfl rfl)
theorem dX0_take_31 : decode cX0_take 31 = .ok (.aaload, 1) := dk_50 (dk_at dksX0_take_1 9 rfl rfl)
theorem dX0_take_32 : decode cX0_take 32 = .ok (.iload_n 2, 1) := dk_28 (dk_at dksX0_take_1 10 rfl rfl)
theorem dX0_take_33 : decode cX0_take 33 = .ok (.putfield 214, 3) := dk_181 0 214 (dk_at dksX0_take_1 11 rfl rfl)
theorem dX0_take_36 : decode cX0_take 36 = .ok (.iload_n 3, 1) := dk_29 (dk_at dksX0_take_1 14 rfl rfl)
theorem dX0_take_37 : decode cX0_take 37 = .ok (.ireturn, 1) := dk_172 (dk_at dksX0_take_1 15 rfl rfl)
theorem dX0_take_38 : decode cX0_take 38 = .ok (.astore_n 3, 1) := dk_78 (dk_at dksX0_take_1 16 rfl rfl)
theorem dX0_take_39 : decode cX0_take 39 = .ok (.aload_n 0, 1) := dk_42 (dk_at dksX0_take_1 17 rfl rfl)
theorem dX0_take_40 : decode cX0_take 40 = .ok (.iconst 1, 1) := dk_4 (dk_at dksX0_take_1 18 rfl rfl)
theorem dX0_take_41 : decode cX0_take 41 = .ok (.invokevirtual 86, 3) := dk_182 0 86 (dk_at dksX0_take_1 19 rfl rfl)
theorem dX0_take_44 : decode cX0_take 44 = .ok (.ireturn, 1) := dk_172 (dk_at dksX0_take_1 22 rfl rfl)
abbrev cX0_told : ByteArray := prog_1_method_31_code
def yX0_told : MethodName := ⟨RX0, "told", "(II)I"⟩
def dkwX0_told_2 : List UInt8 := [182, 0, 86, 172]
abbrev dktX0_told_2 : List UInt8 := dkwX0_told_2 ++ []
def dkwX0_told_1 : List UInt8 := [182, 0, 194, 62, 28, 154, 0, 7, 29, 167, 0, 9, 42, 27, 28, 182, 0, 224, 172, 78, 42, 4]
abbrev dktX0_told_1 : List UInt8 := dkwX0_told_1 ++ dktX0_told_2
def dkwX0_told_0 : List UInt8 := [27, 184, 0, 192, 153, 0, 12, 28, 3, 8, 184, 0, 76, 154, 0, 5, 2, 172, 42, 180, 0, 25, 27, 50]
abbrev dktX0_told_0 : List UInt8 := dkwX0_told_0 ++ dktX0_told_1
theorem dksX0_told_0 : cX0_told.data.toList.drop 0 = dktX0_told_0 := by decide +kernel
theorem dksX0_told_1 : cX0_told.data.toList.drop 24 = dktX0_told_1 := dk_seg dksX0_told_0 24 rfl rfl
theorem dksX0_told_2 : cX0_told.data.toList.drop 46 = dktX0_told_2 := dk_seg dksX0_told_1 22 rfl rfl
theorem dX0_told_0 : decode cX0_told 0 = .ok (.iload_n 1, 1) := dk_27 (dk_at dksX0_told_0 0 rfl rfl)
theorem dX0_told_1 : decode cX0_told 1 = .ok (.invokestatic 192, 3) := dk_184 0 192 (dk_at dksX0_told_0 1 rfl rfl)
theorem dX0_told_4 : decode cX0_told 4 = .ok (.ifCond .eq 12, 3) := dk_153 0 12 (dk_at dksX0_told_0 4 rfl rfl)
theorem dX0_told_7 : decode cX0_told 7 = .ok (.iload_n 2, 1) := dk_28 (dk_at dksX0_told_0 7 rfl rfl)
theorem dX0_told_8 : decode cX0_told 8 = .ok (.iconst 0, 1) := dk_3 (dk_at dksX0_told_0 8 rfl rfl)
theorem dX0_told_9 : decode cX0_told 9 = .ok (.iconst 5, 1) := dk_8 (dk_at dksX0_told_0 9 rfl rfl)
theorem dX0_told_10 : decode cX0_told 10 = .ok (.invokestatic 76, 3) := dk_184 0 76 (dk_at dksX0_told_0 10 rfl rfl)
theorem dX0_told_13 : decode cX0_told 13 = .ok (.ifCond .ne 5, 3) := dk_154 0 5 (dk_at dksX0_told_0 13 rfl rfl)
theorem dX0_told_16 : decode cX0_told 16 = .ok (.iconst (-1), 1) := dk_2 (dk_at dksX0_told_0 16 rfl rfl)
theorem dX0_told_17 : decode cX0_told 17 = .ok (.ireturn, 1) := dk_172 (dk_at dksX0_told_0 17 rfl rfl)
theorem dX0_told_18 : decode cX0_told 18 = .ok (.aload_n 0, 1) := dk_42 (dk_at dksX0_told_0 18 rfl rfl)
theorem dX0_told_19 : decode cX0_told 19 = .ok (.getfield 25, 3) := dk_180 0 25 (dk_at dksX0_told_0 19 rfl rfl)
theorem dX0_told_22 : decode cX0_told 22 = .ok (.iload_n 1, 1) := dk_27 (dk_at dksX0_told_0 22 rfl rfl)
theorem dX0_told_23 : decode cX0_told 23 = .ok (.aaload, 1) := dk_50 (dk_at dksX0_told_0 23 rfl rfl)
theorem dX0_told_24 : decode cX0_told 24 = .ok (.invokevirtual 194, 3) := dk_182 0 194 (dk_at dksX0_told_1 0 rfl rfl)
theorem dX0_told_27 : decode cX0_told 27 = .ok (.istore_n 3, 1) := dk_62 (dk_at dksX0_told_1 3 rfl rfl)
theorem dX0_told_28 : decode cX0_told 28 = .ok (.iload_n 2, 1) := dk_28 (dk_at dksX0_told_1 4 rfl rfl)
theorem dX0_told_29 : decode cX0_told 29 = .ok (.ifCond .ne 7, 3) := dk_154 0 7 (dk_at dksX0_told_1 5 rfl rfl)
theorem dX0_told_32 : decode cX0_told 32 = .ok (.iload_n 3, 1) := dk_29 (dk_at dksX0_told_1 8 rfl rfl)
theorem dX0_told_33 : decode cX0_told 33 = .ok (.goto 9, 3) := dk_167 0 9 (dk_at dksX0_told_1 9 rfl rfl)
theorem dX0_told_36 : decode cX0_told 36 = .ok (.aload_n 0, 1) := dk_42 (dk_at dksX0_told_1 12 rfl rfl)
theorem dX0_told_37 : decode cX0_told 37 = .ok (.iload_n 1, 1) := dk_27 (dk_at dksX0_told_1 13 rfl rfl)
theorem dX0_told_38 : decode cX0_told 38 = .ok (.iload_n 2, 1) := dk_28 (dk_at dksX0_told_1 14 rfl rfl)
theorem dX0_told_39 : decode cX0_told 39 = .ok (.invokevirtual 224, 3) := dk_182 0 224 (dk_at dksX0_told_1 15 rfl rfl)
theorem dX0_told_42 : decode cX0_told 42 = .ok (.ireturn, 1) := dk_172 (dk_at dksX0_told_1 18 rfl rfl)
theorem dX0_told_43 : decode cX0_told 43 = .ok (.astore_n 3, 1) := dk_78 (dk_at dksX0_told_1 19 rfl rfl)
theorem dX0_told_44 : decode cX0_told 44 = .ok (.aload_n 0, 1) := dk_42 (dk_at dksX0_told_1 20 rfl rfl)
theorem dX0_told_45 : decode cX0_told 45 = .ok (.iconst 1, 1) := dk_4 (dk_at dksX0_told_1 21 rfl rfl)
theorem dX0_told_46 : decode cX0_told 46 = .ok (.invokevirtual 86, 3) := dk_182 0 86 (dk_at dksX0_told_2 0 rfl rfl)
theorem dX0_told_49 : decode cX0_told 49 = .ok (.ireturn, 1) := dk_172 (dk_at dksX0_told_2 3 rfl rfl)
abbrev cX0_tells : ByteArray := prog_1_method_30_code
def yX0_tells : MethodName := ⟨RX0, "tells", "(II)I"⟩
def dkwX0_tells_3 : List UInt8 := [4, 182, 0, 217, 172, 45, 180, 0, 221, 172]
abbrev dktX0_tells_3 : List UInt8 := dkwX0_tells_3 ++ []
def dkwX0_tells_2 : List UInt8 := [45, 182, 0, 194, 172, 45, 180, 0, 150, 172, 45, 180, 0, 214, 172, 42, 27, 3, 182, 0, 217, 172, 42, 27]
abbrev dktX0_tells_2 : List UInt8 := dkwX0_tells_2 ++ dktX0_tells_3
def dkwX0_tells_1 : List UInt8 := [170, 0, 0, 0, 0, 0, 0, 65, 0, 0, 0, 0, 0, 0, 0, 4, 0, 0, 0, 36, 0, 0, 0, 41, 0, 0, 0, 46, 0, 0, 0, 51, 0, 0, 0, 58]
abbrev dktX0_tells_1 : List UInt8 := dkwX0_tells_1 ++ dktX0_tells_2
def dkwX0_tells_0 : List UInt8 := [42, 180, 0, 25, 27, 50, 78, 28]
abbrev dktX0_tells_0 : List UInt8 := dkwX0_tells_0 ++ dktX0_tells_1
theorem dksX0_tells_0 : cX0_tells.data.toList.drop 0 = dktX0_tells_0 := by decide +kernel
theorem dksX0_tells_1 : cX0_tells.data.toList.drop 8 = dktX0_tells_1 := dk_seg dksX0_tells_0 8 rfl rfl
theorem dksX0_tells_2 : cX0_tells.data.toList.drop 44 = dktX0_tells_2 := dk_seg dksX0_tells_1 36 rfl rfl
theorem dksX0_tells_3 : cX0_tells.data.toList.drop 68 = dktX0_tells_3 := dk_seg dksX0_tells_2 24 rfl rfl
theorem dX0_tells_0 : decode cX0_tells 0 = .ok (.aload_n 0, 1) := dk_42 (dk_at dksX0_tells_0 0 rfl rfl)
theorem dX0_tells_1 : decode cX0_tells 1 = .ok (.getfield 25, 3) := dk_180 0 25 (dk_at dksX0_tells_0 1 rfl rfl)
theorem dX0_tells_4 : decode cX0_tells 4 = .ok (.iload_n 1, 1) := dk_27 (dk_at dksX0_tells_0 4 rfl rfl)
theorem dX0_tells_5 : decode cX0_tells 5 = .ok (.aaload, 1) := dk_50 (dk_at dksX0_tells_0 5 rfl rfl)
theorem dX0_tells_6 : decode cX0_tells 6 = .ok (.astore_n 3, 1) := dk_78 (dk_at dksX0_tells_0 6 rfl rfl)
theorem dX0_tells_7 : decode cX0_tells 7 = .ok (.iload_n 2, 1) := dk_28 (dk_at dksX0_tells_0 7 rfl rfl)
theorem dX0_tells_8 : decode cX0_tells 8 = .ok (.tableswitch 65 0 4 #[36, 41, 46, 51, 58], 36) := by decide +kernel
theorem dX0_tells_44 : decode cX0_tells 44 = .ok (.aload_n 3, 1) := dk_45 (dk_at dksX0_tells_2 0 rfl rfl)
theorem dX0_tells_45 : decode cX0_tells 45 = .ok (.invokevirtual 194, 3) := dk_182 0 194 (dk_at dksX0_tells_2 1 rfl rfl)
theorem dX0_tells_48 : decode cX0_tells 48 = .ok (.ireturn, 1) := dk_172 (dk_at dksX0_tells_2 4 rfl rfl)
theorem dX0_tells_49 : decode cX0_tells 49 = .ok (.aload_n 3, 1) := dk_45 (dk_at dksX0_tells_2 5 rfl rfl)
theorem dX0_tells_50 : decode cX0_tells 50 = .ok (.getfield 150, 3) := dk_180 0 150 (dk_at dksX0_tells_2 6 rfl rfl)
theorem dX0_tells_53 : decode cX0_tells 53 = .ok (.ireturn, 1) := dk_172 (dk_at dksX0_tells_2 9 rfl rfl)
theorem dX0_tells_54 : decode cX0_tells 54 = .ok (.aload_n 3, 1) := dk_45 (dk_at dksX0_tells_2 10 rfl rfl)
theorem dX0_tells_55 : decode cX0_tells 55 = .ok (.getfield 214, 3) := dk_180 0 214 (dk_at dksX0_tells_2 11 rfl rfl)
theorem dX0_tells_58 : decode cX0_tells 58 = .ok (.ireturn, 1) := dk_172 (dk_at dksX0_tells_2 14 rfl rfl)
theorem dX0_tells_59 : decode cX0_tells 59 = .ok (.aload_n 0, 1) := dk_42 (dk_at dksX0_tells_2 15 rfl rfl)
theorem dX0_tells_60 : decode cX0_tells 60 = .ok (.iload_n 1, 1) := dk_27 (dk_at dksX0_tells_2 16 rfl rfl)
theorem dX0_tells_61 : decode cX0_tells 61 = .ok (.iconst 0, 1) := dk_3 (dk_at dksX0_tells_2 17 rfl rfl)
theorem dX0_tells_62 : decode cX0_tells 62 = .ok (.invokevirtual 217, 3) := dk_182 0 217 (dk_at dksX0_tells_2 18 rfl rfl)
theorem dX0_tells_65 : decode cX0_tells 65 = .ok (.ireturn, 1) := dk_172 (dk_at dksX0_tells_2 21 rfl rfl)
theorem dX0_tells_66 : decode cX0_tells 66 = .ok (.aload_n 0, 1) := dk_42 (dk_at dksX0_tells_2 22 rfl rfl)
theorem dX0_tells_67 : decode cX0_tells 67 = .ok (.iload_n 1, 1) := dk_27 (dk_at dksX0_tells_2 23 rfl rfl)
theorem dX0_tells_68 : decode cX0_tells 68 = .ok (.iconst 1, 1) := dk_4 (dk_at dksX0_tells_3 0 rfl rfl)
theorem dX0_tells_69 : decode cX0_tells 69 = .ok (.invokevirtual 217, 3) := dk_182 0 217 (dk_at dksX0_tells_3 1 rfl rfl)
theorem dX0_tells_72 : decode cX0_tells 72 = .ok (.ireturn, 1) := dk_172 (dk_at dksX0_tells_3 4 rfl rfl)
theorem dX0_tells_73 : decode cX0_tells 73 = .ok (.aload_n 3, 1) := dk_45 (dk_at dksX0_tells_3 5 rfl rfl)
theorem dX0_tells_74 : decode cX0_tells 74 = .ok (.getfield 221, 3) := dk_180 0 221 (dk_at dksX0_tells_3 6 rfl rfl)
theorem dX0_tells_77 : decode cX0_tells 77 = .ok (.ireturn, 1) := dk_172 (dk_at dksX0_tells_3 9 rfl rfl)
abbrev cX0_eats : ByteArray := prog_1_method_29_code
def yX0_eats : MethodName := ⟨RX0, "eats", "(IZ)I"⟩
def dkwX0_eats_2 : List UInt8 := [132, 4, 1, 167, 255, 211, 29, 172]
abbrev dktX0_eats_2 : List UInt8 := dkwX0_eats_2 ++ []
def dkwX0_eats_1 : List UInt8 := [184, 0, 181, 167, 0, 9, 27, 21, 4, 184, 0, 181, 46, 158, 0, 7, 4, 167, 0, 4, 3, 96, 62]
abbrev dktX0_eats_1 : List UInt8 := dkwX0_eats_1 ++ dktX0_eats_2
def dkwX0_eats_0 : List UInt8 := [3, 62, 3, 54, 4, 21, 4, 16, 8, 162, 0, 44, 29, 42, 180, 0, 29, 28, 153, 0, 12, 21, 4, 27]
abbrev dktX0_eats_0 : List UInt8 := dkwX0_eats_0 ++ dktX0_eats_1
theorem dksX0_eats_0 : cX0_eats.data.toList.drop 0 = dktX0_eats_0 := by decide +kernel
theorem dksX0_eats_1 : cX0_eats.data.toList.drop 24 = dktX0_eats_1 := dk_seg dksX0_eats_0 24 rfl rfl
theorem dksX0_eats_2 : cX0_eats.data.toList.drop 47 = dktX0_eats_2 := dk_seg dksX0_eats_1 23 rfl rfl
theorem dX0_eats_0 : decode cX0_eats 0 = .ok (.iconst 0, 1) := dk_3 (dk_at dksX0_eats_0 0 rfl rfl)
theorem dX0_eats_1 : decode cX0_eats 1 = .ok (.istore_n 3, 1) := dk_62 (dk_at dksX0_eats_0 1 rfl rfl)
theorem dX0_eats_2 : decode cX0_eats 2 = .ok (.iconst 0, 1) := dk_3 (dk_at dksX0_eats_0 2 rfl rfl)
theorem dX0_eats_3 : decode cX0_eats 3 = .ok (.istore 4, 2) := dk_54 4 (dk_at dksX0_eats_0 3 rfl rfl)
theorem dX0_eats_5 : decode cX0_eats 5 = .ok (.iload 4, 2) := dk_21 4 (dk_at dksX0_eats_0 5 rfl rfl)
theorem dX0_eats_7 : decode cX0_eats 7 = .ok (.bipush 8, 2) := dk_16 8 (dk_at dksX0_eats_0 7 rfl rfl)
theorem dX0_eats_9 : decode cX0_eats 9 = .ok (.if_icmp .ge 44, 3) := dk_162 0 44 (dk_at dksX0_eats_0 9 rfl rfl)
theorem dX0_eats_12 : decode cX0_eats 12 = .ok (.iload_n 3, 1) := dk_29 (dk_at dksX0_eats_0 12 rfl rfl)
theorem dX0_eats_13 : decode cX0_eats 13 = .ok (.aload_n 0, 1) := dk_42 (dk_at dksX0_eats_0 13 rfl rfl)
theorem dX0_eats_14 : decode cX0_eats 14 = .ok (.getfield 29, 3) := dk_180 0 29 (dk_at dksX0_eats_0 14 rfl rfl)
theorem dX0_eats_17 : decode cX0_eats 17 = .ok (.iload_n 2, 1) := dk_28 (dk_at dksX0_eats_0 17 rfl rfl)
theorem dX0_eats_18 : decode cX0_eats 18 = .ok (.ifCond .eq 12, 3) := dk_153 0 12 (dk_at dksX0_eats_0 18 rfl rfl)
theorem dX0_eats_21 : decode cX0_eats 21 = .ok (.iload 4, 2) := dk_21 4 (dk_at dksX0_eats_0 21 rfl rfl)
theorem dX0_eats_23 : decode cX0_eats 23 = .ok (.iload_n 1, 1) := dk_27 (dk_at dksX0_eats_0 23 rfl rfl)
theorem dX0_eats_24 : decode cX0_eats 24 = .ok (.invokestatic 181, 3) := dk_184 0 181 (dk_at dksX0_eats_1 0 rfl rfl)
theorem dX0_eats_27 : decode cX0_eats 27 = .ok (.goto 9, 3) := dk_167 0 9 (dk_at dksX0_eats_1 3 rfl rfl)
theorem dX0_eats_30 : decode cX0_eats 30 = .ok (.iload_n 1, 1) := dk_27 (dk_at dksX0_eats_1 6 rfl rfl)
theorem dX0_eats_31 : decode cX0_eats 31 = .ok (.iload 4, 2) := dk_21 4 (dk_at dksX0_eats_1 7 rfl rfl)
theorem dX0_eats_33 : decode cX0_eats 33 = .ok (.invokestatic 181, 3) := dk_184 0 181 (dk_at dksX0_eats_1 9 rfl rfl)
theorem dX0_eats_36 : decode cX0_eats 36 = .ok (.iaload, 1) := dk_46 (dk_at dksX0_eats_1 12 rfl rfl)
theorem dX0_eats_37 : decode cX0_eats 37 = .ok (.ifCond .le 7, 3) := dk_158 0 7 (dk_at dksX0_eats_1 13 rfl rfl)
theorem dX0_eats_40 : decode cX0_eats 40 = .ok (.iconst 1, 1) := dk_4 (dk_at dksX0_eats_1 16 rfl rfl)
theorem dX0_eats_41 : decode cX0_eats 41 = .ok (.goto 4, 3) := dk_167 0 4 (dk_at dksX0_eats_1 17 rfl rfl)
theorem dX0_eats_44 : decode cX0_eats 44 = .ok (.iconst 0, 1) := dk_3 (dk_at dksX0_eats_1 20 rfl rfl)
theorem dX0_eats_45 : decode cX0_eats 45 = .ok (.iadd, 1) := dk_96 (dk_at dksX0_eats_1 21 rfl rfl)
theorem dX0_eats_46 : decode cX0_eats 46 = .ok (.istore_n 3, 1) := dk_62 (dk_at dksX0_eats_1 22 rfl rfl)
theorem dX0_eats_47 : decode cX0_eats 47 = .ok (.iinc 4 1, 3) := dk_132 4 1 (dk_at dksX0_eats_2 0 rfl rfl)
theorem dX0_eats_50 : decode cX0_eats 50 = .ok (.goto (-45), 3) := dk_167 255 211 (dk_at dksX0_eats_2 3 rfl rfl)
theorem dX0_eats_53 : decode cX0_eats 53 = .ok (.iload_n 3, 1) := dk_29 (dk_at dksX0_eats_2 6 rfl rfl)
theorem dX0_eats_54 : decode cX0_eats 54 = .ok (.ireturn, 1) := dk_172 (dk_at dksX0_eats_2 7 rfl rfl)
abbrev cX0_mark : ByteArray := prog_1_method_32_code
def yX0_mark : MethodName := ⟨RX0, "mark", "(II)I"⟩
def dkwX0_mark_5 : List UInt8 := [182, 0, 86, 172]
abbrev dktX0_mark_5 : List UInt8 := dkwX0_mark_5 ++ []
def dkwX0_mark_4 : List UInt8 := [180, 0, 175, 45, 192, 0, 173, 180, 0, 227, 100, 172, 78, 42, 4, 182, 0, 86, 172, 78, 42, 6]
abbrev dktX0_mark_4 : List UInt8 := dkwX0_mark_4 ++ dktX0_mark_5
def dkwX0_mark_3 : List UInt8 := [45, 180, 0, 150, 172, 45, 192, 0, 167, 180, 0, 203, 172, 45, 192, 0, 170, 180, 0, 211, 172, 42]
abbrev dktX0_mark_3 : List UInt8 := dkwX0_mark_3 ++ dktX0_mark_4
def dkwX0_mark_2 : List UInt8 := [170, 0, 0, 0, 0, 0, 48, 0, 0, 0, 0, 0, 0, 0, 2, 0, 0, 0, 27, 0, 0, 0, 32, 0, 0, 0, 40]
abbrev dktX0_mark_2 : List UInt8 := dkwX0_mark_2 ++ dktX0_mark_3
def dkwX0_mark_1 : List UInt8 := [78, 45, 28, 182, 0, 153, 54, 4, 28]
abbrev dktX0_mark_1 : List UInt8 := dkwX0_mark_1 ++ dktX0_mark_2
def dkwX0_mark_0 : List UInt8 := [27, 184, 0, 192, 153, 0, 12, 28, 3, 6, 184, 0, 76, 154, 0, 5, 2, 172, 42, 180, 0, 25, 27, 50]
abbrev dktX0_mark_0 : List UInt8 := dkwX0_mark_0 ++ dktX0_mark_1
theorem dksX0_mark_0 : cX0_mark.data.toList.drop 0 = dktX0_mark_0 := by decide +kernel
theorem dksX0_mark_1 : cX0_mark.data.toList.drop 24 = dktX0_mark_1 := dk_seg dksX0_mark_0 24 rfl rfl
theorem dksX0_mark_2 : cX0_mark.data.toList.drop 33 = dktX0_mark_2 := dk_seg dksX0_mark_1 9 rfl rfl
theorem dksX0_mark_3 : cX0_mark.data.toList.drop 60 = dktX0_mark_3 := dk_seg dksX0_mark_2 27 rfl rfl
theorem dksX0_mark_4 : cX0_mark.data.toList.drop 82 = dktX0_mark_4 := dk_seg dksX0_mark_3 22 rfl rfl
theorem dksX0_mark_5 : cX0_mark.data.toList.drop 104 = dktX0_mark_5 := dk_seg dksX0_mark_4 22 rfl rfl
theorem dX0_mark_0 : decode cX0_mark 0 = .ok (.iload_n 1, 1) := dk_27 (dk_at dksX0_mark_0 0 rfl rfl)
theorem dX0_mark_1 : decode cX0_mark 1 = .ok (.invokestatic 192, 3) := dk_184 0 192 (dk_at dksX0_mark_0 1 rfl rfl)
theorem dX0_mark_4 : decode cX0_mark 4 = .ok (.ifCond .eq 12, 3) := dk_153 0 12 (dk_at dksX0_mark_0 4 rfl rfl)
theorem dX0_mark_7 : decode cX0_mark 7 = .ok (.iload_n 2, 1) := dk_28 (dk_at dksX0_mark_0 7 rfl rfl)
theorem dX0_mark_8 : decode cX0_mark 8 = .ok (.iconst 0, 1) := dk_3 (dk_at dksX0_mark_0 8 rfl rfl)
theorem dX0_mark_9 : decode cX0_mark 9 = .ok (.iconst 3, 1) := dk_6 (dk_at dksX0_mark_0 9 rfl rfl)
theorem dX0_mark_10 : decode cX0_mark 10 = .ok (.invokestatic 76, 3) := dk_184 0 76 (dk_at dksX0_mark_0 10 rfl rfl)
theorem dX0_mark_13 : decode cX0_mark 13 = .ok (.ifCond .ne 5, 3) := dk_154 0 5 (dk_at dksX0_mark_0 13 rfl rfl)
theorem dX0_mark_16 : decode cX0_mark 16 = .ok (.iconst (-1), 1) := dk_2 (dk_at dksX0_mark_0 16 rfl rfl)
theorem dX0_mark_17 : decode cX0_mark 17 = .ok (.ireturn, 1) := dk_172 (dk_at dksX0_mark_0 17 rfl rfl)
theorem dX0_mark_18 : decode cX0_mark 18 = .ok (.aload_n 0, 1) := dk_42 (dk_at dksX0_mark_0 18 rfl rfl)
theorem dX0_mark_19 : decode cX0_mark 19 = .ok (.getfield 25, 3) := dk_180 0 25 (dk_at dksX0_mark_0 19 rfl rfl)
theorem dX0_mark_22 : decode cX0_mark 22 = .ok (.iload_n 1, 1) := dk_27 (dk_at dksX0_mark_0 22 rfl rfl)
theorem dX0_mark_23 : decode cX0_mark 23 = .ok (.aaload, 1) := dk_50 (dk_at dksX0_mark_0 23 rfl rfl)
theorem dX0_mark_24 : decode cX0_mark 24 = .ok (.astore_n 3, 1) := dk_78 (dk_at dksX0_mark_1 0 rfl rfl)
theorem dX0_mark_25 : decode cX0_mark 25 = .ok (.aload_n 3, 1) := dk_45 (dk_at dksX0_mark_1 1 rfl rfl)
theorem dX0_mark_26 : decode cX0_mark 26 = .ok (.iload_n 2, 1) := dk_28 (dk_at dksX0_mark_1 2 rfl rfl)
theorem dX0_mark_27 : decode cX0_mark 27 = .ok (.invokevirtual 153, 3) := dk_182 0 153 (dk_at dksX0_mark_1 3 rfl rfl)
theorem dX0_mark_30 : decode cX0_mark 30 = .ok (.istore 4, 2) := dk_54 4 (dk_at dksX0_mark_1 6 rfl rfl)
theorem dX0_mark_32 : decode cX0_mark 32 = .ok (.iload_n 2, 1) := dk_28 (dk_at dksX0_mark_1 8 rfl rfl)
theorem dX0_mark_33 : decode cX0_mark 33 = .ok (.tableswitch 48 0 2 #[27, 32, 40], 27) := by decide +kernel
theorem dX0_mark_60 : decode cX0_mark 60 = .ok (.aload_n 3, 1) := dk_45 (dk_at dksX0_mark_3 0 rfl rfl)
theorem dX0_mark_61 : decode cX0_mark 61 = .ok (.getfield 150, 3) := dk_180 0 150 (dk_at dksX0_mark_3 1 rfl rfl)
theorem dX0_mark_64 : decode cX0_mark 64 = .ok (.ireturn, 1) := dk_172 (dk_at dksX0_mark_3 4 rfl rfl)
theorem dX0_mark_65 : decode cX0_mark 65 = .ok (.aload_n 3, 1) := dk_45 (dk_at dksX0_mark_3 5 rfl rfl)
theorem dX0_mark_66 : decode cX0_mark 66 = .ok (.checkcast 167, 3) := dk_192 0 167 (dk_at dksX0_mark_3 6 rfl rfl)
theorem dX0_mark_69 : decode cX0_mark 69 = .ok (.getfield 203, 3) := dk_180 0 203 (dk_at dksX0_mark_3 9 rfl rfl)
theorem dX0_mark_72 : decode cX0_mark 72 = .ok (.ireturn, 1) := dk_172 (dk_at dksX0_mark_3 12 rfl rfl)
theorem dX0_mark_73 : decode cX0_mark 73 = .ok (.aload_n 3, 1) := dk_45 (dk_at dksX0_mark_3 13 rfl rfl)
theorem dX0_mark_74 : decode cX0_mark 74 = .ok (.checkcast 170, 3) := dk_192 0 170 (dk_at dksX0_mark_3 14 rfl rfl)
theorem dX0_mark_77 : decode cX0_mark 77 = .ok (.getfield 211, 3) := dk_180 0 211 (dk_at dksX0_mark_3 17 rfl rfl)
theorem dX0_mark_80 : decode cX0_mark 80 = .ok (.ireturn, 1) := dk_172 (dk_at dksX0_mark_3 20 rfl rfl)
theorem dX0_mark_81 : decode cX0_mark 81 = .ok (.aload_n 0, 1) := dk_42 (dk_at dksX0_mark_3 21 rfl rfl)
theorem dX0_mark_82 : decode cX0_mark 82 = .ok (.getfield 175, 3) := dk_180 0 175 (dk_at dksX0_mark_4 0 rfl rfl)
theorem dX0_mark_85 : decode cX0_mark 85 = .ok (.aload_n 3, 1) := dk_45 (dk_at dksX0_mark_4 3 rfl rfl)
theorem dX0_mark_86 : decode cX0_mark 86 = .ok (.checkcast 173, 3) := dk_192 0 173 (dk_at dksX0_mark_4 4 rfl rfl)
theorem dX0_mark_89 : decode cX0_mark 89 = .ok (.getfield 227, 3) := dk_180 0 227 (dk_at dksX0_mark_4 7 rfl rfl)
theorem dX0_mark_92 : decode cX0_mark 92 = .ok (.isub, 1) := dk_100 (dk_at dksX0_mark_4 10 rfl rfl)
theorem dX0_mark_93 : decode cX0_mark 93 = .ok (.ireturn, 1) := dk_172 (dk_at dksX0_mark_4 11 rfl rfl)
theorem dX0_mark_94 : decode cX0_mark 94 = .ok (.astore_n 3, 1) := dk_78 (dk_at dksX0_mark_4 12 rfl rfl)
theorem dX0_mark_95 : decode cX0_mark 95 = .ok (.aload_n 0, 1) := dk_42 (dk_at dksX0_mark_4 13 rfl rfl)
theorem dX0_mark_96 : decode cX0_mark 96 = .ok (.iconst 1, 1) := dk_4 (dk_at dksX0_mark_4 14 rfl rfl)
theorem dX0_mark_97 : decode cX0_mark 97 = .ok (.invokevirtual 86, 3) := dk_182 0 86 (dk_at dksX0_mark_4 15 rfl rfl)
theorem dX0_mark_100 : decode cX0_mark 100 = .ok (.ireturn, 1) := dk_172 (dk_at dksX0_mark_4 18 rfl rfl)
theorem dX0_mark_101 : decode cX0_mark 101 = .ok (.astore_n 3, 1) := dk_78 (dk_at dksX0_mark_4 19 rfl rfl)
theorem dX0_mark_102 : decode cX0_mark 102 = .ok (.aload_n 0, 1) := dk_42 (dk_at dksX0_mark_4 20 rfl rfl)
theorem dX0_mark_103 : decode cX0_mark 103 = .ok (.iconst 3, 1) := dk_6 (dk_at dksX0_mark_4 21 rfl rfl)
theorem dX0_mark_104 : decode cX0_mark 104 = .ok (.invokevirtual 86, 3) := dk_182 0 86 (dk_at dksX0_mark_5 0 rfl rfl)
theorem dX0_mark_107 : decode cX0_mark 107 = .ok (.ireturn, 1) := dk_172 (dk_at dksX0_mark_5 3 rfl rfl)
abbrev cX0_mean : ByteArray := prog_1_method_36_code
def yX0_mean : MethodName := ⟨RX0, "mean", "()I"⟩
def dkwX0_mean_0 : List UInt8 := [42, 182, 0, 230, 42, 182, 0, 233, 184, 0, 236, 108, 172, 76, 42, 7, 182, 0, 86, 172]
abbrev dktX0_mean_0 : List UInt8 := dkwX0_mean_0 ++ []
theorem dksX0_mean_0 : cX0_mean.data.toList.drop 0 = dktX0_mean_0 := by decide +kernel
theorem dX0_mean_0 : decode cX0_mean 0 = .ok (.aload_n 0, 1) := dk_42 (dk_at dksX0_mean_0 0 rfl rfl)
theorem dX0_mean_1 : decode cX0_mean 1 = .ok (.invokevirtual 230, 3) := dk_182 0 230 (dk_at dksX0_mean_0 1 rfl rfl)
theorem dX0_mean_4 : decode cX0_mean 4 = .ok (.aload_n 0, 1) := dk_42 (dk_at dksX0_mean_0 4 rfl rfl)
theorem dX0_mean_5 : decode cX0_mean 5 = .ok (.invokevirtual 233, 3) := dk_182 0 233 (dk_at dksX0_mean_0 5 rfl rfl)
theorem dX0_mean_8 : decode cX0_mean 8 = .ok (.invokestatic 236, 3) := dk_184 0 236 (dk_at dksX0_mean_0 8 rfl rfl)
theorem dX0_mean_11 : decode cX0_mean 11 = .ok (.idiv, 1) := dk_108 (dk_at dksX0_mean_0 11 rfl rfl)
theorem dX0_mean_12 : decode cX0_mean 12 = .ok (.ireturn, 1) := dk_172 (dk_at dksX0_mean_0 12 rfl rfl)
theorem dX0_mean_13 : decode cX0_mean 13 = .ok (.astore_n 1, 1) := dk_76 (dk_at dksX0_mean_0 13 rfl rfl)
theorem dX0_mean_14 : decode cX0_mean 14 = .ok (.aload_n 0, 1) := dk_42 (dk_at dksX0_mean_0 14 rfl rfl)
theorem dX0_mean_15 : decode cX0_mean 15 = .ok (.iconst 4, 1) := dk_7 (dk_at dksX0_mean_0 15 rfl rfl)
theorem dX0_mean_16 : decode cX0_mean 16 = .ok (.invokevirtual 86, 3) := dk_182 0 86 (dk_at dksX0_mean_0 16 rfl rfl)
theorem dX0_mean_19 : decode cX0_mean 19 = .ok (.ireturn, 1) := dk_172 (dk_at dksX0_mean_0 19 rfl rfl)
abbrev cX0_allStocks : ByteArray := prog_1_method_35_code
def yX0_allStocks : MethodName := ⟨RX0, "allStocks", "()I"⟩
def dkwX0_allStocks_2 : List UInt8 := [167, 255, 224, 27, 172]
abbrev dktX0_allStocks_2 : List UInt8 := dkwX0_allStocks_2 ++ []
def dkwX0_allStocks_1 : List UInt8 := [58, 5, 27, 25, 5, 199, 0, 7, 3, 167, 0, 8, 25, 5, 180, 0, 150, 96, 60, 132, 4, 1]
abbrev dktX0_allStocks_1 : List UInt8 := dkwX0_allStocks_1 ++ dktX0_allStocks_2
def dkwX0_allStocks_0 : List UInt8 := [3, 60, 42, 180, 0, 25, 77, 44, 190, 62, 3, 54, 4, 21, 4, 29, 162, 0, 32, 44, 21, 4, 50]
abbrev dktX0_allStocks_0 : List UInt8 := dkwX0_allStocks_0 ++ dktX0_allStocks_1
theorem dksX0_allStocks_0 : cX0_allStocks.data.toList.drop 0 = dktX0_allStocks_0 := by decide +kernel
theorem dksX0_allStocks_1 : cX0_allStocks.data.toList.drop 23 = dktX0_allStocks_1 := dk_seg dksX0_allStocks_0 23 rfl rfl
theorem dksX0_allStocks_2 : cX0_allStocks.data.toList.drop 45 = dktX0_allStocks_2 := dk_seg dksX0_allStocks_1 22 rfl rfl
theorem dX0_allStocks_0 : decode cX0_allStocks 0 = .ok (.iconst 0, 1) := dk_3 (dk_at dksX0_allStocks_0 0 rfl rfl)
theorem dX0_allStocks_1 : decode cX0_allStocks 1 = .ok (.istore_n 1, 1) := dk_60 (dk_at dksX0_allStocks_0 1 rfl rfl)
theorem dX0_allStocks_2 : decode cX0_allStocks 2 = .ok (.aload_n 0, 1) := dk_42 (dk_at dksX0_allStocks_0 2 rfl rfl)
theorem dX0_allStocks_3 : decode cX0_allStocks 3 = .ok (.getfield 25, 3) := dk_180 0 25 (dk_at dksX0_allStocks_0 3 rfl rfl)
theorem dX0_allStocks_6 : decode cX0_allStocks 6 = .ok (.astore_n 2, 1) := dk_77 (dk_at dksX0_allStocks_0 6 rfl rfl)
theorem dX0_allStocks_7 : decode cX0_allStocks 7 = .ok (.aload_n 2, 1) := dk_44 (dk_at dksX0_allStocks_0 7 rfl rfl)
theorem dX0_allStocks_8 : decode cX0_allStocks 8 = .ok (.arraylength, 1) := dk_190 (dk_at dksX0_allStocks_0 8 rfl rfl)
theorem dX0_allStocks_9 : decode cX0_allStocks 9 = .ok (.istore_n 3, 1) := dk_62 (dk_at dksX0_allStocks_0 9 rfl rfl)
theorem dX0_allStocks_10 : decode cX0_allStocks 10 = .ok (.iconst 0, 1) := dk_3 (dk_at dksX0_allStocks_0 10 rfl rfl)
theorem dX0_allStocks_11 : decode cX0_allStocks 11 = .ok (.istore 4, 2) := dk_54 4 (dk_at dksX0_allStocks_0 11 rfl rfl)
theorem dX0_allStocks_13 : decode cX0_allStocks 13 = .ok (.iload 4, 2) := dk_21 4 (dk_at dksX0_allStocks_0 13 rfl rfl)
theorem dX0_allStocks_15 : decode cX0_allStocks 15 = .ok (.iload_n 3, 1) := dk_29 (dk_at dksX0_allStocks_0 15 rfl rfl)
theorem dX0_allStocks_16 : decode cX0_allStocks 16 = .ok (.if_icmp .ge 32, 3) := dk_162 0 32 (dk_at dksX0_allStocks_0 16 rfl rfl)
theorem dX0_allStocks_19 : decode cX0_allStocks 19 = .ok (.aload_n 2, 1) := dk_44 (dk_at dksX0_allStocks_0 19 rfl rfl)
theorem dX0_allStocks_20 : decode cX0_allStocks 20 = .ok (.iload 4, 2) := dk_21 4 (dk_at dksX0_allStocks_0 20 rfl rfl)
theorem dX0_allStocks_22 : decode cX0_allStocks 22 = .ok (.aaload, 1) := dk_50 (dk_at dksX0_allStocks_0 22 rfl rfl)
theorem dX0_allStocks_23 : decode cX0_allStocks 23 = .ok (.astore 5, 2) := dk_58 5 (dk_at dksX0_allStocks_1 0 rfl rfl)
theorem dX0_allStocks_25 : decode cX0_allStocks 25 = .ok (.iload_n 1, 1) := dk_27 (dk_at dksX0_allStocks_1 2 rfl rfl)
theorem dX0_allStocks_26 : decode cX0_allStocks 26 = .ok (.aload 5, 2) := dk_25 5 (dk_at dksX0_allStocks_1 3 rfl rfl)
theorem dX0_allStocks_28 : decode cX0_allStocks 28 = .ok (.ifnonnull 7, 3) := dk_199 0 7 (dk_at dksX0_allStocks_1 5 rfl rfl)
theorem dX0_allStocks_31 : decode cX0_allStocks 31 = .ok (.iconst 0, 1) := dk_3 (dk_at dksX0_allStocks_1 8 rfl rfl)
theorem dX0_allStocks_32 : decode cX0_allStocks 32 = .ok (.goto 8, 3) := dk_167 0 8 (dk_at dksX0_allStocks_1 9 rfl rfl)
theorem dX0_allStocks_35 : decode cX0_allStocks 35 = .ok (.aload 5, 2) := dk_25 5 (dk_at dksX0_allStocks_1 12 rfl rfl)
theorem dX0_allStocks_37 : decode cX0_allStocks 37 = .ok (.getfield 150, 3) := dk_180 0 150 (dk_at dksX0_allStocks_1 14 rfl rfl)
theorem dX0_allStocks_40 : decode cX0_allStocks 40 = .ok (.iadd, 1) := dk_96 (dk_at dksX0_allStocks_1 17 rfl rfl)
theorem dX0_allStocks_41 : decode cX0_allStocks 41 = .ok (.istore_n 1, 1) := dk_60 (dk_at dksX0_allStocks_1 18 rfl rfl)
theorem dX0_allStocks_42 : decode cX0_allStocks 42 = .ok (.iinc 4 1, 3) := dk_132 4 1 (dk_at dksX0_allStocks_1 19 rfl rfl)
theorem dX0_allStocks_45 : decode cX0_allStocks 45 = .ok (.goto (-32), 3) := dk_167 255 224 (dk_at dksX0_allStocks_2 0 rfl rfl)
theorem dX0_allStocks_48 : decode cX0_allStocks 48 = .ok (.iload_n 1, 1) := dk_27 (dk_at dksX0_allStocks_2 3 rfl rfl)
theorem dX0_allStocks_49 : decode cX0_allStocks 49 = .ok (.ireturn, 1) := dk_172 (dk_at dksX0_allStocks_2 4 rfl rfl)
abbrev cX0_present : ByteArray := prog_1_method_33_code
def yX0_present : MethodName := ⟨RX0, "present", "()I"⟩
def dkwX0_present_1 : List UInt8 := [4, 28, 120, 128, 60, 132, 2, 1, 167, 255, 228, 27, 172]
abbrev dktX0_present_1 : List UInt8 := dkwX0_present_1 ++ []
def dkwX0_present_0 : List UInt8 := [3, 60, 3, 61, 28, 16, 8, 162, 0, 28, 27, 42, 180, 0, 25, 28, 50, 199, 0, 7, 3, 167, 0, 6]
abbrev dktX0_present_0 : List UInt8 := dkwX0_present_0 ++ dktX0_present_1
theorem dksX0_present_0 : cX0_present.data.toList.drop 0 = dktX0_present_0 := by decide +kernel
theorem dksX0_present_1 : cX0_present.data.toList.drop 24 = dktX0_present_1 := dk_seg dksX0_present_0 24 rfl rfl
theorem dX0_present_0 : decode cX0_present 0 = .ok (.iconst 0, 1) := dk_3 (dk_at dksX0_present_0 0 rfl rfl)
theorem dX0_present_1 : decode cX0_present 1 = .ok (.istore_n 1, 1) := dk_60 (dk_at dksX0_present_0 1 rfl rfl)
theorem dX0_present_2 : decode cX0_present 2 = .ok (.iconst 0, 1) := dk_3 (dk_at dksX0_present_0 2 rfl rfl)
theorem dX0_present_3 : decode cX0_present 3 = .ok (.istore_n 2, 1) := dk_61 (dk_at dksX0_present_0 3 rfl rfl)
theorem dX0_present_4 : decode cX0_present 4 = .ok (.iload_n 2, 1) := dk_28 (dk_at dksX0_present_0 4 rfl rfl)
theorem dX0_present_5 : decode cX0_present 5 = .ok (.bipush 8, 2) := dk_16 8 (dk_at dksX0_present_0 5 rfl rfl)
theorem dX0_present_7 : decode cX0_present 7 = .ok (.if_icmp .ge 28, 3) := dk_162 0 28 (dk_at dksX0_present_0 7 rfl rfl)
theorem dX0_present_10 : decode cX0_present 10 = .ok (.iload_n 1, 1) := dk_27 (dk_at dksX0_present_0 10 rfl rfl)
theorem dX0_present_11 : decode cX0_present 11 = .ok (.aload_n 0, 1) := dk_42 (dk_at dksX0_present_0 11 rfl rfl)
theorem dX0_present_12 : decode cX0_present 12 = .ok (.getfield 25, 3) := dk_180 0 25 (dk_at dksX0_present_0 12 rfl rfl)
theorem dX0_present_15 : decode cX0_present 15 = .ok (.iload_n 2, 1) := dk_28 (dk_at dksX0_present_0 15 rfl rfl)
theorem dX0_present_16 : decode cX0_present 16 = .ok (.aaload, 1) := dk_50 (dk_at dksX0_present_0 16 rfl rfl)
theorem dX0_present_17 : decode cX0_present 17 = .ok (.ifnonnull 7, 3) := dk_199 0 7 (dk_at dksX0_present_0 17 rfl rfl)
theorem dX0_present_20 : decode cX0_present 20 = .ok (.iconst 0, 1) := dk_3 (dk_at dksX0_present_0 20 rfl rfl)
theorem dX0_present_21 : decode cX0_present 21 = .ok (.goto 6, 3) := dk_167 0 6 (dk_at dksX0_present_0 21 rfl rfl)
theorem dX0_present_24 : decode cX0_present 24 = .ok (.iconst 1, 1) := dk_4 (dk_at dksX0_present_1 0 rfl rfl)
theorem dX0_present_25 : decode cX0_present 25 = .ok (.iload_n 2, 1) := dk_28 (dk_at dksX0_present_1 1 rfl rfl)
theorem dX0_present_26 : decode cX0_present 26 = .ok (.ishl, 1) := dk_120 (dk_at dksX0_present_1 2 rfl rfl)
theorem dX0_present_27 : decode cX0_present 27 = .ok (.ior, 1) := dk_128 (dk_at dksX0_present_1 3 rfl rfl)
theorem dX0_present_28 : decode cX0_present 28 = .ok (.istore_n 1, 1) := dk_60 (dk_at dksX0_present_1 4 rfl rfl)
theorem dX0_present_29 : decode cX0_present 29 = .ok (.iinc 2 1, 3) := dk_132 2 1 (dk_at dksX0_present_1 5 rfl rfl)
theorem dX0_present_32 : decode cX0_present 32 = .ok (.goto (-28), 3) := dk_167 255 228 (dk_at dksX0_present_1 8 rfl rfl)
theorem dX0_present_35 : decode cX0_present 35 = .ok (.iload_n 1, 1) := dk_27 (dk_at dksX0_present_1 11 rfl rfl)
theorem dX0_present_36 : decode cX0_present 36 = .ok (.ireturn, 1) := dk_172 (dk_at dksX0_present_1 12 rfl rfl)
abbrev cX0_bits : ByteArray := prog_1_method_34_code
def yX0_bits : MethodName := ⟨RX0, "bits", "(I)I"⟩
def dkwX0_bits_0 : List UInt8 := [3, 60, 26, 61, 28, 153, 0, 15, 132, 1, 1, 28, 28, 4, 100, 126, 61, 167, 255, 243, 27, 172]
abbrev dktX0_bits_0 : List UInt8 := dkwX0_bits_0 ++ []
theorem dksX0_bits_0 : cX0_bits.data.toList.drop 0 = dktX0_bits_0 := by decide +kernel
theorem dX0_bits_0 : decode cX0_bits 0 = .ok (.iconst 0, 1) := dk_3 (dk_at dksX0_bits_0 0 rfl rfl)
theorem dX0_bits_1 : decode cX0_bits 1 = .ok (.istore_n 1, 1) := dk_60 (dk_at dksX0_bits_0 1 rfl rfl)
theorem dX0_bits_2 : decode cX0_bits 2 = .ok (.iload_n 0, 1) := dk_26 (dk_at dksX0_bits_0 2 rfl rfl)
theorem dX0_bits_3 : decode cX0_bits 3 = .ok (.istore_n 2, 1) := dk_61 (dk_at dksX0_bits_0 3 rfl rfl)
theorem dX0_bits_4 : decode cX0_bits 4 = .ok (.iload_n 2, 1) := dk_28 (dk_at dksX0_bits_0 4 rfl rfl)
theorem dX0_bits_5 : decode cX0_bits 5 = .ok (.ifCond .eq 15, 3) := dk_153 0 15 (dk_at dksX0_bits_0 5 rfl rfl)
theorem dX0_bits_8 : decode cX0_bits 8 = .ok (.iinc 1 1, 3) := dk_132 1 1 (dk_at dksX0_bits_0 8 rfl rfl)
theorem dX0_bits_11 : decode cX0_bits 11 = .ok (.iload_n 2, 1) := dk_28 (dk_at dksX0_bits_0 11 rfl rfl)
theorem dX0_bits_12 : decode cX0_bits 12 = .ok (.iload_n 2, 1) := dk_28 (dk_at dksX0_bits_0 12 rfl rfl)
theorem dX0_bits_13 : decode cX0_bits 13 = .ok (.iconst 1, 1) := dk_4 (dk_at dksX0_bits_0 13 rfl rfl)
theorem dX0_bits_14 : decode cX0_bits 14 = .ok (.isub, 1) := dk_100 (dk_at dksX0_bits_0 14 rfl rfl)
theorem dX0_bits_15 : decode cX0_bits 15 = .ok (.iand, 1) := dk_126 (dk_at dksX0_bits_0 15 rfl rfl)
theorem dX0_bits_16 : decode cX0_bits 16 = .ok (.istore_n 2, 1) := dk_61 (dk_at dksX0_bits_0 16 rfl rfl)
theorem dX0_bits_17 : decode cX0_bits 17 = .ok (.goto (-13), 3) := dk_167 255 243 (dk_at dksX0_bits_0 17 rfl rfl)
theorem dX0_bits_20 : decode cX0_bits 20 = .ok (.iload_n 1, 1) := dk_27 (dk_at dksX0_bits_0 20 rfl rfl)
theorem dX0_bits_21 : decode cX0_bits 21 = .ok (.ireturn, 1) := dk_172 (dk_at dksX0_bits_0 21 rfl rfl)
abbrev cX0_pass : ByteArray := prog_1_method_40_code
def yX0_pass : MethodName := ⟨RX0, "pass", "(I)I"⟩
def dkwX0_pass_4 : List UInt8 := [167, 255, 206, 42, 89, 180, 0, 175, 4, 96, 181, 0, 175, 132, 2, 1, 167, 255, 179, 42, 180, 0, 175, 172]
abbrev dktX0_pass_4 : List UInt8 := dkwX0_pass_4 ++ []
def dkwX0_pass_3 : List UInt8 := [122, 4, 126, 4, 160, 0, 16, 42, 180, 0, 25, 29, 50, 42, 180, 0, 175, 181, 0, 221, 132, 3, 1]
abbrev dktX0_pass_3 : List UInt8 := dkwX0_pass_3 ++ dktX0_pass_4
def dkwX0_pass_2 : List UInt8 := [162, 0, 50, 42, 89, 180, 1, 16, 42, 180, 0, 51, 29, 46, 133, 97, 181, 1, 16, 42, 180, 0, 253, 29]
abbrev dktX0_pass_2 : List UInt8 := dkwX0_pass_2 ++ dktX0_pass_3
def dkwX0_pass_1 : List UInt8 := [164, 0, 6, 16, 254, 172, 3, 61, 28, 27, 162, 0, 78, 42, 182, 1, 13, 3, 62, 29, 16, 8]
abbrev dktX0_pass_1 : List UInt8 := dkwX0_pass_1 ++ dktX0_pass_2
def dkwX0_pass_0 : List UInt8 := [27, 3, 17, 1, 244, 184, 0, 76, 154, 0, 5, 2, 172, 42, 180, 0, 175, 27, 96, 19, 1, 12]
abbrev dktX0_pass_0 : List UInt8 := dkwX0_pass_0 ++ dktX0_pass_1
theorem dksX0_pass_0 : cX0_pass.data.toList.drop 0 = dktX0_pass_0 := by decide +kernel
theorem dksX0_pass_1 : cX0_pass.data.toList.drop 22 = dktX0_pass_1 := dk_seg dksX0_pass_0 22 rfl rfl
theorem dksX0_pass_2 : cX0_pass.data.toList.drop 44 = dktX0_pass_2 := dk_seg dksX0_pass_1 22 rfl rfl
theorem dksX0_pass_3 : cX0_pass.data.toList.drop 68 = dktX0_pass_3 := dk_seg dksX0_pass_2 24 rfl rfl
theorem dksX0_pass_4 : cX0_pass.data.toList.drop 91 = dktX0_pass_4 := dk_seg dksX0_pass_3 23 rfl rfl
theorem dX0_pass_0 : decode cX0_pass 0 = .ok (.iload_n 1, 1) := dk_27 (dk_at dksX0_pass_0 0 rfl rfl)
theorem dX0_pass_1 : decode cX0_pass 1 = .ok (.iconst 0, 1) := dk_3 (dk_at dksX0_pass_0 1 rfl rfl)
theorem dX0_pass_2 : decode cX0_pass 2 = .ok (.sipush 500, 3) := dk_17 1 244 (dk_at dksX0_pass_0 2 rfl rfl)
theorem dX0_pass_5 : decode cX0_pass 5 = .ok (.invokestatic 76, 3) := dk_184 0 76 (dk_at dksX0_pass_0 5 rfl rfl)
theorem dX0_pass_8 : decode cX0_pass 8 = .ok (.ifCond .ne 5, 3) := dk_154 0 5 (dk_at dksX0_pass_0 8 rfl rfl)
theorem dX0_pass_11 : decode cX0_pass 11 = .ok (.iconst (-1), 1) := dk_2 (dk_at dksX0_pass_0 11 rfl rfl)
theorem dX0_pass_12 : decode cX0_pass 12 = .ok (.ireturn, 1) := dk_172 (dk_at dksX0_pass_0 12 rfl rfl)
theorem dX0_pass_13 : decode cX0_pass 13 = .ok (.aload_n 0, 1) := dk_42 (dk_at dksX0_pass_0 13 rfl rfl)
theorem dX0_pass_14 : decode cX0_pass 14 = .ok (.getfield 175, 3) := dk_180 0 175 (dk_at dksX0_pass_0 14 rfl rfl)
theorem dX0_pass_17 : decode cX0_pass 17 = .ok (.iload_n 1, 1) := dk_27 (dk_at dksX0_pass_0 17 rfl rfl)
theorem dX0_pass_18 : decode cX0_pass 18 = .ok (.iadd, 1) := dk_96 (dk_at dksX0_pass_0 18 rfl rfl)
theorem dX0_pass_19 : decode cX0_pass 19 = .ok (.ldc_w 268, 3) := dk_19 1 12 (dk_at dksX0_pass_0 19 rfl rfl)
theorem dX0_pass_22 : decode cX0_pass 22 = .ok (.if_icmp .le 6, 3) := dk_164 0 6 (dk_at dksX0_pass_1 0 rfl rfl)
theorem dX0_pass_25 : decode cX0_pass 25 = .ok (.bipush (-2), 2) := dk_16 254 (dk_at dksX0_pass_1 3 rfl rfl)
theorem dX0_pass_27 : decode cX0_pass 27 = .ok (.ireturn, 1) := dk_172 (dk_at dksX0_pass_1 5 rfl rfl)
theorem dX0_pass_28 : decode cX0_pass 28 = .ok (.iconst 0, 1) := dk_3 (dk_at dksX0_pass_1 6 rfl rfl)
theorem dX0_pass_29 : decode cX0_pass 29 = .ok (.istore_n 2, 1) := dk_61 (dk_at dksX0_pass_1 7 rfl rfl)
theorem dX0_pass_30 : decode cX0_pass 30 = .ok (.iload_n 2, 1) := dk_28 (dk_at dksX0_pass_1 8 rfl rfl)
theorem dX0_pass_31 : decode cX0_pass 31 = .ok (.iload_n 1, 1) := dk_27 (dk_at dksX0_pass_1 9 rfl rfl)
theorem dX0_pass_32 : decode cX0_pass 32 = .ok (.if_icmp .ge 78, 3) := dk_162 0 78 (dk_at dksX0_pass_1 10 rfl rfl)
theorem dX0_pass_35 : decode cX0_pass 35 = .ok (.aload_n 0, 1) := dk_42 (dk_at dksX0_pass_1 13 rfl rfl)
theorem dX0_pass_36 : decode cX0_pass 36 = .ok (.invokevirtual 269, 3) := dk_182 1 13 (dk_at dksX0_pass_1 14 rfl rfl)
theorem dX0_pass_39 : decode cX0_pass 39 = .ok (.iconst 0, 1) := dk_3 (dk_at dksX0_pass_1 17 rfl rfl)
theorem dX0_pass_40 : decode cX0_pass 40 = .ok (.istore_n 3, 1) := dk_62 (dk_at dksX0_pass_1 18 rfl rfl)
theorem dX0_pass_41 : decode cX0_pass 41 = .ok (.iload_n 3, 1) := dk_29 (dk_at dksX0_pass_1 19 rfl rfl)
theorem dX0_pass_42 : decode cX0_pass 42 = .ok (.bipush 8, 2) := dk_16 8 (dk_at dksX0_pass_1 20 rfl rfl)
theorem dX0_pass_44 : decode cX0_pass 44 = .ok (.if_icmp .ge 50, 3) := dk_162 0 50 (dk_at dksX0_pass_2 0 rfl rfl)
theorem dX0_pass_47 : decode cX0_pass 47 = .ok (.aload_n 0, 1) := dk_42 (dk_at dksX0_pass_2 3 rfl rfl)
theorem dX0_pass_48 : decode cX0_pass 48 = .ok (.dup, 1) := dk_89 (dk_at dksX0_pass_2 4 rfl rfl)
theorem dX0_pass_49 : decode cX0_pass 49 = .ok (.getfield 272, 3) := dk_180 1 16 (dk_at dksX0_pass_2 5 rfl rfl)
theorem dX0_pass_52 : decode cX0_pass 52 = .ok (.aload_n 0, 1) := dk_42 (dk_at dksX0_pass_2 8 rfl rfl)
theorem dX0_pass_53 : decode cX0_pass 53 = .ok (.getfield 51, 3) := dk_180 0 51 (dk_at dksX0_pass_2 9 rfl rfl)
theorem dX0_pass_56 : decode cX0_pass 56 = .ok (.iload_n 3, 1) := dk_29 (dk_at dksX0_pass_2 12 rfl rfl)
theorem dX0_pass_57 : decode cX0_pass 57 = .ok (.iaload, 1) := dk_46 (dk_at dksX0_pass_2 13 rfl rfl)
theorem dX0_pass_58 : decode cX0_pass 58 = .ok (.i2l, 1) := dk_133 (dk_at dksX0_pass_2 14 rfl rfl)
theorem dX0_pass_59 : decode cX0_pass 59 = .ok (.ladd, 1) := dk_97 (dk_at dksX0_pass_2 15 rfl rfl)
theorem dX0_pass_60 : decode cX0_pass 60 = .ok (.putfield 272, 3) := dk_181 1 16 (dk_at dksX0_pass_2 16 rfl rfl)
theorem dX0_pass_63 : decode cX0_pass 63 = .ok (.aload_n 0, 1) := dk_42 (dk_at dksX0_pass_2 19 rfl rfl)
theorem dX0_pass_64 : decode cX0_pass 64 = .ok (.getfield 253, 3) := dk_180 0 253 (dk_at dksX0_pass_2 20 rfl rfl)
theorem dX0_pass_67 : decode cX0_pass 67 = .ok (.iload_n 3, 1) := dk_29 (dk_at dksX0_pass_2 23 rfl rfl)
theorem dX0_pass_68 : decode cX0_pass 68 = .ok (.ishr, 1) := dk_122 (dk_at dksX0_pass_3 0 rfl rfl)
theorem dX0_pass_69 : decode cX0_pass 69 = .ok (.iconst 1, 1) := dk_4 (dk_at dksX0_pass_3 1 rfl rfl)
theorem dX0_pass_70 : decode cX0_pass 70 = .ok (.iand, 1) := dk_126 (dk_at dksX0_pass_3 2 rfl rfl)
theorem dX0_pass_71 : decode cX0_pass 71 = .ok (.iconst 1, 1) := dk_4 (dk_at dksX0_pass_3 3 rfl rfl)
theorem dX0_pass_72 : decode cX0_pass 72 = .ok (.if_icmp .ne 16, 3) := dk_160 0 16 (dk_at dksX0_pass_3 4 rfl rfl)
theorem dX0_pass_75 : decode cX0_pass 75 = .ok (.aload_n 0, 1) := dk_42 (dk_at dksX0_pass_3 7 rfl rfl)
theorem dX0_pass_76 : decode cX0_pass 76 = .ok (.getfield 25, 3) := dk_180 0 25 (dk_at dksX0_pass_3 8 rfl rfl)
theorem dX0_pass_79 : decode cX0_pass 79 = .ok (.iload_n 3, 1) := dk_29 (dk_at dksX0_pass_3 11 rfl rfl)
theorem dX0_pass_80 : decode cX0_pass 80 = .ok (.aaload, 1) := dk_50 (dk_at dksX0_pass_3 12 rfl rfl)
theorem dX0_pass_81 : decode cX0_pass 81 = .ok (.aload_n 0, 1) := dk_42 (dk_at dksX0_pass_3 13 rfl rfl)
theorem dX0_pass_82 : decode cX0_pass 82 = .ok (.getfield 175, 3) := dk_180 0 175 (dk_at dksX0_pass_3 14 rfl rfl)
theorem dX0_pass_85 : decode cX0_pass 85 = .ok (.putfield 221, 3) := dk_181 0 221 (dk_at dksX0_pass_3 17 rfl rfl)
theorem dX0_pass_88 : decode cX0_pass 88 = .ok (.iinc 3 1, 3) := dk_132 3 1 (dk_at dksX0_pass_3 20 rfl rfl)
theorem dX0_pass_91 : decode cX0_pass 91 = .ok (.goto (-50), 3) := dk_167 255 206 (dk_at dksX0_pass_4 0 rfl rfl)
theorem dX0_pass_94 : decode cX0_pass 94 = .ok (.aload_n 0, 1) := dk_42 (dk_at dksX0_pass_4 3 rfl rfl)
theorem dX0_pass_95 : decode cX0_pass 95 = .ok (.dup, 1) := dk_89 (dk_at dksX0_pass_4 4 rfl rfl)
theorem dX0_pass_96 : decode cX0_pass 96 = .ok (.getfield 175, 3) := dk_180 0 175 (dk_at dksX0_pass_4 5 rfl rfl)
theorem dX0_pass_99 : decode cX0_pass 99 = .ok (.iconst 1, 1) := dk_4 (dk_at dksX0_pass_4 8 rfl rfl)
theorem dX0_pass_100 : decode cX0_pass 100 = .ok (.iadd, 1) := dk_96 (dk_at dksX0_pass_4 9 rfl rfl)
theorem dX0_pass_101 : decode cX0_pass 101 = .ok (.putfield 175, 3) := dk_181 0 175 (dk_at dksX0_pass_4 10 rfl rfl)
theorem dX0_pass_104 : decode cX0_pass 104 = .ok (.iinc 2 1, 3) := dk_132 2 1 (dk_at dksX0_pass_4 13 rfl rfl)
theorem dX0_pass_107 : decode cX0_pass 107 = .ok (.goto (-77), 3) := dk_167 255 179 (dk_at dksX0_pass_4 16 rfl rfl)
theorem dX0_pass_110 : decode cX0_pass 110 = .ok (.aload_n 0, 1) := dk_42 (dk_at dksX0_pass_4 19 rfl rfl)
theorem dX0_pass_111 : decode cX0_pass 111 = .ok (.getfield 175, 3) := dk_180 0 175 (dk_at dksX0_pass_4 20 rfl rfl)
theorem dX0_pass_114 : decode cX0_pass 114 = .ok (.ireturn, 1) := dk_172 (dk_at dksX0_pass_4 23 rfl rfl)
abbrev cX0_week : ByteArray := prog_1_method_39_code
def yX0_week : MethodName := ⟨RX0, "week", "()V"⟩
def dkwX0_week_14 : List UInt8 := [132, 4, 1, 167, 255, 219, 177]
abbrev dktX0_week_14 : List UInt8 := dkwX0_week_14 ++ []
def dkwX0_week_13 : List UInt8 := [21, 4, 50, 198, 0, 20, 42, 180, 0, 25, 21, 4, 50, 42, 180, 0, 48, 21, 4, 46, 181, 0, 150]
abbrev dktX0_week_13 : List UInt8 := dkwX0_week_13 ++ dktX0_week_14
def dkwX0_week_12 : List UInt8 := [128, 181, 0, 253, 132, 4, 1, 167, 255, 72, 3, 54, 4, 21, 4, 16, 8, 162, 0, 36, 42, 180, 0, 25]
abbrev dktX0_week_12 : List UInt8 := dkwX0_week_12 ++ dktX0_week_13
def dkwX0_week_11 : List UInt8 := [154, 0, 23, 42, 180, 0, 25, 21, 4, 50, 180, 0, 150, 158, 0, 10, 4, 21, 4, 120, 167, 0, 4, 3]
abbrev dktX0_week_11 : List UInt8 := dkwX0_week_11 ++ dktX0_week_12
def dkwX0_week_10 : List UInt8 := [21, 7, 42, 180, 0, 51, 21, 4, 46, 100, 79, 42, 89, 180, 0, 253, 42, 180, 0, 48, 21, 4, 46]
abbrev dktX0_week_10 : List UInt8 := dkwX0_week_10 ++ dktX0_week_11
def dkwX0_week_9 : List UInt8 := [21, 4, 21, 7, 42, 180, 0, 25, 21, 4, 50, 180, 0, 214, 184, 1, 10, 79, 42, 180, 0, 48, 21, 4]
abbrev dktX0_week_9 : List UInt8 := dkwX0_week_9 ++ dktX0_week_10
def dkwX0_week_8 : List UInt8 := [21, 4, 50, 180, 0, 150, 133, 22, 5, 97, 184, 1, 3, 184, 1, 7, 136, 54, 7, 42, 180, 0, 51]
abbrev dktX0_week_8 : List UInt8 := dkwX0_week_8 ++ dktX0_week_9
def dkwX0_week_7 : List UInt8 := [101, 21, 4, 27, 160, 0, 7, 32, 167, 0, 4, 9, 97, 55, 5, 9, 20, 0, 241, 42, 180, 0, 25]
abbrev dktX0_week_7 : List UInt8 := dkwX0_week_7 ++ dktX0_week_8
def dkwX0_week_6 : List UInt8 := [21, 4, 3, 184, 0, 181, 4, 184, 0, 246, 182, 1, 0, 42, 180, 0, 44, 21, 4, 16, 8, 184, 0, 246]
abbrev dktX0_week_6 : List UInt8 := dkwX0_week_6 ++ dktX0_week_7
def dkwX0_week_5 : List UInt8 := [3, 79, 42, 180, 0, 25, 21, 4, 50, 198, 0, 159, 42, 180, 0, 25, 21, 4, 50, 42, 180, 0, 44]
abbrev dktX0_week_5 : List UInt8 := dkwX0_week_5 ++ dktX0_week_6
def dkwX0_week_4 : List UInt8 := [167, 255, 191, 42, 3, 181, 0, 253, 3, 54, 4, 21, 4, 16, 8, 162, 0, 183, 42, 180, 0, 51, 21, 4]
abbrev dktX0_week_4 : List UInt8 := dkwX0_week_4 ++ dktX0_week_5
def dkwX0_week_3 : List UInt8 := [42, 180, 0, 44, 21, 4, 3, 184, 0, 181, 4, 184, 0, 246, 182, 0, 250, 97, 65, 132, 4, 255]
abbrev dktX0_week_3 : List UInt8 := dkwX0_week_3 ++ dktX0_week_4
def dkwX0_week_2 : List UInt8 := [21, 4, 50, 182, 0, 194, 154, 0, 8, 21, 4, 167, 0, 4, 27, 60, 32, 42, 180, 0, 25, 21, 4, 50]
abbrev dktX0_week_2 : List UInt8 := dkwX0_week_2 ++ dktX0_week_3
def dkwX0_week_1 : List UInt8 := [16, 7, 54, 4, 21, 4, 155, 0, 66, 42, 180, 0, 25, 21, 4, 50, 198, 0, 50, 42, 180, 0, 25]
abbrev dktX0_week_1 : List UInt8 := dkwX0_week_1 ++ dktX0_week_2
def dkwX0_week_0 : List UInt8 := [3, 60, 27, 16, 8, 162, 0, 14, 42, 27, 182, 0, 243, 132, 1, 1, 167, 255, 242, 16, 247, 60, 9, 65]
abbrev dktX0_week_0 : List UInt8 := dkwX0_week_0 ++ dktX0_week_1
theorem dksX0_week_0 : cX0_week.data.toList.drop 0 = dktX0_week_0 := by decide +kernel
theorem dksX0_week_1 : cX0_week.data.toList.drop 24 = dktX0_week_1 := dk_seg dksX0_week_0 24 rfl rfl
theorem dksX0_week_2 : cX0_week.data.toList.drop 47 = dktX0_week_2 := dk_seg dksX0_week_1 23 rfl rfl
theorem dksX0_week_3 : cX0_week.data.toList.drop 71 = dktX0_week_3 := dk_seg dksX0_week_2 24 rfl rfl
theorem dksX0_week_4 : cX0_week.data.toList.drop 93 = dktX0_week_4 := dk_seg dksX0_week_3 22 rfl rfl
theorem dksX0_week_5 : cX0_week.data.toList.drop 117 = dktX0_week_5 := dk_seg dksX0_week_4 24 rfl rfl
theorem dksX0_week_6 : cX0_week.data.toList.drop 140 = dktX0_week_6 := dk_seg dksX0_week_5 23 rfl rfl
theorem dksX0_week_7 : cX0_week.data.toList.drop 164 = dktX0_week_7 := dk_seg dksX0_week_6 24 rfl rfl
theorem dksX0_week_8 : cX0_week.data.toList.drop 187 = dktX0_week_8 := dk_seg dksX0_week_7 23 rfl rfl
theorem dksX0_week_9 : cX0_week.data.toList.drop 210 = dktX0_week_9 := dk_seg dksX0_week_8 23 rfl rfl
theorem dksX0_week_10 : cX0_week.data.toList.drop 234 = dktX0_week_10 := dk_seg dksX0_week_9 24 rfl rfl
theorem dksX0_week_11 : cX0_week.data.toList.drop 257 = dktX0_week_11 := dk_seg dksX0_week_10 23 rfl rfl
theorem dksX0_week_12 : cX0_week.data.toList.drop 281 = dktX0_week_12 := dk_seg dksX0_week_11 24 rfl rfl
theorem dksX0_week_13 : cX0_week.data.toList.drop 305 = dktX0_week_13 := dk_seg dksX0_week_12 24 rfl rfl
theorem dksX0_week_14 : cX0_week.data.toList.drop 328 = dktX0_week_14 := dk_seg dksX0_week_13 23 rfl rfl
theorem dX0_week_0 : decode cX0_week 0 = .ok (.iconst 0, 1) := dk_3 (dk_at dksX0_week_0 0 rfl rfl)
theorem dX0_week_1 : decode cX0_week 1 = .ok (.istore_n 1, 1) := dk_60 (dk_at dksX0_week_0 1 rfl rfl)
theorem dX0_week_2 : decode cX0_week 2 = .ok (.iload_n 1, 1) := dk_27 (dk_at dksX0_week_0 2 rfl rfl)
theorem dX0_week_3 : decode cX0_week 3 = .ok (.bipush 8, 2) := dk_16 8 (dk_at dksX0_week_0 3 rfl rfl)
theorem dX0_week_5 : decode cX0_week 5 = .ok (.if_icmp .ge 14, 3) := dk_162 0 14 (dk_at dksX0_week_0 5 rfl rfl)
theorem dX0_week_8 : decode cX0_week 8 = .ok (.aload_n 0, 1) := dk_42 (dk_at dksX0_week_0 8 rfl rfl)
theorem dX0_week_9 : decode cX0_week 9 = .ok (.iload_n 1, 1) := dk_27 (dk_at dksX0_week_0 9 rfl rfl)
theorem dX0_week_10 : decode cX0_week 10 = .ok (.invokevirtual 243, 3) := dk_182 0 243 (dk_at dksX0_week_0 10 rfl rfl)
theorem dX0_week_13 : decode cX0_week 13 = .ok (.iinc 1 1, 3) := dk_132 1 1 (dk_at dksX0_week_0 13 rfl rfl)
theorem dX0_week_16 : decode cX0_week 16 = .ok (.goto (-14), 3) := dk_167 255 242 (dk_at dksX0_week_0 16 rfl rfl)
theorem dX0_week_19 : decode cX0_week 19 = .ok (.bipush (-9), 2) := dk_16 247 (dk_at dksX0_week_0 19 rfl rfl)
theorem dX0_week_21 : decode cX0_week 21 = .ok (.istore_n 1, 1) := dk_60 (dk_at dksX0_week_0 21 rfl rfl)
theorem dX0_week_22 : decode cX0_week 22 = .ok (.lconst 0, 1) := dk_9 (dk_at dksX0_week_0 22 rfl rfl)
theorem dX0_week_23 : decode cX0_week 23 = .ok (.lstore_n 2, 1) := dk_65 (dk_at dksX0_week_0 23 rfl rfl)
theorem dX0_week_24 : decode cX0_week 24 = .ok (.bipush 7, 2) := dk_16 7 (dk_at dksX0_week_1 0 rfl rfl)
theorem dX0_week_26 : decode cX0_week 26 = .ok (.istore 4, 2) := dk_54 4 (dk_at dksX0_week_1 2 rfl rfl)
theorem dX0_week_28 : decode cX0_week 28 = .ok (.iload 4, 2) := dk_21 4 (dk_at dksX0_week_1 4 rfl rfl)
theorem dX0_week_30 : decode cX0_week 30 = .ok (.ifCond .lt 66, 3) := dk_155 0 66 (dk_at dksX0_week_1 6 rfl rfl)
theorem dX0_week_33 : decode cX0_week 33 = .ok (.aload_n 0, 1) := dk_42 (dk_at dksX0_week_1 9 rfl rfl)
theorem dX0_week_34 : decode cX0_week 34 = .ok (.getfield 25, 3) := dk_180 0 25 (dk_at dksX0_week_1 10 rfl rfl)
theorem dX0_week_37 : decode cX0_week 37 = .ok (.iload 4, 2) := dk_21 4 (dk_at dksX0_week_1 13 rfl rfl)
theorem dX0_week_39 : decode cX0_week 39 = .ok (.aaload, 1) := dk_50 (dk_at dksX0_week_1 15 rfl rfl)
theorem dX0_week_40 : decode cX0_week 40 = .ok (.ifnull 50, 3) := dk_198 0 50 (dk_at dksX0_week_1 16 rfl rfl)
theorem dX0_week_43 : decode cX0_week 43 = .ok (.aload_n 0, 1) := dk_42 (dk_at dksX0_week_1 19 rfl rfl)
theorem dX0_week_44 : decode cX0_week 44 = .ok (.getfield 25, 3) := dk_180 0 25 (dk_at dksX0_week_1 20 rfl rfl)
theorem dX0_week_47 : decode cX0_week 47 = .ok (.iload 4, 2) := dk_21 4 (dk_at dksX0_week_2 0 rfl rfl)
theorem dX0_week_49 : decode cX0_week 49 = .ok (.aaload, 1) := dk_50 (dk_at dksX0_week_2 2 rfl rfl)
theorem dX0_week_50 : decode cX0_week 50 = .ok (.invokevirtual 194, 3) := dk_182 0 194 (dk_at dksX0_week_2 3 rfl rfl)
theorem dX0_week_53 : decode cX0_week 53 = .ok (.ifCond .ne 8, 3) := dk_154 0 8 (dk_at dksX0_week_2 6 rfl rfl)
theorem dX0_week_56 : decode cX0_week 56 = .ok (.iload 4, 2) := dk_21 4 (dk_at dksX0_week_2 9 rfl rfl)
theorem dX0_week_58 : decode cX0_week 58 = .ok (.goto 4, 3) := dk_167 0 4 (dk_at dksX0_week_2 11 rfl rfl)
theorem dX0_week_61 : decode cX0_week 61 = .ok (.iload_n 1, 1) := dk_27 (dk_at dksX0_week_2 14 rfl rfl)
theorem dX0_week_62 : decode cX0_week 62 = .ok (.istore_n 1, 1) := dk_60 (dk_at dksX0_week_2 15 rfl rfl)
theorem dX0_week_63 : decode cX0_week 63 = .ok (.lload_n 2, 1) := dk_32 (dk_at dksX0_week_2 16 rfl rfl)
theorem dX0_week_64 : decode cX0_week 64 = .ok (.aload_n 0, 1) := dk_42 (dk_at dksX0_week_2 17 rfl rfl)
theorem dX0_week_65 : decode cX0_week 65 = .ok (.getfield 25, 3) := dk_180 0 25 (dk_at dksX0_week_2 18 rfl rfl)
theorem dX0_week_68 : decode cX0_week 68 = .ok (.iload 4, 2) := dk_21 4 (dk_at dksX0_week_2 21 rfl rfl)
theorem dX0_week_70 : decode cX0_week 70 = .ok (.aaload, 1) := dk_50 (dk_at dksX0_week_2 23 rfl rfl)
theorem dX0_week_71 : decode cX0_week 71 = .ok (.aload_n 0, 1) := dk_42 (dk_at dksX0_week_3 0 rfl rfl)
theorem dX0_week_72 : decode cX0_week 72 = .ok (.getfield 44, 3) := dk_180 0 44 (dk_at dksX0_week_3 1 rfl rfl)
theorem dX0_week_75 : decode cX0_week 75 = .ok (.iload 4, 2) := dk_21 4 (dk_at dksX0_week_3 4 rfl rfl)
theorem dX0_week_77 : decode cX0_week 77 = .ok (.iconst 0, 1) := dk_3 (dk_at dksX0_week_3 6 rfl rfl)
theorem dX0_week_78 : decode cX0_week 78 = .ok (.invokestatic 181, 3) := dk_184 0 181 (dk_at dksX0_week_3 7 rfl rfl)
theorem dX0_week_81 : decode cX0_week 81 = .ok (.iconst 1, 1) := dk_4 (dk_at dksX0_week_3 10 rfl rfl)
theorem dX0_week_82 : decode cX0_week 82 = .ok (.invokestatic 246, 3) := dk_184 0 246 (dk_at dksX0_week_3 11 rfl rfl)
theorem dX0_week_85 : decode cX0_week 85 = .ok (.invokevirtual 250, 3) := dk_182 0 250 (dk_at dksX0_week_3 14 rfl rfl)
theorem dX0_week_88 : decode cX0_week 88 = .ok (.ladd, 1) := dk_97 (dk_at dksX0_week_3 17 rfl rfl)
theorem dX0_week_89 : decode cX0_week 89 = .ok (.lstore_n 2, 1) := dk_65 (dk_at dksX0_week_3 18 rfl rfl)
theorem dX0_week_90 : decode cX0_week 90 = .ok (.iinc 4 (-1), 3) := dk_132 4 255 (dk_at dksX0_week_3 19 rfl rfl)
theorem dX0_week_93 : decode cX0_week 93 = .ok (.goto (-65), 3) := dk_167 255 191 (dk_at dksX0_week_4 0 rfl rfl)
theorem dX0_week_96 : decode cX0_week 96 = .ok (.aload_n 0, 1) := dk_42 (dk_at dksX0_week_4 3 rfl rfl)
theorem dX0_week_97 : decode cX0_week 97 = .ok (.iconst 0, 1) := dk_3 (dk_at dksX0_week_4 4 rfl rfl)
theorem dX0_week_98 : decode cX0_week 98 = .ok (.putfield 253, 3) := dk_181 0 253 (dk_at dksX0_week_4 5 rfl rfl)
theorem dX0_week_101 : decode cX0_week 101 = .ok (.iconst 0, 1) := dk_3 (dk_at dksX0_week_4 8 rfl rfl)
theorem dX0_week_102 : decode cX0_week 102 = .ok (.istore 4, 2) := dk_54 4 (dk_at dksX0_week_4 9 rfl rfl)
theorem dX0_week_104 : decode cX0_week 104 = .ok (.iload 4, 2) := dk_21 4 (dk_at dksX0_week_4 11 rfl rfl)
theorem dX0_week_106 : decode cX0_week 106 = .ok (.bipush 8, 2) := dk_16 8 (dk_at dksX0_week_4 13 rfl rfl)
theorem dX0_week_108 : decode cX0_week 108 = .ok (.if_icmp .ge 183, 3) := dk_162 0 183 (dk_at dksX0_week_4 15 rfl rfl)
theorem dX0_week_111 : decode cX0_week 111 = .ok (.aload_n 0, 1) := dk_42 (dk_at dksX0_week_4 18 rfl rfl)
theorem dX0_week_112 : decode cX0_week 112 = .ok (.getfield 51, 3) := dk_180 0 51 (dk_at dksX0_week_4 19 rfl rfl)
theorem dX0_week_115 : decode cX0_week 115 = .ok (.iload 4, 2) := dk_21 4 (dk_at dksX0_week_4 22 rfl rfl)
theorem dX0_week_117 : decode cX0_week 117 = .ok (.iconst 0, 1) := dk_3 (dk_at dksX0_week_5 0 rfl rfl)
theorem dX0_week_118 : decode cX0_week 118 = .ok (.iastore, 1) := dk_79 (dk_at dksX0_week_5 1 rfl rfl)
theorem dX0_week_119 : decode cX0_week 119 = .ok (.aload_n 0, 1) := dk_42 (dk_at dksX0_week_5 2 rfl rfl)
theorem dX0_week_120 : decode cX0_week 120 = .ok (.getfield 25, 3) := dk_180 0 25 (dk_at dksX0_week_5 3 rfl rfl)
theorem dX0_week_123 : decode cX0_week 123 = .ok (.iload 4, 2) := dk_21 4 (dk_at dksX0_week_5 6 rfl rfl)
theorem dX0_week_125 : decode cX0_week 125 = .ok (.aaload, 1) := dk_50 (dk_at dksX0_week_5 8 rfl rfl)
theorem dX0_week_126 : decode cX0_week 126 = .ok (.ifnull 159, 3) := dk_198 0 159 (dk_at dksX0_week_5 9 rfl rfl)
theorem dX0_week_129 : decode cX0_week 129 = .ok (.aload_n 0, 1) := dk_42 (dk_at dksX0_week_5 12 rfl rfl)
theorem dX0_week_130 : decode cX0_week 130 = .ok (.getfield 25, 3) := dk_180 0 25 (dk_at dksX0_week_5 13 rfl rfl)
theorem dX0_week_133 : decode cX0_week 133 = .ok (.iload 4, 2) := dk_21 4 (dk_at dksX0_week_5 16 rfl rfl)
theorem dX0_week_135 : decode cX0_week 135 = .ok (.aaload, 1) := dk_50 (dk_at dksX0_week_5 18 rfl rfl)
theorem dX0_week_136 : decode cX0_week 136 = .ok (.aload_n 0, 1) := dk_42 (dk_at dksX0_week_5 19 rfl rfl)
theorem dX0_week_137 : decode cX0_week 137 = .ok (.getfield 44, 3) := dk_180 0 44 (dk_at dksX0_week_5 20 rfl rfl)
theorem dX0_week_140 : decode cX0_week 140 = .ok (.iload 4, 2) := dk_21 4 (dk_at dksX0_week_6 0 rfl rfl)
theorem dX0_week_142 : decode cX0_week 142 = .ok (.iconst 0, 1) := dk_3 (dk_at dksX0_week_6 2 rfl rfl)
theorem dX0_week_143 : decode cX0_week 143 = .ok (.invokestatic 181, 3) := dk_184 0 181 (dk_at dksX0_week_6 3 rfl rfl)
theorem dX0_week_146 : decode cX0_week 146 = .ok (.iconst 1, 1) := dk_4 (dk_at dksX0_week_6 6 rfl rfl)
theorem dX0_week_147 : decode cX0_week 147 = .ok (.invokestatic 246, 3) := dk_184 0 246 (dk_at dksX0_week_6 7 rfl rfl)
theorem dX0_week_150 : decode cX0_week 150 = .ok (.invokevirtual 256, 3) := dk_182 1 0 (dk_at dksX0_week_6 10 rfl rfl)
theorem dX0_week_153 : decode cX0_week 153 = .ok (.aload_n 0, 1) := dk_42 (dk_at dksX0_week_6 13 rfl rfl)
theorem dX0_week_154 : decode cX0_week 154 = .ok (.getfield 44, 3) := dk_180 0 44 (dk_at dksX0_week_6 14 rfl rfl)
theorem dX0_week_157 : decode cX0_week 157 = .ok (.iload 4, 2) := dk_21 4 (dk_at dksX0_week_6 17 rfl rfl)
theorem dX0_week_159 : decode cX0_week 159 = .ok (.bipush 8, 2) := dk_16 8 (dk_at dksX0_week_6 19 rfl rfl)
theorem dX0_week_161 : decode cX0_week 161 = .ok (.invokestatic 246, 3) := dk_184 0 246 (dk_at dksX0_week_6 21 rfl rfl)
theorem dX0_week_164 : decode cX0_week 164 = .ok (.lsub, 1) := dk_101 (dk_at dksX0_week_7 0 rfl rfl)
theorem dX0_week_165 : decode cX0_week 165 = .ok (.iload 4, 2) := dk_21 4 (dk_at dksX0_week_7 1 rfl rfl)
theorem dX0_week_167 : decode cX0_week 167 = .ok (.iload_n 1, 1) := dk_27 (dk_at dksX0_week_7 3 rfl rfl)
theorem dX0_week_168 : decode cX0_week 168 = .ok (.if_icmp .ne 7, 3) := dk_160 0 7 (dk_at dksX0_week_7 4 rfl rfl)
theorem dX0_week_171 : decode cX0_week 171 = .ok (.lload_n 2, 1) := dk_32 (dk_at dksX0_week_7 7 rfl rfl)
theorem dX0_week_172 : decode cX0_week 172 = .ok (.goto 4, 3) := dk_167 0 4 (dk_at dksX0_week_7 8 rfl rfl)
theorem dX0_week_175 : decode cX0_week 175 = .ok (.lconst 0, 1) := dk_9 (dk_at dksX0_week_7 11 rfl rfl)
theorem dX0_week_176 : decode cX0_week 176 = .ok (.ladd, 1) := dk_97 (dk_at dksX0_week_7 12 rfl rfl)
theorem dX0_week_177 : decode cX0_week 177 = .ok (.lstore 5, 2) := dk_55 5 (dk_at dksX0_week_7 13 rfl rfl)
theorem dX0_week_179 : decode cX0_week 179 = .ok (.lconst 0, 1) := dk_9 (dk_at dksX0_week_7 15 rfl rfl)
theorem dX0_week_180 : decode cX0_week 180 = .ok (.ldc2_w 241, 3) := dk_20 0 241 (dk_at dksX0_week_7 16 rfl rfl)
theorem dX0_week_183 : decode cX0_week 183 = .ok (.aload_n 0, 1) := dk_42 (dk_at dksX0_week_7 19 rfl rfl)
theorem dX0_week_184 : decode cX0_week 184 = .ok (.getfield 25, 3) := dk_180 0 25 (dk_at dksX0_week_7 20 rfl rfl)
theorem dX0_week_187 : decode cX0_week 187 = .ok (.iload 4, 2) := dk_21 4 (dk_at dksX0_week_8 0 rfl rfl)
theorem dX0_week_189 : decode cX0_week 189 = .ok (.aaload, 1) := dk_50 (dk_at dksX0_week_8 2 rfl rfl)
theorem dX0_week_190 : decode cX0_week 190 = .ok (.getfield 150, 3) := dk_180 0 150 (dk_at dksX0_week_8 3 rfl rfl)
theorem dX0_week_193 : decode cX0_week 193 = .ok (.i2l, 1) := dk_133 (dk_at dksX0_week_8 6 rfl rfl)
theorem dX0_week_194 : decode cX0_week 194 = .ok (.lload 5, 2) := dk_22 5 (dk_at dksX0_week_8 7 rfl rfl)
theorem dX0_week_196 : decode cX0_week 196 = .ok (.ladd, 1) := dk_97 (dk_at dksX0_week_8 9 rfl rfl)
theorem dX0_week_197 : decode cX0_week 197 = .ok (.invokestatic 259, 3) := dk_184 1 3 (dk_at dksX0_week_8 10 rfl rfl)
theorem dX0_week_200 : decode cX0_week 200 = .ok (.invokestatic 263, 3) := dk_184 1 7 (dk_at dksX0_week_8 13 rfl rfl)
theorem dX0_week_203 : decode cX0_week 203 = .ok (.l2i, 1) := dk_136 (dk_at dksX0_week_8 16 rfl rfl)
theorem dX0_week_204 : decode cX0_week 204 = .ok (.istore 7, 2) := dk_54 7 (dk_at dksX0_week_8 17 rfl rfl)
theorem dX0_week_206 : decode cX0_week 206 = .ok (.aload_n 0, 1) := dk_42 (dk_at dksX0_week_8 19 rfl rfl)
theorem dX0_week_207 : decode cX0_week 207 = .ok (.getfield 51, 3) := dk_180 0 51 (dk_at dksX0_week_8 20 rfl rfl)
theorem dX0_week_210 : decode cX0_week 210 = .ok (.iload 4, 2) := dk_21 4 (dk_at dksX0_week_9 0 rfl rfl)
theorem dX0_week_212 : decode cX0_week 212 = .ok (.iload 7, 2) := dk_21 7 (dk_at dksX0_week_9 2 rfl rfl)
theorem dX0_week_214 : decode cX0_week 214 = .ok (.aload_n 0, 1) := dk_42 (dk_at dksX0_week_9 4 rfl rfl)
theorem dX0_week_215 : decode cX0_week 215 = .ok (.getfield 25, 3) := dk_180 0 25 (dk_at dksX0_week_9 5 rfl rfl)
theorem dX0_week_218 : decode cX0_week 218 = .ok (.iload 4, 2) := dk_21 4 (dk_at dksX0_week_9 8 rfl rfl)
theorem dX0_week_220 : decode cX0_week 220 = .ok (.aaload, 1) := dk_50 (dk_at dksX0_week_9 10 rfl rfl)
theorem dX0_week_221 : decode cX0_week 221 = .ok (.getfield 214, 3) := dk_180 0 214 (dk_at dksX0_week_9 11 rfl rfl)
theorem dX0_week_224 : decode cX0_week 224 = .ok (.invokestatic 266, 3) := dk_184 1 10 (dk_at dksX0_week_9 14 rfl rfl)
theorem dX0_week_227 : decode cX0_week 227 = .ok (.iastore, 1) := dk_79 (dk_at dksX0_week_9 17 rfl rfl)
theorem dX0_week_228 : decode cX0_week 228 = .ok (.aload_n 0, 1) := dk_42 (dk_at dksX0_week_9 18 rfl rfl)
theorem dX0_week_229 : decode cX0_week 229 = .ok (.getfield 48, 3) := dk_180 0 48 (dk_at dksX0_week_9 19 rfl rfl)
theorem dX0_week_232 : decode cX0_week 232 = .ok (.iload 4, 2) := dk_21 4 (dk_at dksX0_week_9 22 rfl rfl)
theorem dX0_week_234 : decode cX0_week 234 = .ok (.iload 7, 2) := dk_21 7 (dk_at dksX0_week_10 0 rfl rfl)
theorem dX0_week_236 : decode cX0_week 236 = .ok (.aload_n 0, 1) := dk_42 (dk_at dksX0_week_10 2 rfl rfl)
theorem dX0_week_237 : decode cX0_week 237 = .ok (.getfield 51, 3) := dk_180 0 51 (dk_at dksX0_week_10 3 rfl rfl)
theorem dX0_week_240 : decode cX0_week 240 = .ok (.iload 4, 2) := dk_21 4 (dk_at dksX0_week_10 6 rfl rfl)
theorem dX0_week_242 : decode cX0_week 242 = .ok (.iaload, 1) := dk_46 (dk_at dksX0_week_10 8 rfl rfl)
theorem dX0_week_243 : decode cX0_week 243 = .ok (.isub, 1) := dk_100 (dk_at dksX0_week_10 9 rfl rfl)
theorem dX0_week_244 : decode cX0_week 244 = .ok (.iastore, 1) := dk_79 (dk_at dksX0_week_10 10 rfl rfl)
theorem dX0_week_245 : decode cX0_week 245 = .ok (.aload_n 0, 1) := dk_42 (dk_at dksX0_week_10 11 rfl rfl)
theorem dX0_week_246 : decode cX0_week 246 = .ok (.dup, 1) := dk_89 (dk_at dksX0_week_10 12 rfl rfl)
theorem dX0_week_247 : decode cX0_week 247 = .ok (.getfield 253, 3) := dk_180 0 253 (dk_at dksX0_week_10 13 rfl rfl)
theorem dX0_week_250 : decode cX0_week 250 = .ok (.aload_n 0, 1) := dk_42 (dk_at dksX0_week_10 16 rfl rfl)
theorem dX0_week_251 : decode cX0_week 251 = .ok (.getfield 48, 3) := dk_180 0 48 (dk_at dksX0_week_10 17 rfl rfl)
theorem dX0_week_254 : decode cX0_week 254 = .ok (.iload 4, 2) := dk_21 4 (dk_at dksX0_week_10 20 rfl rfl)
theorem dX0_week_256 : decode cX0_week 256 = .ok (.iaload, 1) := dk_46 (dk_at dksX0_week_10 22 rfl rfl)
theorem dX0_week_257 : decode cX0_week 257 = .ok (.ifCond .ne 23, 3) := dk_154 0 23 (dk_at dksX0_week_11 0 rfl rfl)
theorem dX0_week_260 : decode cX0_week 260 = .ok (.aload_n 0, 1) := dk_42 (dk_at dksX0_week_11 3 rfl rfl)
theorem dX0_week_261 : decode cX0_week 261 = .ok (.getfield 25, 3) := dk_180 0 25 (dk_at dksX0_week_11 4 rfl rfl)
theorem dX0_week_264 : decode cX0_week 264 = .ok (.iload 4, 2) := dk_21 4 (dk_at dksX0_week_11 7 rfl rfl)
theorem dX0_week_266 : decode cX0_week 266 = .ok (.aaload, 1) := dk_50 (dk_at dksX0_week_11 9 rfl rfl)
theorem dX0_week_267 : decode cX0_week 267 = .ok (.getfield 150, 3) := dk_180 0 150 (dk_at dksX0_week_11 10 rfl rfl)
theorem dX0_week_270 : decode cX0_week 270 = .ok (.ifCond .le 10, 3) := dk_158 0 10 (dk_at dksX0_week_11 13 rfl rfl)
theorem dX0_week_273 : decode cX0_week 273 = .ok (.iconst 1, 1) := dk_4 (dk_at dksX0_week_11 16 rfl rfl)
theorem dX0_week_274 : decode cX0_week 274 = .ok (.iload 4, 2) := dk_21 4 (dk_at dksX0_week_11 17 rfl rfl)
theorem dX0_week_276 : decode cX0_week 276 = .ok (.ishl, 1) := dk_120 (dk_at dksX0_week_11 19 rfl rfl)
theorem dX0_week_277 : decode cX0_week 277 = .ok (.goto 4, 3) := dk_167 0 4 (dk_at dksX0_week_11 20 rfl rfl)
theorem dX0_week_280 : decode cX0_week 280 = .ok (.iconst 0, 1) := dk_3 (dk_at dksX0_week_11 23 rfl rfl)
theorem dX0_week_281 : decode cX0_week 281 = .ok (.ior, 1) := dk_128 (dk_at dksX0_week_12 0 rfl rfl)
theorem dX0_week_282 : decode cX0_week 282 = .ok (.putfield 253, 3) := dk_181 0 253 (dk_at dksX0_week_12 1 rfl rfl)
theorem dX0_week_285 : decode cX0_week 285 = .ok (.iinc 4 1, 3) := dk_132 4 1 (dk_at dksX0_week_12 4 rfl rfl)
theorem dX0_week_288 : decode cX0_week 288 = .ok (.goto (-184), 3) := dk_167 255 72 (dk_at dksX0_week_12 7 rfl rfl)
theorem dX0_week_291 : decode cX0_week 291 = .ok (.iconst 0, 1) := dk_3 (dk_at dksX0_week_12 10 rfl rfl)
theorem dX0_week_292 : decode cX0_week 292 = .ok (.istore 4, 2) := dk_54 4 (dk_at dksX0_week_12 11 rfl rfl)
theorem dX0_week_294 : decode cX0_week 294 = .ok (.iload 4, 2) := dk_21 4 (dk_at dksX0_week_12 13 rfl rfl)
theorem dX0_week_296 : decode cX0_week 296 = .ok (.bipush 8, 2) := dk_16 8 (dk_at dksX0_week_12 15 rfl rfl)
theorem dX0_week_298 : decode cX0_week 298 = .ok (.if_icmp .ge 36, 3) := dk_162 0 36 (dk_at dksX0_week_12 17 rfl rfl)
theorem dX0_week_301 : decode cX0_week 301 = .ok (.aload_n 0, 1) := dk_42 (dk_at dksX0_week_12 20 rfl rfl)
theorem dX0_week_302 : decode cX0_week 302 = .ok (.getfield 25, 3) := dk_180 0 25 (dk_at dksX0_week_12 21 rfl rfl)
theorem dX0_week_305 : decode cX0_week 305 = .ok (.iload 4, 2) := dk_21 4 (dk_at dksX0_week_13 0 rfl rfl)
theorem dX0_week_307 : decode cX0_week 307 = .ok (.aaload, 1) := dk_50 (dk_at dksX0_week_13 2 rfl rfl)
theorem dX0_week_308 : decode cX0_week 308 = .ok (.ifnull 20, 3) := dk_198 0 20 (dk_at dksX0_week_13 3 rfl rfl)
theorem dX0_week_311 : decode cX0_week 311 = .ok (.aload_n 0, 1) := dk_42 (dk_at dksX0_week_13 6 rfl rfl)
theorem dX0_week_312 : decode cX0_week 312 = .ok (.getfield 25, 3) := dk_180 0 25 (dk_at dksX0_week_13 7 rfl rfl)
theorem dX0_week_315 : decode cX0_week 315 = .ok (.iload 4, 2) := dk_21 4 (dk_at dksX0_week_13 10 rfl rfl)
theorem dX0_week_317 : decode cX0_week 317 = .ok (.aaload, 1) := dk_50 (dk_at dksX0_week_13 12 rfl rfl)
theorem dX0_week_318 : decode cX0_week 318 = .ok (.aload_n 0, 1) := dk_42 (dk_at dksX0_week_13 13 rfl rfl)
theorem dX0_week_319 : decode cX0_week 319 = .ok (.getfield 48, 3) := dk_180 0 48 (dk_at dksX0_week_13 14 rfl rfl)
theorem dX0_week_322 : decode cX0_week 322 = .ok (.iload 4, 2) := dk_21 4 (dk_at dksX0_week_13 17 rfl rfl)
theorem dX0_week_324 : decode cX0_week 324 = .ok (.iaload, 1) := dk_46 (dk_at dksX0_week_13 19 rfl rfl)
theorem dX0_week_325 : decode cX0_week 325 = .ok (.putfield 150, 3) := dk_181 0 150 (dk_at dksX0_week_13 20 rfl rfl)
theorem dX0_week_328 : decode cX0_week 328 = .ok (.iinc 4 1, 3) := dk_132 4 1 (dk_at dksX0_week_14 0 rfl rfl)
theorem dX0_week_331 : decode cX0_week 331 = .ok (.goto (-37), 3) := dk_167 255 219 (dk_at dksX0_week_14 3 rfl rfl)
theorem dX0_week_334 : decode cX0_week 334 = .ok (.return_, 1) := dk_177 (dk_at dksX0_week_14 6 rfl rfl)
abbrev cX0_share : ByteArray := prog_1_method_37_code
def yX0_share : MethodName := ⟨RX0, "share", "(I)V"⟩
def dkwX0_share_7 : List UInt8 := [109, 80, 132, 6, 1, 167, 255, 212, 177]
abbrev dktX0_share_7 : List UInt8 := dkwX0_share_7 ++ []
def dkwX0_share_6 : List UInt8 := [180, 0, 44, 21, 6, 27, 184, 0, 181, 42, 180, 0, 44, 21, 6, 27, 184, 0, 181, 47, 22, 4, 105, 32]
abbrev dktX0_share_6 : List UInt8 := dkwX0_share_6 ++ dktX0_share_7
def dkwX0_share_5 : List UInt8 := [180, 0, 150, 133, 55, 4, 3, 54, 6, 21, 6, 16, 8, 162, 0, 43, 32, 22, 4, 148, 158, 0, 36, 42]
abbrev dktX0_share_5 : List UInt8 := dkwX0_share_5 ++ dktX0_share_6
def dkwX0_share_4 : List UInt8 := [167, 255, 169, 42, 180, 0, 25, 27, 50, 199, 0, 7, 9, 167, 0, 13, 42, 180, 0, 25, 27, 50]
abbrev dktX0_share_4 : List UInt8 := dkwX0_share_4 ++ dktX0_share_5
def dkwX0_share_3 : List UInt8 := [55, 5, 42, 180, 0, 44, 21, 4, 27, 184, 0, 181, 22, 5, 80, 32, 22, 5, 97, 65, 132, 4, 1]
abbrev dktX0_share_3 : List UInt8 := dkwX0_share_3 ++ dktX0_share_4
def dkwX0_share_2 : List UInt8 := [21, 4, 50, 180, 0, 150, 133, 105, 42, 180, 0, 25, 27, 50, 180, 0, 150, 133, 105, 20, 0, 241, 109]
abbrev dktX0_share_2 : List UInt8 := dkwX0_share_2 ++ dktX0_share_3
def dkwX0_share_1 : List UInt8 := [154, 0, 7, 9, 167, 0, 42, 42, 180, 0, 29, 21, 4, 27, 184, 0, 181, 46, 133, 42, 180, 0, 25]
abbrev dktX0_share_1 : List UInt8 := dkwX0_share_1 ++ dktX0_share_2
def dkwX0_share_0 : List UInt8 := [9, 65, 3, 54, 4, 21, 4, 16, 8, 162, 0, 86, 42, 180, 0, 29, 21, 4, 27, 184, 0, 181, 46]
abbrev dktX0_share_0 : List UInt8 := dkwX0_share_0 ++ dktX0_share_1
theorem dksX0_share_0 : cX0_share.data.toList.drop 0 = dktX0_share_0 := by decide +kernel
theorem dksX0_share_1 : cX0_share.data.toList.drop 23 = dktX0_share_1 := dk_seg dksX0_share_0 23 rfl rfl
theorem dksX0_share_2 : cX0_share.data.toList.drop 46 = dktX0_share_2 := dk_seg dksX0_share_1 23 rfl rfl
theorem dksX0_share_3 : cX0_share.data.toList.drop 69 = dktX0_share_3 := dk_seg dksX0_share_2 23 rfl rfl
theorem dksX0_share_4 : cX0_share.data.toList.drop 92 = dktX0_share_4 := dk_seg dksX0_share_3 23 rfl rfl
theorem dksX0_share_5 : cX0_share.data.toList.drop 114 = dktX0_share_5 := dk_seg dksX0_share_4 22 rfl rfl
theorem dksX0_share_6 : cX0_share.data.toList.drop 138 = dktX0_share_6 := dk_seg dksX0_share_5 24 rfl rfl
theorem dksX0_share_7 : cX0_share.data.toList.drop 162 = dktX0_share_7 := dk_seg dksX0_share_6 24 rfl rfl
theorem dX0_share_0 : decode cX0_share 0 = .ok (.lconst 0, 1) := dk_9 (dk_at dksX0_share_0 0 rfl rfl)
theorem dX0_share_1 : decode cX0_share 1 = .ok (.lstore_n 2, 1) := dk_65 (dk_at dksX0_share_0 1 rfl rfl)
theorem dX0_share_2 : decode cX0_share 2 = .ok (.iconst 0, 1) := dk_3 (dk_at dksX0_share_0 2 rfl rfl)
theorem dX0_share_3 : decode cX0_share 3 = .ok (.istore 4, 2) := dk_54 4 (dk_at dksX0_share_0 3 rfl rfl)
theorem dX0_share_5 : decode cX0_share 5 = .ok (.iload 4, 2) := dk_21 4 (dk_at dksX0_share_0 5 rfl rfl)
theorem dX0_share_7 : decode cX0_share 7 = .ok (.bipush 8, 2) := dk_16 8 (dk_at dksX0_share_0 7 rfl rfl)
theorem dX0_share_9 : decode cX0_share 9 = .ok (.if_icmp .ge 86, 3) := dk_162 0 86 (dk_at dksX0_share_0 9 rfl rfl)
theorem dX0_share_12 : decode cX0_share 12 = .ok (.aload_n 0, 1) := dk_42 (dk_at dksX0_share_0 12 rfl rfl)
theorem dX0_share_13 : decode cX0_share 13 = .ok (.getfield 29, 3) := dk_180 0 29 (dk_at dksX0_share_0 13 rfl rfl)
theorem dX0_share_16 : decode cX0_share 16 = .ok (.iload 4, 2) := dk_21 4 (dk_at dksX0_share_0 16 rfl rfl)
theorem dX0_share_18 : decode cX0_share 18 = .ok (.iload_n 1, 1) := dk_27 (dk_at dksX0_share_0 18 rfl rfl)
theorem dX0_share_19 : decode cX0_share 19 = .ok (.invokestatic 181, 3) := dk_184 0 181 (dk_at dksX0_share_0 19 rfl rfl)
theorem dX0_share_22 : decode cX0_share 22 = .ok (.iaload, 1) := dk_46 (dk_at dksX0_share_0 22 rfl rfl)
theorem dX0_share_23 : decode cX0_share 23 = .ok (.ifCond .ne 7, 3) := dk_154 0 7 (dk_at dksX0_share_1 0 rfl rfl)
theorem dX0_share_26 : decode cX0_share 26 = .ok (.lconst 0, 1) := dk_9 (dk_at dksX0_share_1 3 rfl rfl)
theorem dX0_share_27 : decode cX0_share 27 = .ok (.goto 42, 3) := dk_167 0 42 (dk_at dksX0_share_1 4 rfl rfl)
theorem dX0_share_30 : decode cX0_share 30 = .ok (.aload_n 0, 1) := dk_42 (dk_at dksX0_share_1 7 rfl rfl)
theorem dX0_share_31 : decode cX0_share 31 = .ok (.getfield 29, 3) := dk_180 0 29 (dk_at dksX0_share_1 8 rfl rfl)
theorem dX0_share_34 : decode cX0_share 34 = .ok (.iload 4, 2) := dk_21 4 (dk_at dksX0_share_1 11 rfl rfl)
theorem dX0_share_36 : decode cX0_share 36 = .ok (.iload_n 1, 1) := dk_27 (dk_at dksX0_share_1 13 rfl rfl)
theorem dX0_share_37 : decode cX0_share 37 = .ok (.invokestatic 181, 3) := dk_184 0 181 (dk_at dksX0_share_1 14 rfl rfl)
theorem dX0_share_40 : decode cX0_share 40 = .ok (.iaload, 1) := dk_46 (dk_at dksX0_share_1 17 rfl rfl)
theorem dX0_share_41 : decode cX0_share 41 = .ok (.i2l, 1) := dk_133 (dk_at dksX0_share_1 18 rfl rfl)
theorem dX0_share_42 : decode cX0_share 42 = .ok (.aload_n 0, 1) := dk_42 (dk_at dksX0_share_1 19 rfl rfl)
theorem dX0_share_43 : decode cX0_share 43 = .ok (.getfield 25, 3) := dk_180 0 25 (dk_at dksX0_share_1 20 rfl rfl)
theorem dX0_share_46 : decode cX0_share 46 = .ok (.iload 4, 2) := dk_21 4 (dk_at dksX0_share_2 0 rfl rfl)
theorem dX0_share_48 : decode cX0_share 48 = .ok (.aaload, 1) := dk_50 (dk_at dksX0_share_2 2 rfl rfl)
theorem dX0_share_49 : decode cX0_share 49 = .ok (.getfield 150, 3) := dk_180 0 150 (dk_at dksX0_share_2 3 rfl rfl)
theorem dX0_share_52 : decode cX0_share 52 = .ok (.i2l, 1) := dk_133 (dk_at dksX0_share_2 6 rfl rfl)
theorem dX0_share_53 : decode cX0_share 53 = .ok (.lmul, 1) := dk_105 (dk_at dksX0_share_2 7 rfl rfl)
theorem dX0_share_54 : decode cX0_share 54 = .ok (.aload_n 0, 1) := dk_42 (dk_at dksX0_share_2 8 rfl rfl)
theorem dX0_share_55 : decode cX0_share 55 = .ok (.getfield 25, 3) := dk_180 0 25 (dk_at dksX0_share_2 9 rfl rfl)
theorem dX0_share_58 : decode cX0_share 58 = .ok (.iload_n 1, 1) := dk_27 (dk_at dksX0_share_2 12 rfl rfl)
theorem dX0_share_59 : decode cX0_share 59 = .ok (.aaload, 1) := dk_50 (dk_at dksX0_share_2 13 rfl rfl)
theorem dX0_share_60 : decode cX0_share 60 = .ok (.getfield 150, 3) := dk_180 0 150 (dk_at dksX0_share_2 14 rfl rfl)
theorem dX0_share_63 : decode cX0_share 63 = .ok (.i2l, 1) := dk_133 (dk_at dksX0_share_2 17 rfl rfl)
theorem dX0_share_64 : decode cX0_share 64 = .ok (.lmul, 1) := dk_105 (dk_at dksX0_share_2 18 rfl rfl)
theorem dX0_share_65 : decode cX0_share 65 = .ok (.ldc2_w 241, 3) := dk_20 0 241 (dk_at dksX0_share_2 19 rfl rfl)
theorem dX0_share_68 : decode cX0_share 68 = .ok (.ldiv, 1) := dk_109 (dk_at dksX0_share_2 22 rfl rfl)
theorem dX0_share_69 : decode cX0_share 69 = .ok (.lstore 5, 2) := dk_55 5 (dk_at dksX0_share_3 0 rfl rfl)
theorem dX0_share_71 : decode cX0_share 71 = .ok (.aload_n 0, 1) := dk_42 (dk_at dksX0_share_3 2 rfl rfl)
theorem dX0_share_72 : decode cX0_share 72 = .ok (.getfield 44, 3) := dk_180 0 44 (dk_at dksX0_share_3 3 rfl rfl)
theorem dX0_share_75 : decode cX0_share 75 = .ok (.iload 4, 2) := dk_21 4 (dk_at dksX0_share_3 6 rfl rfl)
theorem dX0_share_77 : decode cX0_share 77 = .ok (.iload_n 1, 1) := dk_27 (dk_at dksX0_share_3 8 rfl rfl)
theorem dX0_share_78 : decode cX0_share 78 = .ok (.invokestatic 181, 3) := dk_184 0 181 (dk_at dksX0_share_3 9 rfl rfl)
theorem dX0_share_81 : decode cX0_share 81 = .ok (.lload 5, 2) := dk_22 5 (dk_at dksX0_share_3 12 rfl rfl)
theorem dX0_share_83 : decode cX0_share 83 = .ok (.lastore, 1) := dk_80 (dk_at dksX0_share_3 14 rfl rfl)
theorem dX0_share_84 : decode cX0_share 84 = .ok (.lload_n 2, 1) := dk_32 (dk_at dksX0_share_3 15 rfl rfl)
theorem dX0_share_85 : decode cX0_share 85 = .ok (.lload 5, 2) := dk_22 5 (dk_at dksX0_share_3 16 rfl rfl)
theorem dX0_share_87 : decode cX0_share 87 = .ok (.ladd, 1) := dk_97 (dk_at dksX0_share_3 18 rfl rfl)
theorem dX0_share_88 : decode cX0_share 88 = .ok (.lstore_n 2, 1) := dk_65 (dk_at dksX0_share_3 19 rfl rfl)
theorem dX0_share_89 : decode cX0_share 89 = .ok (.iinc 4 1, 3) := dk_132 4 1 (dk_at dksX0_share_3 20 rfl rfl)
theorem dX0_share_92 : decode cX0_share 92 = .ok (.goto (-87), 3) := dk_167 255 169 (dk_at dksX0_share_4 0 rfl rfl)
theorem dX0_share_95 : decode cX0_share 95 = .ok (.aload_n 0, 1) := dk_42 (dk_at dksX0_share_4 3 rfl rfl)
theorem dX0_share_96 : decode cX0_share 96 = .ok (.getfield 25, 3) := dk_180 0 25 (dk_at dksX0_share_4 4 rfl rfl)
theorem dX0_share_99 : decode cX0_share 99 = .ok (.iload_n 1, 1) := dk_27 (dk_at dksX0_share_4 7 rfl rfl)
theorem dX0_share_100 : decode cX0_share 100 = .ok (.aaload, 1) := dk_50 (dk_at dksX0_share_4 8 rfl rfl)
theorem dX0_share_101 : decode cX0_share 101 = .ok (.ifnonnull 7, 3) := dk_199 0 7 (dk_at dksX0_share_4 9 rfl rfl)
theorem dX0_share_104 : decode cX0_share 104 = .ok (.lconst 0, 1) := dk_9 (dk_at dksX0_share_4 12 rfl rfl)
theorem dX0_share_105 : decode cX0_share 105 = .ok (.goto 13, 3) := dk_167 0 13 (dk_at dksX0_share_4 13 rfl rfl)
theorem dX0_share_108 : decode cX0_share 108 = .ok (.aload_n 0, 1) := dk_42 (dk_at dksX0_share_4 16 rfl rfl)
theorem dX0_share_109 : decode cX0_share 109 = .ok (.getfield 25, 3) := dk_180 0 25 (dk_at dksX0_share_4 17 rfl rfl)
theorem dX0_share_112 : decode cX0_share 112 = .ok (.iload_n 1, 1) := dk_27 (dk_at dksX0_share_4 20 rfl rfl)
theorem dX0_share_113 : decode cX0_share 113 = .ok (.aaload, 1) := dk_50 (dk_at dksX0_share_4 21 rfl rfl)
theorem dX0_share_114 : decode cX0_share 114 = .ok (.getfield 150, 3) := dk_180 0 150 (dk_at dksX0_share_5 0 rfl rfl)
theorem dX0_share_117 : decode cX0_share 117 = .ok (.i2l, 1) := dk_133 (dk_at dksX0_share_5 3 rfl rfl)
theorem dX0_share_118 : decode cX0_share 118 = .ok (.lstore 4, 2) := dk_55 4 (dk_at dksX0_share_5 4 rfl rfl)
theorem dX0_share_120 : decode cX0_share 120 = .ok (.iconst 0, 1) := dk_3 (dk_at dksX0_share_5 6 rfl rfl)
theorem dX0_share_121 : decode cX0_share 121 = .ok (.istore 6, 2) := dk_54 6 (dk_at dksX0_share_5 7 rfl rfl)
theorem dX0_share_123 : decode cX0_share 123 = .ok (.iload 6, 2) := dk_21 6 (dk_at dksX0_share_5 9 rfl rfl)
theorem dX0_share_125 : decode cX0_share 125 = .ok (.bipush 8, 2) := dk_16 8 (dk_at dksX0_share_5 11 rfl rfl)
theorem dX0_share_127 : decode cX0_share 127 = .ok (.if_icmp .ge 43, 3) := dk_162 0 43 (dk_at dksX0_share_5 13 rfl rfl)
theorem dX0_share_130 : decode cX0_share 130 = .ok (.lload_n 2, 1) := dk_32 (dk_at dksX0_share_5 16 rfl rfl)
theorem dX0_share_131 : decode cX0_share 131 = .ok (.lload 4, 2) := dk_22 4 (dk_at dksX0_share_5 17 rfl rfl)
theorem dX0_share_133 : decode cX0_share 133 = .ok (.lcmp, 1) := dk_148 (dk_at dksX0_share_5 19 rfl rfl)
theorem dX0_share_134 : decode cX0_share 134 = .ok (.ifCond .le 36, 3) := dk_158 0 36 (dk_at dksX0_share_5 20 rfl rfl)
theorem dX0_share_137 : decode cX0_share 137 = .ok (.aload_n 0, 1) := dk_42 (dk_at dksX0_share_5 23 rfl rfl)
theorem dX0_share_138 : decode cX0_share 138 = .ok (.getfield 44, 3) := dk_180 0 44 (dk_at dksX0_share_6 0 rfl rfl)
theorem dX0_share_141 : decode cX0_share 141 = .ok (.iload 6, 2) := dk_21 6 (dk_at dksX0_share_6 3 rfl rfl)
theorem dX0_share_143 : decode cX0_share 143 = .ok (.iload_n 1, 1) := dk_27 (dk_at dksX0_share_6 5 rfl rfl)
theorem dX0_share_144 : decode cX0_share 144 = .ok (.invokestatic 181, 3) := dk_184 0 181 (dk_at dksX0_share_6 6 rfl rfl)
theorem dX0_share_147 : decode cX0_share 147 = .ok (.aload_n 0, 1) := dk_42 (dk_at dksX0_share_6 9 rfl rfl)
theorem dX0_share_148 : decode cX0_share 148 = .ok (.getfield 44, 3) := dk_180 0 44 (dk_at dksX0_share_6 10 rfl rfl)
theorem dX0_share_151 : decode cX0_share 151 = .ok (.iload 6, 2) := dk_21 6 (dk_at dksX0_share_6 13 rfl rfl)
theorem dX0_share_153 : decode cX0_share 153 = .ok (.iload_n 1, 1) := dk_27 (dk_at dksX0_share_6 15 rfl rfl)
theorem dX0_share_154 : decode cX0_share 154 = .ok (.invokestatic 181, 3) := dk_184 0 181 (dk_at dksX0_share_6 16 rfl rfl)
theorem dX0_share_157 : decode cX0_share 157 = .ok (.laload, 1) := dk_47 (dk_at dksX0_share_6 19 rfl rfl)
theorem dX0_share_158 : decode cX0_share 158 = .ok (.lload 4, 2) := dk_22 4 (dk_at dksX0_share_6 20 rfl rfl)
theorem dX0_share_160 : decode cX0_share 160 = .ok (.lmul, 1) := dk_105 (dk_at dksX0_share_6 22 rfl rfl)
theorem dX0_share_161 : decode cX0_share 161 = .ok (.lload_n 2, 1) := dk_32 (dk_at dksX0_share_6 23 rfl rfl)
theorem dX0_share_162 : decode cX0_share 162 = .ok (.ldiv, 1) := dk_109 (dk_at dksX0_share_7 0 rfl rfl)
theorem dX0_share_163 : decode cX0_share 163 = .ok (.lastore, 1) := dk_80 (dk_at dksX0_share_7 1 rfl rfl)
theorem dX0_share_164 : decode cX0_share 164 = .ok (.iinc 6 1, 3) := dk_132 6 1 (dk_at dksX0_share_7 2 rfl rfl)
theorem dX0_share_167 : decode cX0_share 167 = .ok (.goto (-44), 3) := dk_167 255 212 (dk_at dksX0_share_7 5 rfl rfl)
theorem dX0_share_170 : decode cX0_share 170 = .ok (.return_, 1) := dk_177 (dk_at dksX0_share_7 8 rfl rfl)
abbrev cX0_sumOf : ByteArray := prog_1_method_38_code
def yX0_sumOf : MethodName := ⟨RX0, "sumOf", "([JII)J"⟩
def dkwX0_sumOf_1 : List UInt8 := [132, 5, 1, 167, 255, 235, 33, 173]
abbrev dktX0_sumOf_1 : List UInt8 := dkwX0_sumOf_1 ++ []
def dkwX0_sumOf_0 : List UInt8 := [9, 66, 3, 54, 5, 21, 5, 16, 8, 162, 0, 20, 33, 42, 27, 28, 21, 5, 104, 96, 47, 97, 66]
abbrev dktX0_sumOf_0 : List UInt8 := dkwX0_sumOf_0 ++ dktX0_sumOf_1
theorem dksX0_sumOf_0 : cX0_sumOf.data.toList.drop 0 = dktX0_sumOf_0 := by decide +kernel
theorem dksX0_sumOf_1 : cX0_sumOf.data.toList.drop 23 = dktX0_sumOf_1 := dk_seg dksX0_sumOf_0 23 rfl rfl
theorem dX0_sumOf_0 : decode cX0_sumOf 0 = .ok (.lconst 0, 1) := dk_9 (dk_at dksX0_sumOf_0 0 rfl rfl)
theorem dX0_sumOf_1 : decode cX0_sumOf 1 = .ok (.lstore_n 3, 1) := dk_66 (dk_at dksX0_sumOf_0 1 rfl rfl)
theorem dX0_sumOf_2 : decode cX0_sumOf 2 = .ok (.iconst 0, 1) := dk_3 (dk_at dksX0_sumOf_0 2 rfl rfl)
theorem dX0_sumOf_3 : decode cX0_sumOf 3 = .ok (.istore 5, 2) := dk_54 5 (dk_at dksX0_sumOf_0 3 rfl rfl)
theorem dX0_sumOf_5 : decode cX0_sumOf 5 = .ok (.iload 5, 2) := dk_21 5 (dk_at dksX0_sumOf_0 5 rfl rfl)
theorem dX0_sumOf_7 : decode cX0_sumOf 7 = .ok (.bipush 8, 2) := dk_16 8 (dk_at dksX0_sumOf_0 7 rfl rfl)
theorem dX0_sumOf_9 : decode cX0_sumOf 9 = .ok (.if_icmp .ge 20, 3) := dk_162 0 20 (dk_at dksX0_sumOf_0 9 rfl rfl)
theorem dX0_sumOf_12 : decode cX0_sumOf 12 = .ok (.lload_n 3, 1) := dk_33 (dk_at dksX0_sumOf_0 12 rfl rfl)
theorem dX0_sumOf_13 : decode cX0_sumOf 13 = .ok (.aload_n 0, 1) := dk_42 (dk_at dksX0_sumOf_0 13 rfl rfl)
theorem dX0_sumOf_14 : decode cX0_sumOf 14 = .ok (.iload_n 1, 1) := dk_27 (dk_at dksX0_sumOf_0 14 rfl rfl)
theorem dX0_sumOf_15 : decode cX0_sumOf 15 = .ok (.iload_n 2, 1) := dk_28 (dk_at dksX0_sumOf_0 15 rfl rfl)
theorem dX0_sumOf_16 : decode cX0_sumOf 16 = .ok (.iload 5, 2) := dk_21 5 (dk_at dksX0_sumOf_0 16 rfl rfl)
theorem dX0_sumOf_18 : decode cX0_sumOf 18 = .ok (.imul, 1) := dk_104 (dk_at dksX0_sumOf_0 18 rfl rfl)
theorem dX0_sumOf_19 : decode cX0_sumOf 19 = .ok (.iadd, 1) := dk_96 (dk_at dksX0_sumOf_0 19 rfl rfl)
theorem dX0_sumOf_20 : decode cX0_sumOf 20 = .ok (.laload, 1) := dk_47 (dk_at dksX0_sumOf_0 20 rfl rfl)
theorem dX0_sumOf_21 : decode cX0_sumOf 21 = .ok (.ladd, 1) := dk_97 (dk_at dksX0_sumOf_0 21 rfl rfl)
theorem dX0_sumOf_22 : decode cX0_sumOf 22 = .ok (.lstore_n 3, 1) := dk_66 (dk_at dksX0_sumOf_0 22 rfl rfl)
theorem dX0_sumOf_23 : decode cX0_sumOf 23 = .ok (.iinc 5 1, 3) := dk_132 5 1 (dk_at dksX0_sumOf_1 0 rfl rfl)
theorem dX0_sumOf_26 : decode cX0_sumOf 26 = .ok (.goto (-21), 3) := dk_167 255 235 (dk_at dksX0_sumOf_1 3 rfl rfl)
theorem dX0_sumOf_29 : decode cX0_sumOf 29 = .ok (.lload_n 3, 1) := dk_33 (dk_at dksX0_sumOf_1 6 rfl rfl)
theorem dX0_sumOf_30 : decode cX0_sumOf 30 = .ok (.lreturn, 1) := dk_173 (dk_at dksX0_sumOf_1 7 rfl rfl)
abbrev cX0_caught : ByteArray := prog_1_method_41_code
def yX0_caught : MethodName := ⟨RX0, "caught", "()J"⟩
theorem dX0_caught_0 : decode cX0_caught 0 = .ok (.aload_n 0, 1) := by decide +kernel
theorem dX0_caught_1 : decode cX0_caught 1 = .ok (.getfield 272, 3) := by decide +kernel
theorem dX0_caught_4 : decode cX0_caught 4 = .ok (.lreturn, 1) := by decide +kernel
abbrev cX0_swings : ByteArray := prog_1_method_45_code
def yX0_swings : MethodName := ⟨RX0, "swings", "(I)I"⟩
def dkwX0_swings_4 : List UInt8 := [28, 172]
abbrev dktX0_swings_4 : List UInt8 := dkwX0_swings_4 ++ []
def dkwX0_swings_3 : List UInt8 := [100, 61, 42, 21, 4, 181, 1, 25, 132, 4, 255, 167, 255, 221, 132, 3, 1, 167, 255, 190, 42, 182, 1, 28]
abbrev dktX0_swings_3 : List UInt8 := dkwX0_swings_3 ++ dktX0_swings_4
def dkwX0_swings_2 : List UInt8 := [21, 4, 155, 0, 36, 28, 16, 247, 160, 0, 30, 42, 29, 21, 4, 182, 1, 22, 153, 0, 14, 29, 21, 4]
abbrev dktX0_swings_2 : List UInt8 := dkwX0_swings_2 ++ dktX0_swings_3
def dkwX0_swings_1 : List UInt8 := [27, 163, 0, 67, 28, 16, 247, 160, 0, 61, 42, 182, 1, 13, 42, 29, 182, 1, 19, 29, 4, 100, 54, 4]
abbrev dktX0_swings_1 : List UInt8 := dkwX0_swings_1 ++ dktX0_swings_2
def dkwX0_swings_0 : List UInt8 := [27, 4, 17, 1, 44, 184, 0, 76, 154, 0, 5, 2, 172, 42, 3, 182, 1, 19, 16, 247, 61, 4, 62, 29]
abbrev dktX0_swings_0 : List UInt8 := dkwX0_swings_0 ++ dktX0_swings_1
theorem dksX0_swings_0 : cX0_swings.data.toList.drop 0 = dktX0_swings_0 := by decide +kernel
theorem dksX0_swings_1 : cX0_swings.data.toList.drop 24 = dktX0_swings_1 := dk_seg dksX0_swings_0 24 rfl rfl
theorem dksX0_swings_2 : cX0_swings.data.toList.drop 48 = dktX0_swings_2 := dk_seg dksX0_swings_1 24 rfl rfl
theorem dksX0_swings_3 : cX0_swings.data.toList.drop 72 = dktX0_swings_3 := dk_seg dksX0_swings_2 24 rfl rfl
theorem dksX0_swings_4 : cX0_swings.data.toList.drop 96 = dktX0_swings_4 := dk_seg dksX0_swings_3 24 rfl rfl
theorem dX0_swings_0 : decode cX0_swings 0 = .ok (.iload_n 1, 1) := dk_27 (dk_at dksX0_swings_0 0 rfl rfl)
theorem dX0_swings_1 : decode cX0_swings 1 = .ok (.iconst 1, 1) := dk_4 (dk_at dksX0_swings_0 1 rfl rfl)
theorem dX0_swings_2 : decode cX0_swings 2 = .ok (.sipush 300, 3) := dk_17 1 44 (dk_at dksX0_swings_0 2 rfl rfl)
theorem dX0_swings_5 : decode cX0_swings 5 = .ok (.invokestatic 76, 3) := dk_184 0 76 (dk_at dksX0_swings_0 5 rfl rfl)
theorem dX0_swings_8 : decode cX0_swings 8 = .ok (.ifCond .ne 5, 3) := dk_154 0 5 (dk_at dksX0_swings_0 8 rfl rfl)
theorem dX0_swings_11 : decode cX0_swings 11 = .ok (.iconst (-1), 1) := dk_2 (dk_at dksX0_swings_0 11 rfl rfl)
theorem dX0_swings_12 : decode cX0_swings 12 = .ok (.ireturn, 1) := dk_172 (dk_at dksX0_swings_0 12 rfl rfl)
theorem dX0_swings_13 : decode cX0_swings 13 = .ok (.aload_n 0, 1) := dk_42 (dk_at dksX0_swings_0 13 rfl rfl)
theorem dX0_swings_14 : decode cX0_swings 14 = .ok (.iconst 0, 1) := dk_3 (dk_at dksX0_swings_0 14 rfl rfl)
theorem dX0_swings_15 : decode cX0_swings 15 = .ok (.invokevirtual 275, 3) := dk_182 1 19 (dk_at dksX0_swings_0 15 rfl rfl)
theorem dX0_swings_18 : decode cX0_swings 18 = .ok (.bipush (-9), 2) := dk_16 247 (dk_at dksX0_swings_0 18 rfl rfl)
theorem dX0_swings_20 : decode cX0_swings 20 = .ok (.istore_n 2, 1) := dk_61 (dk_at dksX0_swings_0 20 rfl rfl)
theorem dX0_swings_21 : decode cX0_swings 21 = .ok (.iconst 1, 1) := dk_4 (dk_at dksX0_swings_0 21 rfl rfl)
theorem dX0_swings_22 : decode cX0_swings 22 = .ok (.istore_n 3, 1) := dk_62 (dk_at dksX0_swings_0 22 rfl rfl)
theorem dX0_swings_23 : decode cX0_swings 23 = .ok (.iload_n 3, 1) := dk_29 (dk_at dksX0_swings_0 23 rfl rfl)
theorem dX0_swings_24 : decode cX0_swings 24 = .ok (.iload_n 1, 1) := dk_27 (dk_at dksX0_swings_1 0 rfl rfl)
theorem dX0_swings_25 : decode cX0_swings 25 = .ok (.if_icmp .gt 67, 3) := dk_163 0 67 (dk_at dksX0_swings_1 1 rfl rfl)
theorem dX0_swings_28 : decode cX0_swings 28 = .ok (.iload_n 2, 1) := dk_28 (dk_at dksX0_swings_1 4 rfl rfl)
theorem dX0_swings_29 : decode cX0_swings 29 = .ok (.bipush (-9), 2) := dk_16 247 (dk_at dksX0_swings_1 5 rfl rfl)
theorem dX0_swings_31 : decode cX0_swings 31 = .ok (.if_icmp .ne 61, 3) := dk_160 0 61 (dk_at dksX0_swings_1 7 rfl rfl)
theorem dX0_swings_34 : decode cX0_swings 34 = .ok (.aload_n 0, 1) := dk_42 (dk_at dksX0_swings_1 10 rfl rfl)
theorem dX0_swings_35 : decode cX0_swings 35 = .ok (.invokevirtual 269, 3) := dk_182 1 13 (dk_at dksX0_swings_1 11 rfl rfl)
theorem dX0_swings_38 : decode cX0_swings 38 = .ok (.aload_n 0, 1) := dk_42 (dk_at dksX0_swings_1 14 rfl rfl)
theorem dX0_swings_39 : decode cX0_swings 39 = .ok (.iload_n 3, 1) := dk_29 (dk_at dksX0_swings_1 15 rfl rfl)
theorem dX0_swings_40 : decode cX0_swings 40 = .ok (.invokevirtual 275, 3) := dk_182 1 19 (dk_at dksX0_swings_1 16 rfl rfl)
theorem dX0_swings_43 : decode cX0_swings 43 = .ok (.iload_n 3, 1) := dk_29 (dk_at dksX0_swings_1 19 rfl rfl)
theorem dX0_swings_44 : decode cX0_swings 44 = .ok (.iconst 1, 1) := dk_4 (dk_at dksX0_swings_1 20 rfl rfl)
theorem dX0_swings_45 : decode cX0_swings 45 = .ok (.isub, 1) := dk_100 (dk_at dksX0_swings_1 21 rfl rfl)
theorem dX0_swings_46 : decode cX0_swings 46 = .ok (.istore 4, 2) := dk_54 4 (dk_at dksX0_swings_1 22 rfl rfl)
theorem dX0_swings_48 : decode cX0_swings 48 = .ok (.iload 4, 2) := dk_21 4 (dk_at dksX0_swings_2 0 rfl rfl)
theorem dX0_swings_50 : decode cX0_swings 50 = .ok (.ifCond .lt 36, 3) := dk_155 0 36 (dk_at dksX0_swings_2 2 rfl rfl)
theorem dX0_swings_53 : decode cX0_swings 53 = .ok (.iload_n 2, 1) := dk_28 (dk_at dksX0_swings_2 5 rfl rfl)
theorem dX0_swings_54 : decode cX0_swings 54 = .ok (.bipush (-9), 2) := dk_16 247 (dk_at dksX0_swings_2 6 rfl rfl)
theorem dX0_swings_56 : decode cX0_swings 56 = .ok (.if_icmp .ne 30, 3) := dk_160 0 30 (dk_at dksX0_swings_2 8 rfl rfl)
theorem dX0_swings_59 : decode cX0_swings 59 = .ok (.aload_n 0, 1) := dk_42 (dk_at dksX0_swings_2 11 rfl rfl)
theorem dX0_swings_60 : decode cX0_swings 60 = .ok (.iload_n 3, 1) := dk_29 (dk_at dksX0_swings_2 12 rfl rfl)
theorem dX0_swings_61 : decode cX0_swings 61 = .ok (.iload 4, 2) := dk_21 4 (dk_at dksX0_swings_2 13 rfl rfl)
theorem dX0_swings_63 : decode cX0_swings 63 = .ok (.invokevirtual 278, 3) := dk_182 1 22 (dk_at dksX0_swings_2 15 rfl rfl)
theorem dX0_swings_66 : decode cX0_swings 66 = .ok (.ifCond .eq 14, 3) := dk_153 0 14 (dk_at dksX0_swings_2 18 rfl rfl)
theorem dX0_swings_69 : decode cX0_swings 69 = .ok (.iload_n 3, 1) := dk_29 (dk_at dksX0_swings_2 21 rfl rfl)
theorem dX0_swings_70 : decode cX0_swings 70 = .ok (.iload 4, 2) := dk_21 4 (dk_at dksX0_swings_2 22 rfl rfl)
theorem dX0_swings_72 : decode cX0_swings 72 = .ok (.isub, 1) := dk_100 (dk_at dksX0_swings_3 0 rfl rfl)
theorem dX0_swings_73 : decode cX0_swings 73 = .ok (.istore_n 2, 1) := dk_61 (dk_at dksX0_swings_3 1 rfl rfl)
theorem dX0_swings_74 : decode cX0_swings 74 = .ok (.aload_n 0, 1) := dk_42 (dk_at dksX0_swings_3 2 rfl rfl)
theorem dX0_swings_75 : decode cX0_swings 75 = .ok (.iload 4, 2) := dk_21 4 (dk_at dksX0_swings_3 3 rfl rfl)
theorem dX0_swings_77 : decode cX0_swings 77 = .ok (.putfield 281, 3) := dk_181 1 25 (dk_at dksX0_swings_3 5 rfl rfl)
theorem dX0_swings_80 : decode cX0_swings 80 = .ok (.iinc 4 (-1), 3) := dk_132 4 255 (dk_at dksX0_swings_3 8 rfl rfl)
theorem dX0_swings_83 : decode cX0_swings 83 = .ok (.goto (-35), 3) := dk_167 255 221 (dk_at dksX0_swings_3 11 rfl rfl)
theorem dX0_swings_86 : decode cX0_swings 86 = .ok (.iinc 3 1, 3) := dk_132 3 1 (dk_at dksX0_swings_3 14 rfl rfl)
theorem dX0_swings_89 : decode cX0_swings 89 = .ok (.goto (-66), 3) := dk_167 255 190 (dk_at dksX0_swings_3 17 rfl rfl)
theorem dX0_swings_92 : decode cX0_swings 92 = .ok (.aload_n 0, 1) := dk_42 (dk_at dksX0_swings_3 20 rfl rfl)
theorem dX0_swings_93 : decode cX0_swings 93 = .ok (.invokevirtual 284, 3) := dk_182 1 28 (dk_at dksX0_swings_3 21 rfl rfl)
theorem dX0_swings_96 : decode cX0_swings 96 = .ok (.iload_n 2, 1) := dk_28 (dk_at dksX0_swings_4 0 rfl rfl)
theorem dX0_swings_97 : decode cX0_swings 97 = .ok (.ireturn, 1) := dk_172 (dk_at dksX0_swings_4 1 rfl rfl)
abbrev cX0_keep : ByteArray := prog_1_method_42_code
def yX0_keep : MethodName := ⟨RX0, "keep", "(I)V"⟩
def dkwX0_keep_1 : List UInt8 := [199, 0, 7, 3, 167, 0, 12, 42, 180, 0, 25, 28, 50, 180, 0, 150, 79, 132, 2, 1, 167, 255, 214, 177]
abbrev dktX0_keep_1 : List UInt8 := dkwX0_keep_1 ++ []
def dkwX0_keep_0 : List UInt8 := [3, 61, 28, 16, 8, 162, 0, 42, 42, 180, 0, 54, 16, 8, 27, 104, 28, 96, 42, 180, 0, 25, 28, 50]
abbrev dktX0_keep_0 : List UInt8 := dkwX0_keep_0 ++ dktX0_keep_1
theorem dksX0_keep_0 : cX0_keep.data.toList.drop 0 = dktX0_keep_0 := by decide +kernel
theorem dksX0_keep_1 : cX0_keep.data.toList.drop 24 = dktX0_keep_1 := dk_seg dksX0_keep_0 24 rfl rfl
theorem dX0_keep_0 : decode cX0_keep 0 = .ok (.iconst 0, 1) := dk_3 (dk_at dksX0_keep_0 0 rfl rfl)
theorem dX0_keep_1 : decode cX0_keep 1 = .ok (.istore_n 2, 1) := dk_61 (dk_at dksX0_keep_0 1 rfl rfl)
theorem dX0_keep_2 : decode cX0_keep 2 = .ok (.iload_n 2, 1) := dk_28 (dk_at dksX0_keep_0 2 rfl rfl)
theorem dX0_keep_3 : decode cX0_keep 3 = .ok (.bipush 8, 2) := dk_16 8 (dk_at dksX0_keep_0 3 rfl rfl)
theorem dX0_keep_5 : decode cX0_keep 5 = .ok (.if_icmp .ge 42, 3) := dk_162 0 42 (dk_at dksX0_keep_0 5 rfl rfl)
theorem dX0_keep_8 : decode cX0_keep 8 = .ok (.aload_n 0, 1) := dk_42 (dk_at dksX0_keep_0 8 rfl rfl)
theorem dX0_keep_9 : decode cX0_keep 9 = .ok (.getfield 54, 3) := dk_180 0 54 (dk_at dksX0_keep_0 9 rfl rfl)
theorem dX0_keep_12 : decode cX0_keep 12 = .ok (.bipush 8, 2) := dk_16 8 (dk_at dksX0_keep_0 12 rfl rfl)
theorem dX0_keep_14 : decode cX0_keep 14 = .ok (.iload_n 1, 1) := dk_27 (dk_at dksX0_keep_0 14 rfl rfl)
theorem dX0_keep_15 : decode cX0_keep 15 = .ok (.imul, 1) := dk_104 (dk_at dksX0_keep_0 15 rfl rfl)
theorem dX0_keep_16 : decode cX0_keep 16 = .ok (.iload_n 2, 1) := dk_28 (dk_at dksX0_keep_0 16 rfl rfl)
theorem dX0_keep_17 : decode cX0_keep 17 = .ok (.iadd, 1) := dk_96 (dk_at dksX0_keep_0 17 rfl rfl)
theorem dX0_keep_18 : decode cX0_keep 18 = .ok (.aload_n 0, 1) := dk_42 (dk_at dksX0_keep_0 18 rfl rfl)
theorem dX0_keep_19 : decode cX0_keep 19 = .ok (.getfield 25, 3) := dk_180 0 25 (dk_at dksX0_keep_0 19 rfl rfl)
theorem dX0_keep_22 : decode cX0_keep 22 = .ok (.iload_n 2, 1) := dk_28 (dk_at dksX0_keep_0 22 rfl rfl)
theorem dX0_keep_23 : decode cX0_keep 23 = .ok (.aaload, 1) := dk_50 (dk_at dksX0_keep_0 23 rfl rfl)
theorem dX0_keep_24 : decode cX0_keep 24 = .ok (.ifnonnull 7, 3) := dk_199 0 7 (dk_at dksX0_keep_1 0 rfl rfl)
theorem dX0_keep_27 : decode cX0_keep 27 = .ok (.iconst 0, 1) := dk_3 (dk_at dksX0_keep_1 3 rfl rfl)
theorem dX0_keep_28 : decode cX0_keep 28 = .ok (.goto 12, 3) := dk_167 0 12 (dk_at dksX0_keep_1 4 rfl rfl)
theorem dX0_keep_31 : decode cX0_keep 31 = .ok (.aload_n 0, 1) := dk_42 (dk_at dksX0_keep_1 7 rfl rfl)
theorem dX0_keep_32 : decode cX0_keep 32 = .ok (.getfield 25, 3) := dk_180 0 25 (dk_at dksX0_keep_1 8 rfl rfl)
theorem dX0_keep_35 : decode cX0_keep 35 = .ok (.iload_n 2, 1) := dk_28 (dk_at dksX0_keep_1 11 rfl rfl)
theorem dX0_keep_36 : decode cX0_keep 36 = .ok (.aaload, 1) := dk_50 (dk_at dksX0_keep_1 12 rfl rfl)
theorem dX0_keep_37 : decode cX0_keep 37 = .ok (.getfield 150, 3) := dk_180 0 150 (dk_at dksX0_keep_1 13 rfl rfl)
theorem dX0_keep_40 : decode cX0_keep 40 = .ok (.iastore, 1) := dk_79 (dk_at dksX0_keep_1 16 rfl rfl)
theorem dX0_keep_41 : decode cX0_keep 41 = .ok (.iinc 2 1, 3) := dk_132 2 1 (dk_at dksX0_keep_1 17 rfl rfl)
theorem dX0_keep_44 : decode cX0_keep 44 = .ok (.goto (-42), 3) := dk_167 255 214 (dk_at dksX0_keep_1 20 rfl rfl)
theorem dX0_keep_47 : decode cX0_keep 47 = .ok (.return_, 1) := dk_177 (dk_at dksX0_keep_1 23 rfl rfl)
abbrev cX0_areAlike : ByteArray := prog_1_method_44_code
def yX0_areAlike : MethodName := ⟨RX0, "areAlike", "(II)Z"⟩
def dkwX0_areAlike_2 : List UInt8 := [132, 4, 1, 167, 255, 211, 29, 172]
abbrev dktX0_areAlike_2 : List UInt8 := dkwX0_areAlike_2 ++ []
def dkwX0_areAlike_1 : List UInt8 := [46, 42, 180, 0, 54, 16, 8, 28, 104, 21, 4, 96, 46, 160, 0, 7, 4, 167, 0, 4, 3, 126, 62]
abbrev dktX0_areAlike_1 : List UInt8 := dkwX0_areAlike_1 ++ dktX0_areAlike_2
def dkwX0_areAlike_0 : List UInt8 := [4, 62, 3, 54, 4, 21, 4, 16, 8, 162, 0, 44, 29, 42, 180, 0, 54, 16, 8, 27, 104, 21, 4, 96]
abbrev dktX0_areAlike_0 : List UInt8 := dkwX0_areAlike_0 ++ dktX0_areAlike_1
theorem dksX0_areAlike_0 : cX0_areAlike.data.toList.drop 0 = dktX0_areAlike_0 := by decide +kernel
theorem dksX0_areAlike_1 : cX0_areAlike.data.toList.drop 24 = dktX0_areAlike_1 := dk_seg dksX0_areAlike_0 24 rfl rfl
theorem dksX0_areAlike_2 : cX0_areAlike.data.toList.drop 47 = dktX0_areAlike_2 := dk_seg dksX0_areAlike_1 23 rfl rfl
theorem dX0_areAlike_0 : decode cX0_areAlike 0 = .ok (.iconst 1, 1) := dk_4 (dk_at dksX0_areAlike_0 0 rfl rfl)
theorem dX0_areAlike_1 : decode cX0_areAlike 1 = .ok (.istore_n 3, 1) := dk_62 (dk_at dksX0_areAlike_0 1 rfl rfl)
theorem dX0_areAlike_2 : decode cX0_areAlike 2 = .ok (.iconst 0, 1) := dk_3 (dk_at dksX0_areAlike_0 2 rfl rfl)
theorem dX0_areAlike_3 : decode cX0_areAlike 3 = .ok (.istore 4, 2) := dk_54 4 (dk_at dksX0_areAlike_0 3 rfl rfl)
theorem dX0_areAlike_5 : decode cX0_areAlike 5 = .ok (.iload 4, 2) := dk_21 4 (dk_at dksX0_areAlike_0 5 rfl rfl)
theorem dX0_areAlike_7 : decode cX0_areAlike 7 = .ok (.bipush 8, 2) := dk_16 8 (dk_at dksX0_areAlike_0 7 rfl rfl)
theorem dX0_areAlike_9 : decode cX0_areAlike 9 = .ok (.if_icmp .ge 44, 3) := dk_162 0 44 (dk_at dksX0_areAlike_0 9 rfl rfl)
theorem dX0_areAlike_12 : decode cX0_areAlike 12 = .ok (.iload_n 3, 1) := dk_29 (dk_at dksX0_areAlike_0 12 rfl rfl)
theorem dX0_areAlike_13 : decode cX0_areAlike 13 = .ok (.aload_n 0, 1) := dk_42 (dk_at dksX0_areAlike_0 13 rfl rfl)
theorem dX0_areAlike_14 : decode cX0_areAlike 14 = .ok (.getfield 54, 3) := dk_180 0 54 (dk_at dksX0_areAlike_0 14 rfl rfl)
theorem dX0_areAlike_17 : decode cX0_areAlike 17 = .ok (.bipush 8, 2) := dk_16 8 (dk_at dksX0_areAlike_0 17 rfl rfl)
theorem dX0_areAlike_19 : decode cX0_areAlike 19 = .ok (.iload_n 1, 1) := dk_27 (dk_at dksX0_areAlike_0 19 rfl rfl)
theorem dX0_areAlike_20 : decode cX0_areAlike 20 = .ok (.imul, 1) := dk_104 (dk_at dksX0_areAlike_0 20 rfl rfl)
theorem dX0_areAlike_21 : decode cX0_areAlike 21 = .ok (.iload 4, 2) := dk_21 4 (dk_at dksX0_areAlike_0 21 rfl rfl)
theorem dX0_areAlike_23 : decode cX0_areAlike 23 = .ok (.iadd, 1) := dk_96 (dk_at dksX0_areAlike_0 23 rfl rfl)
theorem dX0_areAlike_24 : decode cX0_areAlike 24 = .ok (.iaload, 1) := dk_46 (dk_at dksX0_areAlike_1 0 rfl rfl)
theorem dX0_areAlike_25 : decode cX0_areAlike 25 = .ok (.aload_n 0, 1) := dk_42 (dk_at dksX0_areAlike_1 1 rfl rfl)
theorem dX0_areAlike_26 : decode cX0_areAlike 26 = .ok (.getfield 54, 3) := dk_180 0 54 (dk_at dksX0_areAlike_1 2 rfl rfl)
theorem dX0_areAlike_29 : decode cX0_areAlike 29 = .ok (.bipush 8, 2) := dk_16 8 (dk_at dksX0_areAlike_1 5 rfl rfl)
theorem dX0_areAlike_31 : decode cX0_areAlike 31 = .ok (.iload_n 2, 1) := dk_28 (dk_at dksX0_areAlike_1 7 rfl rfl)
theorem dX0_areAlike_32 : decode cX0_areAlike 32 = .ok (.imul, 1) := dk_104 (dk_at dksX0_areAlike_1 8 rfl rfl)
theorem dX0_areAlike_33 : decode cX0_areAlike 33 = .ok (.iload 4, 2) := dk_21 4 (dk_at dksX0_areAlike_1 9 rfl rfl)
theorem dX0_areAlike_35 : decode cX0_areAlike 35 = .ok (.iadd, 1) := dk_96 (dk_at dksX0_areAlike_1 11 rfl rfl)
theorem dX0_areAlike_36 : decode cX0_areAlike 36 = .ok (.iaload, 1) := dk_46 (dk_at dksX0_areAlike_1 12 rfl rfl)
theorem dX0_areAlike_37 : decode cX0_areAlike 37 = .ok (.if_icmp .ne 7, 3) := dk_160 0 7 (dk_at dksX0_areAlike_1 13 rfl rfl)
theorem dX0_areAlike_40 : decode cX0_areAlike 40 = .ok (.iconst 1, 1) := dk_4 (dk_at dksX0_areAlike_1 16 rfl rfl)
theorem dX0_areAlike_41 : decode cX0_areAlike 41 = .ok (.goto 4, 3) := dk_167 0 4 (dk_at dksX0_areAlike_1 17 rfl rfl)
theorem dX0_areAlike_44 : decode cX0_areAlike 44 = .ok (.iconst 0, 1) := dk_3 (dk_at dksX0_areAlike_1 20 rfl rfl)
theorem dX0_areAlike_45 : decode cX0_areAlike 45 = .ok (.iand, 1) := dk_126 (dk_at dksX0_areAlike_1 21 rfl rfl)
theorem dX0_areAlike_46 : decode cX0_areAlike 46 = .ok (.istore_n 3, 1) := dk_62 (dk_at dksX0_areAlike_1 22 rfl rfl)
theorem dX0_areAlike_47 : decode cX0_areAlike 47 = .ok (.iinc 4 1, 3) := dk_132 4 1 (dk_at dksX0_areAlike_2 0 rfl rfl)
theorem dX0_areAlike_50 : decode cX0_areAlike 50 = .ok (.goto (-45), 3) := dk_167 255 211 (dk_at dksX0_areAlike_2 3 rfl rfl)
theorem dX0_areAlike_53 : decode cX0_areAlike 53 = .ok (.iload_n 3, 1) := dk_29 (dk_at dksX0_areAlike_2 6 rfl rfl)
theorem dX0_areAlike_54 : decode cX0_areAlike 54 = .ok (.ireturn, 1) := dk_172 (dk_at dksX0_areAlike_2 7 rfl rfl)
abbrev cX0_back : ByteArray := prog_1_method_43_code
def yX0_back : MethodName := ⟨RX0, "back", "()V"⟩
def dkwX0_back_1 : List UInt8 := [180, 0, 54, 27, 46, 181, 0, 150, 132, 1, 1, 167, 255, 223, 177]
abbrev dktX0_back_1 : List UInt8 := dkwX0_back_1 ++ []
def dkwX0_back_0 : List UInt8 := [3, 60, 27, 16, 8, 162, 0, 33, 42, 180, 0, 25, 27, 50, 198, 0, 18, 42, 180, 0, 25, 27, 50, 42]
abbrev dktX0_back_0 : List UInt8 := dkwX0_back_0 ++ dktX0_back_1
theorem dksX0_back_0 : cX0_back.data.toList.drop 0 = dktX0_back_0 := by decide +kernel
theorem dksX0_back_1 : cX0_back.data.toList.drop 24 = dktX0_back_1 := dk_seg dksX0_back_0 24 rfl rfl
theorem dX0_back_0 : decode cX0_back 0 = .ok (.iconst 0, 1) := dk_3 (dk_at dksX0_back_0 0 rfl rfl)
theorem dX0_back_1 : decode cX0_back 1 = .ok (.istore_n 1, 1) := dk_60 (dk_at dksX0_back_0 1 rfl rfl)
theorem dX0_back_2 : decode cX0_back 2 = .ok (.iload_n 1, 1) := dk_27 (dk_at dksX0_back_0 2 rfl rfl)
theorem dX0_back_3 : decode cX0_back 3 = .ok (.bipush 8, 2) := dk_16 8 (dk_at dksX0_back_0 3 rfl rfl)
theorem dX0_back_5 : decode cX0_back 5 = .ok (.if_icmp .ge 33, 3) := dk_162 0 33 (dk_at dksX0_back_0 5 rfl rfl)
theorem dX0_back_8 : decode cX0_back 8 = .ok (.aload_n 0, 1) := dk_42 (dk_at dksX0_back_0 8 rfl rfl)
theorem dX0_back_9 : decode cX0_back 9 = .ok (.getfield 25, 3) := dk_180 0 25 (dk_at dksX0_back_0 9 rfl rfl)
theorem dX0_back_12 : decode cX0_back 12 = .ok (.iload_n 1, 1) := dk_27 (dk_at dksX0_back_0 12 rfl rfl)
theorem dX0_back_13 : decode cX0_back 13 = .ok (.aaload, 1) := dk_50 (dk_at dksX0_back_0 13 rfl rfl)
theorem dX0_back_14 : decode cX0_back 14 = .ok (.ifnull 18, 3) := dk_198 0 18 (dk_at dksX0_back_0 14 rfl rfl)
theorem dX0_back_17 : decode cX0_back 17 = .ok (.aload_n 0, 1) := dk_42 (dk_at dksX0_back_0 17 rfl rfl)
theorem dX0_back_18 : decode cX0_back 18 = .ok (.getfield 25, 3) := dk_180 0 25 (dk_at dksX0_back_0 18 rfl rfl)
theorem dX0_back_21 : decode cX0_back 21 = .ok (.iload_n 1, 1) := dk_27 (dk_at dksX0_back_0 21 rfl rfl)
theorem dX0_back_22 : decode cX0_back 22 = .ok (.aaload, 1) := dk_50 (dk_at dksX0_back_0 22 rfl rfl)
theorem dX0_back_23 : decode cX0_back 23 = .ok (.aload_n 0, 1) := dk_42 (dk_at dksX0_back_0 23 rfl rfl)
theorem dX0_back_24 : decode cX0_back 24 = .ok (.getfield 54, 3) := dk_180 0 54 (dk_at dksX0_back_1 0 rfl rfl)
theorem dX0_back_27 : decode cX0_back 27 = .ok (.iload_n 1, 1) := dk_27 (dk_at dksX0_back_1 3 rfl rfl)
theorem dX0_back_28 : decode cX0_back 28 = .ok (.iaload, 1) := dk_46 (dk_at dksX0_back_1 4 rfl rfl)
theorem dX0_back_29 : decode cX0_back 29 = .ok (.putfield 150, 3) := dk_181 0 150 (dk_at dksX0_back_1 5 rfl rfl)
theorem dX0_back_32 : decode cX0_back 32 = .ok (.iinc 1 1, 3) := dk_132 1 1 (dk_at dksX0_back_1 8 rfl rfl)
theorem dX0_back_35 : decode cX0_back 35 = .ok (.goto (-33), 3) := dk_167 255 223 (dk_at dksX0_back_1 11 rfl rfl)
theorem dX0_back_38 : decode cX0_back 38 = .ok (.return_, 1) := dk_177 (dk_at dksX0_back_1 14 rfl rfl)
abbrev cX0_bestTake : ByteArray := prog_1_method_47_code
def yX0_bestTake : MethodName := ⟨RX0, "bestTake", "(III)I"⟩
def dkwX0_bestTake_7 : List UInt8 := [180, 1, 37, 167, 0, 5, 22, 6, 181, 1, 37, 21, 5, 172]
abbrev dktX0_bestTake_7 : List UInt8 := dkwX0_bestTake_7 ++ []
def dkwX0_bestTake_6 : List UInt8 := [167, 255, 189, 42, 180, 0, 25, 27, 50, 21, 4, 181, 0, 214, 42, 21, 5, 16, 247, 160, 0, 10, 42]
abbrev dktX0_bestTake_6 : List UInt8 := dkwX0_bestTake_6 ++ dktX0_bestTake_7
def dkwX0_bestTake_5 : List UInt8 := [153, 0, 21, 22, 9, 22, 6, 148, 158, 0, 13, 21, 8, 28, 104, 54, 5, 22, 9, 55, 6, 132, 8, 1]
abbrev dktX0_bestTake_5 : List UInt8 := dkwX0_bestTake_5 ++ dktX0_bestTake_6
def dkwX0_bestTake_4 : List UInt8 := [50, 21, 8, 28, 104, 181, 0, 214, 42, 27, 29, 182, 1, 33, 55, 9, 22, 9, 20, 1, 31, 148]
abbrev dktX0_bestTake_4 : List UInt8 := dkwX0_bestTake_4 ++ dktX0_bestTake_5
def dkwX0_bestTake_3 : List UInt8 := [3, 54, 8, 21, 8, 16, 20, 162, 0, 66, 21, 8, 28, 104, 18, 125, 163, 0, 57, 42, 180, 0, 25, 27]
abbrev dktX0_bestTake_3 : List UInt8 := dkwX0_bestTake_3 ++ dktX0_bestTake_4
def dkwX0_bestTake_2 : List UInt8 := [3, 182, 1, 19, 42, 180, 0, 25, 27, 50, 180, 0, 214, 54, 4, 16, 247, 54, 5, 20, 1, 31, 55, 6]
abbrev dktX0_bestTake_2 : List UInt8 := dkwX0_bestTake_2 ++ dktX0_bestTake_3
def dkwX0_bestTake_1 : List UInt8 := [184, 0, 76, 154, 0, 5, 2, 172, 42, 180, 0, 25, 27, 50, 199, 0, 9, 42, 4, 182, 0, 86, 172, 42]
abbrev dktX0_bestTake_1 : List UInt8 := dkwX0_bestTake_1 ++ dktX0_bestTake_2
def dkwX0_bestTake_0 : List UInt8 := [27, 184, 0, 192, 153, 0, 24, 28, 4, 18, 125, 184, 0, 76, 153, 0, 14, 29, 3, 17, 0, 200]
abbrev dktX0_bestTake_0 : List UInt8 := dkwX0_bestTake_0 ++ dktX0_bestTake_1
theorem dksX0_bestTake_0 : cX0_bestTake.data.toList.drop 0 = dktX0_bestTake_0 := by decide +kernel
theorem dksX0_bestTake_1 : cX0_bestTake.data.toList.drop 22 = dktX0_bestTake_1 := dk_seg dksX0_bestTake_0 22 rfl rfl
theorem dksX0_bestTake_2 : cX0_bestTake.data.toList.drop 46 = dktX0_bestTake_2 := dk_seg dksX0_bestTake_1 24 rfl rfl
theorem dksX0_bestTake_3 : cX0_bestTake.data.toList.drop 70 = dktX0_bestTake_3 := dk_seg dksX0_bestTake_2 24 rfl rfl
theorem dksX0_bestTake_4 : cX0_bestTake.data.toList.drop 94 = dktX0_bestTake_4 := dk_seg dksX0_bestTake_3 24 rfl rfl
theorem dksX0_bestTake_5 : cX0_bestTake.data.toList.drop 116 = dktX0_bestTake_5 := dk_seg dksX0_bestTake_4 22 rfl rfl
theorem dksX0_bestTake_6 : cX0_bestTake.data.toList.drop 140 = dktX0_bestTake_6 := dk_seg dksX0_bestTake_5 24 rfl rfl
theorem dksX0_bestTake_7 : cX0_bestTake.data.toList.drop 163 = dktX0_bestTake_7 := dk_seg dksX0_bestTake_6 23 rfl rfl
theorem dX0_bestTake_0 : decode cX0_bestTake 0 = .ok (.iload_n 1, 1) := dk_27 (dk_at dksX0_bestTake_0 0 rfl rfl)
theorem dX0_bestTake_1 : decode cX0_bestTake 1 = .ok (.invokestatic 192, 3) := dk_184 0 192 (dk_at dksX0_bestTake_0 1 rfl rfl)
theorem dX0_bestTake_4 : decode cX0_bestTake 4 = .ok (.ifCond .eq 24, 3) := dk_153 0 24 (dk_at dksX0_bestTake_0 4 rfl rfl)
theorem dX0_bestTake_7 : decode cX0_bestTake 7 = .ok (.iload_n 2, 1) := dk_28 (dk_at dksX0_bestTake_0 7 rfl rfl)
theorem dX0_bestTake_8 : decode cX0_bestTake 8 = .ok (.iconst 1, 1) := dk_4 (dk_at dksX0_bestTake_0 8 rfl rfl)
theorem dX0_bestTake_9 : decode cX0_bestTake 9 = .ok (.ldc 125, 2) := dk_18 125 (dk_at dksX0_bestTake_0 9 rfl rfl)
theorem dX0_bestTake_11 : decode cX0_bestTake 11 = .ok (.invokestatic 76, 3) := dk_184 0 76 (dk_at dksX0_bestTake_0 11 rfl rfl)
theorem dX0_bestTake_14 : decode cX0_bestTake 14 = .ok (.ifCond .eq 14, 3) := dk_153 0 14 (dk_at dksX0_bestTake_0 14 rfl rfl)
theorem dX0_bestTake_17 : decode cX0_bestTake 17 = .ok (.iload_n 3, 1) := dk_29 (dk_at dksX0_bestTake_0 17 rfl rfl)
theorem dX0_bestTake_18 : decode cX0_bestTake 18 = .ok (.iconst 0, 1) := dk_3 (dk_at dksX0_bestTake_0 18 rfl rfl)
theorem dX0_bestTake_19 : decode cX0_bestTake 19 = .ok (.sipush 200, 3) := dk_17 0 200 (dk_at dksX0_bestTake_0 19 rfl rfl)
theorem dX0_bestTake_22 : decode cX0_bestTake 22 = .ok (.invokestatic 76, 3) := dk_184 0 76 (dk_at dksX0_bestTake_1 0 rfl rfl)
theorem dX0_bestTake_25 : decode cX0_bestTake 25 = .ok (.ifCond .ne 5, 3) := dk_154 0 5 (dk_at dksX0_bestTake_1 3 rfl rfl)
theorem dX0_bestTake_28 : decode cX0_bestTake 28 = .ok (.iconst (-1), 1) := dk_2 (dk_at dksX0_bestTake_1 6 rfl rfl)
theorem dX0_bestTake_29 : decode cX0_bestTake 29 = .ok (.ireturn, 1) := dk_172 (dk_at dksX0_bestTake_1 7 rfl rfl)
theorem dX0_bestTake_30 : decode cX0_bestTake 30 = .ok (.aload_n 0, 1) := dk_42 (dk_at dksX0_bestTake_1 8 rfl rfl)
theorem dX0_bestTake_31 : decode cX0_bestTake 31 = .ok (.getfield 25, 3) := dk_180 0 25 (dk_at dksX0_bestTake_1 9 rfl rfl)
theorem dX0_bestTake_34 : decode cX0_bestTake 34 = .ok (.iload_n 1, 1) := dk_27 (dk_at dksX0_bestTake_1 12 rfl rfl)
theorem dX0_bestTake_35 : decode cX0_bestTake 35 = .ok (.aaload, 1) := dk_50 (dk_at dksX0_bestTake_1 13 rfl rfl)
theorem dX0_bestTake_36 : decode cX0_bestTake 36 = .ok (.ifnonnull 9, 3) := dk_199 0 9 (dk_at dksX0_bestTake_1 14 rfl rfl)
theorem dX0_bestTake_39 : decode cX0_bestTake 39 = .ok (.aload_n 0, 1) := dk_42 (dk_at dksX0_bestTake_1 17 rfl rfl)
theorem dX0_bestTake_40 : decode cX0_bestTake 40 = .ok (.iconst 1, 1) := dk_4 (dk_at dksX0_bestTake_1 18 rfl rfl)
theorem dX0_bestTake_41 : decode cX0_bestTake 41 = .ok (.invokevirtual 86, 3) := dk_182 0 86 (dk_at dksX0_bestTake_1 19 rfl rfl)
theorem dX0_bestTake_44 : decode cX0_bestTake 44 = .ok (.ireturn, 1) := dk_172 (dk_at dksX0_bestTake_1 22 rfl rfl)
theorem dX0_bestTake_45 : decode cX0_bestTake 45 = .ok (.aload_n 0, 1) := dk_42 (dk_at dksX0_bestTake_1 23 rfl rfl)
theorem dX0_bestTake_46 : decode cX0_bestTake 46 = .ok (.iconst 0, 1) := dk_3 (dk_at dksX0_bestTake_2 0 rfl rfl)
theorem dX0_bestTake_47 : decode cX0_bestTake 47 = .ok (.invokevirtual 275, 3) := dk_182 1 19 (dk_at dksX0_bestTake_2 1 rfl rfl)
theorem dX0_bestTake_50 : decode cX0_bestTake 50 = .ok (.aload_n 0, 1) := dk_42 (dk_at dksX0_bestTake_2 4 rfl rfl)
theorem dX0_bestTake_51 : decode cX0_bestTake 51 = .ok (.getfield 25, 3) := dk_180 0 25 (dk_at dksX0_bestTake_2 5 rfl rfl)
theorem dX0_bestTake_54 : decode cX0_bestTake 54 = .ok (.iload_n 1, 1) := dk_27 (dk_at dksX0_bestTake_2 8 rfl rfl)
theorem dX0_bestTake_55 : decode cX0_bestTake 55 = .ok (.aaload, 1) := dk_50 (dk_at dksX0_bestTake_2 9 rfl rfl)
theorem dX0_bestTake_56 : decode cX0_bestTake 56 = .ok (.getfield 214, 3) := dk_180 0 214 (dk_at dksX0_bestTake_2 10 rfl rfl)
theorem dX0_bestTake_59 : decode cX0_bestTake 59 = .ok (.istore 4, 2) := dk_54 4 (dk_at dksX0_bestTake_2 13 rfl rfl)
theorem dX0_bestTake_61 : decode cX0_bestTake 61 = .ok (.bipush (-9), 2) := dk_16 247 (dk_at dksX0_bestTake_2 15 rfl rfl)
theorem dX0_bestTake_63 : decode cX0_bestTake 63 = .ok (.istore 5, 2) := dk_54 5 (dk_at dksX0_bestTake_2 17 rfl rfl)
theorem dX0_bestTake_65 : decode cX0_bestTake 65 = .ok (.ldc2_w 287, 3) := dk_20 1 31 (dk_at dksX0_bestTake_2 19 rfl rfl)
theorem dX0_bestTake_68 : decode cX0_bestTake 68 = .ok (.lstore 6, 2) := dk_55 6 (dk_at dksX0_bestTake_2 22 rfl rfl)
theorem dX0_bestTake_70 : decode cX0_bestTake 70 = .ok (.iconst 0, 1) := dk_3 (dk_at dksX0_bestTake_3 0 rfl rfl)
theorem dX0_bestTake_71 : decode cX0_bestTake 71 = .ok (.istore 8, 2) := dk_54 8 (dk_at dksX0_bestTake_3 1 rfl rfl)
theorem dX0_bestTake_73 : decode cX0_bestTake 73 = .ok (.iload 8, 2) := dk_21 8 (dk_at dksX0_bestTake_3 3 rfl rfl)
theorem dX0_bestTake_75 : decode cX0_bestTake 75 = .ok (.bipush 20, 2) := dk_16 20 (dk_at dksX0_bestTake_3 5 rfl rfl)
theorem dX0_bestTake_77 : decode cX0_bestTake 77 = .ok (.if_icmp .ge 66, 3) := dk_162 0 66 (dk_at dksX0_bestTake_3 7 rfl rfl)
theorem dX0_bestTake_80 : decode cX0_bestTake 80 = .ok (.iload 8, 2) := dk_21 8 (dk_at dksX0_bestTake_3 10 rfl rfl)
theorem dX0_bestTake_82 : decode cX0_bestTake 82 = .ok (.iload_n 2, 1) := dk_28 (dk_at dksX0_bestTake_3 12 rfl rfl)
theorem dX0_bestTake_83 : decode cX0_bestTake 83 = .ok (.imul, 1) := dk_104 (dk_at dksX0_bestTake_3 13 rfl rfl)
theorem dX0_bestTake_84 : decode cX0_bestTake 84 = .ok (.ldc 125, 2) := dk_18 125 (dk_at dksX0_bestTake_3 14 rfl rfl)
theorem dX0_bestTake_86 : decode cX0_bestTake 86 = .ok (.if_icmp .gt 57, 3) := dk_163 0 57 (dk_at dksX0_bestTake_3 16 rfl rfl)
theorem dX0_bestTake_89 : decode cX0_bestTake 89 = .ok (.aload_n 0, 1) := dk_42 (dk_at dksX0_bestTake_3 19 rfl rfl)
theorem dX0_bestTake_90 : decode cX0_bestTake 90 = .ok (.getfield 25, 3) := dk_180 0 25 (dk_at dksX0_bestTake_3 20 rfl rfl)
theorem dX0_bestTake_93 : decode cX0_bestTake 93 = .ok (.iload_n 1, 1) := dk_27 (dk_at dksX0_bestTake_3 23 rfl rfl)
theorem dX0_bestTake_94 : decode cX0_bestTake 94 = .ok (.aaload, 1) := dk_50 (dk_at dksX0_bestTake_4 0 rfl rfl)
theorem dX0_bestTake_95 : decode cX0_bestTake 95 = .ok (.iload 8, 2) := dk_21 8 (dk_at dksX0_bestTake_4 1 rfl rfl)
theorem dX0_bestTake_97 : decode cX0_bestTake 97 = .ok (.iload_n 2, 1) := dk_28 (dk_at dksX0_bestTake_4 3 rfl rfl)
theorem dX0_bestTake_98 : decode cX0_bestTake 98 = .ok (.imul, 1) := dk_104 (dk_at dksX0_bestTake_4 4 rfl rfl)
theorem dX0_bestTake_99 : decode cX0_bestTake 99 = .ok (.putfield 214, 3) := dk_181 0 214 (dk_at dksX0_bestTake_4 5 rfl rfl)
theorem dX0_bestTake_102 : decode cX0_bestTake 102 = .ok (.aload_n 0, 1) := dk_42 (dk_at dksX0_bestTake_4 8 rfl rfl)
theorem dX0_bestTake_103 : decode cX0_bestTake 103 = .ok (.iload_n 1, 1) := dk_27 (dk_at dksX0_bestTake_4 9 rfl rfl)
theorem dX0_bestTake_104 : decode cX0_bestTake 104 = .ok (.iload_n 3, 1) := dk_29 (dk_at dksX0_bestTake_4 10 rfl rfl)
theorem dX0_bestTake_105 : decode cX0_bestTake 105 = .ok (.invokevirtual 289, 3) := dk_182 1 33 (dk_at dksX0_bestTake_4 11 rfl rfl)
theorem dX0_bestTake_108 : decode cX0_bestTake 108 = .ok (.lstore 9, 2) := dk_55 9 (dk_at dksX0_bestTake_4 14 rfl rfl)
theorem dX0_bestTake_110 : decode cX0_bestTake 110 = .ok (.lload 9, 2) := dk_22 9 (dk_at dksX0_bestTake_4 16 rfl rfl)
theorem dX0_bestTake_112 : decode cX0_bestTake 112 = .ok (.ldc2_w 287, 3) := dk_20 1 31 (dk_at dksX0_bestTake_4 18 rfl rfl)
theorem dX0_bestTake_115 : decode cX0_bestTake 115 = .ok (.lcmp, 1) := dk_148 (dk_at dksX0_bestTake_4 21 rfl rfl)
theorem dX0_bestTake_116 : decode cX0_bestTake 116 = .ok (.ifCond .eq 21, 3) := dk_153 0 21 (dk_at dksX0_bestTake_5 0 rfl rfl)
theorem dX0_bestTake_119 : decode cX0_bestTake 119 = .ok (.lload 9, 2) := dk_22 9 (dk_at dksX0_bestTake_5 3 rfl rfl)
theorem dX0_bestTake_121 : decode cX0_bestTake 121 = .ok (.lload 6, 2) := dk_22 6 (dk_at dksX0_bestTake_5 5 rfl rfl)
theorem dX0_bestTake_123 : decode cX0_bestTake 123 = .ok (.lcmp, 1) := dk_148 (dk_at dksX0_bestTake_5 7 rfl rfl)
theorem dX0_bestTake_124 : decode cX0_bestTake 124 = .ok (.ifCond .le 13, 3) := dk_158 0 13 (dk_at dksX0_bestTake_5 8 rfl rfl)
theorem dX0_bestTake_127 : decode cX0_bestTake 127 = .ok (.iload 8, 2) := dk_21 8 (dk_at dksX0_bestTake_5 11 rfl rfl)
theorem dX0_bestTake_129 : decode cX0_bestTake 129 = .ok (.iload_n 2, 1) := dk_28 (dk_at dksX0_bestTake_5 13 rfl rfl)
theorem dX0_bestTake_130 : decode cX0_bestTake 130 = .ok (.imul, 1) := dk_104 (dk_at dksX0_bestTake_5 14 rfl rfl)
theorem dX0_bestTake_131 : decode cX0_bestTake 131 = .ok (.istore 5, 2) := dk_54 5 (dk_at dksX0_bestTake_5 15 rfl rfl)
theorem dX0_bestTake_133 : decode cX0_bestTake 133 = .ok (.lload 9, 2) := dk_22 9 (dk_at dksX0_bestTake_5 17 rfl rfl)
theorem dX0_bestTake_135 : decode cX0_bestTake 135 = .ok (.lstore 6, 2) := dk_55 6 (dk_at dksX0_bestTake_5 19 rfl rfl)
theorem dX0_bestTake_137 : decode cX0_bestTake 137 = .ok (.iinc 8 1, 3) := dk_132 8 1 (dk_at dksX0_bestTake_5 21 rfl rfl)
theorem dX0_bestTake_140 : decode cX0_bestTake 140 = .ok (.goto (-67), 3) := dk_167 255 189 (dk_at dksX0_bestTake_6 0 rfl rfl)
theorem dX0_bestTake_143 : decode cX0_bestTake 143 = .ok (.aload_n 0, 1) := dk_42 (dk_at dksX0_bestTake_6 3 rfl rfl)
theorem dX0_bestTake_144 : decode cX0_bestTake 144 = .ok (.getfield 25, 3) := dk_180 0 25 (dk_at dksX0_bestTake_6 4 rfl rfl)
theorem dX0_bestTake_147 : decode cX0_bestTake 147 = .ok (.iload_n 1, 1) := dk_27 (dk_at dksX0_bestTake_6 7 rfl rfl)
theorem dX0_bestTake_148 : decode cX0_bestTake 148 = .ok (.aaload, 1) := dk_50 (dk_at dksX0_bestTake_6 8 rfl rfl)
theorem dX0_bestTake_149 : decode cX0_bestTake 149 = .ok (.iload 4, 2) := dk_21 4 (dk_at dksX0_bestTake_6 9 rfl rfl)
theorem dX0_bestTake_151 : decode cX0_bestTake 151 = .ok (.putfield 214, 3) := dk_181 0 214 (dk_at dksX0_bestTake_6 11 rfl rfl)
theorem dX0_bestTake_154 : decode cX0_bestTake 154 = .ok (.aload_n 0, 1) := dk_42 (dk_at dksX0_bestTake_6 14 rfl rfl)
theorem dX0_bestTake_155 : decode cX0_bestTake 155 = .ok (.iload 5, 2) := dk_21 5 (dk_at dksX0_bestTake_6 15 rfl rfl)
theorem dX0_bestTake_157 : decode cX0_bestTake 157 = .ok (.bipush (-9), 2) := dk_16 247 (dk_at dksX0_bestTake_6 17 rfl rfl)
theorem dX0_bestTake_159 : decode cX0_bestTake 159 = .ok (.if_icmp .ne 10, 3) := dk_160 0 10 (dk_at dksX0_bestTake_6 19 rfl rfl)
theorem dX0_bestTake_162 : decode cX0_bestTake 162 = .ok (.aload_n 0, 1) := dk_42 (dk_at dksX0_bestTake_6 22 rfl rfl)
theorem dX0_bestTake_163 : decode cX0_bestTake 163 = .ok (.getfield 293, 3) := dk_180 1 37 (dk_at dksX0_bestTake_7 0 rfl rfl)
theorem dX0_bestTake_166 : decode cX0_bestTake 166 = .ok (.goto 5, 3) := dk_167 0 5 (dk_at dksX0_bestTake_7 3 rfl rfl)
theorem dX0_bestTake_169 : decode cX0_bestTake 169 = .ok (.lload 6, 2) := dk_22 6 (dk_at dksX0_bestTake_7 6 rfl rfl)
theorem dX0_bestTake_171 : decode cX0_bestTake 171 = .ok (.putfield 293, 3) := dk_181 1 37 (dk_at dksX0_bestTake_7 8 rfl rfl)
theorem dX0_bestTake_174 : decode cX0_bestTake 174 = .ok (.iload 5, 2) := dk_21 5 (dk_at dksX0_bestTake_7 11 rfl rfl)
theorem dX0_bestTake_176 : decode cX0_bestTake 176 = .ok (.ireturn, 1) := dk_172 (dk_at dksX0_bestTake_7 13 rfl rfl)
abbrev cX0_trial : ByteArray := prog_1_method_46_code
def yX0_trial : MethodName := ⟨RX0, "trial", "(II)J"⟩
def dkwX0_trial_2 : List UInt8 := [132, 5, 1, 167, 255, 212, 42, 182, 1, 28, 33, 173]
abbrev dktX0_trial_2 : List UInt8 := dkwX0_trial_2 ++ []
def dkwX0_trial_1 : List UInt8 := [180, 0, 253, 154, 0, 15, 33, 42, 180, 0, 51, 27, 46, 133, 97, 167, 0, 6, 20, 1, 31, 66]
abbrev dktX0_trial_1 : List UInt8 := dkwX0_trial_1 ++ dktX0_trial_2
def dkwX0_trial_0 : List UInt8 := [9, 66, 3, 54, 5, 21, 5, 28, 162, 0, 44, 33, 20, 1, 31, 148, 153, 0, 36, 42, 182, 1, 13, 42]
abbrev dktX0_trial_0 : List UInt8 := dkwX0_trial_0 ++ dktX0_trial_1
theorem dksX0_trial_0 : cX0_trial.data.toList.drop 0 = dktX0_trial_0 := by decide +kernel
theorem dksX0_trial_1 : cX0_trial.data.toList.drop 24 = dktX0_trial_1 := dk_seg dksX0_trial_0 24 rfl rfl
theorem dksX0_trial_2 : cX0_trial.data.toList.drop 46 = dktX0_trial_2 := dk_seg dksX0_trial_1 22 rfl rfl
theorem dX0_trial_0 : decode cX0_trial 0 = .ok (.lconst 0, 1) := dk_9 (dk_at dksX0_trial_0 0 rfl rfl)
theorem dX0_trial_1 : decode cX0_trial 1 = .ok (.lstore_n 3, 1) := dk_66 (dk_at dksX0_trial_0 1 rfl rfl)
theorem dX0_trial_2 : decode cX0_trial 2 = .ok (.iconst 0, 1) := dk_3 (dk_at dksX0_trial_0 2 rfl rfl)
theorem dX0_trial_3 : decode cX0_trial 3 = .ok (.istore 5, 2) := dk_54 5 (dk_at dksX0_trial_0 3 rfl rfl)
theorem dX0_trial_5 : decode cX0_trial 5 = .ok (.iload 5, 2) := dk_21 5 (dk_at dksX0_trial_0 5 rfl rfl)
theorem dX0_trial_7 : decode cX0_trial 7 = .ok (.iload_n 2, 1) := dk_28 (dk_at dksX0_trial_0 7 rfl rfl)
theorem dX0_trial_8 : decode cX0_trial 8 = .ok (.if_icmp .ge 44, 3) := dk_162 0 44 (dk_at dksX0_trial_0 8 rfl rfl)
theorem dX0_trial_11 : decode cX0_trial 11 = .ok (.lload_n 3, 1) := dk_33 (dk_at dksX0_trial_0 11 rfl rfl)
theorem dX0_trial_12 : decode cX0_trial 12 = .ok (.ldc2_w 287, 3) := dk_20 1 31 (dk_at dksX0_trial_0 12 rfl rfl)
theorem dX0_trial_15 : decode cX0_trial 15 = .ok (.lcmp, 1) := dk_148 (dk_at dksX0_trial_0 15 rfl rfl)
theorem dX0_trial_16 : decode cX0_trial 16 = .ok (.ifCond .eq 36, 3) := dk_153 0 36 (dk_at dksX0_trial_0 16 rfl rfl)
theorem dX0_trial_19 : decode cX0_trial 19 = .ok (.aload_n 0, 1) := dk_42 (dk_at dksX0_trial_0 19 rfl rfl)
theorem dX0_trial_20 : decode cX0_trial 20 = .ok (.invokevirtual 269, 3) := dk_182 1 13 (dk_at dksX0_trial_0 20 rfl rfl)
theorem dX0_trial_23 : decode cX0_trial 23 = .ok (.aload_n 0, 1) := dk_42 (dk_at dksX0_trial_0 23 rfl rfl)
theorem dX0_trial_24 : decode cX0_trial 24 = .ok (.getfield 253, 3) := dk_180 0 253 (dk_at dksX0_trial_1 0 rfl rfl)
theorem dX0_trial_27 : decode cX0_trial 27 = .ok (.ifCond .ne 15, 3) := dk_154 0 15 (dk_at dksX0_trial_1 3 rfl rfl)
theorem dX0_trial_30 : decode cX0_trial 30 = .ok (.lload_n 3, 1) := dk_33 (dk_at dksX0_trial_1 6 rfl rfl)
theorem dX0_trial_31 : decode cX0_trial 31 = .ok (.aload_n 0, 1) := dk_42 (dk_at dksX0_trial_1 7 rfl rfl)
theorem dX0_trial_32 : decode cX0_trial 32 = .ok (.getfield 51, 3) := dk_180 0 51 (dk_at dksX0_trial_1 8 rfl rfl)
theorem dX0_trial_35 : decode cX0_trial 35 = .ok (.iload_n 1, 1) := dk_27 (dk_at dksX0_trial_1 11 rfl rfl)
theorem dX0_trial_36 : decode cX0_trial 36 = .ok (.iaload, 1) := dk_46 (dk_at dksX0_trial_1 12 rfl rfl)
theorem dX0_trial_37 : decode cX0_trial 37 = .ok (.i2l, 1) := dk_133 (dk_at dksX0_trial_1 13 rfl rfl)
theorem dX0_trial_38 : decode cX0_trial 38 = .ok (.ladd, 1) := dk_97 (dk_at dksX0_trial_1 14 rfl rfl)
theorem dX0_trial_39 : decode cX0_trial 39 = .ok (.goto 6, 3) := dk_167 0 6 (dk_at dksX0_trial_1 15 rfl rfl)
theorem dX0_trial_42 : decode cX0_trial 42 = .ok (.ldc2_w 287, 3) := dk_20 1 31 (dk_at dksX0_trial_1 18 rfl rfl)
theorem dX0_trial_45 : decode cX0_trial 45 = .ok (.lstore_n 3, 1) := dk_66 (dk_at dksX0_trial_1 21 rfl rfl)
theorem dX0_trial_46 : decode cX0_trial 46 = .ok (.iinc 5 1, 3) := dk_132 5 1 (dk_at dksX0_trial_2 0 rfl rfl)
theorem dX0_trial_49 : decode cX0_trial 49 = .ok (.goto (-44), 3) := dk_167 255 212 (dk_at dksX0_trial_2 3 rfl rfl)
theorem dX0_trial_52 : decode cX0_trial 52 = .ok (.aload_n 0, 1) := dk_42 (dk_at dksX0_trial_2 6 rfl rfl)
theorem dX0_trial_53 : decode cX0_trial 53 = .ok (.invokevirtual 284, 3) := dk_182 1 28 (dk_at dksX0_trial_2 7 rfl rfl)
theorem dX0_trial_56 : decode cX0_trial 56 = .ok (.lload_n 3, 1) := dk_33 (dk_at dksX0_trial_2 10 rfl rfl)
theorem dX0_trial_57 : decode cX0_trial 57 = .ok (.lreturn, 1) := dk_173 (dk_at dksX0_trial_2 11 rfl rfl)
abbrev cX0_caughtBy : ByteArray := prog_1_method_48_code
def yX0_caughtBy : MethodName := ⟨RX0, "caughtBy", "()J"⟩
theorem dX0_caughtBy_0 : decode cX0_caughtBy 0 = .ok (.aload_n 0, 1) := by decide +kernel
theorem dX0_caughtBy_1 : decode cX0_caughtBy 1 = .ok (.getfield 293, 3) := by decide +kernel
theorem dX0_caughtBy_4 : decode cX0_caughtBy 4 = .ok (.lreturn, 1) := by decide +kernel
abbrev cX0_without : ByteArray := prog_1_method_51_code
def yX0_without : MethodName := ⟨RX0, "without", "(I)I"⟩
def dkwX0_without_1 : List UInt8 := [180, 1, 25, 184, 0, 236, 172]
abbrev dktX0_without_1 : List UInt8 := dkwX0_without_1 ++ []
def dkwX0_without_0 : List UInt8 := [27, 3, 17, 0, 255, 184, 0, 76, 154, 0, 5, 2, 172, 42, 42, 27, 182, 1, 43, 181, 1, 25, 42]
abbrev dktX0_without_0 : List UInt8 := dkwX0_without_0 ++ dktX0_without_1
theorem dksX0_without_0 : cX0_without.data.toList.drop 0 = dktX0_without_0 := by decide +kernel
theorem dksX0_without_1 : cX0_without.data.toList.drop 23 = dktX0_without_1 := dk_seg dksX0_without_0 23 rfl rfl
theorem dX0_without_0 : decode cX0_without 0 = .ok (.iload_n 1, 1) := dk_27 (dk_at dksX0_without_0 0 rfl rfl)
theorem dX0_without_1 : decode cX0_without 1 = .ok (.iconst 0, 1) := dk_3 (dk_at dksX0_without_0 1 rfl rfl)
theorem dX0_without_2 : decode cX0_without 2 = .ok (.sipush 255, 3) := dk_17 0 255 (dk_at dksX0_without_0 2 rfl rfl)
theorem dX0_without_5 : decode cX0_without 5 = .ok (.invokestatic 76, 3) := dk_184 0 76 (dk_at dksX0_without_0 5 rfl rfl)
theorem dX0_without_8 : decode cX0_without 8 = .ok (.ifCond .ne 5, 3) := dk_154 0 5 (dk_at dksX0_without_0 8 rfl rfl)
theorem dX0_without_11 : decode cX0_without 11 = .ok (.iconst (-1), 1) := dk_2 (dk_at dksX0_without_0 11 rfl rfl)
theorem dX0_without_12 : decode cX0_without 12 = .ok (.ireturn, 1) := dk_172 (dk_at dksX0_without_0 12 rfl rfl)
theorem dX0_without_13 : decode cX0_without 13 = .ok (.aload_n 0, 1) := dk_42 (dk_at dksX0_without_0 13 rfl rfl)
theorem dX0_without_14 : decode cX0_without 14 = .ok (.aload_n 0, 1) := dk_42 (dk_at dksX0_without_0 14 rfl rfl)
theorem dX0_without_15 : decode cX0_without 15 = .ok (.iload_n 1, 1) := dk_27 (dk_at dksX0_without_0 15 rfl rfl)
theorem dX0_without_16 : decode cX0_without 16 = .ok (.invokevirtual 299, 3) := dk_182 1 43 (dk_at dksX0_without_0 16 rfl rfl)
theorem dX0_without_19 : decode cX0_without 19 = .ok (.putfield 281, 3) := dk_181 1 25 (dk_at dksX0_without_0 19 rfl rfl)
theorem dX0_without_22 : decode cX0_without 22 = .ok (.aload_n 0, 1) := dk_42 (dk_at dksX0_without_0 22 rfl rfl)
theorem dX0_without_23 : decode cX0_without 23 = .ok (.getfield 281, 3) := dk_180 1 25 (dk_at dksX0_without_1 0 rfl rfl)
theorem dX0_without_26 : decode cX0_without 26 = .ok (.invokestatic 236, 3) := dk_184 0 236 (dk_at dksX0_without_1 3 rfl rfl)
theorem dX0_without_29 : decode cX0_without 29 = .ok (.ireturn, 1) := dk_172 (dk_at dksX0_without_1 6 rfl rfl)
abbrev cX0_goneWithout : ByteArray := prog_1_method_50_code
def yX0_goneWithout : MethodName := ⟨RX0, "goneWithout", "(I)I"⟩
def dkwX0_goneWithout_3 : List UInt8 := [167, 255, 206, 167, 255, 194, 28, 172]
abbrev dktX0_goneWithout_3 : List UInt8 := dkwX0_goneWithout_3 ++ []
def dkwX0_goneWithout_2 : List UInt8 := [153, 0, 21, 21, 5, 28, 2, 130, 126, 154, 0, 12, 28, 4, 21, 4, 120, 128, 61, 4, 62, 132, 4, 1]
abbrev dktX0_goneWithout_2 : List UInt8 := dkwX0_goneWithout_2 ++ dktX0_goneWithout_3
def dkwX0_goneWithout_1 : List UInt8 := [162, 0, 49, 42, 21, 4, 182, 1, 40, 54, 5, 28, 21, 4, 122, 4, 126, 154, 0, 26, 21, 5]
abbrev dktX0_goneWithout_1 : List UInt8 := dkwX0_goneWithout_1 ++ dktX0_goneWithout_2
def dkwX0_goneWithout_0 : List UInt8 := [27, 42, 182, 0, 233, 126, 61, 4, 62, 29, 153, 0, 64, 3, 62, 3, 54, 4, 21, 4, 16, 8]
abbrev dktX0_goneWithout_0 : List UInt8 := dkwX0_goneWithout_0 ++ dktX0_goneWithout_1
theorem dksX0_goneWithout_0 : cX0_goneWithout.data.toList.drop 0 = dktX0_goneWithout_0 := by decide +kernel
theorem dksX0_goneWithout_1 : cX0_goneWithout.data.toList.drop 22 = dktX0_goneWithout_1 := dk_seg dksX0_goneWithout_0 22 rfl rfl
theorem dksX0_goneWithout_2 : cX0_goneWithout.data.toList.drop 44 = dktX0_goneWithout_2 := dk_seg dksX0_goneWithout_1 22 rfl rfl
theorem dksX0_goneWithout_3 : cX0_goneWithout.data.toList.drop 68 = dktX0_goneWithout_3 := dk_seg dksX0_goneWithout_2 24 rfl rfl
theorem dX0_goneWithout_0 : decode cX0_goneWithout 0 = .ok (.iload_n 1, 1) := dk_27 (dk_at dksX0_goneWithout_0 0 rfl rfl)
theorem dX0_goneWithout_1 : decode cX0_goneWithout 1 = .ok (.aload_n 0, 1) := dk_42 (dk_at dksX0_goneWithout_0 1 rfl rfl)
theorem dX0_goneWithout_2 : decode cX0_goneWithout 2 = .ok (.invokevirtual 233, 3) := dk_182 0 233 (dk_at dksX0_goneWithout_0 2 rfl rfl)
theorem dX0_goneWithout_5 : decode cX0_goneWithout 5 = .ok (.iand, 1) := dk_126 (dk_at dksX0_goneWithout_0 5 rfl rfl)
theorem dX0_goneWithout_6 : decode cX0_goneWithout 6 = .ok (.istore_n 2, 1) := dk_61 (dk_at dksX0_goneWithout_0 6 rfl rfl)
theorem dX0_goneWithout_7 : decode cX0_goneWithout 7 = .ok (.iconst 1, 1) := dk_4 (dk_at dksX0_goneWithout_0 7 rfl rfl)
theorem dX0_goneWithout_8 : decode cX0_goneWithout 8 = .ok (.istore_n 3, 1) := dk_62 (dk_at dksX0_goneWithout_0 8 rfl rfl)
theorem dX0_goneWithout_9 : decode cX0_goneWithout 9 = .ok (.iload_n 3, 1) := dk_29 (dk_at dksX0_goneWithout_0 9 rfl rfl)
theorem dX0_goneWithout_10 : decode cX0_goneWithout 10 = .ok (.ifCond .eq 64, 3) := dk_153 0 64 (dk_at dksX0_goneWithout_0 10 rfl rfl)
theorem dX0_goneWithout_13 : decode cX0_goneWithout 13 = .ok (.iconst 0, 1) := dk_3 (dk_at dksX0_goneWithout_0 13 rfl rfl)
theorem dX0_goneWithout_14 : decode cX0_goneWithout 14 = .ok (.istore_n 3, 1) := dk_62 (dk_at dksX0_goneWithout_0 14 rfl rfl)
theorem dX0_goneWithout_15 : decode cX0_goneWithout 15 = .ok (.iconst 0, 1) := dk_3 (dk_at dksX0_goneWithout_0 15 rfl rfl)
theorem dX0_goneWithout_16 : decode cX0_goneWithout 16 = .ok (.istore 4, 2) := dk_54 4 (dk_at dksX0_goneWithout_0 16 rfl rfl)
theorem dX0_goneWithout_18 : decode cX0_goneWithout 18 = .ok (.iload 4, 2) := dk_21 4 (dk_at dksX0_goneWithout_0 18 rfl rfl)
theorem dX0_goneWithout_20 : decode cX0_goneWithout 20 = .ok (.bipush 8, 2) := dk_16 8 (dk_at dksX0_goneWithout_0 20 rfl rfl)
theorem dX0_goneWithout_22 : decode cX0_goneWithout 22 = .ok (.if_icmp .ge 49, 3) := dk_162 0 49 (dk_at dksX0_goneWithout_1 0 rfl rfl)
theorem dX0_goneWithout_25 : decode cX0_goneWithout 25 = .ok (.aload_n 0, 1) := dk_42 (dk_at dksX0_goneWithout_1 3 rfl rfl)
theorem dX0_goneWithout_26 : decode cX0_goneWithout 26 = .ok (.iload 4, 2) := dk_21 4 (dk_at dksX0_goneWithout_1 4 rfl rfl)
theorem dX0_goneWithout_28 : decode cX0_goneWithout 28 = .ok (.invokevirtual 296, 3) := dk_182 1 40 (dk_at dksX0_goneWithout_1 6 rfl rfl)
theorem dX0_goneWithout_31 : decode cX0_goneWithout 31 = .ok (.istore 5, 2) := dk_54 5 (dk_at dksX0_goneWithout_1 9 rfl rfl)
theorem dX0_goneWithout_33 : decode cX0_goneWithout 33 = .ok (.iload_n 2, 1) := dk_28 (dk_at dksX0_goneWithout_1 11 rfl rfl)
theorem dX0_goneWithout_34 : decode cX0_goneWithout 34 = .ok (.iload 4, 2) := dk_21 4 (dk_at dksX0_goneWithout_1 12 rfl rfl)
theorem dX0_goneWithout_36 : decode cX0_goneWithout 36 = .ok (.ishr, 1) := dk_122 (dk_at dksX0_goneWithout_1 14 rfl rfl)
theorem dX0_goneWithout_37 : decode cX0_goneWithout 37 = .ok (.iconst 1, 1) := dk_4 (dk_at dksX0_goneWithout_1 15 rfl rfl)
theorem dX0_goneWithout_38 : decode cX0_goneWithout 38 = .ok (.iand, 1) := dk_126 (dk_at dksX0_goneWithout_1 16 rfl rfl)
theorem dX0_goneWithout_39 : decode cX0_goneWithout 39 = .ok (.ifCond .ne 26, 3) := dk_154 0 26 (dk_at dksX0_goneWithout_1 17 rfl rfl)
theorem dX0_goneWithout_42 : decode cX0_goneWithout 42 = .ok (.iload 5, 2) := dk_21 5 (dk_at dksX0_goneWithout_1 20 rfl rfl)
theorem dX0_goneWithout_44 : decode cX0_goneWithout 44 = .ok (.ifCond .eq 21, 3) := dk_153 0 21 (dk_at dksX0_goneWithout_2 0 rfl rfl)
theorem dX0_goneWithout_47 : decode cX0_goneWithout 47 = .ok (.iload 5, 2) := dk_21 5 (dk_at dksX0_goneWithout_2 3 rfl rfl)
theorem dX0_goneWithout_49 : decode cX0_goneWithout 49 = .ok (.iload_n 2, 1) := dk_28 (dk_at dksX0_goneWithout_2 5 rfl rfl)
theorem dX0_goneWithout_50 : decode cX0_goneWithout 50 = .ok (.iconst (-1), 1) := dk_2 (dk_at dksX0_goneWithout_2 6 rfl rfl)
theorem dX0_goneWithout_51 : decode cX0_goneWithout 51 = .ok (.ixor, 1) := dk_130 (dk_at dksX0_goneWithout_2 7 rfl rfl)
theorem dX0_goneWithout_52 : decode cX0_goneWithout 52 = .ok (.iand, 1) := dk_126 (dk_at dksX0_goneWithout_2 8 rfl rfl)
theorem dX0_goneWithout_53 : decode cX0_goneWithout 53 = .ok (.ifCond .ne 12, 3) := dk_154 0 12 (dk_at dksX0_goneWithout_2 9 rfl rfl)
theorem dX0_goneWithout_56 : decode cX0_goneWithout 56 = .ok (.iload_n 2, 1) := dk_28 (dk_at dksX0_goneWithout_2 12 rfl rfl)
theorem dX0_goneWithout_57 : decode cX0_goneWithout 57 = .ok (.iconst 1, 1) := dk_4 (dk_at dksX0_goneWithout_2 13 rfl rfl)
theorem dX0_goneWithout_58 : decode cX0_goneWithout 58 = .ok (.iload 4, 2) := dk_21 4 (dk_at dksX0_goneWithout_2 14 rfl rfl)
theorem dX0_goneWithout_60 : decode cX0_goneWithout 60 = .ok (.ishl, 1) := dk_120 (dk_at dksX0_goneWithout_2 16 rfl rfl)
theorem dX0_goneWithout_61 : decode cX0_goneWithout 61 = .ok (.ior, 1) := dk_128 (dk_at dksX0_goneWithout_2 17 rfl rfl)
theorem dX0_goneWithout_62 : decode cX0_goneWithout 62 = .ok (.istore_n 2, 1) := dk_61 (dk_at dksX0_goneWithout_2 18 rfl rfl)
theorem dX0_goneWithout_63 : decode cX0_goneWithout 63 = .ok (.iconst 1, 1) := dk_4 (dk_at dksX0_goneWithout_2 19 rfl rfl)
theorem dX0_goneWithout_64 : decode cX0_goneWithout 64 = .ok (.istore_n 3, 1) := dk_62 (dk_at dksX0_goneWithout_2 20 rfl rfl)
theorem dX0_goneWithout_65 : decode cX0_goneWithout 65 = .ok (.iinc 4 1, 3) := dk_132 4 1 (dk_at dksX0_goneWithout_2 21 rfl rfl)
theorem dX0_goneWithout_68 : decode cX0_goneWithout 68 = .ok (.goto (-50), 3) := dk_167 255 206 (dk_at dksX0_goneWithout_3 0 rfl rfl)
theorem dX0_goneWithout_71 : decode cX0_goneWithout 71 = .ok (.goto (-62), 3) := dk_167 255 194 (dk_at dksX0_goneWithout_3 3 rfl rfl)
theorem dX0_goneWithout_74 : decode cX0_goneWithout 74 = .ok (.iload_n 2, 1) := dk_28 (dk_at dksX0_goneWithout_3 6 rfl rfl)
theorem dX0_goneWithout_75 : decode cX0_goneWithout 75 = .ok (.ireturn, 1) := dk_172 (dk_at dksX0_goneWithout_3 7 rfl rfl)
abbrev cX0_food : ByteArray := prog_1_method_49_code
def yX0_food : MethodName := ⟨RX0, "food", "(I)I"⟩
def dkwX0_food_1 : List UInt8 := [4, 29, 120, 167, 0, 4, 3, 128, 61, 132, 3, 1, 167, 255, 224, 28, 172]
abbrev dktX0_food_1 : List UInt8 := dkwX0_food_1 ++ []
def dkwX0_food_0 : List UInt8 := [3, 61, 3, 62, 29, 16, 8, 162, 0, 32, 28, 42, 180, 0, 29, 27, 29, 184, 0, 181, 46, 158, 0, 9]
abbrev dktX0_food_0 : List UInt8 := dkwX0_food_0 ++ dktX0_food_1
theorem dksX0_food_0 : cX0_food.data.toList.drop 0 = dktX0_food_0 := by decide +kernel
theorem dksX0_food_1 : cX0_food.data.toList.drop 24 = dktX0_food_1 := dk_seg dksX0_food_0 24 rfl rfl
theorem dX0_food_0 : decode cX0_food 0 = .ok (.iconst 0, 1) := dk_3 (dk_at dksX0_food_0 0 rfl rfl)
theorem dX0_food_1 : decode cX0_food 1 = .ok (.istore_n 2, 1) := dk_61 (dk_at dksX0_food_0 1 rfl rfl)
theorem dX0_food_2 : decode cX0_food 2 = .ok (.iconst 0, 1) := dk_3 (dk_at dksX0_food_0 2 rfl rfl)
theorem dX0_food_3 : decode cX0_food 3 = .ok (.istore_n 3, 1) := dk_62 (dk_at dksX0_food_0 3 rfl rfl)
theorem dX0_food_4 : decode cX0_food 4 = .ok (.iload_n 3, 1) := dk_29 (dk_at dksX0_food_0 4 rfl rfl)
theorem dX0_food_5 : decode cX0_food 5 = .ok (.bipush 8, 2) := dk_16 8 (dk_at dksX0_food_0 5 rfl rfl)
theorem dX0_food_7 : decode cX0_food 7 = .ok (.if_icmp .ge 32, 3) := dk_162 0 32 (dk_at dksX0_food_0 7 rfl rfl)
theorem dX0_food_10 : decode cX0_food 10 = .ok (.iload_n 2, 1) := dk_28 (dk_at dksX0_food_0 10 rfl rfl)
theorem dX0_food_11 : decode cX0_food 11 = .ok (.aload_n 0, 1) := dk_42 (dk_at dksX0_food_0 11 rfl rfl)
theorem dX0_food_12 : decode cX0_food 12 = .ok (.getfield 29, 3) := dk_180 0 29 (dk_at dksX0_food_0 12 rfl rfl)
theorem dX0_food_15 : decode cX0_food 15 = .ok (.iload_n 1, 1) := dk_27 (dk_at dksX0_food_0 15 rfl rfl)
theorem dX0_food_16 : decode cX0_food 16 = .ok (.iload_n 3, 1) := dk_29 (dk_at dksX0_food_0 16 rfl rfl)
theorem dX0_food_17 : decode cX0_food 17 = .ok (.invokestatic 181, 3) := dk_184 0 181 (dk_at dksX0_food_0 17 rfl rfl)
theorem dX0_food_20 : decode cX0_food 20 = .ok (.iaload, 1) := dk_46 (dk_at dksX0_food_0 20 rfl rfl)
theorem dX0_food_21 : decode cX0_food 21 = .ok (.ifCond .le 9, 3) := dk_158 0 9 (dk_at dksX0_food_0 21 rfl rfl)
theorem dX0_food_24 : decode cX0_food 24 = .ok (.iconst 1, 1) := dk_4 (dk_at dksX0_food_1 0 rfl rfl)
theorem dX0_food_25 : decode cX0_food 25 = .ok (.iload_n 3, 1) := dk_29 (dk_at dksX0_food_1 1 rfl rfl)
theorem dX0_food_26 : decode cX0_food 26 = .ok (.ishl, 1) := dk_120 (dk_at dksX0_food_1 2 rfl rfl)
theorem dX0_food_27 : decode cX0_food 27 = .ok (.goto 4, 3) := dk_167 0 4 (dk_at dksX0_food_1 3 rfl rfl)
theorem dX0_food_30 : decode cX0_food 30 = .ok (.iconst 0, 1) := dk_3 (dk_at dksX0_food_1 6 rfl rfl)
theorem dX0_food_31 : decode cX0_food 31 = .ok (.ior, 1) := dk_128 (dk_at dksX0_food_1 7 rfl rfl)
theorem dX0_food_32 : decode cX0_food 32 = .ok (.istore_n 2, 1) := dk_61 (dk_at dksX0_food_1 8 rfl rfl)
theorem dX0_food_33 : decode cX0_food 33 = .ok (.iinc 3 1, 3) := dk_132 3 1 (dk_at dksX0_food_1 9 rfl rfl)
theorem dX0_food_36 : decode cX0_food 36 = .ok (.goto (-32), 3) := dk_167 255 224 (dk_at dksX0_food_1 12 rfl rfl)
theorem dX0_food_39 : decode cX0_food 39 = .ok (.iload_n 2, 1) := dk_28 (dk_at dksX0_food_1 15 rfl rfl)
theorem dX0_food_40 : decode cX0_food 40 = .ok (.ireturn, 1) := dk_172 (dk_at dksX0_food_1 16 rfl rfl)
abbrev cX0_worst : ByteArray := prog_1_method_52_code
def yX0_worst : MethodName := ⟨RX0, "worst", "(I)I"⟩
def dkwX0_worst_4 : List UInt8 := [180, 1, 25, 167, 0, 5, 21, 4, 181, 1, 25, 29, 172]
abbrev dktX0_worst_4 : List UInt8 := dkwX0_worst_4 ++ []
def dkwX0_worst_3 : List UInt8 := [164, 0, 10, 21, 5, 62, 21, 6, 54, 4, 132, 5, 1, 167, 255, 197, 42, 29, 16, 247, 160, 0, 10, 42]
abbrev dktX0_worst_3 : List UInt8 := dkwX0_worst_3 ++ dktX0_worst_4
def dkwX0_worst_2 : List UInt8 := [27, 160, 0, 15, 42, 21, 5, 182, 1, 43, 184, 0, 236, 167, 0, 5, 16, 247, 54, 6, 21, 6, 21, 4]
abbrev dktX0_worst_2 : List UInt8 := dkwX0_worst_2 ++ dktX0_worst_3
def dkwX0_worst_1 : List UInt8 := [54, 5, 21, 5, 17, 1, 0, 162, 0, 57, 21, 5, 28, 2, 130, 126, 154, 0, 24, 21, 5, 184, 0, 236]
abbrev dktX0_worst_1 : List UInt8 := dkwX0_worst_1 ++ dktX0_worst_2
def dkwX0_worst_0 : List UInt8 := [27, 3, 7, 184, 0, 76, 154, 0, 5, 2, 172, 42, 182, 0, 233, 61, 16, 247, 62, 16, 247, 54, 4, 3]
abbrev dktX0_worst_0 : List UInt8 := dkwX0_worst_0 ++ dktX0_worst_1
theorem dksX0_worst_0 : cX0_worst.data.toList.drop 0 = dktX0_worst_0 := by decide +kernel
theorem dksX0_worst_1 : cX0_worst.data.toList.drop 24 = dktX0_worst_1 := dk_seg dksX0_worst_0 24 rfl rfl
theorem dksX0_worst_2 : cX0_worst.data.toList.drop 48 = dktX0_worst_2 := dk_seg dksX0_worst_1 24 rfl rfl
theorem dksX0_worst_3 : cX0_worst.data.toList.drop 72 = dktX0_worst_3 := dk_seg dksX0_worst_2 24 rfl rfl
theorem dksX0_worst_4 : cX0_worst.data.toList.drop 96 = dktX0_worst_4 := dk_seg dksX0_worst_3 24 rfl rfl
theorem dX0_worst_0 : decode cX0_worst 0 = .ok (.iload_n 1, 1) := dk_27 (dk_at dksX0_worst_0 0 rfl rfl)
theorem dX0_worst_1 : decode cX0_worst 1 = .ok (.iconst 0, 1) := dk_3 (dk_at dksX0_worst_0 1 rfl rfl)
theorem dX0_worst_2 : decode cX0_worst 2 = .ok (.iconst 4, 1) := dk_7 (dk_at dksX0_worst_0 2 rfl rfl)
theorem dX0_worst_3 : decode cX0_worst 3 = .ok (.invokestatic 76, 3) := dk_184 0 76 (dk_at dksX0_worst_0 3 rfl rfl)
theorem dX0_worst_6 : decode cX0_worst 6 = .ok (.ifCond .ne 5, 3) := dk_154 0 5 (dk_at dksX0_worst_0 6 rfl rfl)
theorem dX0_worst_9 : decode cX0_worst 9 = .ok (.iconst (-1), 1) := dk_2 (dk_at dksX0_worst_0 9 rfl rfl)
theorem dX0_worst_10 : decode cX0_worst 10 = .ok (.ireturn, 1) := dk_172 (dk_at dksX0_worst_0 10 rfl rfl)
theorem dX0_worst_11 : decode cX0_worst 11 = .ok (.aload_n 0, 1) := dk_42 (dk_at dksX0_worst_0 11 rfl rfl)
theorem dX0_worst_12 : decode cX0_worst 12 = .ok (.invokevirtual 233, 3) := dk_182 0 233 (dk_at dksX0_worst_0 12 rfl rfl)
theorem dX0_worst_15 : decode cX0_worst 15 = .ok (.istore_n 2, 1) := dk_61 (dk_at dksX0_worst_0 15 rfl rfl)
theorem dX0_worst_16 : decode cX0_worst 16 = .ok (.bipush (-9), 2) := dk_16 247 (dk_at dksX0_worst_0 16 rfl rfl)
theorem dX0_worst_18 : decode cX0_worst 18 = .ok (.istore_n 3, 1) := dk_62 (dk_at dksX0_worst_0 18 rfl rfl)
theorem dX0_worst_19 : decode cX0_worst 19 = .ok (.bipush (-9), 2) := dk_16 247 (dk_at dksX0_worst_0 19 rfl rfl)
theorem dX0_worst_21 : decode cX0_worst 21 = .ok (.istore 4, 2) := dk_54 4 (dk_at dksX0_worst_0 21 rfl rfl)
theorem dX0_worst_23 : decode cX0_worst 23 = .ok (.iconst 0, 1) := dk_3 (dk_at dksX0_worst_0 23 rfl rfl)
theorem dX0_worst_24 : decode cX0_worst 24 = .ok (.istore 5, 2) := dk_54 5 (dk_at dksX0_worst_1 0 rfl rfl)
theorem dX0_worst_26 : decode cX0_worst 26 = .ok (.iload 5, 2) := dk_21 5 (dk_at dksX0_worst_1 2 rfl rfl)
theorem dX0_worst_28 : decode cX0_worst 28 = .ok (.sipush 256, 3) := dk_17 1 0 (dk_at dksX0_worst_1 4 rfl rfl)
theorem dX0_worst_31 : decode cX0_worst 31 = .ok (.if_icmp .ge 57, 3) := dk_162 0 57 (dk_at dksX0_worst_1 7 rfl rfl)
theorem dX0_worst_34 : decode cX0_worst 34 = .ok (.iload 5, 2) := dk_21 5 (dk_at dksX0_worst_1 10 rfl rfl)
theorem dX0_worst_36 : decode cX0_worst 36 = .ok (.iload_n 2, 1) := dk_28 (dk_at dksX0_worst_1 12 rfl rfl)
theorem dX0_worst_37 : decode cX0_worst 37 = .ok (.iconst (-1), 1) := dk_2 (dk_at dksX0_worst_1 13 rfl rfl)
theorem dX0_worst_38 : decode cX0_worst 38 = .ok (.ixor, 1) := dk_130 (dk_at dksX0_worst_1 14 rfl rfl)
theorem dX0_worst_39 : decode cX0_worst 39 = .ok (.iand, 1) := dk_126 (dk_at dksX0_worst_1 15 rfl rfl)
theorem dX0_worst_40 : decode cX0_worst 40 = .ok (.ifCond .ne 24, 3) := dk_154 0 24 (dk_at dksX0_worst_1 16 rfl rfl)
theorem dX0_worst_43 : decode cX0_worst 43 = .ok (.iload 5, 2) := dk_21 5 (dk_at dksX0_worst_1 19 rfl rfl)
theorem dX0_worst_45 : decode cX0_worst 45 = .ok (.invokestatic 236, 3) := dk_184 0 236 (dk_at dksX0_worst_1 21 rfl rfl)
theorem dX0_worst_48 : decode cX0_worst 48 = .ok (.iload_n 1, 1) := dk_27 (dk_at dksX0_worst_2 0 rfl rfl)
theorem dX0_worst_49 : decode cX0_worst 49 = .ok (.if_icmp .ne 15, 3) := dk_160 0 15 (dk_at dksX0_worst_2 1 rfl rfl)
theorem dX0_worst_52 : decode cX0_worst 52 = .ok (.aload_n 0, 1) := dk_42 (dk_at dksX0_worst_2 4 rfl rfl)
theorem dX0_worst_53 : decode cX0_worst 53 = .ok (.iload 5, 2) := dk_21 5 (dk_at dksX0_worst_2 5 rfl rfl)
theorem dX0_worst_55 : decode cX0_worst 55 = .ok (.invokevirtual 299, 3) := dk_182 1 43 (dk_at dksX0_worst_2 7 rfl rfl)
theorem dX0_worst_58 : decode cX0_worst 58 = .ok (.invokestatic 236, 3) := dk_184 0 236 (dk_at dksX0_worst_2 10 rfl rfl)
theorem dX0_worst_61 : decode cX0_worst 61 = .ok (.goto 5, 3) := dk_167 0 5 (dk_at dksX0_worst_2 13 rfl rfl)
theorem dX0_worst_64 : decode cX0_worst 64 = .ok (.bipush (-9), 2) := dk_16 247 (dk_at dksX0_worst_2 16 rfl rfl)
theorem dX0_worst_66 : decode cX0_worst 66 = .ok (.istore 6, 2) := dk_54 6 (dk_at dksX0_worst_2 18 rfl rfl)
theorem dX0_worst_68 : decode cX0_worst 68 = .ok (.iload 6, 2) := dk_21 6 (dk_at dksX0_worst_2 20 rfl rfl)
theorem dX0_worst_70 : decode cX0_worst 70 = .ok (.iload 4, 2) := dk_21 4 (dk_at dksX0_worst_2 22 rfl rfl)
theorem dX0_worst_72 : decode cX0_worst 72 = .ok (.if_icmp .le 10, 3) := dk_164 0 10 (dk_at dksX0_worst_3 0 rfl rfl)
theorem dX0_worst_75 : decode cX0_worst 75 = .ok (.iload 5, 2) := dk_21 5 (dk_at dksX0_worst_3 3 rfl rfl)
theorem dX0_worst_77 : decode cX0_worst 77 = .ok (.istore_n 3, 1) := dk_62 (dk_at dksX0_worst_3 5 rfl rfl)
theorem dX0_worst_78 : decode cX0_worst 78 = .ok (.iload 6, 2) := dk_21 6 (dk_at dksX0_worst_3 6 rfl rfl)
theorem dX0_worst_80 : decode cX0_worst 80 = .ok (.istore 4, 2) := dk_54 4 (dk_at dksX0_worst_3 8 rfl rfl)
theorem dX0_worst_82 : decode cX0_worst 82 = .ok (.iinc 5 1, 3) := dk_132 5 1 (dk_at dksX0_worst_3 10 rfl rfl)
theorem dX0_worst_85 : decode cX0_worst 85 = .ok (.goto (-59), 3) := dk_167 255 197 (dk_at dksX0_worst_3 13 rfl rfl)
theorem dX0_worst_88 : decode cX0_worst 88 = .ok (.aload_n 0, 1) := dk_42 (dk_at dksX0_worst_3 16 rfl rfl)
theorem dX0_worst_89 : decode cX0_worst 89 = .ok (.iload_n 3, 1) := dk_29 (dk_at dksX0_worst_3 17 rfl rfl)
theorem dX0_worst_90 : decode cX0_worst 90 = .ok (.bipush (-9), 2) := dk_16 247 (dk_at dksX0_worst_3 18 rfl rfl)
theorem dX0_worst_92 : decode cX0_worst 92 = .ok (.if_icmp .ne 10, 3) := dk_160 0 10 (dk_at dksX0_worst_3 20 rfl rfl)
theorem dX0_worst_95 : decode cX0_worst 95 = .ok (.aload_n 0, 1) := dk_42 (dk_at dksX0_worst_3 23 rfl rfl)
theorem dX0_worst_96 : decode cX0_worst 96 = .ok (.getfield 281, 3) := dk_180 1 25 (dk_at dksX0_worst_4 0 rfl rfl)
theorem dX0_worst_99 : decode cX0_worst 99 = .ok (.goto 5, 3) := dk_167 0 5 (dk_at dksX0_worst_4 3 rfl rfl)
theorem dX0_worst_102 : decode cX0_worst 102 = .ok (.iload 4, 2) := dk_21 4 (dk_at dksX0_worst_4 6 rfl rfl)
theorem dX0_worst_104 : decode cX0_worst 104 = .ok (.putfield 281, 3) := dk_181 1 25 (dk_at dksX0_worst_4 8 rfl rfl)
theorem dX0_worst_107 : decode cX0_worst 107 = .ok (.iload_n 3, 1) := dk_29 (dk_at dksX0_worst_4 11 rfl rfl)
theorem dX0_worst_108 : decode cX0_worst 108 = .ok (.ireturn, 1) := dk_172 (dk_at dksX0_worst_4 12 rfl rfl)
abbrev cX0_needs : ByteArray := prog_1_method_53_code
def yX0_needs : MethodName := ⟨RX0, "needs", "(II)I"⟩
def dkwX0_needs_2 : List UInt8 := [4, 28, 120, 182, 1, 43, 27, 122, 4, 126, 4, 160, 0, 7, 4, 167, 0, 4, 3, 172]
abbrev dktX0_needs_2 : List UInt8 := dkwX0_needs_2 ++ []
def dkwX0_needs_1 : List UInt8 := [198, 0, 12, 42, 180, 0, 25, 28, 50, 199, 0, 9, 42, 4, 182, 0, 86, 172, 27, 28, 159, 0, 22, 42]
abbrev dktX0_needs_1 : List UInt8 := dkwX0_needs_1 ++ dktX0_needs_2
def dkwX0_needs_0 : List UInt8 := [27, 184, 0, 192, 153, 0, 10, 28, 184, 0, 192, 154, 0, 5, 2, 172, 42, 180, 0, 25, 27, 50]
abbrev dktX0_needs_0 : List UInt8 := dkwX0_needs_0 ++ dktX0_needs_1
theorem dksX0_needs_0 : cX0_needs.data.toList.drop 0 = dktX0_needs_0 := by decide +kernel
theorem dksX0_needs_1 : cX0_needs.data.toList.drop 22 = dktX0_needs_1 := dk_seg dksX0_needs_0 22 rfl rfl
theorem dksX0_needs_2 : cX0_needs.data.toList.drop 46 = dktX0_needs_2 := dk_seg dksX0_needs_1 24 rfl rfl
theorem dX0_needs_0 : decode cX0_needs 0 = .ok (.iload_n 1, 1) := dk_27 (dk_at dksX0_needs_0 0 rfl rfl)
theorem dX0_needs_1 : decode cX0_needs 1 = .ok (.invokestatic 192, 3) := dk_184 0 192 (dk_at dksX0_needs_0 1 rfl rfl)
theorem dX0_needs_4 : decode cX0_needs 4 = .ok (.ifCond .eq 10, 3) := dk_153 0 10 (dk_at dksX0_needs_0 4 rfl rfl)
theorem dX0_needs_7 : decode cX0_needs 7 = .ok (.iload_n 2, 1) := dk_28 (dk_at dksX0_needs_0 7 rfl rfl)
theorem dX0_needs_8 : decode cX0_needs 8 = .ok (.invokestatic 192, 3) := dk_184 0 192 (dk_at dksX0_needs_0 8 rfl rfl)
theorem dX0_needs_11 : decode cX0_needs 11 = .ok (.ifCond .ne 5, 3) := dk_154 0 5 (dk_at dksX0_needs_0 11 rfl rfl)
theorem dX0_needs_14 : decode cX0_needs 14 = .ok (.iconst (-1), 1) := dk_2 (dk_at dksX0_needs_0 14 rfl rfl)
theorem dX0_needs_15 : decode cX0_needs 15 = .ok (.ireturn, 1) := dk_172 (dk_at dksX0_needs_0 15 rfl rfl)
theorem dX0_needs_16 : decode cX0_needs 16 = .ok (.aload_n 0, 1) := dk_42 (dk_at dksX0_needs_0 16 rfl rfl)
theorem dX0_needs_17 : decode cX0_needs 17 = .ok (.getfield 25, 3) := dk_180 0 25 (dk_at dksX0_needs_0 17 rfl rfl)
theorem dX0_needs_20 : decode cX0_needs 20 = .ok (.iload_n 1, 1) := dk_27 (dk_at dksX0_needs_0 20 rfl rfl)
theorem dX0_needs_21 : decode cX0_needs 21 = .ok (.aaload, 1) := dk_50 (dk_at dksX0_needs_0 21 rfl rfl)
theorem dX0_needs_22 : decode cX0_needs 22 = .ok (.ifnull 12, 3) := dk_198 0 12 (dk_at dksX0_needs_1 0 rfl rfl)
theorem dX0_needs_25 : decode cX0_needs 25 = .ok (.aload_n 0, 1) := dk_42 (dk_at dksX0_needs_1 3 rfl rfl)
theorem dX0_needs_26 : decode cX0_needs 26 = .ok (.getfield 25, 3) := dk_180 0 25 (dk_at dksX0_needs_1 4 rfl rfl)
theorem dX0_needs_29 : decode cX0_needs 29 = .ok (.iload_n 2, 1) := dk_28 (dk_at dksX0_needs_1 7 rfl rfl)
theorem dX0_needs_30 : decode cX0_needs 30 = .ok (.aaload, 1) := dk_50 (dk_at dksX0_needs_1 8 rfl rfl)
theorem dX0_needs_31 : decode cX0_needs 31 = .ok (.ifnonnull 9, 3) := dk_199 0 9 (dk_at dksX0_needs_1 9 rfl rfl)
theorem dX0_needs_34 : decode cX0_needs 34 = .ok (.aload_n 0, 1) := dk_42 (dk_at dksX0_needs_1 12 rfl rfl)
theorem dX0_needs_35 : decode cX0_needs 35 = .ok (.iconst 1, 1) := dk_4 (dk_at dksX0_needs_1 13 rfl rfl)
theorem dX0_needs_36 : decode cX0_needs 36 = .ok (.invokevirtual 86, 3) := dk_182 0 86 (dk_at dksX0_needs_1 14 rfl rfl)
theorem dX0_needs_39 : decode cX0_needs 39 = .ok (.ireturn, 1) := dk_172 (dk_at dksX0_needs_1 17 rfl rfl)
theorem dX0_needs_40 : decode cX0_needs 40 = .ok (.iload_n 1, 1) := dk_27 (dk_at dksX0_needs_1 18 rfl rfl)
theorem dX0_needs_41 : decode cX0_needs 41 = .ok (.iload_n 2, 1) := dk_28 (dk_at dksX0_needs_1 19 rfl rfl)
theorem dX0_needs_42 : decode cX0_needs 42 = .ok (.if_icmp .eq 22, 3) := dk_159 0 22 (dk_at dksX0_needs_1 20 rfl rfl)
theorem dX0_needs_45 : decode cX0_needs 45 = .ok (.aload_n 0, 1) := dk_42 (dk_at dksX0_needs_1 23 rfl rfl)
theorem dX0_needs_46 : decode cX0_needs 46 = .ok (.iconst 1, 1) := dk_4 (dk_at dksX0_needs_2 0 rfl rfl)
theorem dX0_needs_47 : decode cX0_needs 47 = .ok (.iload_n 2, 1) := dk_28 (dk_at dksX0_needs_2 1 rfl rfl)
theorem dX0_needs_48 : decode cX0_needs 48 = .ok (.ishl, 1) := dk_120 (dk_at dksX0_needs_2 2 rfl rfl)
theorem dX0_needs_49 : decode cX0_needs 49 = .ok (.invokevirtual 299, 3) := dk_182 1 43 (dk_at dksX0_needs_2 3 rfl rfl)
theorem dX0_needs_52 : decode cX0_needs 52 = .ok (.iload_n 1, 1) := dk_27 (dk_at dksX0_needs_2 6 rfl rfl)
theorem dX0_needs_53 : decode cX0_needs 53 = .ok (.ishr, 1) := dk_122 (dk_at dksX0_needs_2 7 rfl rfl)
theorem dX0_needs_54 : decode cX0_needs 54 = .ok (.iconst 1, 1) := dk_4 (dk_at dksX0_needs_2 8 rfl rfl)
theorem dX0_needs_55 : decode cX0_needs 55 = .ok (.iand, 1) := dk_126 (dk_at dksX0_needs_2 9 rfl rfl)
theorem dX0_needs_56 : decode cX0_needs 56 = .ok (.iconst 1, 1) := dk_4 (dk_at dksX0_needs_2 10 rfl rfl)
theorem dX0_needs_57 : decode cX0_needs 57 = .ok (.if_icmp .ne 7, 3) := dk_160 0 7 (dk_at dksX0_needs_2 11 rfl rfl)
theorem dX0_needs_60 : decode cX0_needs 60 = .ok (.iconst 1, 1) := dk_4 (dk_at dksX0_needs_2 14 rfl rfl)
theorem dX0_needs_61 : decode cX0_needs 61 = .ok (.goto 4, 3) := dk_167 0 4 (dk_at dksX0_needs_2 15 rfl rfl)
theorem dX0_needs_64 : decode cX0_needs 64 = .ok (.iconst 0, 1) := dk_3 (dk_at dksX0_needs_2 18 rfl rfl)
theorem dX0_needs_65 : decode cX0_needs 65 = .ok (.ireturn, 1) := dk_172 (dk_at dksX0_needs_2 19 rfl rfl)
abbrev cX0_rung : ByteArray := prog_1_method_54_code
def yX0_rung : MethodName := ⟨RX0, "rung", "(I)I"⟩
def dkwX0_rung_6 : List UInt8 := [167, 255, 190, 16, 247, 172]
abbrev dktX0_rung_6 : List UInt8 := dkwX0_rung_6 ++ []
def dkwX0_rung_5 : List UInt8 := [21, 5, 120, 167, 0, 4, 3, 128, 54, 4, 132, 5, 1, 167, 255, 222, 21, 4, 61, 132, 3, 1]
abbrev dktX0_rung_5 : List UInt8 := dkwX0_rung_5 ++ dktX0_rung_6
def dkwX0_rung_4 : List UInt8 := [54, 5, 21, 5, 16, 8, 162, 0, 33, 21, 4, 42, 21, 5, 182, 1, 40, 28, 126, 153, 0, 10, 4]
abbrev dktX0_rung_4 : List UInt8 := dkwX0_rung_4 ++ dktX0_rung_5
def dkwX0_rung_3 : List UInt8 := [3, 62, 29, 16, 8, 162, 0, 66, 28, 27, 122, 4, 126, 4, 160, 0, 5, 29, 172, 28, 54, 4, 3]
abbrev dktX0_rung_3 : List UInt8 := dkwX0_rung_3 ++ dktX0_rung_4
def dkwX0_rung_2 : List UInt8 := [29, 50, 5, 182, 0, 153, 154, 0, 9, 4, 29, 120, 167, 0, 4, 3, 128, 61, 132, 3, 1, 167, 255, 215]
abbrev dktX0_rung_2 : List UInt8 := dkwX0_rung_2 ++ dktX0_rung_3
def dkwX0_rung_1 : List UInt8 := [3, 61, 3, 62, 29, 16, 8, 162, 0, 41, 28, 42, 180, 0, 25, 29, 50, 198, 0, 22, 42, 180, 0, 25]
abbrev dktX0_rung_1 : List UInt8 := dkwX0_rung_1 ++ dktX0_rung_2
def dkwX0_rung_0 : List UInt8 := [27, 184, 0, 192, 154, 0, 5, 2, 172, 42, 180, 0, 25, 27, 50, 199, 0, 9, 42, 4, 182, 0, 86, 172]
abbrev dktX0_rung_0 : List UInt8 := dkwX0_rung_0 ++ dktX0_rung_1
theorem dksX0_rung_0 : cX0_rung.data.toList.drop 0 = dktX0_rung_0 := by decide +kernel
theorem dksX0_rung_1 : cX0_rung.data.toList.drop 24 = dktX0_rung_1 := dk_seg dksX0_rung_0 24 rfl rfl
theorem dksX0_rung_2 : cX0_rung.data.toList.drop 48 = dktX0_rung_2 := dk_seg dksX0_rung_1 24 rfl rfl
theorem dksX0_rung_3 : cX0_rung.data.toList.drop 72 = dktX0_rung_3 := dk_seg dksX0_rung_2 24 rfl rfl
theorem dksX0_rung_4 : cX0_rung.data.toList.drop 95 = dktX0_rung_4 := dk_seg dksX0_rung_3 23 rfl rfl
theorem dksX0_rung_5 : cX0_rung.data.toList.drop 118 = dktX0_rung_5 := dk_seg dksX0_rung_4 23 rfl rfl
theorem dksX0_rung_6 : cX0_rung.data.toList.drop 140 = dktX0_rung_6 := dk_seg dksX0_rung_5 22 rfl rfl
theorem dX0_rung_0 : decode cX0_rung 0 = .ok (.iload_n 1, 1) := dk_27 (dk_at dksX0_rung_0 0 rfl rfl)
theorem dX0_rung_1 : decode cX0_rung 1 = .ok (.invokestatic 192, 3) := dk_184 0 192 (dk_at dksX0_rung_0 1 rfl rfl)
theorem dX0_rung_4 : decode cX0_rung 4 = .ok (.ifCond .ne 5, 3) := dk_154 0 5 (dk_at dksX0_rung_0 4 rfl rfl)
theorem dX0_rung_7 : decode cX0_rung 7 = .ok (.iconst (-1), 1) := dk_2 (dk_at dksX0_rung_0 7 rfl rfl)
theorem dX0_rung_8 : decode cX0_rung 8 = .ok (.ireturn, 1) := dk_172 (dk_at dksX0_rung_0 8 rfl rfl)
theorem dX0_rung_9 : decode cX0_rung 9 = .ok (.aload_n 0, 1) := dk_42 (dk_at dksX0_rung_0 9 rfl rfl)
theorem dX0_rung_10 : decode cX0_rung 10 = .ok (.getfield 25, 3) := dk_180 0 25 (dk_at dksX0_rung_0 10 rfl rfl)
theorem dX0_rung_13 : decode cX0_rung 13 = .ok (.iload_n 1, 1) := dk_27 (dk_at dksX0_rung_0 13 rfl rfl)
theorem dX0_rung_14 : decode cX0_rung 14 = .ok (.aaload, 1) := dk_50 (dk_at dksX0_rung_0 14 rfl rfl)
theorem dX0_rung_15 : decode cX0_rung 15 = .ok (.ifnonnull 9, 3) := dk_199 0 9 (dk_at dksX0_rung_0 15 rfl rfl)
theorem dX0_rung_18 : decode cX0_rung 18 = .ok (.aload_n 0, 1) := dk_42 (dk_at dksX0_rung_0 18 rfl rfl)
theorem dX0_rung_19 : decode cX0_rung 19 = .ok (.iconst 1, 1) := dk_4 (dk_at dksX0_rung_0 19 rfl rfl)
theorem dX0_rung_20 : decode cX0_rung 20 = .ok (.invokevirtual 86, 3) := dk_182 0 86 (dk_at dksX0_rung_0 20 rfl rfl)
theorem dX0_rung_23 : decode cX0_rung 23 = .ok (.ireturn, 1) := dk_172 (dk_at dksX0_rung_0 23 rfl rfl)
theorem dX0_rung_24 : decode cX0_rung 24 = .ok (.iconst 0, 1) := dk_3 (dk_at dksX0_rung_1 0 rfl rfl)
theorem dX0_rung_25 : decode cX0_rung 25 = .ok (.istore_n 2, 1) := dk_61 (dk_at dksX0_rung_1 1 rfl rfl)
theorem dX0_rung_26 : decode cX0_rung 26 = .ok (.iconst 0, 1) := dk_3 (dk_at dksX0_rung_1 2 rfl rfl)
theorem dX0_rung_27 : decode cX0_rung 27 = .ok (.istore_n 3, 1) := dk_62 (dk_at dksX0_rung_1 3 rfl rfl)
theorem dX0_rung_28 : decode cX0_rung 28 = .ok (.iload_n 3, 1) := dk_29 (dk_at dksX0_rung_1 4 rfl rfl)
theorem dX0_rung_29 : decode cX0_rung 29 = .ok (.bipush 8, 2) := dk_16 8 (dk_at dksX0_rung_1 5 rfl rfl)
theorem dX0_rung_31 : decode cX0_rung 31 = .ok (.if_icmp .ge 41, 3) := dk_162 0 41 (dk_at dksX0_rung_1 7 rfl rfl)
theorem dX0_rung_34 : decode cX0_rung 34 = .ok (.iload_n 2, 1) := dk_28 (dk_at dksX0_rung_1 10 rfl rfl)
theorem dX0_rung_35 : decode cX0_rung 35 = .ok (.aload_n 0, 1) := dk_42 (dk_at dksX0_rung_1 11 rfl rfl)
theorem dX0_rung_36 : decode cX0_rung 36 = .ok (.getfield 25, 3) := dk_180 0 25 (dk_at dksX0_rung_1 12 rfl rfl)
theorem dX0_rung_39 : decode cX0_rung 39 = .ok (.iload_n 3, 1) := dk_29 (dk_at dksX0_rung_1 15 rfl rfl)
theorem dX0_rung_40 : decode cX0_rung 40 = .ok (.aaload, 1) := dk_50 (dk_at dksX0_rung_1 16 rfl rfl)
theorem dX0_rung_41 : decode cX0_rung 41 = .ok (.ifnull 22, 3) := dk_198 0 22 (dk_at dksX0_rung_1 17 rfl rfl)
theorem dX0_rung_44 : decode cX0_rung 44 = .ok (.aload_n 0, 1) := dk_42 (dk_at dksX0_rung_1 20 rfl rfl)
theorem dX0_rung_45 : decode cX0_rung 45 = .ok (.getfield 25, 3) := dk_180 0 25 (dk_at dksX0_rung_1 21 rfl rfl)
theorem dX0_rung_48 : decode cX0_rung 48 = .ok (.iload_n 3, 1) := dk_29 (dk_at dksX0_rung_2 0 rfl rfl)
theorem dX0_rung_49 : decode cX0_rung 49 = .ok (.aaload, 1) := dk_50 (dk_at dksX0_rung_2 1 rfl rfl)
theorem dX0_rung_50 : decode cX0_rung 50 = .ok (.iconst 2, 1) := dk_5 (dk_at dksX0_rung_2 2 rfl rfl)
theorem dX0_rung_51 : decode cX0_rung 51 = .ok (.invokevirtual 153, 3) := dk_182 0 153 (dk_at dksX0_rung_2 3 rfl rfl)
theorem dX0_rung_54 : decode cX0_rung 54 = .ok (.ifCond .ne 9, 3) := dk_154 0 9 (dk_at dksX0_rung_2 6 rfl rfl)
theorem dX0_rung_57 : decode cX0_rung 57 = .ok (.iconst 1, 1) := dk_4 (dk_at dksX0_rung_2 9 rfl rfl)
theorem dX0_rung_58 : decode cX0_rung 58 = .ok (.iload_n 3, 1) := dk_29 (dk_at dksX0_rung_2 10 rfl rfl)
theorem dX0_rung_59 : decode cX0_rung 59 = .ok (.ishl, 1) := dk_120 (dk_at dksX0_rung_2 11 rfl rfl)
theorem dX0_rung_60 : decode cX0_rung 60 = .ok (.goto 4, 3) := dk_167 0 4 (dk_at dksX0_rung_2 12 rfl rfl)
theorem dX0_rung_63 : decode cX0_rung 63 = .ok (.iconst 0, 1) := dk_3 (dk_at dksX0_rung_2 15 rfl rfl)
theorem dX0_rung_64 : decode cX0_rung 64 = .ok (.ior, 1) := dk_128 (dk_at dksX0_rung_2 16 rfl rfl)
theorem dX0_rung_65 : decode cX0_rung 65 = .ok (.istore_n 2, 1) := dk_61 (dk_at dksX0_rung_2 17 rfl rfl)
theorem dX0_rung_66 : decode cX0_rung 66 = .ok (.iinc 3 1, 3) := dk_132 3 1 (dk_at dksX0_rung_2 18 rfl rfl)
theorem dX0_rung_69 : decode cX0_rung 69 = .ok (.goto (-41), 3) := dk_167 255 215 (dk_at dksX0_rung_2 21 rfl rfl)
theorem dX0_rung_72 : decode cX0_rung 72 = .ok (.iconst 0, 1) := dk_3 (dk_at dksX0_rung_3 0 rfl rfl)
theorem dX0_rung_73 : decode cX0_rung 73 = .ok (.istore_n 3, 1) := dk_62 (dk_at dksX0_rung_3 1 rfl rfl)
theorem dX0_rung_74 : decode cX0_rung 74 = .ok (.iload_n 3, 1) := dk_29 (dk_at dksX0_rung_3 2 rfl rfl)
theorem dX0_rung_75 : decode cX0_rung 75 = .ok (.bipush 8, 2) := dk_16 8 (dk_at dksX0_rung_3 3 rfl rfl)
theorem dX0_rung_77 : decode cX0_rung 77 = .ok (.if_icmp .ge 66, 3) := dk_162 0 66 (dk_at dksX0_rung_3 5 rfl rfl)
theorem dX0_rung_80 : decode cX0_rung 80 = .ok (.iload_n 2, 1) := dk_28 (dk_at dksX0_rung_3 8 rfl rfl)
theorem dX0_rung_81 : decode cX0_rung 81 = .ok (.iload_n 1, 1) := dk_27 (dk_at dksX0_rung_3 9 rfl rfl)
theorem dX0_rung_82 : decode cX0_rung 82 = .ok (.ishr, 1) := dk_122 (dk_at dksX0_rung_3 10 rfl rfl)
theorem dX0_rung_83 : decode cX0_rung 83 = .ok (.iconst 1, 1) := dk_4 (dk_at dksX0_rung_3 11 rfl rfl)
theorem dX0_rung_84 : decode cX0_rung 84 = .ok (.iand, 1) := dk_126 (dk_at dksX0_rung_3 12 rfl rfl)
theorem dX0_rung_85 : decode cX0_rung 85 = .ok (.iconst 1, 1) := dk_4 (dk_at dksX0_rung_3 13 rfl rfl)
theorem dX0_rung_86 : decode cX0_rung 86 = .ok (.if_icmp .ne 5, 3) := dk_160 0 5 (dk_at dksX0_rung_3 14 rfl rfl)
theorem dX0_rung_89 : decode cX0_rung 89 = .ok (.iload_n 3, 1) := dk_29 (dk_at dksX0_rung_3 17 rfl rfl)
theorem dX0_rung_90 : decode cX0_rung 90 = .ok (.ireturn, 1) := dk_172 (dk_at dksX0_rung_3 18 rfl rfl)
theorem dX0_rung_91 : decode cX0_rung 91 = .ok (.iload_n 2, 1) := dk_28 (dk_at dksX0_rung_3 19 rfl rfl)
theorem dX0_rung_92 : decode cX0_rung 92 = .ok (.istore 4, 2) := dk_54 4 (dk_at dksX0_rung_3 20 rfl rfl)
theorem dX0_rung_94 : decode cX0_rung 94 = .ok (.iconst 0, 1) := dk_3 (dk_at dksX0_rung_3 22 rfl rfl)
theorem dX0_rung_95 : decode cX0_rung 95 = .ok (.istore 5, 2) := dk_54 5 (dk_at dksX0_rung_4 0 rfl rfl)
theorem dX0_rung_97 : decode cX0_rung 97 = .ok (.iload 5, 2) := dk_21 5 (dk_at dksX0_rung_4 2 rfl rfl)
theorem dX0_rung_99 : decode cX0_rung 99 = .ok (.bipush 8, 2) := dk_16 8 (dk_at dksX0_rung_4 4 rfl rfl)
theorem dX0_rung_101 : decode cX0_rung 101 = .ok (.if_icmp .ge 33, 3) := dk_162 0 33 (dk_at dksX0_rung_4 6 rfl rfl)
theorem dX0_rung_104 : decode cX0_rung 104 = .ok (.iload 4, 2) := dk_21 4 (dk_at dksX0_rung_4 9 rfl rfl)
theorem dX0_rung_106 : decode cX0_rung 106 = .ok (.aload_n 0, 1) := dk_42 (dk_at dksX0_rung_4 11 rfl rfl)
theorem dX0_rung_107 : decode cX0_rung 107 = .ok (.iload 5, 2) := dk_21 5 (dk_at dksX0_rung_4 12 rfl rfl)
theorem dX0_rung_109 : decode cX0_rung 109 = .ok (.invokevirtual 296, 3) := dk_182 1 40 (dk_at dksX0_rung_4 14 rfl rfl)
theorem dX0_rung_112 : decode cX0_rung 112 = .ok (.iload_n 2, 1) := dk_28 (dk_at dksX0_rung_4 17 rfl rfl)
theorem dX0_rung_113 : decode cX0_rung 113 = .ok (.iand, 1) := dk_126 (dk_at dksX0_rung_4 18 rfl rfl)
theorem dX0_rung_114 : decode cX0_rung 114 = .ok (.ifCond .eq 10, 3) := dk_153 0 10 (dk_at dksX0_rung_4 19 rfl rfl)
theorem dX0_rung_117 : decode cX0_rung 117 = .ok (.iconst 1, 1) := dk_4 (dk_at dksX0_rung_4 22 rfl rfl)
theorem dX0_rung_118 : decode cX0_rung 118 = .ok (.iload 5, 2) := dk_21 5 (dk_at dksX0_rung_5 0 rfl rfl)
theorem dX0_rung_120 : decode cX0_rung 120 = .ok (.ishl, 1) := dk_120 (dk_at dksX0_rung_5 2 rfl rfl)
theorem dX0_rung_121 : decode cX0_rung 121 = .ok (.goto 4, 3) := dk_167 0 4 (dk_at dksX0_rung_5 3 rfl rfl)
theorem dX0_rung_124 : decode cX0_rung 124 = .ok (.iconst 0, 1) := dk_3 (dk_at dksX0_rung_5 6 rfl rfl)
theorem dX0_rung_125 : decode cX0_rung 125 = .ok (.ior, 1) := dk_128 (dk_at dksX0_rung_5 7 rfl rfl)
theorem dX0_rung_126 : decode cX0_rung 126 = .ok (.istore 4, 2) := dk_54 4 (dk_at dksX0_rung_5 8 rfl rfl)
theorem dX0_rung_128 : decode cX0_rung 128 = .ok (.iinc 5 1, 3) := dk_132 5 1 (dk_at dksX0_rung_5 10 rfl rfl)
theorem dX0_rung_131 : decode cX0_rung 131 = .ok (.goto (-34), 3) := dk_167 255 222 (dk_at dksX0_rung_5 13 rfl rfl)
theorem dX0_rung_134 : decode cX0_rung 134 = .ok (.iload 4, 2) := dk_21 4 (dk_at dksX0_rung_5 16 rfl rfl)
theorem dX0_rung_136 : decode cX0_rung 136 = .ok (.istore_n 2, 1) := dk_61 (dk_at dksX0_rung_5 18 rfl rfl)
theorem dX0_rung_137 : decode cX0_rung 137 = .ok (.iinc 3 1, 3) := dk_132 3 1 (dk_at dksX0_rung_5 19 rfl rfl)
theorem dX0_rung_140 : decode cX0_rung 140 = .ok (.goto (-66), 3) := dk_167 255 190 (dk_at dksX0_rung_6 0 rfl rfl)
theorem dX0_rung_143 : decode cX0_rung 143 = .ok (.bipush (-9), 2) := dk_16 247 (dk_at dksX0_rung_6 3 rfl rfl)
theorem dX0_rung_145 : decode cX0_rung 145 = .ok (.ireturn, 1) := dk_172 (dk_at dksX0_rung_6 5 rfl rfl)
abbrev cX0_rings : ByteArray := prog_1_method_56_code
def yX0_rings : MethodName := ⟨RX0, "rings", "(I)I"⟩
def dkwX0_rings_1 : List UInt8 := [29, 29, 3, 27, 4, 100, 182, 1, 46, 96, 61, 132, 3, 1, 167, 255, 234, 28, 172]
abbrev dktX0_rings_1 : List UInt8 := dkwX0_rings_1 ++ []
def dkwX0_rings_0 : List UInt8 := [27, 4, 16, 8, 184, 0, 76, 154, 0, 5, 2, 172, 3, 61, 3, 62, 29, 16, 8, 162, 0, 22, 28, 42]
abbrev dktX0_rings_0 : List UInt8 := dkwX0_rings_0 ++ dktX0_rings_1
theorem dksX0_rings_0 : cX0_rings.data.toList.drop 0 = dktX0_rings_0 := by decide +kernel
theorem dksX0_rings_1 : cX0_rings.data.toList.drop 24 = dktX0_rings_1 := dk_seg dksX0_rings_0 24 rfl rfl
theorem dX0_rings_0 : decode cX0_rings 0 = .ok (.iload_n 1, 1) := dk_27 (dk_at dksX0_rings_0 0 rfl rfl)
theorem dX0_rings_1 : decode cX0_rings 1 = .ok (.iconst 1, 1) := dk_4 (dk_at dksX0_rings_0 1 rfl rfl)
theorem dX0_rings_2 : decode cX0_rings 2 = .ok (.bipush 8, 2) := dk_16 8 (dk_at dksX0_rings_0 2 rfl rfl)
theorem dX0_rings_4 : decode cX0_rings 4 = .ok (.invokestatic 76, 3) := dk_184 0 76 (dk_at dksX0_rings_0 4 rfl rfl)
theorem dX0_rings_7 : decode cX0_rings 7 = .ok (.ifCond .ne 5, 3) := dk_154 0 5 (dk_at dksX0_rings_0 7 rfl rfl)
theorem dX0_rings_10 : decode cX0_rings 10 = .ok (.iconst (-1), 1) := dk_2 (dk_at dksX0_rings_0 10 rfl rfl)
theorem dX0_rings_11 : decode cX0_rings 11 = .ok (.ireturn, 1) := dk_172 (dk_at dksX0_rings_0 11 rfl rfl)
theorem dX0_rings_12 : decode cX0_rings 12 = .ok (.iconst 0, 1) := dk_3 (dk_at dksX0_rings_0 12 rfl rfl)
theorem dX0_rings_13 : decode cX0_rings 13 = .ok (.istore_n 2, 1) := dk_61 (dk_at dksX0_rings_0 13 rfl rfl)
theorem dX0_rings_14 : decode cX0_rings 14 = .ok (.iconst 0, 1) := dk_3 (dk_at dksX0_rings_0 14 rfl rfl)
theorem dX0_rings_15 : decode cX0_rings 15 = .ok (.istore_n 3, 1) := dk_62 (dk_at dksX0_rings_0 15 rfl rfl)
theorem dX0_rings_16 : decode cX0_rings 16 = .ok (.iload_n 3, 1) := dk_29 (dk_at dksX0_rings_0 16 rfl rfl)
theorem dX0_rings_17 : decode cX0_rings 17 = .ok (.bipush 8, 2) := dk_16 8 (dk_at dksX0_rings_0 17 rfl rfl)
theorem dX0_rings_19 : decode cX0_rings 19 = .ok (.if_icmp .ge 22, 3) := dk_162 0 22 (dk_at dksX0_rings_0 19 rfl rfl)
theorem dX0_rings_22 : decode cX0_rings 22 = .ok (.iload_n 2, 1) := dk_28 (dk_at dksX0_rings_0 22 rfl rfl)
theorem dX0_rings_23 : decode cX0_rings 23 = .ok (.aload_n 0, 1) := dk_42 (dk_at dksX0_rings_0 23 rfl rfl)
theorem dX0_rings_24 : decode cX0_rings 24 = .ok (.iload_n 3, 1) := dk_29 (dk_at dksX0_rings_1 0 rfl rfl)
theorem dX0_rings_25 : decode cX0_rings 25 = .ok (.iload_n 3, 1) := dk_29 (dk_at dksX0_rings_1 1 rfl rfl)
theorem dX0_rings_26 : decode cX0_rings 26 = .ok (.iconst 0, 1) := dk_3 (dk_at dksX0_rings_1 2 rfl rfl)
theorem dX0_rings_27 : decode cX0_rings 27 = .ok (.iload_n 1, 1) := dk_27 (dk_at dksX0_rings_1 3 rfl rfl)
theorem dX0_rings_28 : decode cX0_rings 28 = .ok (.iconst 1, 1) := dk_4 (dk_at dksX0_rings_1 4 rfl rfl)
theorem dX0_rings_29 : decode cX0_rings 29 = .ok (.isub, 1) := dk_100 (dk_at dksX0_rings_1 5 rfl rfl)
theorem dX0_rings_30 : decode cX0_rings 30 = .ok (.invokevirtual 302, 3) := dk_182 1 46 (dk_at dksX0_rings_1 6 rfl rfl)
theorem dX0_rings_33 : decode cX0_rings 33 = .ok (.iadd, 1) := dk_96 (dk_at dksX0_rings_1 9 rfl rfl)
theorem dX0_rings_34 : decode cX0_rings 34 = .ok (.istore_n 2, 1) := dk_61 (dk_at dksX0_rings_1 10 rfl rfl)
theorem dX0_rings_35 : decode cX0_rings 35 = .ok (.iinc 3 1, 3) := dk_132 3 1 (dk_at dksX0_rings_1 11 rfl rfl)
theorem dX0_rings_38 : decode cX0_rings 38 = .ok (.goto (-22), 3) := dk_167 255 234 (dk_at dksX0_rings_1 14 rfl rfl)
theorem dX0_rings_41 : decode cX0_rings 41 = .ok (.iload_n 2, 1) := dk_28 (dk_at dksX0_rings_1 17 rfl rfl)
theorem dX0_rings_42 : decode cX0_rings 42 = .ok (.ireturn, 1) := dk_172 (dk_at dksX0_rings_1 18 rfl rfl)
abbrev cX0_ringsFrom : ByteArray := prog_1_method_55_code
def yX0_ringsFrom : MethodName := ⟨RX0, "ringsFrom", "(IIII)I"⟩
def dkwX0_ringsFrom_3 : List UInt8 := [120, 128, 21, 4, 4, 100, 182, 1, 46, 96, 54, 5, 132, 6, 1, 167, 255, 201, 21, 5, 172]
abbrev dktX0_ringsFrom_3 : List UInt8 := dkwX0_ringsFrom_3 ++ []
def dkwX0_ringsFrom_2 : List UInt8 := [42, 180, 0, 29, 28, 21, 6, 184, 0, 181, 46, 158, 0, 25, 21, 5, 42, 27, 21, 6, 29, 4, 21, 6]
abbrev dktX0_ringsFrom_2 : List UInt8 := dkwX0_ringsFrom_2 ++ dktX0_ringsFrom_3
def dkwX0_ringsFrom_1 : List UInt8 := [3, 54, 5, 27, 4, 96, 54, 6, 21, 6, 16, 8, 162, 0, 54, 29, 21, 6, 122, 4, 126, 154, 0, 39]
abbrev dktX0_ringsFrom_1 : List UInt8 := dkwX0_ringsFrom_1 ++ dktX0_ringsFrom_2
def dkwX0_ringsFrom_0 : List UInt8 := [21, 4, 154, 0, 22, 42, 180, 0, 29, 28, 27, 184, 0, 181, 46, 158, 0, 7, 4, 167, 0, 4, 3, 172]
abbrev dktX0_ringsFrom_0 : List UInt8 := dkwX0_ringsFrom_0 ++ dktX0_ringsFrom_1
theorem dksX0_ringsFrom_0 : cX0_ringsFrom.data.toList.drop 0 = dktX0_ringsFrom_0 := by decide +kernel
theorem dksX0_ringsFrom_1 : cX0_ringsFrom.data.toList.drop 24 = dktX0_ringsFrom_1 := dk_seg dksX0_ringsFrom_0 24 rfl rfl
theorem dksX0_ringsFrom_2 : cX0_ringsFrom.data.toList.drop 48 = dktX0_ringsFrom_2 := dk_seg dksX0_ringsFrom_1 24 rfl rfl
theorem dksX0_ringsFrom_3 : cX0_ringsFrom.data.toList.drop 72 = dktX0_ringsFrom_3 := dk_seg dksX0_ringsFrom_2 24 rfl rfl
theorem dX0_ringsFrom_0 : decode cX0_ringsFrom 0 = .ok (.iload 4, 2) := dk_21 4 (dk_at dksX0_ringsFrom_0 0 rfl rfl)
theorem dX0_ringsFrom_2 : decode cX0_ringsFrom 2 = .ok (.ifCond .ne 22, 3) := dk_154 0 22 (dk_at dksX0_ringsFrom_0 2 rfl rfl)
theorem dX0_ringsFrom_5 : decode cX0_ringsFrom 5 = .ok (.aload_n 0, 1) := dk_42 (dk_at dksX0_ringsFrom_0 5 rfl rfl)
theorem dX0_ringsFrom_6 : decode cX0_ringsFrom 6 = .ok (.getfield 29, 3) := dk_180 0 29 (dk_at dksX0_ringsFrom_0 6 rfl rfl)
theorem dX0_ringsFrom_9 : decode cX0_ringsFrom 9 = .ok (.iload_n 2, 1) := dk_28 (dk_at dksX0_ringsFrom_0 9 rfl rfl)
theorem dX0_ringsFrom_10 : decode cX0_ringsFrom 10 = .ok (.iload_n 1, 1) := dk_27 (dk_at dksX0_ringsFrom_0 10 rfl rfl)
theorem dX0_ringsFrom_11 : decode cX0_ringsFrom 11 = .ok (.invokestatic 181, 3) := dk_184 0 181 (dk_at dksX0_ringsFrom_0 11 rfl rfl)
theorem dX0_ringsFrom_14 : decode cX0_ringsFrom 14 = .ok (.iaload, 1) := dk_46 (dk_at dksX0_ringsFrom_0 14 rfl rfl)
theorem dX0_ringsFrom_15 : decode cX0_ringsFrom 15 = .ok (.ifCond .le 7, 3) := dk_158 0 7 (dk_at dksX0_ringsFrom_0 15 rfl rfl)
theorem dX0_ringsFrom_18 : decode cX0_ringsFrom 18 = .ok (.iconst 1, 1) := dk_4 (dk_at dksX0_ringsFrom_0 18 rfl rfl)
theorem dX0_ringsFrom_19 : decode cX0_ringsFrom 19 = .ok (.goto 4, 3) := dk_167 0 4 (dk_at dksX0_ringsFrom_0 19 rfl rfl)
theorem dX0_ringsFrom_22 : decode cX0_ringsFrom 22 = .ok (.iconst 0, 1) := dk_3 (dk_at dksX0_ringsFrom_0 22 rfl rfl)
theorem dX0_ringsFrom_23 : decode cX0_ringsFrom 23 = .ok (.ireturn, 1) := dk_172 (dk_at dksX0_ringsFrom_0 23 rfl rfl)
theorem dX0_ringsFrom_24 : decode cX0_ringsFrom 24 = .ok (.iconst 0, 1) := dk_3 (dk_at dksX0_ringsFrom_1 0 rfl rfl)
theorem dX0_ringsFrom_25 : decode cX0_ringsFrom 25 = .ok (.istore 5, 2) := dk_54 5 (dk_at dksX0_ringsFrom_1 1 rfl rfl)
theorem dX0_ringsFrom_27 : decode cX0_ringsFrom 27 = .ok (.iload_n 1, 1) := dk_27 (dk_at dksX0_ringsFrom_1 3 rfl rfl)
theorem dX0_ringsFrom_28 : decode cX0_ringsFrom 28 = .ok (.iconst 1, 1) := dk_4 (dk_at dksX0_ringsFrom_1 4 rfl rfl)
theorem dX0_ringsFrom_29 : decode cX0_ringsFrom 29 = .ok (.iadd, 1) := dk_96 (dk_at dksX0_ringsFrom_1 5 rfl rfl)
theorem dX0_ringsFrom_30 : decode cX0_ringsFrom 30 = .ok (.istore 6, 2) := dk_54 6 (dk_at dksX0_ringsFrom_1 6 rfl rfl)
theorem dX0_ringsFrom_32 : decode cX0_ringsFrom 32 = .ok (.iload 6, 2) := dk_21 6 (dk_at dksX0_ringsFrom_1 8 rfl rfl)
theorem dX0_ringsFrom_34 : decode cX0_ringsFrom 34 = .ok (.bipush 8, 2) := dk_16 8 (dk_at dksX0_ringsFrom_1 10 rfl rfl)
theorem dX0_ringsFrom_36 : decode cX0_ringsFrom 36 = .ok (.if_icmp .ge 54, 3) := dk_162 0 54 (dk_at dksX0_ringsFrom_1 12 rfl rfl)
theorem dX0_ringsFrom_39 : decode cX0_ringsFrom 39 = .ok (.iload_n 3, 1) := dk_29 (dk_at dksX0_ringsFrom_1 15 rfl rfl)
theorem dX0_ringsFrom_40 : decode cX0_ringsFrom 40 = .ok (.iload 6, 2) := dk_21 6 (dk_at dksX0_ringsFrom_1 16 rfl rfl)
theorem dX0_ringsFrom_42 : decode cX0_ringsFrom 42 = .ok (.ishr, 1) := dk_122 (dk_at dksX0_ringsFrom_1 18 rfl rfl)
theorem dX0_ringsFrom_43 : decode cX0_ringsFrom 43 = .ok (.iconst 1, 1) := dk_4 (dk_at dksX0_ringsFrom_1 19 rfl rfl)
theorem dX0_ringsFrom_44 : decode cX0_ringsFrom 44 = .ok (.iand, 1) := dk_126 (dk_at dksX0_ringsFrom_1 20 rfl rfl)
theorem dX0_ringsFrom_45 : decode cX0_ringsFrom 45 = .ok (.ifCond .ne 39, 3) := dk_154 0 39 (dk_at dksX0_ringsFrom_1 21 rfl rfl)
theorem dX0_ringsFrom_48 : decode cX0_ringsFrom 48 = .ok (.aload_n 0, 1) := dk_42 (dk_at dksX0_ringsFrom_2 0 rfl rfl)
theorem dX0_ringsFrom_49 : decode cX0_ringsFrom 49 = .ok (.getfield 29, 3) := dk_180 0 29 (dk_at dksX0_ringsFrom_2 1 rfl rfl)
theorem dX0_ringsFrom_52 : decode cX0_ringsFrom 52 = .ok (.iload_n 2, 1) := dk_28 (dk_at dksX0_ringsFrom_2 4 rfl rfl)
theorem dX0_ringsFrom_53 : decode cX0_ringsFrom 53 = .ok (.iload 6, 2) := dk_21 6 (dk_at dksX0_ringsFrom_2 5 rfl rfl)
theorem dX0_ringsFrom_55 : decode cX0_ringsFrom 55 = .ok (.invokestatic 181, 3) := dk_184 0 181 (dk_at dksX0_ringsFrom_2 7 rfl rfl)
theorem dX0_ringsFrom_58 : decode cX0_ringsFrom 58 = .ok (.iaload, 1) := dk_46 (dk_at dksX0_ringsFrom_2 10 rfl rfl)
theorem dX0_ringsFrom_59 : decode cX0_ringsFrom 59 = .ok (.ifCond .le 25, 3) := dk_158 0 25 (dk_at dksX0_ringsFrom_2 11 rfl rfl)
theorem dX0_ringsFrom_62 : decode cX0_ringsFrom 62 = .ok (.iload 5, 2) := dk_21 5 (dk_at dksX0_ringsFrom_2 14 rfl rfl)
theorem dX0_ringsFrom_64 : decode cX0_ringsFrom 64 = .ok (.aload_n 0, 1) := dk_42 (dk_at dksX0_ringsFrom_2 16 rfl rfl)
theorem dX0_ringsFrom_65 : decode cX0_ringsFrom 65 = .ok (.iload_n 1, 1) := dk_27 (dk_at dksX0_ringsFrom_2 17 rfl rfl)
theorem dX0_ringsFrom_66 : decode cX0_ringsFrom 66 = .ok (.iload 6, 2) := dk_21 6 (dk_at dksX0_ringsFrom_2 18 rfl rfl)
theorem dX0_ringsFrom_68 : decode cX0_ringsFrom 68 = .ok (.iload_n 3, 1) := dk_29 (dk_at dksX0_ringsFrom_2 20 rfl rfl)
theorem dX0_ringsFrom_69 : decode cX0_ringsFrom 69 = .ok (.iconst 1, 1) := dk_4 (dk_at dksX0_ringsFrom_2 21 rfl rfl)
theorem dX0_ringsFrom_70 : decode cX0_ringsFrom 70 = .ok (.iload 6, 2) := dk_21 6 (dk_at dksX0_ringsFrom_2 22 rfl rfl)
theorem dX0_ringsFrom_72 : decode cX0_ringsFrom 72 = .ok (.ishl, 1) := dk_120 (dk_at dksX0_ringsFrom_3 0 rfl rfl)
theorem dX0_ringsFrom_73 : decode cX0_ringsFrom 73 = .ok (.ior, 1) := dk_128 (dk_at dksX0_ringsFrom_3 1 rfl rfl)
theorem dX0_ringsFrom_74 : decode cX0_ringsFrom 74 = .ok (.iload 4, 2) := dk_21 4 (dk_at dksX0_ringsFrom_3 2 rfl rfl)
theorem dX0_ringsFrom_76 : decode cX0_ringsFrom 76 = .ok (.iconst 1, 1) := dk_4 (dk_at dksX0_ringsFrom_3 4 rfl rfl)
theorem dX0_ringsFrom_77 : decode cX0_ringsFrom 77 = .ok (.isub, 1) := dk_100 (dk_at dksX0_ringsFrom_3 5 rfl rfl)
theorem dX0_ringsFrom_78 : decode cX0_ringsFrom 78 = .ok (.invokevirtual 302, 3) := dk_182 1 46 (dk_at dksX0_ringsFrom_3 6 rfl rfl)
theorem dX0_ringsFrom_81 : decode cX0_ringsFrom 81 = .ok (.iadd, 1) := dk_96 (dk_at dksX0_ringsFrom_3 9 rfl rfl)
theorem dX0_ringsFrom_82 : decode cX0_ringsFrom 82 = .ok (.istore 5, 2) := dk_54 5 (dk_at dksX0_ringsFrom_3 10 rfl rfl)
theorem dX0_ringsFrom_84 : decode cX0_ringsFrom 84 = .ok (.iinc 6 1, 3) := dk_132 6 1 (dk_at dksX0_ringsFrom_3 12 rfl rfl)
theorem dX0_ringsFrom_87 : decode cX0_ringsFrom 87 = .ok (.goto (-55), 3) := dk_167 255 201 (dk_at dksX0_ringsFrom_3 15 rfl rfl)
theorem dX0_ringsFrom_90 : decode cX0_ringsFrom 90 = .ok (.iload 5, 2) := dk_21 5 (dk_at dksX0_ringsFrom_3 18 rfl rfl)
theorem dX0_ringsFrom_92 : decode cX0_ringsFrom 92 = .ok (.ireturn, 1) := dk_172 (dk_at dksX0_ringsFrom_3 20 rfl rfl)
abbrev cX0_span : ByteArray := prog_1_method_58_code
def yX0_span : MethodName := ⟨RX0, "span", "(IIII)I"⟩
def dkwX0_span_3 : List UInt8 := [4, 172]
abbrev dktX0_span_3 : List UInt8 := dkwX0_span_3 ++ []
def dkwX0_span_2 : List UInt8 := [172, 42, 180, 0, 32, 27, 28, 184, 0, 181, 29, 79, 42, 180, 0, 35, 27, 28, 184, 0, 181, 21, 4, 79]
abbrev dktX0_span_2 : List UInt8 := dkwX0_span_2 ++ dktX0_span_3
def dkwX0_span_1 : List UInt8 := [18, 125, 184, 0, 76, 154, 0, 5, 2, 172, 42, 27, 28, 182, 1, 50, 154, 0, 9, 42, 4, 182, 0, 86]
abbrev dktX0_span_1 : List UInt8 := dkwX0_span_1 ++ dktX0_span_2
def dkwX0_span_0 : List UInt8 := [27, 184, 0, 192, 153, 0, 28, 28, 184, 0, 192, 153, 0, 21, 29, 184, 0, 197, 153, 0, 14, 21, 4, 29]
abbrev dktX0_span_0 : List UInt8 := dkwX0_span_0 ++ dktX0_span_1
theorem dksX0_span_0 : cX0_span.data.toList.drop 0 = dktX0_span_0 := by decide +kernel
theorem dksX0_span_1 : cX0_span.data.toList.drop 24 = dktX0_span_1 := dk_seg dksX0_span_0 24 rfl rfl
theorem dksX0_span_2 : cX0_span.data.toList.drop 48 = dktX0_span_2 := dk_seg dksX0_span_1 24 rfl rfl
theorem dksX0_span_3 : cX0_span.data.toList.drop 72 = dktX0_span_3 := dk_seg dksX0_span_2 24 rfl rfl
theorem dX0_span_0 : decode cX0_span 0 = .ok (.iload_n 1, 1) := dk_27 (dk_at dksX0_span_0 0 rfl rfl)
theorem dX0_span_1 : decode cX0_span 1 = .ok (.invokestatic 192, 3) := dk_184 0 192 (dk_at dksX0_span_0 1 rfl rfl)
theorem dX0_span_4 : decode cX0_span 4 = .ok (.ifCond .eq 28, 3) := dk_153 0 28 (dk_at dksX0_span_0 4 rfl rfl)
theorem dX0_span_7 : decode cX0_span 7 = .ok (.iload_n 2, 1) := dk_28 (dk_at dksX0_span_0 7 rfl rfl)
theorem dX0_span_8 : decode cX0_span 8 = .ok (.invokestatic 192, 3) := dk_184 0 192 (dk_at dksX0_span_0 8 rfl rfl)
theorem dX0_span_11 : decode cX0_span 11 = .ok (.ifCond .eq 21, 3) := dk_153 0 21 (dk_at dksX0_span_0 11 rfl rfl)
theorem dX0_span_14 : decode cX0_span 14 = .ok (.iload_n 3, 1) := dk_29 (dk_at dksX0_span_0 14 rfl rfl)
theorem dX0_span_15 : decode cX0_span 15 = .ok (.invokestatic 197, 3) := dk_184 0 197 (dk_at dksX0_span_0 15 rfl rfl)
theorem dX0_span_18 : decode cX0_span 18 = .ok (.ifCond .eq 14, 3) := dk_153 0 14 (dk_at dksX0_span_0 18 rfl rfl)
theorem dX0_span_21 : decode cX0_span 21 = .ok (.iload 4, 2) := dk_21 4 (dk_at dksX0_span_0 21 rfl rfl)
theorem dX0_span_23 : decode cX0_span 23 = .ok (.iload_n 3, 1) := dk_29 (dk_at dksX0_span_0 23 rfl rfl)
theorem dX0_span_24 : decode cX0_span 24 = .ok (.ldc 125, 2) := dk_18 125 (dk_at dksX0_span_1 0 rfl rfl)
theorem dX0_span_26 : decode cX0_span 26 = .ok (.invokestatic 76, 3) := dk_184 0 76 (dk_at dksX0_span_1 2 rfl rfl)
theorem dX0_span_29 : decode cX0_span 29 = .ok (.ifCond .ne 5, 3) := dk_154 0 5 (dk_at dksX0_span_1 5 rfl rfl)
theorem dX0_span_32 : decode cX0_span 32 = .ok (.iconst (-1), 1) := dk_2 (dk_at dksX0_span_1 8 rfl rfl)
theorem dX0_span_33 : decode cX0_span 33 = .ok (.ireturn, 1) := dk_172 (dk_at dksX0_span_1 9 rfl rfl)
theorem dX0_span_34 : decode cX0_span 34 = .ok (.aload_n 0, 1) := dk_42 (dk_at dksX0_span_1 10 rfl rfl)
theorem dX0_span_35 : decode cX0_span 35 = .ok (.iload_n 1, 1) := dk_27 (dk_at dksX0_span_1 11 rfl rfl)
theorem dX0_span_36 : decode cX0_span 36 = .ok (.iload_n 2, 1) := dk_28 (dk_at dksX0_span_1 12 rfl rfl)
theorem dX0_span_37 : decode cX0_span 37 = .ok (.invokevirtual 306, 3) := dk_182 1 50 (dk_at dksX0_span_1 13 rfl rfl)
theorem dX0_span_40 : decode cX0_span 40 = .ok (.ifCond .ne 9, 3) := dk_154 0 9 (dk_at dksX0_span_1 16 rfl rfl)
theorem dX0_span_43 : decode cX0_span 43 = .ok (.aload_n 0, 1) := dk_42 (dk_at dksX0_span_1 19 rfl rfl)
theorem dX0_span_44 : decode cX0_span 44 = .ok (.iconst 1, 1) := dk_4 (dk_at dksX0_span_1 20 rfl rfl)
theorem dX0_span_45 : decode cX0_span 45 = .ok (.invokevirtual 86, 3) := dk_182 0 86 (dk_at dksX0_span_1 21 rfl rfl)
theorem dX0_span_48 : decode cX0_span 48 = .ok (.ireturn, 1) := dk_172 (dk_at dksX0_span_2 0 rfl rfl)
theorem dX0_span_49 : decode cX0_span 49 = .ok (.aload_n 0, 1) := dk_42 (dk_at dksX0_span_2 1 rfl rfl)
theorem dX0_span_50 : decode cX0_span 50 = .ok (.getfield 32, 3) := dk_180 0 32 (dk_at dksX0_span_2 2 rfl rfl)
theorem dX0_span_53 : decode cX0_span 53 = .ok (.iload_n 1, 1) := dk_27 (dk_at dksX0_span_2 5 rfl rfl)
theorem dX0_span_54 : decode cX0_span 54 = .ok (.iload_n 2, 1) := dk_28 (dk_at dksX0_span_2 6 rfl rfl)
theorem dX0_span_55 : decode cX0_span 55 = .ok (.invokestatic 181, 3) := dk_184 0 181 (dk_at dksX0_span_2 7 rfl rfl)
theorem dX0_span_58 : decode cX0_span 58 = .ok (.iload_n 3, 1) := dk_29 (dk_at dksX0_span_2 10 rfl rfl)
theorem dX0_span_59 : decode cX0_span 59 = .ok (.iastore, 1) := dk_79 (dk_at dksX0_span_2 11 rfl rfl)
theorem dX0_span_60 : decode cX0_span 60 = .ok (.aload_n 0, 1) := dk_42 (dk_at dksX0_span_2 12 rfl rfl)
theorem dX0_span_61 : decode cX0_span 61 = .ok (.getfield 35, 3) := dk_180 0 35 (dk_at dksX0_span_2 13 rfl rfl)
theorem dX0_span_64 : decode cX0_span 64 = .ok (.iload_n 1, 1) := dk_27 (dk_at dksX0_span_2 16 rfl rfl)
theorem dX0_span_65 : decode cX0_span 65 = .ok (.iload_n 2, 1) := dk_28 (dk_at dksX0_span_2 17 rfl rfl)
theorem dX0_span_66 : decode cX0_span 66 = .ok (.invokestatic 181, 3) := dk_184 0 181 (dk_at dksX0_span_2 18 rfl rfl)
theorem dX0_span_69 : decode cX0_span 69 = .ok (.iload 4, 2) := dk_21 4 (dk_at dksX0_span_2 21 rfl rfl)
theorem dX0_span_71 : decode cX0_span 71 = .ok (.iastore, 1) := dk_79 (dk_at dksX0_span_2 23 rfl rfl)
theorem dX0_span_72 : decode cX0_span 72 = .ok (.iconst 1, 1) := dk_4 (dk_at dksX0_span_3 0 rfl rfl)
theorem dX0_span_73 : decode cX0_span 73 = .ok (.ireturn, 1) := dk_172 (dk_at dksX0_span_3 1 rfl rfl)
abbrev cX0_isLink : ByteArray := prog_1_method_57_code
def yX0_isLink : MethodName := ⟨RX0, "isLink", "(II)Z"⟩
def dkwX0_isLink_1 : List UInt8 := [184, 0, 181, 46, 158, 0, 7, 4, 167, 0, 4, 3, 172]
abbrev dktX0_isLink_1 : List UInt8 := dkwX0_isLink_1 ++ []
def dkwX0_isLink_0 : List UInt8 := [42, 180, 0, 25, 27, 50, 198, 0, 29, 42, 180, 0, 25, 28, 50, 198, 0, 20, 42, 180, 0, 29, 27, 28]
abbrev dktX0_isLink_0 : List UInt8 := dkwX0_isLink_0 ++ dktX0_isLink_1
theorem dksX0_isLink_0 : cX0_isLink.data.toList.drop 0 = dktX0_isLink_0 := by decide +kernel
theorem dksX0_isLink_1 : cX0_isLink.data.toList.drop 24 = dktX0_isLink_1 := dk_seg dksX0_isLink_0 24 rfl rfl
theorem dX0_isLink_0 : decode cX0_isLink 0 = .ok (.aload_n 0, 1) := dk_42 (dk_at dksX0_isLink_0 0 rfl rfl)
theorem dX0_isLink_1 : decode cX0_isLink 1 = .ok (.getfield 25, 3) := dk_180 0 25 (dk_at dksX0_isLink_0 1 rfl rfl)
theorem dX0_isLink_4 : decode cX0_isLink 4 = .ok (.iload_n 1, 1) := dk_27 (dk_at dksX0_isLink_0 4 rfl rfl)
theorem dX0_isLink_5 : decode cX0_isLink 5 = .ok (.aaload, 1) := dk_50 (dk_at dksX0_isLink_0 5 rfl rfl)
theorem dX0_isLink_6 : decode cX0_isLink 6 = .ok (.ifnull 29, 3) := dk_198 0 29 (dk_at dksX0_isLink_0 6 rfl rfl)
theorem dX0_isLink_9 : decode cX0_isLink 9 = .ok (.aload_n 0, 1) := dk_42 (dk_at dksX0_isLink_0 9 rfl rfl)
theorem dX0_isLink_10 : decode cX0_isLink 10 = .ok (.getfield 25, 3) := dk_180 0 25 (dk_at dksX0_isLink_0 10 rfl rfl)
theorem dX0_isLink_13 : decode cX0_isLink 13 = .ok (.iload_n 2, 1) := dk_28 (dk_at dksX0_isLink_0 13 rfl rfl)
theorem dX0_isLink_14 : decode cX0_isLink 14 = .ok (.aaload, 1) := dk_50 (dk_at dksX0_isLink_0 14 rfl rfl)
theorem dX0_isLink_15 : decode cX0_isLink 15 = .ok (.ifnull 20, 3) := dk_198 0 20 (dk_at dksX0_isLink_0 15 rfl rfl)
theorem dX0_isLink_18 : decode cX0_isLink 18 = .ok (.aload_n 0, 1) := dk_42 (dk_at dksX0_isLink_0 18 rfl rfl)
theorem dX0_isLink_19 : decode cX0_isLink 19 = .ok (.getfield 29, 3) := dk_180 0 29 (dk_at dksX0_isLink_0 19 rfl rfl)
theorem dX0_isLink_22 : decode cX0_isLink 22 = .ok (.iload_n 1, 1) := dk_27 (dk_at dksX0_isLink_0 22 rfl rfl)
theorem dX0_isLink_23 : decode cX0_isLink 23 = .ok (.iload_n 2, 1) := dk_28 (dk_at dksX0_isLink_0 23 rfl rfl)
theorem dX0_isLink_24 : decode cX0_isLink 24 = .ok (.invokestatic 181, 3) := dk_184 0 181 (dk_at dksX0_isLink_1 0 rfl rfl)
theorem dX0_isLink_27 : decode cX0_isLink 27 = .ok (.iaload, 1) := dk_46 (dk_at dksX0_isLink_1 3 rfl rfl)
theorem dX0_isLink_28 : decode cX0_isLink 28 = .ok (.ifCond .le 7, 3) := dk_158 0 7 (dk_at dksX0_isLink_1 4 rfl rfl)
theorem dX0_isLink_31 : decode cX0_isLink 31 = .ok (.iconst 1, 1) := dk_4 (dk_at dksX0_isLink_1 7 rfl rfl)
theorem dX0_isLink_32 : decode cX0_isLink 32 = .ok (.goto 4, 3) := dk_167 0 4 (dk_at dksX0_isLink_1 8 rfl rfl)
theorem dX0_isLink_35 : decode cX0_isLink 35 = .ok (.iconst 0, 1) := dk_3 (dk_at dksX0_isLink_1 11 rfl rfl)
theorem dX0_isLink_36 : decode cX0_isLink 36 = .ok (.ireturn, 1) := dk_172 (dk_at dksX0_isLink_1 12 rfl rfl)
abbrev cX0_door : ByteArray := prog_1_method_59_code
def yX0_door : MethodName := ⟨RX0, "door", "(IZII)I"⟩
def dkwX0_door_3 : List UInt8 := [153, 0, 7, 6, 167, 0, 4, 4, 96, 21, 4, 79, 4, 172]
abbrev dktX0_door_3 : List UInt8 := dkwX0_door_3 ++ []
def dkwX0_door_2 : List UInt8 := [7, 27, 104, 28, 153, 0, 7, 5, 167, 0, 4, 3, 96, 29, 79, 42, 180, 0, 41, 7, 27, 104, 28]
abbrev dktX0_door_2 : List UInt8 := dkwX0_door_2 ++ dktX0_door_3
def dkwX0_door_1 : List UInt8 := [154, 0, 5, 2, 172, 42, 180, 0, 25, 27, 50, 199, 0, 9, 42, 4, 182, 0, 86, 172, 42, 180, 0, 41]
abbrev dktX0_door_1 : List UInt8 := dkwX0_door_1 ++ dktX0_door_2
def dkwX0_door_0 : List UInt8 := [27, 184, 0, 192, 153, 0, 21, 29, 184, 0, 197, 153, 0, 14, 21, 4, 29, 18, 125, 184, 0, 76]
abbrev dktX0_door_0 : List UInt8 := dkwX0_door_0 ++ dktX0_door_1
theorem dksX0_door_0 : cX0_door.data.toList.drop 0 = dktX0_door_0 := by decide +kernel
theorem dksX0_door_1 : cX0_door.data.toList.drop 22 = dktX0_door_1 := dk_seg dksX0_door_0 22 rfl rfl
theorem dksX0_door_2 : cX0_door.data.toList.drop 46 = dktX0_door_2 := dk_seg dksX0_door_1 24 rfl rfl
theorem dksX0_door_3 : cX0_door.data.toList.drop 69 = dktX0_door_3 := dk_seg dksX0_door_2 23 rfl rfl
theorem dX0_door_0 : decode cX0_door 0 = .ok (.iload_n 1, 1) := dk_27 (dk_at dksX0_door_0 0 rfl rfl)
theorem dX0_door_1 : decode cX0_door 1 = .ok (.invokestatic 192, 3) := dk_184 0 192 (dk_at dksX0_door_0 1 rfl rfl)
theorem dX0_door_4 : decode cX0_door 4 = .ok (.ifCond .eq 21, 3) := dk_153 0 21 (dk_at dksX0_door_0 4 rfl rfl)
theorem dX0_door_7 : decode cX0_door 7 = .ok (.iload_n 3, 1) := dk_29 (dk_at dksX0_door_0 7 rfl rfl)
theorem dX0_door_8 : decode cX0_door 8 = .ok (.invokestatic 197, 3) := dk_184 0 197 (dk_at dksX0_door_0 8 rfl rfl)
theorem dX0_door_11 : decode cX0_door 11 = .ok (.ifCond .eq 14, 3) := dk_153 0 14 (dk_at dksX0_door_0 11 rfl rfl)
theorem dX0_door_14 : decode cX0_door 14 = .ok (.iload 4, 2) := dk_21 4 (dk_at dksX0_door_0 14 rfl rfl)
theorem dX0_door_16 : decode cX0_door 16 = .ok (.iload_n 3, 1) := dk_29 (dk_at dksX0_door_0 16 rfl rfl)
theorem dX0_door_17 : decode cX0_door 17 = .ok (.ldc 125, 2) := dk_18 125 (dk_at dksX0_door_0 17 rfl rfl)
theorem dX0_door_19 : decode cX0_door 19 = .ok (.invokestatic 76, 3) := dk_184 0 76 (dk_at dksX0_door_0 19 rfl rfl)
theorem dX0_door_22 : decode cX0_door 22 = .ok (.ifCond .ne 5, 3) := dk_154 0 5 (dk_at dksX0_door_1 0 rfl rfl)
theorem dX0_door_25 : decode cX0_door 25 = .ok (.iconst (-1), 1) := dk_2 (dk_at dksX0_door_1 3 rfl rfl)
theorem dX0_door_26 : decode cX0_door 26 = .ok (.ireturn, 1) := dk_172 (dk_at dksX0_door_1 4 rfl rfl)
theorem dX0_door_27 : decode cX0_door 27 = .ok (.aload_n 0, 1) := dk_42 (dk_at dksX0_door_1 5 rfl rfl)
theorem dX0_door_28 : decode cX0_door 28 = .ok (.getfield 25, 3) := dk_180 0 25 (dk_at dksX0_door_1 6 rfl rfl)
theorem dX0_door_31 : decode cX0_door 31 = .ok (.iload_n 1, 1) := dk_27 (dk_at dksX0_door_1 9 rfl rfl)
theorem dX0_door_32 : decode cX0_door 32 = .ok (.aaload, 1) := dk_50 (dk_at dksX0_door_1 10 rfl rfl)
theorem dX0_door_33 : decode cX0_door 33 = .ok (.ifnonnull 9, 3) := dk_199 0 9 (dk_at dksX0_door_1 11 rfl rfl)
theorem dX0_door_36 : decode cX0_door 36 = .ok (.aload_n 0, 1) := dk_42 (dk_at dksX0_door_1 14 rfl rfl)
theorem dX0_door_37 : decode cX0_door 37 = .ok (.iconst 1, 1) := dk_4 (dk_at dksX0_door_1 15 rfl rfl)
theorem dX0_door_38 : decode cX0_door 38 = .ok (.invokevirtual 86, 3) := dk_182 0 86 (dk_at dksX0_door_1 16 rfl rfl)
theorem dX0_door_41 : decode cX0_door 41 = .ok (.ireturn, 1) := dk_172 (dk_at dksX0_door_1 19 rfl rfl)
theorem dX0_door_42 : decode cX0_door 42 = .ok (.aload_n 0, 1) := dk_42 (dk_at dksX0_door_1 20 rfl rfl)
theorem dX0_door_43 : decode cX0_door 43 = .ok (.getfield 41, 3) := dk_180 0 41 (dk_at dksX0_door_1 21 rfl rfl)
theorem dX0_door_46 : decode cX0_door 46 = .ok (.iconst 4, 1) := dk_7 (dk_at dksX0_door_2 0 rfl rfl)
theorem dX0_door_47 : decode cX0_door 47 = .ok (.iload_n 1, 1) := dk_27 (dk_at dksX0_door_2 1 rfl rfl)
theorem dX0_door_48 : decode cX0_door 48 = .ok (.imul, 1) := dk_104 (dk_at dksX0_door_2 2 rfl rfl)
theorem dX0_door_49 : decode cX0_door 49 = .ok (.iload_n 2, 1) := dk_28 (dk_at dksX0_door_2 3 rfl rfl)
theorem dX0_door_50 : decode cX0_door 50 = .ok (.ifCond .eq 7, 3) := dk_153 0 7 (dk_at dksX0_door_2 4 rfl rfl)
theorem dX0_door_53 : decode cX0_door 53 = .ok (.iconst 2, 1) := dk_5 (dk_at dksX0_door_2 7 rfl rfl)
theorem dX0_door_54 : decode cX0_door 54 = .ok (.goto 4, 3) := dk_167 0 4 (dk_at dksX0_door_2 8 rfl rfl)
theorem dX0_door_57 : decode cX0_door 57 = .ok (.iconst 0, 1) := dk_3 (dk_at dksX0_door_2 11 rfl rfl)
theorem dX0_door_58 : decode cX0_door 58 = .ok (.iadd, 1) := dk_96 (dk_at dksX0_door_2 12 rfl rfl)
theorem dX0_door_59 : decode cX0_door 59 = .ok (.iload_n 3, 1) := dk_29 (dk_at dksX0_door_2 13 rfl rfl)
theorem dX0_door_60 : decode cX0_door 60 = .ok (.iastore, 1) := dk_79 (dk_at dksX0_door_2 14 rfl rfl)
theorem dX0_door_61 : decode cX0_door 61 = .ok (.aload_n 0, 1) := dk_42 (dk_at dksX0_door_2 15 rfl rfl)
theorem dX0_door_62 : decode cX0_door 62 = .ok (.getfield 41, 3) := dk_180 0 41 (dk_at dksX0_door_2 16 rfl rfl)
theorem dX0_door_65 : decode cX0_door 65 = .ok (.iconst 4, 1) := dk_7 (dk_at dksX0_door_2 19 rfl rfl)
theorem dX0_door_66 : decode cX0_door 66 = .ok (.iload_n 1, 1) := dk_27 (dk_at dksX0_door_2 20 rfl rfl)
theorem dX0_door_67 : decode cX0_door 67 = .ok (.imul, 1) := dk_104 (dk_at dksX0_door_2 21 rfl rfl)
theorem dX0_door_68 : decode cX0_door 68 = .ok (.iload_n 2, 1) := dk_28 (dk_at dksX0_door_2 22 rfl rfl)
theorem dX0_door_69 : decode cX0_door 69 = .ok (.ifCond .eq 7, 3) := dk_153 0 7 (dk_at dksX0_door_3 0 rfl rfl)
theorem dX0_door_72 : decode cX0_door 72 = .ok (.iconst 3, 1) := dk_6 (dk_at dksX0_door_3 3 rfl rfl)
theorem dX0_door_73 : decode cX0_door 73 = .ok (.goto 4, 3) := dk_167 0 4 (dk_at dksX0_door_3 4 rfl rfl)
theorem dX0_door_76 : decode cX0_door 76 = .ok (.iconst 1, 1) := dk_4 (dk_at dksX0_door_3 7 rfl rfl)
theorem dX0_door_77 : decode cX0_door 77 = .ok (.iadd, 1) := dk_96 (dk_at dksX0_door_3 8 rfl rfl)
theorem dX0_door_78 : decode cX0_door 78 = .ok (.iload 4, 2) := dk_21 4 (dk_at dksX0_door_3 9 rfl rfl)
theorem dX0_door_80 : decode cX0_door 80 = .ok (.iastore, 1) := dk_79 (dk_at dksX0_door_3 11 rfl rfl)
theorem dX0_door_81 : decode cX0_door 81 = .ok (.iconst 1, 1) := dk_4 (dk_at dksX0_door_3 12 rfl rfl)
theorem dX0_door_82 : decode cX0_door 82 = .ok (.ireturn, 1) := dk_172 (dk_at dksX0_door_3 13 rfl rfl)
abbrev cX0_balanced : ByteArray := prog_1_method_62_code
def yX0_balanced : MethodName := ⟨RX0, "balanced", "()I"⟩
def dkwX0_balanced_0 : List UInt8 := [42, 182, 1, 56, 16, 247, 160, 0, 7, 4, 167, 0, 4, 3, 172]
abbrev dktX0_balanced_0 : List UInt8 := dkwX0_balanced_0 ++ []
theorem dksX0_balanced_0 : cX0_balanced.data.toList.drop 0 = dktX0_balanced_0 := by decide +kernel
theorem dX0_balanced_0 : decode cX0_balanced 0 = .ok (.aload_n 0, 1) := dk_42 (dk_at dksX0_balanced_0 0 rfl rfl)
theorem dX0_balanced_1 : decode cX0_balanced 1 = .ok (.invokevirtual 312, 3) := dk_182 1 56 (dk_at dksX0_balanced_0 1 rfl rfl)
theorem dX0_balanced_4 : decode cX0_balanced 4 = .ok (.bipush (-9), 2) := dk_16 247 (dk_at dksX0_balanced_0 4 rfl rfl)
theorem dX0_balanced_6 : decode cX0_balanced 6 = .ok (.if_icmp .ne 7, 3) := dk_160 0 7 (dk_at dksX0_balanced_0 6 rfl rfl)
theorem dX0_balanced_9 : decode cX0_balanced 9 = .ok (.iconst 1, 1) := dk_4 (dk_at dksX0_balanced_0 9 rfl rfl)
theorem dX0_balanced_10 : decode cX0_balanced 10 = .ok (.goto 4, 3) := dk_167 0 4 (dk_at dksX0_balanced_0 10 rfl rfl)
theorem dX0_balanced_13 : decode cX0_balanced 13 = .ok (.iconst 0, 1) := dk_3 (dk_at dksX0_balanced_0 13 rfl rfl)
theorem dX0_balanced_14 : decode cX0_balanced 14 = .ok (.ireturn, 1) := dk_172 (dk_at dksX0_balanced_0 14 rfl rfl)
abbrev cX0_quarrelling : ByteArray := prog_1_method_61_code
def yX0_quarrelling : MethodName := ⟨RX0, "quarrelling", "()I"⟩
def dkwX0_quarrelling_2 : List UInt8 := [184, 0, 236, 162, 0, 5, 29, 61, 132, 3, 1, 167, 255, 211, 28, 172]
abbrev dktX0_quarrelling_2 : List UInt8 := dkwX0_quarrelling_2 ++ []
def dkwX0_quarrelling_1 : List UInt8 := [154, 0, 30, 42, 29, 182, 1, 53, 153, 0, 22, 28, 16, 247, 159, 0, 14, 29, 184, 0, 236, 28]
abbrev dktX0_quarrelling_1 : List UInt8 := dkwX0_quarrelling_1 ++ dktX0_quarrelling_2
def dkwX0_quarrelling_0 : List UInt8 := [42, 182, 0, 233, 60, 16, 247, 61, 4, 62, 29, 17, 1, 0, 162, 0, 44, 29, 27, 2, 130, 126]
abbrev dktX0_quarrelling_0 : List UInt8 := dkwX0_quarrelling_0 ++ dktX0_quarrelling_1
theorem dksX0_quarrelling_0 : cX0_quarrelling.data.toList.drop 0 = dktX0_quarrelling_0 := by decide +kernel
theorem dksX0_quarrelling_1 : cX0_quarrelling.data.toList.drop 22 = dktX0_quarrelling_1 := dk_seg dksX0_quarrelling_0 22 rfl rfl
theorem dksX0_quarrelling_2 : cX0_quarrelling.data.toList.drop 44 = dktX0_quarrelling_2 := dk_seg dksX0_quarrelling_1 22 rfl rfl
theorem dX0_quarrelling_0 : decode cX0_quarrelling 0 = .ok (.aload_n 0, 1) := dk_42 (dk_at dksX0_quarrelling_0 0 rfl rfl)
theorem dX0_quarrelling_1 : decode cX0_quarrelling 1 = .ok (.invokevirtual 233, 3) := dk_182 0 233 (dk_at dksX0_quarrelling_0 1 rfl rfl)
theorem dX0_quarrelling_4 : decode cX0_quarrelling 4 = .ok (.istore_n 1, 1) := dk_60 (dk_at dksX0_quarrelling_0 4 rfl rfl)
theorem dX0_quarrelling_5 : decode cX0_quarrelling 5 = .ok (.bipush (-9), 2) := dk_16 247 (dk_at dksX0_quarrelling_0 5 rfl rfl)
theorem dX0_quarrelling_7 : decode cX0_quarrelling 7 = .ok (.istore_n 2, 1) := dk_61 (dk_at dksX0_quarrelling_0 7 rfl rfl)
theorem dX0_quarrelling_8 : decode cX0_quarrelling 8 = .ok (.iconst 1, 1) := dk_4 (dk_at dksX0_quarrelling_0 8 rfl rfl)
theorem dX0_quarrelling_9 : decode cX0_quarrelling 9 = .ok (.istore_n 3, 1) := dk_62 (dk_at dksX0_quarrelling_0 9 rfl rfl)
theorem dX0_quarrelling_10 : decode cX0_quarrelling 10 = .ok (.iload_n 3, 1) := dk_29 (dk_at dksX0_quarrelling_0 10 rfl rfl)
theorem dX0_quarrelling_11 : decode cX0_quarrelling 11 = .ok (.sipush 256, 3) := dk_17 1 0 (dk_at dksX0_quarrelling_0 11 rfl rfl)
theorem dX0_quarrelling_14 : decode cX0_quarrelling 14 = .ok (.if_icmp .ge 44, 3) := dk_162 0 44 (dk_at dksX0_quarrelling_0 14 rfl rfl)
theorem dX0_quarrelling_17 : decode cX0_quarrelling 17 = .ok (.iload_n 3, 1) := dk_29 (dk_at dksX0_quarrelling_0 17 rfl rfl)
theorem dX0_quarrelling_18 : decode cX0_quarrelling 18 = .ok (.iload_n 1, 1) := dk_27 (dk_at dksX0_quarrelling_0 18 rfl rfl)
theorem dX0_quarrelling_19 : decode cX0_quarrelling 19 = .ok (.iconst (-1), 1) := dk_2 (dk_at dksX0_quarrelling_0 19 rfl rfl)
theorem dX0_quarrelling_20 : decode cX0_quarrelling 20 = .ok (.ixor, 1) := dk_130 (dk_at dksX0_quarrelling_0 20 rfl rfl)
theorem dX0_quarrelling_21 : decode cX0_quarrelling 21 = .ok (.iand, 1) := dk_126 (dk_at dksX0_quarrelling_0 21 rfl rfl)
theorem dX0_quarrelling_22 : decode cX0_quarrelling 22 = .ok (.ifCond .ne 30, 3) := dk_154 0 30 (dk_at dksX0_quarrelling_1 0 rfl rfl)
theorem dX0_quarrelling_25 : decode cX0_quarrelling 25 = .ok (.aload_n 0, 1) := dk_42 (dk_at dksX0_quarrelling_1 3 rfl rfl)
theorem dX0_quarrelling_26 : decode cX0_quarrelling 26 = .ok (.iload_n 3, 1) := dk_29 (dk_at dksX0_quarrelling_1 4 rfl rfl)
theorem dX0_quarrelling_27 : decode cX0_quarrelling 27 = .ok (.invokevirtual 309, 3) := dk_182 1 53 (dk_at dksX0_quarrelling_1 5 rfl rfl)
theorem dX0_quarrelling_30 : decode cX0_quarrelling 30 = .ok (.ifCond .eq 22, 3) := dk_153 0 22 (dk_at dksX0_quarrelling_1 8 rfl rfl)
theorem dX0_quarrelling_33 : decode cX0_quarrelling 33 = .ok (.iload_n 2, 1) := dk_28 (dk_at dksX0_quarrelling_1 11 rfl rfl)
theorem dX0_quarrelling_34 : decode cX0_quarrelling 34 = .ok (.bipush (-9), 2) := dk_16 247 (dk_at dksX0_quarrelling_1 12 rfl rfl)
theorem dX0_quarrelling_36 : decode cX0_quarrelling 36 = .ok (.if_icmp .eq 14, 3) := dk_159 0 14 (dk_at dksX0_quarrelling_1 14 rfl rfl)
theorem dX0_quarrelling_39 : decode cX0_quarrelling 39 = .ok (.iload_n 3, 1) := dk_29 (dk_at dksX0_quarrelling_1 17 rfl rfl)
theorem dX0_quarrelling_40 : decode cX0_quarrelling 40 = .ok (.invokestatic 236, 3) := dk_184 0 236 (dk_at dksX0_quarrelling_1 18 rfl rfl)
theorem dX0_quarrelling_43 : decode cX0_quarrelling 43 = .ok (.iload_n 2, 1) := dk_28 (dk_at dksX0_quarrelling_1 21 rfl rfl)
theorem dX0_quarrelling_44 : decode cX0_quarrelling 44 = .ok (.invokestatic 236, 3) := dk_184 0 236 (dk_at dksX0_quarrelling_2 0 rfl rfl)
theorem dX0_quarrelling_47 : decode cX0_quarrelling 47 = .ok (.if_icmp .ge 5, 3) := dk_162 0 5 (dk_at dksX0_quarrelling_2 3 rfl rfl)
theorem dX0_quarrelling_50 : decode cX0_quarrelling 50 = .ok (.iload_n 3, 1) := dk_29 (dk_at dksX0_quarrelling_2 6 rfl rfl)
theorem dX0_quarrelling_51 : decode cX0_quarrelling 51 = .ok (.istore_n 2, 1) := dk_61 (dk_at dksX0_quarrelling_2 7 rfl rfl)
theorem dX0_quarrelling_52 : decode cX0_quarrelling 52 = .ok (.iinc 3 1, 3) := dk_132 3 1 (dk_at dksX0_quarrelling_2 8 rfl rfl)
theorem dX0_quarrelling_55 : decode cX0_quarrelling 55 = .ok (.goto (-45), 3) := dk_167 255 211 (dk_at dksX0_quarrelling_2 11 rfl rfl)
theorem dX0_quarrelling_58 : decode cX0_quarrelling 58 = .ok (.iload_n 2, 1) := dk_28 (dk_at dksX0_quarrelling_2 14 rfl rfl)
theorem dX0_quarrelling_59 : decode cX0_quarrelling 59 = .ok (.ireturn, 1) := dk_172 (dk_at dksX0_quarrelling_2 15 rfl rfl)
abbrev cX0_quarrels : ByteArray := prog_1_method_60_code
def yX0_quarrels : MethodName := ⟨RX0, "quarrels", "(I)Z"⟩
def dkwX0_quarrels_12 : List UInt8 := [164, 0, 7, 4, 167, 0, 4, 3, 172]
abbrev dktX0_quarrels_12 : List UInt8 := dkwX0_quarrels_12 ++ []
def dkwX0_quarrels_11 : List UInt8 := [54, 5, 132, 8, 1, 167, 255, 123, 132, 6, 1, 167, 254, 252, 28, 21, 5, 163, 0, 9, 21, 4, 29]
abbrev dktX0_quarrels_11 : List UInt8 := dkwX0_quarrels_11 ++ dktX0_quarrels_12
def dkwX0_quarrels_10 : List UInt8 := [3, 96, 54, 4, 21, 5, 21, 10, 153, 0, 13, 42, 180, 0, 35, 21, 9, 46, 167, 0, 4, 3, 96]
abbrev dktX0_quarrels_10 : List UInt8 := dkwX0_quarrels_10 ++ dktX0_quarrels_11
def dkwX0_quarrels_9 : List UInt8 := [46, 167, 0, 4, 3, 96, 62, 21, 4, 21, 10, 153, 0, 13, 42, 180, 0, 32, 21, 9, 46, 167, 0, 4]
abbrev dktX0_quarrels_9 : List UInt8 := dkwX0_quarrels_9 ++ dktX0_quarrels_10
def dkwX0_quarrels_8 : List UInt8 := [180, 0, 32, 21, 9, 46, 167, 0, 4, 3, 96, 61, 29, 21, 7, 153, 0, 13, 42, 180, 0, 35, 21, 9]
abbrev dktX0_quarrels_8 : List UInt8 := dkwX0_quarrels_8 ++ dktX0_quarrels_9
def dkwX0_quarrels_7 : List UInt8 := [42, 180, 0, 29, 21, 9, 46, 158, 0, 90, 21, 7, 21, 10, 159, 0, 83, 28, 21, 7, 153, 0, 13, 42]
abbrev dktX0_quarrels_7 : List UInt8 := dkwX0_quarrels_7 ++ dktX0_quarrels_8
def dkwX0_quarrels_6 : List UInt8 := [21, 8, 184, 0, 181, 54, 9, 27, 21, 8, 122, 4, 126, 4, 160, 0, 7, 4, 167, 0, 4, 3, 54, 10]
abbrev dktX0_quarrels_6 : List UInt8 := dkwX0_quarrels_6 ++ dktX0_quarrels_7
def dkwX0_quarrels_5 : List UInt8 := [104, 6, 96, 46, 167, 0, 4, 3, 96, 54, 5, 3, 54, 8, 21, 8, 16, 8, 162, 0, 132, 21, 6]
abbrev dktX0_quarrels_5 : List UInt8 := dkwX0_quarrels_5 ++ dktX0_quarrels_6
def dkwX0_quarrels_4 : List UInt8 := [5, 96, 46, 167, 0, 4, 3, 96, 54, 4, 21, 5, 21, 7, 153, 0, 17, 42, 180, 0, 41, 7, 21, 6]
abbrev dktX0_quarrels_4 : List UInt8 := dkwX0_quarrels_4 ++ dktX0_quarrels_5
def dkwX0_quarrels_3 : List UInt8 := [4, 96, 46, 167, 0, 4, 3, 96, 62, 21, 4, 21, 7, 153, 0, 17, 42, 180, 0, 41, 7, 21, 6, 104]
abbrev dktX0_quarrels_3 : List UInt8 := dkwX0_quarrels_3 ++ dktX0_quarrels_4
def dkwX0_quarrels_2 : List UInt8 := [21, 6, 104, 46, 167, 0, 4, 3, 96, 61, 29, 21, 7, 153, 0, 17, 42, 180, 0, 41, 7, 21, 6, 104]
abbrev dktX0_quarrels_2 : List UInt8 := dkwX0_quarrels_2 ++ dktX0_quarrels_3
def dkwX0_quarrels_1 : List UInt8 := [4, 126, 4, 160, 0, 7, 4, 167, 0, 4, 3, 54, 7, 28, 21, 7, 153, 0, 15, 42, 180, 0, 41, 7]
abbrev dktX0_quarrels_1 : List UInt8 := dkwX0_quarrels_1 ++ dktX0_quarrels_2
def dkwX0_quarrels_0 : List UInt8 := [3, 61, 3, 62, 3, 54, 4, 3, 54, 5, 3, 54, 6, 21, 6, 16, 8, 162, 1, 3, 27, 21, 6, 122]
abbrev dktX0_quarrels_0 : List UInt8 := dkwX0_quarrels_0 ++ dktX0_quarrels_1
theorem dksX0_quarrels_0 : cX0_quarrels.data.toList.drop 0 = dktX0_quarrels_0 := by decide +kernel
theorem dksX0_quarrels_1 : cX0_quarrels.data.toList.drop 24 = dktX0_quarrels_1 := dk_seg dksX0_quarrels_0 24 rfl rfl
theorem dksX0_quarrels_2 : cX0_quarrels.data.toList.drop 48 = dktX0_quarrels_2 := dk_seg dksX0_quarrels_1 24 rfl rfl
theorem dksX0_quarrels_3 : cX0_quarrels.data.toList.drop 72 = dktX0_quarrels_3 := dk_seg dksX0_quarrels_2 24 rfl rfl
theorem dksX0_quarrels_4 : cX0_quarrels.data.toList.drop 96 = dktX0_quarrels_4 := dk_seg dksX0_quarrels_3 24 rfl rfl
theorem dksX0_quarrels_5 : cX0_quarrels.data.toList.drop 120 = dktX0_quarrels_5 := dk_seg dksX0_quarrels_4 24 rfl rfl
theorem dksX0_quarrels_6 : cX0_quarrels.data.toList.drop 143 = dktX0_quarrels_6 := dk_seg dksX0_quarrels_5 23 rfl rfl
theorem dksX0_quarrels_7 : cX0_quarrels.data.toList.drop 167 = dktX0_quarrels_7 := dk_seg dksX0_quarrels_6 24 rfl rfl
theorem dksX0_quarrels_8 : cX0_quarrels.data.toList.drop 191 = dktX0_quarrels_8 := dk_seg dksX0_quarrels_7 24 rfl rfl
theorem dksX0_quarrels_9 : cX0_quarrels.data.toList.drop 215 = dktX0_quarrels_9 := dk_seg dksX0_quarrels_8 24 rfl rfl
theorem dksX0_quarrels_10 : cX0_quarrels.data.toList.drop 239 = dktX0_quarrels_10 := dk_seg dksX0_quarrels_9 24 rfl rfl
theorem dksX0_quarrels_11 : cX0_quarrels.data.toList.drop 262 = dktX0_quarrels_11 := dk_seg dksX0_quarrels_10 23 rfl rfl
theorem dksX0_quarrels_12 : cX0_quarrels.data.toList.drop 285 = dktX0_quarrels_12 := dk_seg dksX0_quarrels_11 23 rfl rfl
theorem dX0_quarrels_0 : decode cX0_quarrels 0 = .ok (.iconst 0, 1) := dk_3 (dk_at dksX0_quarrels_0 0 rfl rfl)
theorem dX0_quarrels_1 : decode cX0_quarrels 1 = .ok (.istore_n 2, 1) := dk_61 (dk_at dksX0_quarrels_0 1 rfl rfl)
theorem dX0_quarrels_2 : decode cX0_quarrels 2 = .ok (.iconst 0, 1) := dk_3 (dk_at dksX0_quarrels_0 2 rfl rfl)
theorem dX0_quarrels_3 : decode cX0_quarrels 3 = .ok (.istore_n 3, 1) := dk_62 (dk_at dksX0_quarrels_0 3 rfl rfl)
theorem dX0_quarrels_4 : decode cX0_quarrels 4 = .ok (.iconst 0, 1) := dk_3 (dk_at dksX0_quarrels_0 4 rfl rfl)
theorem dX0_quarrels_5 : decode cX0_quarrels 5 = .ok (.istore 4, 2) := dk_54 4 (dk_at dksX0_quarrels_0 5 rfl rfl)
theorem dX0_quarrels_7 : decode cX0_quarrels 7 = .ok (.iconst 0, 1) := dk_3 (dk_at dksX0_quarrels_0 7 rfl rfl)
theorem dX0_quarrels_8 : decode cX0_quarrels 8 = .ok (.istore 5, 2) := dk_54 5 (dk_at dksX0_quarrels_0 8 rfl rfl)
theorem dX0_quarrels_10 : decode cX0_quarrels 10 = .ok (.iconst 0, 1) := dk_3 (dk_at dksX0_quarrels_0 10 rfl rfl)
theorem dX0_quarrels_11 : decode cX0_quarrels 11 = .ok (.istore 6, 2) := dk_54 6 (dk_at dksX0_quarrels_0 11 rfl rfl)
theorem dX0_quarrels_13 : decode cX0_quarrels 13 = .ok (.iload 6, 2) := dk_21 6 (dk_at dksX0_quarrels_0 13 rfl rfl)
theorem dX0_quarrels_15 : decode cX0_quarrels 15 = .ok (.bipush 8, 2) := dk_16 8 (dk_at dksX0_quarrels_0 15 rfl rfl)
theorem dX0_quarrels_17 : decode cX0_quarrels 17 = .ok (.if_icmp .ge 259, 3) := dk_162 1 3 (dk_at dksX0_quarrels_0 17 rfl rfl)
theorem dX0_quarrels_20 : decode cX0_quarrels 20 = .ok (.iload_n 1, 1) := dk_27 (dk_at dksX0_quarrels_0 20 rfl rfl)
theorem dX0_quarrels_21 : decode cX0_quarrels 21 = .ok (.iload 6, 2) := dk_21 6 (dk_at dksX0_quarrels_0 21 rfl rfl)
theorem dX0_quarrels_23 : decode cX0_quarrels 23 = .ok (.ishr, 1) := dk_122 (dk_at dksX0_quarrels_0 23 rfl rfl)
theorem dX0_quarrels_24 : decode cX0_quarrels 24 = .ok (.iconst 1, 1) := dk_4 (dk_at dksX0_quarrels_1 0 rfl rfl)
theorem dX0_quarrels_25 : decode cX0_quarrels 25 = .ok (.iand, 1) := dk_126 (dk_at dksX0_quarrels_1 1 rfl rfl)
theorem dX0_quarrels_26 : decode cX0_quarrels 26 = .ok (.iconst 1, 1) := dk_4 (dk_at dksX0_quarrels_1 2 rfl rfl)
theorem dX0_quarrels_27 : decode cX0_quarrels 27 = .ok (.if_icmp .ne 7, 3) := dk_160 0 7 (dk_at dksX0_quarrels_1 3 rfl rfl)
theorem dX0_quarrels_30 : decode cX0_quarrels 30 = .ok (.iconst 1, 1) := dk_4 (dk_at dksX0_quarrels_1 6 rfl rfl)
theorem dX0_quarrels_31 : decode cX0_quarrels 31 = .ok (.goto 4, 3) := dk_167 0 4 (dk_at dksX0_quarrels_1 7 rfl rfl)
theorem dX0_quarrels_34 : decode cX0_quarrels 34 = .ok (.iconst 0, 1) := dk_3 (dk_at dksX0_quarrels_1 10 rfl rfl)
theorem dX0_quarrels_35 : decode cX0_quarrels 35 = .ok (.istore 7, 2) := dk_54 7 (dk_at dksX0_quarrels_1 11 rfl rfl)
theorem dX0_quarrels_37 : decode cX0_quarrels 37 = .ok (.iload_n 2, 1) := dk_28 (dk_at dksX0_quarrels_1 13 rfl rfl)
theorem dX0_quarrels_38 : decode cX0_quarrels 38 = .ok (.iload 7, 2) := dk_21 7 (dk_at dksX0_quarrels_1 14 rfl rfl)
theorem dX0_quarrels_40 : decode cX0_quarrels 40 = .ok (.ifCond .eq 15, 3) := dk_153 0 15 (dk_at dksX0_quarrels_1 16 rfl rfl)
theorem dX0_quarrels_43 : decode cX0_quarrels 43 = .ok (.aload_n 0, 1) := dk_42 (dk_at dksX0_quarrels_1 19 rfl rfl)
theorem dX0_quarrels_44 : decode cX0_quarrels 44 = .ok (.getfield 41, 3) := dk_180 0 41 (dk_at dksX0_quarrels_1 20 rfl rfl)
theorem dX0_quarrels_47 : decode cX0_quarrels 47 = .ok (.iconst 4, 1) := dk_7 (dk_at dksX0_quarrels_1 23 rfl rfl)
theorem dX0_quarrels_48 : decode cX0_quarrels 48 = .ok (.iload 6, 2) := dk_21 6 (dk_at dksX0_quarrels_2 0 rfl rfl)
theorem dX0_quarrels_50 : decode cX0_quarrels 50 = .ok (.imul, 1) := dk_104 (dk_at dksX0_quarrels_2 2 rfl rfl)
theorem dX0_quarrels_51 : decode cX0_quarrels 51 = .ok (.iaload, 1) := dk_46 (dk_at dksX0_quarrels_2 3 rfl rfl)
theorem dX0_quarrels_52 : decode cX0_quarrels 52 = .ok (.goto 4, 3) := dk_167 0 4 (dk_at dksX0_quarrels_2 4 rfl rfl)
theorem dX0_quarrels_55 : decode cX0_quarrels 55 = .ok (.iconst 0, 1) := dk_3 (dk_at dksX0_quarrels_2 7 rfl rfl)
theorem dX0_quarrels_56 : decode cX0_quarrels 56 = .ok (.iadd, 1) := dk_96 (dk_at dksX0_quarrels_2 8 rfl rfl)
theorem dX0_quarrels_57 : decode cX0_quarrels 57 = .ok (.istore_n 2, 1) := dk_61 (dk_at dksX0_quarrels_2 9 rfl rfl)
theorem dX0_quarrels_58 : decode cX0_quarrels 58 = .ok (.iload_n 3, 1) := dk_29 (dk_at dksX0_quarrels_2 10 rfl rfl)
theorem dX0_quarrels_59 : decode cX0_quarrels 59 = .ok (.iload 7, 2) := dk_21 7 (dk_at dksX0_quarrels_2 11 rfl rfl)
theorem dX0_quarrels_61 : decode cX0_quarrels 61 = .ok (.ifCond .eq 17, 3) := dk_153 0 17 (dk_at dksX0_quarrels_2 13 rfl rfl)
theorem dX0_quarrels_64 : decode cX0_quarrels 64 = .ok (.aload_n 0, 1) := dk_42 (dk_at dksX0_quarrels_2 16 rfl rfl)
theorem dX0_quarrels_65 : decode cX0_quarrels 65 = .ok (.getfield 41, 3) := dk_180 0 41 (dk_at dksX0_quarrels_2 17 rfl rfl)
theorem dX0_quarrels_68 : decode cX0_quarrels 68 = .ok (.iconst 4, 1) := dk_7 (dk_at dksX0_quarrels_2 20 rfl rfl)
theorem dX0_quarrels_69 : decode cX0_quarrels 69 = .ok (.iload 6, 2) := dk_21 6 (dk_at dksX0_quarrels_2 21 rfl rfl)
theorem dX0_quarrels_71 : decode cX0_quarrels 71 = .ok (.imul, 1) := dk_104 (dk_at dksX0_quarrels_2 23 rfl rfl)
theorem dX0_quarrels_72 : decode cX0_quarrels 72 = .ok (.iconst 1, 1) := dk_4 (dk_at dksX0_quarrels_3 0 rfl rfl)
theorem dX0_quarrels_73 : decode cX0_quarrels 73 = .ok (.iadd, 1) := dk_96 (dk_at dksX0_quarrels_3 1 rfl rfl)
theorem dX0_quarrels_74 : decode cX0_quarrels 74 = .ok (.iaload, 1) := dk_46 (dk_at dksX0_quarrels_3 2 rfl rfl)
theorem dX0_quarrels_75 : decode cX0_quarrels 75 = .ok (.goto 4, 3) := dk_167 0 4 (dk_at dksX0_quarrels_3 3 rfl rfl)
theorem dX0_quarrels_78 : decode cX0_quarrels 78 = .ok (.iconst 0, 1) := dk_3 (dk_at dksX0_quarrels_3 6 rfl rfl)
theorem dX0_quarrels_79 : decode cX0_quarrels 79 = .ok (.iadd, 1) := dk_96 (dk_at dksX0_quarrels_3 7 rfl rfl)
theorem dX0_quarrels_80 : decode cX0_quarrels 80 = .ok (.istore_n 3, 1) := dk_62 (dk_at dksX0_quarrels_3 8 rfl rfl)
theorem dX0_quarrels_81 : decode cX0_quarrels 81 = .ok (.iload 4, 2) := dk_21 4 (dk_at dksX0_quarrels_3 9 rfl rfl)
theorem dX0_quarrels_83 : decode cX0_quarrels 83 = .ok (.iload 7, 2) := dk_21 7 (dk_at dksX0_quarrels_3 11 rfl rfl)
theorem dX0_quarrels_85 : decode cX0_quarrels 85 = .ok (.ifCond .eq 17, 3) := dk_153 0 17 (dk_at dksX0_quarrels_3 13 rfl rfl)
theorem dX0_quarrels_88 : decode cX0_quarrels 88 = .ok (.aload_n 0, 1) := dk_42 (dk_at dksX0_quarrels_3 16 rfl rfl)
theorem dX0_quarrels_89 : decode cX0_quarrels 89 = .ok (.getfield 41, 3) := dk_180 0 41 (dk_at dksX0_quarrels_3 17 rfl rfl)
theorem dX0_quarrels_92 : decode cX0_quarrels 92 = .ok (.iconst 4, 1) := dk_7 (dk_at dksX0_quarrels_3 20 rfl rfl)
theorem dX0_quarrels_93 : decode cX0_quarrels 93 = .ok (.iload 6, 2) := dk_21 6 (dk_at dksX0_quarrels_3 21 rfl rfl)
theorem dX0_quarrels_95 : decode cX0_quarrels 95 = .ok (.imul, 1) := dk_104 (dk_at dksX0_quarrels_3 23 rfl rfl)
theorem dX0_quarrels_96 : decode cX0_quarrels 96 = .ok (.iconst 2, 1) := dk_5 (dk_at dksX0_quarrels_4 0 rfl rfl)
theorem dX0_quarrels_97 : decode cX0_quarrels 97 = .ok (.iadd, 1) := dk_96 (dk_at dksX0_quarrels_4 1 rfl rfl)
theorem dX0_quarrels_98 : decode cX0_quarrels 98 = .ok (.iaload, 1) := dk_46 (dk_at dksX0_quarrels_4 2 rfl rfl)
theorem dX0_quarrels_99 : decode cX0_quarrels 99 = .ok (.goto 4, 3) := dk_167 0 4 (dk_at dksX0_quarrels_4 3 rfl rfl)
theorem dX0_quarrels_102 : decode cX0_quarrels 102 = .ok (.iconst 0, 1) := dk_3 (dk_at dksX0_quarrels_4 6 rfl rfl)
theorem dX0_quarrels_103 : decode cX0_quarrels 103 = .ok (.iadd, 1) := dk_96 (dk_at dksX0_quarrels_4 7 rfl rfl)
theorem dX0_quarrels_104 : decode cX0_quarrels 104 = .ok (.istore 4, 2) := dk_54 4 (dk_at dksX0_quarrels_4 8 rfl rfl)
theorem dX0_quarrels_106 : decode cX0_quarrels 106 = .ok (.iload 5, 2) := dk_21 5 (dk_at dksX0_quarrels_4 10 rfl rfl)
theorem dX0_quarrels_108 : decode cX0_quarrels 108 = .ok (.iload 7, 2) := dk_21 7 (dk_at dksX0_quarrels_4 12 rfl rfl)
theorem dX0_quarrels_110 : decode cX0_quarrels 110 = .ok (.ifCond .eq 17, 3) := dk_153 0 17 (dk_at dksX0_quarrels_4 14 rfl rfl)
theorem dX0_quarrels_113 : decode cX0_quarrels 113 = .ok (.aload_n 0, 1) := dk_42 (dk_at dksX0_quarrels_4 17 rfl rfl)
theorem dX0_quarrels_114 : decode cX0_quarrels 114 = .ok (.getfield 41, 3) := dk_180 0 41 (dk_at dksX0_quarrels_4 18 rfl rfl)
theorem dX0_quarrels_117 : decode cX0_quarrels 117 = .ok (.iconst 4, 1) := dk_7 (dk_at dksX0_quarrels_4 21 rfl rfl)
theorem dX0_quarrels_118 : decode cX0_quarrels 118 = .ok (.iload 6, 2) := dk_21 6 (dk_at dksX0_quarrels_4 22 rfl rfl)
theorem dX0_quarrels_120 : decode cX0_quarrels 120 = .ok (.imul, 1) := dk_104 (dk_at dksX0_quarrels_5 0 rfl rfl)
theorem dX0_quarrels_121 : decode cX0_quarrels 121 = .ok (.iconst 3, 1) := dk_6 (dk_at dksX0_quarrels_5 1 rfl rfl)
theorem dX0_quarrels_122 : decode cX0_quarrels 122 = .ok (.iadd, 1) := dk_96 (dk_at dksX0_quarrels_5 2 rfl rfl)
theorem dX0_quarrels_123 : decode cX0_quarrels 123 = .ok (.iaload, 1) := dk_46 (dk_at dksX0_quarrels_5 3 rfl rfl)
theorem dX0_quarrels_124 : decode cX0_quarrels 124 = .ok (.goto 4, 3) := dk_167 0 4 (dk_at dksX0_quarrels_5 4 rfl rfl)
theorem dX0_quarrels_127 : decode cX0_quarrels 127 = .ok (.iconst 0, 1) := dk_3 (dk_at dksX0_quarrels_5 7 rfl rfl)
theorem dX0_quarrels_128 : decode cX0_quarrels 128 = .ok (.iadd, 1) := dk_96 (dk_at dksX0_quarrels_5 8 rfl rfl)
theorem dX0_quarrels_129 : decode cX0_quarrels 129 = .ok (.istore 5, 2) := dk_54 5 (dk_at dksX0_quarrels_5 9 rfl rfl)
theorem dX0_quarrels_131 : decode cX0_quarrels 131 = .ok (.iconst 0, 1) := dk_3 (dk_at dksX0_quarrels_5 11 rfl rfl)
theorem dX0_quarrels_132 : decode cX0_quarrels 132 = .ok (.istore 8, 2) := dk_54 8 (dk_at dksX0_quarrels_5 12 rfl rfl)
theorem dX0_quarrels_134 : decode cX0_quarrels 134 = .ok (.iload 8, 2) := dk_21 8 (dk_at dksX0_quarrels_5 14 rfl rfl)
theorem dX0_quarrels_136 : decode cX0_quarrels 136 = .ok (.bipush 8, 2) := dk_16 8 (dk_at dksX0_quarrels_5 16 rfl rfl)
theorem dX0_quarrels_138 : decode cX0_quarrels 138 = .ok (.if_icmp .ge 132, 3) := dk_162 0 132 (dk_at dksX0_quarrels_5 18 rfl rfl)
theorem dX0_quarrels_141 : decode cX0_quarrels 141 = .ok (.iload 6, 2) := dk_21 6 (dk_at dksX0_quarrels_5 21 rfl rfl)
theorem dX0_quarrels_143 : decode cX0_quarrels 143 = .ok (.iload 8, 2) := dk_21 8 (dk_at dksX0_quarrels_6 0 rfl rfl)
theorem dX0_quarrels_145 : decode cX0_quarrels 145 = .ok (.invokestatic 181, 3) := dk_184 0 181 (dk_at dksX0_quarrels_6 2 rfl rfl)
theorem dX0_quarrels_148 : decode cX0_quarrels 148 = .ok (.istore 9, 2) := dk_54 9 (dk_at dksX0_quarrels_6 5 rfl rfl)
theorem dX0_quarrels_150 : decode cX0_quarrels 150 = .ok (.iload_n 1, 1) := dk_27 (dk_at dksX0_quarrels_6 7 rfl rfl)
theorem dX0_quarrels_151 : decode cX0_quarrels 151 = .ok (.iload 8, 2) := dk_21 8 (dk_at dksX0_quarrels_6 8 rfl rfl)
theorem dX0_quarrels_153 : decode cX0_quarrels 153 = .ok (.ishr, 1) := dk_122 (dk_at dksX0_quarrels_6 10 rfl rfl)
theorem dX0_quarrels_154 : decode cX0_quarrels 154 = .ok (.iconst 1, 1) := dk_4 (dk_at dksX0_quarrels_6 11 rfl rfl)
theorem dX0_quarrels_155 : decode cX0_quarrels 155 = .ok (.iand, 1) := dk_126 (dk_at dksX0_quarrels_6 12 rfl rfl)
theorem dX0_quarrels_156 : decode cX0_quarrels 156 = .ok (.iconst 1, 1) := dk_4 (dk_at dksX0_quarrels_6 13 rfl rfl)
theorem dX0_quarrels_157 : decode cX0_quarrels 157 = .ok (.if_icmp .ne 7, 3) := dk_160 0 7 (dk_at dksX0_quarrels_6 14 rfl rfl)
theorem dX0_quarrels_160 : decode cX0_quarrels 160 = .ok (.iconst 1, 1) := dk_4 (dk_at dksX0_quarrels_6 17 rfl rfl)
theorem dX0_quarrels_161 : decode cX0_quarrels 161 = .ok (.goto 4, 3) := dk_167 0 4 (dk_at dksX0_quarrels_6 18 rfl rfl)
theorem dX0_quarrels_164 : decode cX0_quarrels 164 = .ok (.iconst 0, 1) := dk_3 (dk_at dksX0_quarrels_6 21 rfl rfl)
theorem dX0_quarrels_165 : decode cX0_quarrels 165 = .ok (.istore 10, 2) := dk_54 10 (dk_at dksX0_quarrels_6 22 rfl rfl)
theorem dX0_quarrels_167 : decode cX0_quarrels 167 = .ok (.aload_n 0, 1) := dk_42 (dk_at dksX0_quarrels_7 0 rfl rfl)
theorem dX0_quarrels_168 : decode cX0_quarrels 168 = .ok (.getfield 29, 3) := dk_180 0 29 (dk_at dksX0_quarrels_7 1 rfl rfl)
theorem dX0_quarrels_171 : decode cX0_quarrels 171 = .ok (.iload 9, 2) := dk_21 9 (dk_at dksX0_quarrels_7 4 rfl rfl)
theorem dX0_quarrels_173 : decode cX0_quarrels 173 = .ok (.iaload, 1) := dk_46 (dk_at dksX0_quarrels_7 6 rfl rfl)
theorem dX0_quarrels_174 : decode cX0_quarrels 174 = .ok (.ifCond .le 90, 3) := dk_158 0 90 (dk_at dksX0_quarrels_7 7 rfl rfl)
theorem dX0_quarrels_177 : decode cX0_quarrels 177 = .ok (.iload 7, 2) := dk_21 7 (dk_at dksX0_quarrels_7 10 rfl rfl)
theorem dX0_quarrels_179 : decode cX0_quarrels 179 = .ok (.iload 10, 2) := dk_21 10 (dk_at dksX0_quarrels_7 12 rfl rfl)
theorem dX0_quarrels_181 : decode cX0_quarrels 181 = .ok (.if_icmp .eq 83, 3) := dk_159 0 83 (dk_at dksX0_quarrels_7 14 rfl rfl)
theorem dX0_quarrels_184 : decode cX0_quarrels 184 = .ok (.iload_n 2, 1) := dk_28 (dk_at dksX0_quarrels_7 17 rfl rfl)
theorem dX0_quarrels_185 : decode cX0_quarrels 185 = .ok (.iload 7, 2) := dk_21 7 (dk_at dksX0_quarrels_7 18 rfl rfl)
theorem dX0_quarrels_187 : decode cX0_quarrels 187 = .ok (.ifCond .eq 13, 3) := dk_153 0 13 (dk_at dksX0_quarrels_7 20 rfl rfl)
theorem dX0_quarrels_190 : decode cX0_quarrels 190 = .ok (.aload_n 0, 1) := dk_42 (dk_at dksX0_quarrels_7 23 rfl rfl)
theorem dX0_quarrels_191 : decode cX0_quarrels 191 = .ok (.getfield 32, 3) := dk_180 0 32 (dk_at dksX0_quarrels_8 0 rfl rfl)
theorem dX0_quarrels_194 : decode cX0_quarrels 194 = .ok (.iload 9, 2) := dk_21 9 (dk_at dksX0_quarrels_8 3 rfl rfl)
theorem dX0_quarrels_196 : decode cX0_quarrels 196 = .ok (.iaload, 1) := dk_46 (dk_at dksX0_quarrels_8 5 rfl rfl)
theorem dX0_quarrels_197 : decode cX0_quarrels 197 = .ok (.goto 4, 3) := dk_167 0 4 (dk_at dksX0_quarrels_8 6 rfl rfl)
theorem dX0_quarrels_200 : decode cX0_quarrels 200 = .ok (.iconst 0, 1) := dk_3 (dk_at dksX0_quarrels_8 9 rfl rfl)
theorem dX0_quarrels_201 : decode cX0_quarrels 201 = .ok (.iadd, 1) := dk_96 (dk_at dksX0_quarrels_8 10 rfl rfl)
theorem dX0_quarrels_202 : decode cX0_quarrels 202 = .ok (.istore_n 2, 1) := dk_61 (dk_at dksX0_quarrels_8 11 rfl rfl)
theorem dX0_quarrels_203 : decode cX0_quarrels 203 = .ok (.iload_n 3, 1) := dk_29 (dk_at dksX0_quarrels_8 12 rfl rfl)
theorem dX0_quarrels_204 : decode cX0_quarrels 204 = .ok (.iload 7, 2) := dk_21 7 (dk_at dksX0_quarrels_8 13 rfl rfl)
theorem dX0_quarrels_206 : decode cX0_quarrels 206 = .ok (.ifCond .eq 13, 3) := dk_153 0 13 (dk_at dksX0_quarrels_8 15 rfl rfl)
theorem dX0_quarrels_209 : decode cX0_quarrels 209 = .ok (.aload_n 0, 1) := dk_42 (dk_at dksX0_quarrels_8 18 rfl rfl)
theorem dX0_quarrels_210 : decode cX0_quarrels 210 = .ok (.getfield 35, 3) := dk_180 0 35 (dk_at dksX0_quarrels_8 19 rfl rfl)
theorem dX0_quarrels_213 : decode cX0_quarrels 213 = .ok (.iload 9, 2) := dk_21 9 (dk_at dksX0_quarrels_8 22 rfl rfl)
theorem dX0_quarrels_215 : decode cX0_quarrels 215 = .ok (.iaload, 1) := dk_46 (dk_at dksX0_quarrels_9 0 rfl rfl)
theorem dX0_quarrels_216 : decode cX0_quarrels 216 = .ok (.goto 4, 3) := dk_167 0 4 (dk_at dksX0_quarrels_9 1 rfl rfl)
theorem dX0_quarrels_219 : decode cX0_quarrels 219 = .ok (.iconst 0, 1) := dk_3 (dk_at dksX0_quarrels_9 4 rfl rfl)
theorem dX0_quarrels_220 : decode cX0_quarrels 220 = .ok (.iadd, 1) := dk_96 (dk_at dksX0_quarrels_9 5 rfl rfl)
theorem dX0_quarrels_221 : decode cX0_quarrels 221 = .ok (.istore_n 3, 1) := dk_62 (dk_at dksX0_quarrels_9 6 rfl rfl)
theorem dX0_quarrels_222 : decode cX0_quarrels 222 = .ok (.iload 4, 2) := dk_21 4 (dk_at dksX0_quarrels_9 7 rfl rfl)
theorem dX0_quarrels_224 : decode cX0_quarrels 224 = .ok (.iload 10, 2) := dk_21 10 (dk_at dksX0_quarrels_9 9 rfl rfl)
theorem dX0_quarrels_226 : decode cX0_quarrels 226 = .ok (.ifCond .eq 13, 3) := dk_153 0 13 (dk_at dksX0_quarrels_9 11 rfl rfl)
theorem dX0_quarrels_229 : decode cX0_quarrels 229 = .ok (.aload_n 0, 1) := dk_42 (dk_at dksX0_quarrels_9 14 rfl rfl)
theorem dX0_quarrels_230 : decode cX0_quarrels 230 = .ok (.getfield 32, 3) := dk_180 0 32 (dk_at dksX0_quarrels_9 15 rfl rfl)
theorem dX0_quarrels_233 : decode cX0_quarrels 233 = .ok (.iload 9, 2) := dk_21 9 (dk_at dksX0_quarrels_9 18 rfl rfl)
theorem dX0_quarrels_235 : decode cX0_quarrels 235 = .ok (.iaload, 1) := dk_46 (dk_at dksX0_quarrels_9 20 rfl rfl)
theorem dX0_quarrels_236 : decode cX0_quarrels 236 = .ok (.goto 4, 3) := dk_167 0 4 (dk_at dksX0_quarrels_9 21 rfl rfl)
theorem dX0_quarrels_239 : decode cX0_quarrels 239 = .ok (.iconst 0, 1) := dk_3 (dk_at dksX0_quarrels_10 0 rfl rfl)
theorem dX0_quarrels_240 : decode cX0_quarrels 240 = .ok (.iadd, 1) := dk_96 (dk_at dksX0_quarrels_10 1 rfl rfl)
theorem dX0_quarrels_241 : decode cX0_quarrels 241 = .ok (.istore 4, 2) := dk_54 4 (dk_at dksX0_quarrels_10 2 rfl rfl)
theorem dX0_quarrels_243 : decode cX0_quarrels 243 = .ok (.iload 5, 2) := dk_21 5 (dk_at dksX0_quarrels_10 4 rfl rfl)
theorem dX0_quarrels_245 : decode cX0_quarrels 245 = .ok (.iload 10, 2) := dk_21 10 (dk_at dksX0_quarrels_10 6 rfl rfl)
theorem dX0_quarrels_247 : decode cX0_quarrels 247 = .ok (.ifCond .eq 13, 3) := dk_153 0 13 (dk_at dksX0_quarrels_10 8 rfl rfl)
theorem dX0_quarrels_250 : decode cX0_quarrels 250 = .ok (.aload_n 0, 1) := dk_42 (dk_at dksX0_quarrels_10 11 rfl rfl)
theorem dX0_quarrels_251 : decode cX0_quarrels 251 = .ok (.getfield 35, 3) := dk_180 0 35 (dk_at dksX0_quarrels_10 12 rfl rfl)
theorem dX0_quarrels_254 : decode cX0_quarrels 254 = .ok (.iload 9, 2) := dk_21 9 (dk_at dksX0_quarrels_10 15 rfl rfl)
theorem dX0_quarrels_256 : decode cX0_quarrels 256 = .ok (.iaload, 1) := dk_46 (dk_at dksX0_quarrels_10 17 rfl rfl)
theorem dX0_quarrels_257 : decode cX0_quarrels 257 = .ok (.goto 4, 3) := dk_167 0 4 (dk_at dksX0_quarrels_10 18 rfl rfl)
theorem dX0_quarrels_260 : decode cX0_quarrels 260 = .ok (.iconst 0, 1) := dk_3 (dk_at dksX0_quarrels_10 21 rfl rfl)
theorem dX0_quarrels_261 : decode cX0_quarrels 261 = .ok (.iadd, 1) := dk_96 (dk_at dksX0_quarrels_10 22 rfl rfl)
theorem dX0_quarrels_262 : decode cX0_quarrels 262 = .ok (.istore 5, 2) := dk_54 5 (dk_at dksX0_quarrels_11 0 rfl rfl)
theorem dX0_quarrels_264 : decode cX0_quarrels 264 = .ok (.iinc 8 1, 3) := dk_132 8 1 (dk_at dksX0_quarrels_11 2 rfl rfl)
theorem dX0_quarrels_267 : decode cX0_quarrels 267 = .ok (.goto (-133), 3) := dk_167 255 123 (dk_at dksX0_quarrels_11 5 rfl rfl)
theorem dX0_quarrels_270 : decode cX0_quarrels 270 = .ok (.iinc 6 1, 3) := dk_132 6 1 (dk_at dksX0_quarrels_11 8 rfl rfl)
theorem dX0_quarrels_273 : decode cX0_quarrels 273 = .ok (.goto (-260), 3) := dk_167 254 252 (dk_at dksX0_quarrels_11 11 rfl rfl)
theorem dX0_quarrels_276 : decode cX0_quarrels 276 = .ok (.iload_n 2, 1) := dk_28 (dk_at dksX0_quarrels_11 14 rfl rfl)
theorem dX0_quarrels_277 : decode cX0_quarrels 277 = .ok (.iload 5, 2) := dk_21 5 (dk_at dksX0_quarrels_11 15 rfl rfl)
theorem dX0_quarrels_279 : decode cX0_quarrels 279 = .ok (.if_icmp .gt 9, 3) := dk_163 0 9 (dk_at dksX0_quarrels_11 17 rfl rfl)
theorem dX0_quarrels_282 : decode cX0_quarrels 282 = .ok (.iload 4, 2) := dk_21 4 (dk_at dksX0_quarrels_11 20 rfl rfl)
theorem dX0_quarrels_284 : decode cX0_quarrels 284 = .ok (.iload_n 3, 1) := dk_29 (dk_at dksX0_quarrels_11 22 rfl rfl)
theorem dX0_quarrels_285 : decode cX0_quarrels 285 = .ok (.if_icmp .le 7, 3) := dk_164 0 7 (dk_at dksX0_quarrels_12 0 rfl rfl)
theorem dX0_quarrels_288 : decode cX0_quarrels 288 = .ok (.iconst 1, 1) := dk_4 (dk_at dksX0_quarrels_12 3 rfl rfl)
theorem dX0_quarrels_289 : decode cX0_quarrels 289 = .ok (.goto 4, 3) := dk_167 0 4 (dk_at dksX0_quarrels_12 4 rfl rfl)
theorem dX0_quarrels_292 : decode cX0_quarrels 292 = .ok (.iconst 0, 1) := dk_3 (dk_at dksX0_quarrels_12 7 rfl rfl)
theorem dX0_quarrels_293 : decode cX0_quarrels 293 = .ok (.ireturn, 1) := dk_172 (dk_at dksX0_quarrels_12 8 rfl rfl)
abbrev cX0_quarrel : ByteArray := prog_1_method_63_code
def yX0_quarrel : MethodName := ⟨RX0, "quarrel", "()I"⟩
theorem dX0_quarrel_0 : decode cX0_quarrel 0 = .ok (.aload_n 0, 1) := by decide +kernel
theorem dX0_quarrel_1 : decode cX0_quarrel 1 = .ok (.invokevirtual 312, 3) := by decide +kernel
theorem dX0_quarrel_4 : decode cX0_quarrel 4 = .ok (.ireturn, 1) := by decide +kernel
abbrev cX0_range : ByteArray := prog_1_method_65_code
def yX0_range : MethodName := ⟨RX0, "range", "(IIZ)I"⟩
def dkwX0_range_2 : List UInt8 := [29, 182, 1, 59, 167, 0, 5, 16, 247, 172]
abbrev dktX0_range_2 : List UInt8 := dkwX0_range_2 ++ []
def dkwX0_range_1 : List UInt8 := [154, 0, 9, 42, 4, 182, 0, 86, 172, 42, 182, 1, 56, 16, 247, 160, 0, 16, 42, 27, 28, 184, 0, 181]
abbrev dktX0_range_1 : List UInt8 := dkwX0_range_1 ++ dktX0_range_2
def dkwX0_range_0 : List UInt8 := [27, 184, 0, 192, 153, 0, 10, 28, 184, 0, 192, 154, 0, 5, 2, 172, 42, 27, 28, 182, 1, 50]
abbrev dktX0_range_0 : List UInt8 := dkwX0_range_0 ++ dktX0_range_1
theorem dksX0_range_0 : cX0_range.data.toList.drop 0 = dktX0_range_0 := by decide +kernel
theorem dksX0_range_1 : cX0_range.data.toList.drop 22 = dktX0_range_1 := dk_seg dksX0_range_0 22 rfl rfl
theorem dksX0_range_2 : cX0_range.data.toList.drop 46 = dktX0_range_2 := dk_seg dksX0_range_1 24 rfl rfl
theorem dX0_range_0 : decode cX0_range 0 = .ok (.iload_n 1, 1) := dk_27 (dk_at dksX0_range_0 0 rfl rfl)
theorem dX0_range_1 : decode cX0_range 1 = .ok (.invokestatic 192, 3) := dk_184 0 192 (dk_at dksX0_range_0 1 rfl rfl)
theorem dX0_range_4 : decode cX0_range 4 = .ok (.ifCond .eq 10, 3) := dk_153 0 10 (dk_at dksX0_range_0 4 rfl rfl)
theorem dX0_range_7 : decode cX0_range 7 = .ok (.iload_n 2, 1) := dk_28 (dk_at dksX0_range_0 7 rfl rfl)
theorem dX0_range_8 : decode cX0_range 8 = .ok (.invokestatic 192, 3) := dk_184 0 192 (dk_at dksX0_range_0 8 rfl rfl)
theorem dX0_range_11 : decode cX0_range 11 = .ok (.ifCond .ne 5, 3) := dk_154 0 5 (dk_at dksX0_range_0 11 rfl rfl)
theorem dX0_range_14 : decode cX0_range 14 = .ok (.iconst (-1), 1) := dk_2 (dk_at dksX0_range_0 14 rfl rfl)
theorem dX0_range_15 : decode cX0_range 15 = .ok (.ireturn, 1) := dk_172 (dk_at dksX0_range_0 15 rfl rfl)
theorem dX0_range_16 : decode cX0_range 16 = .ok (.aload_n 0, 1) := dk_42 (dk_at dksX0_range_0 16 rfl rfl)
theorem dX0_range_17 : decode cX0_range 17 = .ok (.iload_n 1, 1) := dk_27 (dk_at dksX0_range_0 17 rfl rfl)
theorem dX0_range_18 : decode cX0_range 18 = .ok (.iload_n 2, 1) := dk_28 (dk_at dksX0_range_0 18 rfl rfl)
theorem dX0_range_19 : decode cX0_range 19 = .ok (.invokevirtual 306, 3) := dk_182 1 50 (dk_at dksX0_range_0 19 rfl rfl)
theorem dX0_range_22 : decode cX0_range 22 = .ok (.ifCond .ne 9, 3) := dk_154 0 9 (dk_at dksX0_range_1 0 rfl rfl)
theorem dX0_range_25 : decode cX0_range 25 = .ok (.aload_n 0, 1) := dk_42 (dk_at dksX0_range_1 3 rfl rfl)
theorem dX0_range_26 : decode cX0_range 26 = .ok (.iconst 1, 1) := dk_4 (dk_at dksX0_range_1 4 rfl rfl)
theorem dX0_range_27 : decode cX0_range 27 = .ok (.invokevirtual 86, 3) := dk_182 0 86 (dk_at dksX0_range_1 5 rfl rfl)
theorem dX0_range_30 : decode cX0_range 30 = .ok (.ireturn, 1) := dk_172 (dk_at dksX0_range_1 8 rfl rfl)
theorem dX0_range_31 : decode cX0_range 31 = .ok (.aload_n 0, 1) := dk_42 (dk_at dksX0_range_1 9 rfl rfl)
theorem dX0_range_32 : decode cX0_range 32 = .ok (.invokevirtual 312, 3) := dk_182 1 56 (dk_at dksX0_range_1 10 rfl rfl)
theorem dX0_range_35 : decode cX0_range 35 = .ok (.bipush (-9), 2) := dk_16 247 (dk_at dksX0_range_1 13 rfl rfl)
theorem dX0_range_37 : decode cX0_range 37 = .ok (.if_icmp .ne 16, 3) := dk_160 0 16 (dk_at dksX0_range_1 15 rfl rfl)
theorem dX0_range_40 : decode cX0_range 40 = .ok (.aload_n 0, 1) := dk_42 (dk_at dksX0_range_1 18 rfl rfl)
theorem dX0_range_41 : decode cX0_range 41 = .ok (.iload_n 1, 1) := dk_27 (dk_at dksX0_range_1 19 rfl rfl)
theorem dX0_range_42 : decode cX0_range 42 = .ok (.iload_n 2, 1) := dk_28 (dk_at dksX0_range_1 20 rfl rfl)
theorem dX0_range_43 : decode cX0_range 43 = .ok (.invokestatic 181, 3) := dk_184 0 181 (dk_at dksX0_range_1 21 rfl rfl)
theorem dX0_range_46 : decode cX0_range 46 = .ok (.iload_n 3, 1) := dk_29 (dk_at dksX0_range_2 0 rfl rfl)
theorem dX0_range_47 : decode cX0_range 47 = .ok (.invokevirtual 315, 3) := dk_182 1 59 (dk_at dksX0_range_2 1 rfl rfl)
theorem dX0_range_50 : decode cX0_range 50 = .ok (.goto 5, 3) := dk_167 0 5 (dk_at dksX0_range_2 4 rfl rfl)
theorem dX0_range_53 : decode cX0_range 53 = .ok (.bipush (-9), 2) := dk_16 247 (dk_at dksX0_range_2 7 rfl rfl)
theorem dX0_range_55 : decode cX0_range 55 = .ok (.ireturn, 1) := dk_172 (dk_at dksX0_range_2 9 rfl rfl)
abbrev cX0_end : ByteArray := prog_1_method_64_code
def yX0_end : MethodName := ⟨RX0, "end", "(IZ)I"⟩
def dkwX0_end_7 : List UInt8 := [21, 4, 79, 21, 5, 172]
abbrev dktX0_end_7 : List UInt8 := dkwX0_end_7 ++ []
def dkwX0_end_6 : List UInt8 := [100, 167, 0, 5, 21, 7, 54, 6, 167, 255, 130, 42, 180, 0, 32, 27, 29, 79, 42, 180, 0, 35, 27]
abbrev dktX0_end_6 : List UInt8 := dkwX0_end_6 ++ dktX0_end_7
def dkwX0_end_5 : List UInt8 := [153, 0, 8, 21, 7, 167, 0, 7, 21, 7, 4, 96, 54, 5, 167, 0, 18, 28, 153, 0, 10, 21, 7, 4]
abbrev dktX0_end_5 : List UInt8 := dkwX0_end_5 ++ dktX0_end_6
def dkwX0_end_4 : List UInt8 := [182, 1, 56, 16, 247, 160, 0, 7, 4, 167, 0, 4, 3, 54, 8, 21, 8, 28, 160, 0, 21, 28]
abbrev dktX0_end_4 : List UInt8 := dkwX0_end_4 ++ dktX0_end_5
def dkwX0_end_3 : List UInt8 := [167, 0, 4, 29, 79, 42, 180, 0, 35, 27, 28, 153, 0, 8, 21, 4, 167, 0, 5, 21, 7, 79, 42]
abbrev dktX0_end_3 : List UInt8 := dkwX0_end_3 ++ dktX0_end_4
def dkwX0_end_2 : List UInt8 := [21, 5, 21, 6, 21, 5, 100, 5, 108, 96, 54, 7, 42, 180, 0, 32, 27, 28, 153, 0, 8, 21, 7]
abbrev dktX0_end_2 : List UInt8 := dkwX0_end_2 ++ dktX0_end_3
def dkwX0_end_1 : List UInt8 := [21, 6, 162, 0, 125, 28, 153, 0, 18, 21, 5, 21, 6, 21, 5, 100, 4, 96, 5, 108, 96, 167, 0, 13]
abbrev dktX0_end_1 : List UInt8 := dkwX0_end_1 ++ dktX0_end_2
def dkwX0_end_0 : List UInt8 := [42, 180, 0, 32, 27, 46, 62, 42, 180, 0, 35, 27, 46, 54, 4, 29, 54, 5, 21, 4, 54, 6, 21, 5]
abbrev dktX0_end_0 : List UInt8 := dkwX0_end_0 ++ dktX0_end_1
theorem dksX0_end_0 : cX0_end.data.toList.drop 0 = dktX0_end_0 := by decide +kernel
theorem dksX0_end_1 : cX0_end.data.toList.drop 24 = dktX0_end_1 := dk_seg dksX0_end_0 24 rfl rfl
theorem dksX0_end_2 : cX0_end.data.toList.drop 48 = dktX0_end_2 := dk_seg dksX0_end_1 24 rfl rfl
theorem dksX0_end_3 : cX0_end.data.toList.drop 71 = dktX0_end_3 := dk_seg dksX0_end_2 23 rfl rfl
theorem dksX0_end_4 : cX0_end.data.toList.drop 94 = dktX0_end_4 := dk_seg dksX0_end_3 23 rfl rfl
theorem dksX0_end_5 : cX0_end.data.toList.drop 116 = dktX0_end_5 := dk_seg dksX0_end_4 22 rfl rfl
theorem dksX0_end_6 : cX0_end.data.toList.drop 140 = dktX0_end_6 := dk_seg dksX0_end_5 24 rfl rfl
theorem dksX0_end_7 : cX0_end.data.toList.drop 163 = dktX0_end_7 := dk_seg dksX0_end_6 23 rfl rfl
theorem dX0_end_0 : decode cX0_end 0 = .ok (.aload_n 0, 1) := dk_42 (dk_at dksX0_end_0 0 rfl rfl)
theorem dX0_end_1 : decode cX0_end 1 = .ok (.getfield 32, 3) := dk_180 0 32 (dk_at dksX0_end_0 1 rfl rfl)
theorem dX0_end_4 : decode cX0_end 4 = .ok (.iload_n 1, 1) := dk_27 (dk_at dksX0_end_0 4 rfl rfl)
theorem dX0_end_5 : decode cX0_end 5 = .ok (.iaload, 1) := dk_46 (dk_at dksX0_end_0 5 rfl rfl)
theorem dX0_end_6 : decode cX0_end 6 = .ok (.istore_n 3, 1) := dk_62 (dk_at dksX0_end_0 6 rfl rfl)
theorem dX0_end_7 : decode cX0_end 7 = .ok (.aload_n 0, 1) := dk_42 (dk_at dksX0_end_0 7 rfl rfl)
theorem dX0_end_8 : decode cX0_end 8 = .ok (.getfield 35, 3) := dk_180 0 35 (dk_at dksX0_end_0 8 rfl rfl)
theorem dX0_end_11 : decode cX0_end 11 = .ok (.iload_n 1, 1) := dk_27 (dk_at dksX0_end_0 11 rfl rfl)
theorem dX0_end_12 : decode cX0_end 12 = .ok (.iaload, 1) := dk_46 (dk_at dksX0_end_0 12 rfl rfl)
theorem dX0_end_13 : decode cX0_end 13 = .ok (.istore 4, 2) := dk_54 4 (dk_at dksX0_end_0 13 rfl rfl)
theorem dX0_end_15 : decode cX0_end 15 = .ok (.iload_n 3, 1) := dk_29 (dk_at dksX0_end_0 15 rfl rfl)
theorem dX0_end_16 : decode cX0_end 16 = .ok (.istore 5, 2) := dk_54 5 (dk_at dksX0_end_0 16 rfl rfl)
theorem dX0_end_18 : decode cX0_end 18 = .ok (.iload 4, 2) := dk_21 4 (dk_at dksX0_end_0 18 rfl rfl)
theorem dX0_end_20 : decode cX0_end 20 = .ok (.istore 6, 2) := dk_54 6 (dk_at dksX0_end_0 20 rfl rfl)
theorem dX0_end_22 : decode cX0_end 22 = .ok (.iload 5, 2) := dk_21 5 (dk_at dksX0_end_0 22 rfl rfl)
theorem dX0_end_24 : decode cX0_end 24 = .ok (.iload 6, 2) := dk_21 6 (dk_at dksX0_end_1 0 rfl rfl)
theorem dX0_end_26 : decode cX0_end 26 = .ok (.if_icmp .ge 125, 3) := dk_162 0 125 (dk_at dksX0_end_1 2 rfl rfl)
theorem dX0_end_29 : decode cX0_end 29 = .ok (.iload_n 2, 1) := dk_28 (dk_at dksX0_end_1 5 rfl rfl)
theorem dX0_end_30 : decode cX0_end 30 = .ok (.ifCond .eq 18, 3) := dk_153 0 18 (dk_at dksX0_end_1 6 rfl rfl)
theorem dX0_end_33 : decode cX0_end 33 = .ok (.iload 5, 2) := dk_21 5 (dk_at dksX0_end_1 9 rfl rfl)
theorem dX0_end_35 : decode cX0_end 35 = .ok (.iload 6, 2) := dk_21 6 (dk_at dksX0_end_1 11 rfl rfl)
theorem dX0_end_37 : decode cX0_end 37 = .ok (.iload 5, 2) := dk_21 5 (dk_at dksX0_end_1 13 rfl rfl)
theorem dX0_end_39 : decode cX0_end 39 = .ok (.isub, 1) := dk_100 (dk_at dksX0_end_1 15 rfl rfl)
theorem dX0_end_40 : decode cX0_end 40 = .ok (.iconst 1, 1) := dk_4 (dk_at dksX0_end_1 16 rfl rfl)
theorem dX0_end_41 : decode cX0_end 41 = .ok (.iadd, 1) := dk_96 (dk_at dksX0_end_1 17 rfl rfl)
theorem dX0_end_42 : decode cX0_end 42 = .ok (.iconst 2, 1) := dk_5 (dk_at dksX0_end_1 18 rfl rfl)
theorem dX0_end_43 : decode cX0_end 43 = .ok (.idiv, 1) := dk_108 (dk_at dksX0_end_1 19 rfl rfl)
theorem dX0_end_44 : decode cX0_end 44 = .ok (.iadd, 1) := dk_96 (dk_at dksX0_end_1 20 rfl rfl)
theorem dX0_end_45 : decode cX0_end 45 = .ok (.goto 13, 3) := dk_167 0 13 (dk_at dksX0_end_1 21 rfl rfl)
theorem dX0_end_48 : decode cX0_end 48 = .ok (.iload 5, 2) := dk_21 5 (dk_at dksX0_end_2 0 rfl rfl)
theorem dX0_end_50 : decode cX0_end 50 = .ok (.iload 6, 2) := dk_21 6 (dk_at dksX0_end_2 2 rfl rfl)
theorem dX0_end_52 : decode cX0_end 52 = .ok (.iload 5, 2) := dk_21 5 (dk_at dksX0_end_2 4 rfl rfl)
theorem dX0_end_54 : decode cX0_end 54 = .ok (.isub, 1) := dk_100 (dk_at dksX0_end_2 6 rfl rfl)
theorem dX0_end_55 : decode cX0_end 55 = .ok (.iconst 2, 1) := dk_5 (dk_at dksX0_end_2 7 rfl rfl)
theorem dX0_end_56 : decode cX0_end 56 = .ok (.idiv, 1) := dk_108 (dk_at dksX0_end_2 8 rfl rfl)
theorem dX0_end_57 : decode cX0_end 57 = .ok (.iadd, 1) := dk_96 (dk_at dksX0_end_2 9 rfl rfl)
theorem dX0_end_58 : decode cX0_end 58 = .ok (.istore 7, 2) := dk_54 7 (dk_at dksX0_end_2 10 rfl rfl)
theorem dX0_end_60 : decode cX0_end 60 = .ok (.aload_n 0, 1) := dk_42 (dk_at dksX0_end_2 12 rfl rfl)
theorem dX0_end_61 : decode cX0_end 61 = .ok (.getfield 32, 3) := dk_180 0 32 (dk_at dksX0_end_2 13 rfl rfl)
theorem dX0_end_64 : decode cX0_end 64 = .ok (.iload_n 1, 1) := dk_27 (dk_at dksX0_end_2 16 rfl rfl)
theorem dX0_end_65 : decode cX0_end 65 = .ok (.iload_n 2, 1) := dk_28 (dk_at dksX0_end_2 17 rfl rfl)
theorem dX0_end_66 : decode cX0_end 66 = .ok (.ifCond .eq 8, 3) := dk_153 0 8 (dk_at dksX0_end_2 18 rfl rfl)
theorem dX0_end_69 : decode cX0_end 69 = .ok (.iload 7, 2) := dk_21 7 (dk_at dksX0_end_2 21 rfl rfl)
theorem dX0_end_71 : decode cX0_end 71 = .ok (.goto 4, 3) := dk_167 0 4 (dk_at dksX0_end_3 0 rfl rfl)
theorem dX0_end_74 : decode cX0_end 74 = .ok (.iload_n 3, 1) := dk_29 (dk_at dksX0_end_3 3 rfl rfl)
theorem dX0_end_75 : decode cX0_end 75 = .ok (.iastore, 1) := dk_79 (dk_at dksX0_end_3 4 rfl rfl)
theorem dX0_end_76 : decode cX0_end 76 = .ok (.aload_n 0, 1) := dk_42 (dk_at dksX0_end_3 5 rfl rfl)
theorem dX0_end_77 : decode cX0_end 77 = .ok (.getfield 35, 3) := dk_180 0 35 (dk_at dksX0_end_3 6 rfl rfl)
theorem dX0_end_80 : decode cX0_end 80 = .ok (.iload_n 1, 1) := dk_27 (dk_at dksX0_end_3 9 rfl rfl)
theorem dX0_end_81 : decode cX0_end 81 = .ok (.iload_n 2, 1) := dk_28 (dk_at dksX0_end_3 10 rfl rfl)
theorem dX0_end_82 : decode cX0_end 82 = .ok (.ifCond .eq 8, 3) := dk_153 0 8 (dk_at dksX0_end_3 11 rfl rfl)
theorem dX0_end_85 : decode cX0_end 85 = .ok (.iload 4, 2) := dk_21 4 (dk_at dksX0_end_3 14 rfl rfl)
theorem dX0_end_87 : decode cX0_end 87 = .ok (.goto 5, 3) := dk_167 0 5 (dk_at dksX0_end_3 16 rfl rfl)
theorem dX0_end_90 : decode cX0_end 90 = .ok (.iload 7, 2) := dk_21 7 (dk_at dksX0_end_3 19 rfl rfl)
theorem dX0_end_92 : decode cX0_end 92 = .ok (.iastore, 1) := dk_79 (dk_at dksX0_end_3 21 rfl rfl)
theorem dX0_end_93 : decode cX0_end 93 = .ok (.aload_n 0, 1) := dk_42 (dk_at dksX0_end_3 22 rfl rfl)
theorem dX0_end_94 : decode cX0_end 94 = .ok (.invokevirtual 312, 3) := dk_182 1 56 (dk_at dksX0_end_4 0 rfl rfl)
theorem dX0_end_97 : decode cX0_end 97 = .ok (.bipush (-9), 2) := dk_16 247 (dk_at dksX0_end_4 3 rfl rfl)
theorem dX0_end_99 : decode cX0_end 99 = .ok (.if_icmp .ne 7, 3) := dk_160 0 7 (dk_at dksX0_end_4 5 rfl rfl)
theorem dX0_end_102 : decode cX0_end 102 = .ok (.iconst 1, 1) := dk_4 (dk_at dksX0_end_4 8 rfl rfl)
theorem dX0_end_103 : decode cX0_end 103 = .ok (.goto 4, 3) := dk_167 0 4 (dk_at dksX0_end_4 9 rfl rfl)
theorem dX0_end_106 : decode cX0_end 106 = .ok (.iconst 0, 1) := dk_3 (dk_at dksX0_end_4 12 rfl rfl)
theorem dX0_end_107 : decode cX0_end 107 = .ok (.istore 8, 2) := dk_54 8 (dk_at dksX0_end_4 13 rfl rfl)
theorem dX0_end_109 : decode cX0_end 109 = .ok (.iload 8, 2) := dk_21 8 (dk_at dksX0_end_4 15 rfl rfl)
theorem dX0_end_111 : decode cX0_end 111 = .ok (.iload_n 2, 1) := dk_28 (dk_at dksX0_end_4 17 rfl rfl)
theorem dX0_end_112 : decode cX0_end 112 = .ok (.if_icmp .ne 21, 3) := dk_160 0 21 (dk_at dksX0_end_4 18 rfl rfl)
theorem dX0_end_115 : decode cX0_end 115 = .ok (.iload_n 2, 1) := dk_28 (dk_at dksX0_end_4 21 rfl rfl)
theorem dX0_end_116 : decode cX0_end 116 = .ok (.ifCond .eq 8, 3) := dk_153 0 8 (dk_at dksX0_end_5 0 rfl rfl)
theorem dX0_end_119 : decode cX0_end 119 = .ok (.iload 7, 2) := dk_21 7 (dk_at dksX0_end_5 3 rfl rfl)
theorem dX0_end_121 : decode cX0_end 121 = .ok (.goto 7, 3) := dk_167 0 7 (dk_at dksX0_end_5 5 rfl rfl)
theorem dX0_end_124 : decode cX0_end 124 = .ok (.iload 7, 2) := dk_21 7 (dk_at dksX0_end_5 8 rfl rfl)
theorem dX0_end_126 : decode cX0_end 126 = .ok (.iconst 1, 1) := dk_4 (dk_at dksX0_end_5 10 rfl rfl)
theorem dX0_end_127 : decode cX0_end 127 = .ok (.iadd, 1) := dk_96 (dk_at dksX0_end_5 11 rfl rfl)
theorem dX0_end_128 : decode cX0_end 128 = .ok (.istore 5, 2) := dk_54 5 (dk_at dksX0_end_5 12 rfl rfl)
theorem dX0_end_130 : decode cX0_end 130 = .ok (.goto 18, 3) := dk_167 0 18 (dk_at dksX0_end_5 14 rfl rfl)
theorem dX0_end_133 : decode cX0_end 133 = .ok (.iload_n 2, 1) := dk_28 (dk_at dksX0_end_5 17 rfl rfl)
theorem dX0_end_134 : decode cX0_end 134 = .ok (.ifCond .eq 10, 3) := dk_153 0 10 (dk_at dksX0_end_5 18 rfl rfl)
theorem dX0_end_137 : decode cX0_end 137 = .ok (.iload 7, 2) := dk_21 7 (dk_at dksX0_end_5 21 rfl rfl)
theorem dX0_end_139 : decode cX0_end 139 = .ok (.iconst 1, 1) := dk_4 (dk_at dksX0_end_5 23 rfl rfl)
theorem dX0_end_140 : decode cX0_end 140 = .ok (.isub, 1) := dk_100 (dk_at dksX0_end_6 0 rfl rfl)
theorem dX0_end_141 : decode cX0_end 141 = .ok (.goto 5, 3) := dk_167 0 5 (dk_at dksX0_end_6 1 rfl rfl)
theorem dX0_end_144 : decode cX0_end 144 = .ok (.iload 7, 2) := dk_21 7 (dk_at dksX0_end_6 4 rfl rfl)
theorem dX0_end_146 : decode cX0_end 146 = .ok (.istore 6, 2) := dk_54 6 (dk_at dksX0_end_6 6 rfl rfl)
theorem dX0_end_148 : decode cX0_end 148 = .ok (.goto (-126), 3) := dk_167 255 130 (dk_at dksX0_end_6 8 rfl rfl)
theorem dX0_end_151 : decode cX0_end 151 = .ok (.aload_n 0, 1) := dk_42 (dk_at dksX0_end_6 11 rfl rfl)
theorem dX0_end_152 : decode cX0_end 152 = .ok (.getfield 32, 3) := dk_180 0 32 (dk_at dksX0_end_6 12 rfl rfl)
theorem dX0_end_155 : decode cX0_end 155 = .ok (.iload_n 1, 1) := dk_27 (dk_at dksX0_end_6 15 rfl rfl)
theorem dX0_end_156 : decode cX0_end 156 = .ok (.iload_n 3, 1) := dk_29 (dk_at dksX0_end_6 16 rfl rfl)
theorem dX0_end_157 : decode cX0_end 157 = .ok (.iastore, 1) := dk_79 (dk_at dksX0_end_6 17 rfl rfl)
theorem dX0_end_158 : decode cX0_end 158 = .ok (.aload_n 0, 1) := dk_42 (dk_at dksX0_end_6 18 rfl rfl)
theorem dX0_end_159 : decode cX0_end 159 = .ok (.getfield 35, 3) := dk_180 0 35 (dk_at dksX0_end_6 19 rfl rfl)
theorem dX0_end_162 : decode cX0_end 162 = .ok (.iload_n 1, 1) := dk_27 (dk_at dksX0_end_6 22 rfl rfl)
theorem dX0_end_163 : decode cX0_end 163 = .ok (.iload 4, 2) := dk_21 4 (dk_at dksX0_end_7 0 rfl rfl)
theorem dX0_end_165 : decode cX0_end 165 = .ok (.iastore, 1) := dk_79 (dk_at dksX0_end_7 2 rfl rfl)
theorem dX0_end_166 : decode cX0_end 166 = .ok (.iload 5, 2) := dk_21 5 (dk_at dksX0_end_7 3 rfl rfl)
theorem dX0_end_168 : decode cX0_end 168 = .ok (.ireturn, 1) := dk_172 (dk_at dksX0_end_7 5 rfl rfl)
abbrev cX0_nextSight : ByteArray := prog_1_method_66_code
def yX0_nextSight : MethodName := ⟨RX0, "nextSight", "()I"⟩
def dkwX0_nextSight_4 : List UInt8 := [167, 0, 4, 28, 181, 1, 25, 27, 172]
abbrev dktX0_nextSight_4 : List UInt8 := dkwX0_nextSight_4 ++ []
def dkwX0_nextSight_3 : List UInt8 := [96, 60, 21, 4, 61, 132, 3, 1, 167, 255, 197, 42, 27, 16, 247, 160, 0, 10, 42, 180, 1, 25]
abbrev dktX0_nextSight_3 : List UInt8 := dkwX0_nextSight_3 ++ dktX0_nextSight_4
def dkwX0_nextSight_2 : List UInt8 := [3, 182, 1, 59, 100, 54, 4, 21, 4, 28, 164, 0, 19, 16, 10, 29, 16, 8, 108, 104, 29, 16, 8, 112]
abbrev dktX0_nextSight_2 : List UInt8 := dkwX0_nextSight_2 ++ dktX0_nextSight_3
def dkwX0_nextSight_1 : List UInt8 := [162, 0, 59, 42, 180, 0, 29, 29, 46, 154, 0, 7, 3, 167, 0, 16, 42, 29, 4, 182, 1, 59, 42, 29]
abbrev dktX0_nextSight_1 : List UInt8 := dkwX0_nextSight_1 ++ dktX0_nextSight_2
def dkwX0_nextSight_0 : List UInt8 := [42, 182, 1, 56, 16, 247, 159, 0, 6, 16, 247, 172, 16, 247, 60, 3, 61, 3, 62, 29, 16, 64]
abbrev dktX0_nextSight_0 : List UInt8 := dkwX0_nextSight_0 ++ dktX0_nextSight_1
theorem dksX0_nextSight_0 : cX0_nextSight.data.toList.drop 0 = dktX0_nextSight_0 := by decide +kernel
theorem dksX0_nextSight_1 : cX0_nextSight.data.toList.drop 22 = dktX0_nextSight_1 := dk_seg dksX0_nextSight_0 22 rfl rfl
theorem dksX0_nextSight_2 : cX0_nextSight.data.toList.drop 46 = dktX0_nextSight_2 := dk_seg dksX0_nextSight_1 24 rfl rfl
theorem dksX0_nextSight_3 : cX0_nextSight.data.toList.drop 70 = dktX0_nextSight_3 := dk_seg dksX0_nextSight_2 24 rfl rfl
theorem dksX0_nextSight_4 : cX0_nextSight.data.toList.drop 92 = dktX0_nextSight_4 := dk_seg dksX0_nextSight_3 22 rfl rfl
theorem dX0_nextSight_0 : decode cX0_nextSight 0 = .ok (.aload_n 0, 1) := dk_42 (dk_at dksX0_nextSight_0 0 rfl rfl)
theorem dX0_nextSight_1 : decode cX0_nextSight 1 = .ok (.invokevirtual 312, 3) := dk_182 1 56 (dk_at dksX0_nextSight_0 1 rfl rfl)
theorem dX0_nextSight_4 : decode cX0_nextSight 4 = .ok (.bipush (-9), 2) := dk_16 247 (dk_at dksX0_nextSight_0 4 rfl rfl)
theorem dX0_nextSight_6 : decode cX0_nextSight 6 = .ok (.if_icmp .eq 6, 3) := dk_159 0 6 (dk_at dksX0_nextSight_0 6 rfl rfl)
theorem dX0_nextSight_9 : decode cX0_nextSight 9 = .ok (.bipush (-9), 2) := dk_16 247 (dk_at dksX0_nextSight_0 9 rfl rfl)
theorem dX0_nextSight_11 : decode cX0_nextSight 11 = .ok (.ireturn, 1) := dk_172 (dk_at dksX0_nextSight_0 11 rfl rfl)
theorem dX0_nextSight_12 : decode cX0_nextSight 12 = .ok (.bipush (-9), 2) := dk_16 247 (dk_at dksX0_nextSight_0 12 rfl rfl)
theorem dX0_nextSight_14 : decode cX0_nextSight 14 = .ok (.istore_n 1, 1) := dk_60 (dk_at dksX0_nextSight_0 14 rfl rfl)
theorem dX0_nextSight_15 : decode cX0_nextSight 15 = .ok (.iconst 0, 1) := dk_3 (dk_at dksX0_nextSight_0 15 rfl rfl)
theorem dX0_nextSight_16 : decode cX0_nextSight 16 = .ok (.istore_n 2, 1) := dk_61 (dk_at dksX0_nextSight_0 16 rfl rfl)
theorem dX0_nextSight_17 : decode cX0_nextSight 17 = .ok (.iconst 0, 1) := dk_3 (dk_at dksX0_nextSight_0 17 rfl rfl)
theorem dX0_nextSight_18 : decode cX0_nextSight 18 = .ok (.istore_n 3, 1) := dk_62 (dk_at dksX0_nextSight_0 18 rfl rfl)
theorem dX0_nextSight_19 : decode cX0_nextSight 19 = .ok (.iload_n 3, 1) := dk_29 (dk_at dksX0_nextSight_0 19 rfl rfl)
theorem dX0_nextSight_20 : decode cX0_nextSight 20 = .ok (.bipush 64, 2) := dk_16 64 (dk_at dksX0_nextSight_0 20 rfl rfl)
theorem dX0_nextSight_22 : decode cX0_nextSight 22 = .ok (.if_icmp .ge 59, 3) := dk_162 0 59 (dk_at dksX0_nextSight_1 0 rfl rfl)
theorem dX0_nextSight_25 : decode cX0_nextSight 25 = .ok (.aload_n 0, 1) := dk_42 (dk_at dksX0_nextSight_1 3 rfl rfl)
theorem dX0_nextSight_26 : decode cX0_nextSight 26 = .ok (.getfield 29, 3) := dk_180 0 29 (dk_at dksX0_nextSight_1 4 rfl rfl)
theorem dX0_nextSight_29 : decode cX0_nextSight 29 = .ok (.iload_n 3, 1) := dk_29 (dk_at dksX0_nextSight_1 7 rfl rfl)
theorem dX0_nextSight_30 : decode cX0_nextSight 30 = .ok (.iaload, 1) := dk_46 (dk_at dksX0_nextSight_1 8 rfl rfl)
theorem dX0_nextSight_31 : decode cX0_nextSight 31 = .ok (.ifCond .ne 7, 3) := dk_154 0 7 (dk_at dksX0_nextSight_1 9 rfl rfl)
theorem dX0_nextSight_34 : decode cX0_nextSight 34 = .ok (.iconst 0, 1) := dk_3 (dk_at dksX0_nextSight_1 12 rfl rfl)
theorem dX0_nextSight_35 : decode cX0_nextSight 35 = .ok (.goto 16, 3) := dk_167 0 16 (dk_at dksX0_nextSight_1 13 rfl rfl)
theorem dX0_nextSight_38 : decode cX0_nextSight 38 = .ok (.aload_n 0, 1) := dk_42 (dk_at dksX0_nextSight_1 16 rfl rfl)
theorem dX0_nextSight_39 : decode cX0_nextSight 39 = .ok (.iload_n 3, 1) := dk_29 (dk_at dksX0_nextSight_1 17 rfl rfl)
theorem dX0_nextSight_40 : decode cX0_nextSight 40 = .ok (.iconst 1, 1) := dk_4 (dk_at dksX0_nextSight_1 18 rfl rfl)
theorem dX0_nextSight_41 : decode cX0_nextSight 41 = .ok (.invokevirtual 315, 3) := dk_182 1 59 (dk_at dksX0_nextSight_1 19 rfl rfl)
theorem dX0_nextSight_44 : decode cX0_nextSight 44 = .ok (.aload_n 0, 1) := dk_42 (dk_at dksX0_nextSight_1 22 rfl rfl)
theorem dX0_nextSight_45 : decode cX0_nextSight 45 = .ok (.iload_n 3, 1) := dk_29 (dk_at dksX0_nextSight_1 23 rfl rfl)
theorem dX0_nextSight_46 : decode cX0_nextSight 46 = .ok (.iconst 0, 1) := dk_3 (dk_at dksX0_nextSight_2 0 rfl rfl)
theorem dX0_nextSight_47 : decode cX0_nextSight 47 = .ok (.invokevirtual 315, 3) := dk_182 1 59 (dk_at dksX0_nextSight_2 1 rfl rfl)
theorem dX0_nextSight_50 : decode cX0_nextSight 50 = .ok (.isub, 1) := dk_100 (dk_at dksX0_nextSight_2 4 rfl rfl)
theorem dX0_nextSight_51 : decode cX0_nextSight 51 = .ok (.istore 4, 2) := dk_54 4 (dk_at dksX0_nextSight_2 5 rfl rfl)
theorem dX0_nextSight_53 : decode cX0_nextSight 53 = .ok (.iload 4, 2) := dk_21 4 (dk_at dksX0_nextSight_2 7 rfl rfl)
theorem dX0_nextSight_55 : decode cX0_nextSight 55 = .ok (.iload_n 2, 1) := dk_28 (dk_at dksX0_nextSight_2 9 rfl rfl)
theorem dX0_nextSight_56 : decode cX0_nextSight 56 = .ok (.if_icmp .le 19, 3) := dk_164 0 19 (dk_at dksX0_nextSight_2 10 rfl rfl)
theorem dX0_nextSight_59 : decode cX0_nextSight 59 = .ok (.bipush 10, 2) := dk_16 10 (dk_at dksX0_nextSight_2 13 rfl rfl)
theorem dX0_nextSight_61 : decode cX0_nextSight 61 = .ok (.iload_n 3, 1) := dk_29 (dk_at dksX0_nextSight_2 15 rfl rfl)
theorem dX0_nextSight_62 : decode cX0_nextSight 62 = .ok (.bipush 8, 2) := dk_16 8 (dk_at dksX0_nextSight_2 16 rfl rfl)
theorem dX0_nextSight_64 : decode cX0_nextSight 64 = .ok (.idiv, 1) := dk_108 (dk_at dksX0_nextSight_2 18 rfl rfl)
theorem dX0_nextSight_65 : decode cX0_nextSight 65 = .ok (.imul, 1) := dk_104 (dk_at dksX0_nextSight_2 19 rfl rfl)
theorem dX0_nextSight_66 : decode cX0_nextSight 66 = .ok (.iload_n 3, 1) := dk_29 (dk_at dksX0_nextSight_2 20 rfl rfl)
theorem dX0_nextSight_67 : decode cX0_nextSight 67 = .ok (.bipush 8, 2) := dk_16 8 (dk_at dksX0_nextSight_2 21 rfl rfl)
theorem dX0_nextSight_69 : decode cX0_nextSight 69 = .ok (.irem, 1) := dk_112 (dk_at dksX0_nextSight_2 23 rfl rfl)
theorem dX0_nextSight_70 : decode cX0_nextSight 70 = .ok (.iadd, 1) := dk_96 (dk_at dksX0_nextSight_3 0 rfl rfl)
theorem dX0_nextSight_71 : decode cX0_nextSight 71 = .ok (.istore_n 1, 1) := dk_60 (dk_at dksX0_nextSight_3 1 rfl rfl)
theorem dX0_nextSight_72 : decode cX0_nextSight 72 = .ok (.iload 4, 2) := dk_21 4 (dk_at dksX0_nextSight_3 2 rfl rfl)
theorem dX0_nextSight_74 : decode cX0_nextSight 74 = .ok (.istore_n 2, 1) := dk_61 (dk_at dksX0_nextSight_3 4 rfl rfl)
theorem dX0_nextSight_75 : decode cX0_nextSight 75 = .ok (.iinc 3 1, 3) := dk_132 3 1 (dk_at dksX0_nextSight_3 5 rfl rfl)
theorem dX0_nextSight_78 : decode cX0_nextSight 78 = .ok (.goto (-59), 3) := dk_167 255 197 (dk_at dksX0_nextSight_3 8 rfl rfl)
theorem dX0_nextSight_81 : decode cX0_nextSight 81 = .ok (.aload_n 0, 1) := dk_42 (dk_at dksX0_nextSight_3 11 rfl rfl)
theorem dX0_nextSight_82 : decode cX0_nextSight 82 = .ok (.iload_n 1, 1) := dk_27 (dk_at dksX0_nextSight_3 12 rfl rfl)
theorem dX0_nextSight_83 : decode cX0_nextSight 83 = .ok (.bipush (-9), 2) := dk_16 247 (dk_at dksX0_nextSight_3 13 rfl rfl)
theorem dX0_nextSight_85 : decode cX0_nextSight 85 = .ok (.if_icmp .ne 10, 3) := dk_160 0 10 (dk_at dksX0_nextSight_3 15 rfl rfl)
theorem dX0_nextSight_88 : decode cX0_nextSight 88 = .ok (.aload_n 0, 1) := dk_42 (dk_at dksX0_nextSight_3 18 rfl rfl)
theorem dX0_nextSight_89 : decode cX0_nextSight 89 = .ok (.getfield 281, 3) := dk_180 1 25 (dk_at dksX0_nextSight_3 19 rfl rfl)
theorem dX0_nextSight_92 : decode cX0_nextSight 92 = .ok (.goto 4, 3) := dk_167 0 4 (dk_at dksX0_nextSight_4 0 rfl rfl)
theorem dX0_nextSight_95 : decode cX0_nextSight 95 = .ok (.iload_n 2, 1) := dk_28 (dk_at dksX0_nextSight_4 3 rfl rfl)
theorem dX0_nextSight_96 : decode cX0_nextSight 96 = .ok (.putfield 281, 3) := dk_181 1 25 (dk_at dksX0_nextSight_4 4 rfl rfl)
theorem dX0_nextSight_99 : decode cX0_nextSight 99 = .ok (.iload_n 1, 1) := dk_27 (dk_at dksX0_nextSight_4 7 rfl rfl)
theorem dX0_nextSight_100 : decode cX0_nextSight 100 = .ok (.ireturn, 1) := dk_172 (dk_at dksX0_nextSight_4 8 rfl rfl)
abbrev cX0_effect : ByteArray := prog_1_method_67_code
def yX0_effect : MethodName := ⟨RX0, "effect", "(III)I"⟩
def dkwX0_effect_3 : List UInt8 := [28, 184, 0, 181, 29, 79, 4, 172]
abbrev dktX0_effect_3 : List UInt8 := dkwX0_effect_3 ++ []
def dkwX0_effect_2 : List UInt8 := [4, 182, 0, 86, 172, 42, 42, 180, 0, 38, 27, 28, 184, 0, 181, 46, 181, 1, 25, 42, 180, 0, 38, 27]
abbrev dktX0_effect_2 : List UInt8 := dkwX0_effect_2 ++ dktX0_effect_3
def dkwX0_effect_1 : List UInt8 := [154, 0, 5, 2, 172, 42, 180, 0, 25, 27, 50, 198, 0, 12, 42, 180, 0, 25, 28, 50, 199, 0, 9, 42]
abbrev dktX0_effect_1 : List UInt8 := dkwX0_effect_1 ++ dktX0_effect_2
def dkwX0_effect_0 : List UInt8 := [27, 184, 0, 192, 153, 0, 21, 28, 184, 0, 192, 153, 0, 14, 29, 16, 236, 16, 20, 184, 0, 76]
abbrev dktX0_effect_0 : List UInt8 := dkwX0_effect_0 ++ dktX0_effect_1
theorem dksX0_effect_0 : cX0_effect.data.toList.drop 0 = dktX0_effect_0 := by decide +kernel
theorem dksX0_effect_1 : cX0_effect.data.toList.drop 22 = dktX0_effect_1 := dk_seg dksX0_effect_0 22 rfl rfl
theorem dksX0_effect_2 : cX0_effect.data.toList.drop 46 = dktX0_effect_2 := dk_seg dksX0_effect_1 24 rfl rfl
theorem dksX0_effect_3 : cX0_effect.data.toList.drop 70 = dktX0_effect_3 := dk_seg dksX0_effect_2 24 rfl rfl
theorem dX0_effect_0 : decode cX0_effect 0 = .ok (.iload_n 1, 1) := dk_27 (dk_at dksX0_effect_0 0 rfl rfl)
theorem dX0_effect_1 : decode cX0_effect 1 = .ok (.invokestatic 192, 3) := dk_184 0 192 (dk_at dksX0_effect_0 1 rfl rfl)
theorem dX0_effect_4 : decode cX0_effect 4 = .ok (.ifCond .eq 21, 3) := dk_153 0 21 (dk_at dksX0_effect_0 4 rfl rfl)
theorem dX0_effect_7 : decode cX0_effect 7 = .ok (.iload_n 2, 1) := dk_28 (dk_at dksX0_effect_0 7 rfl rfl)
theorem dX0_effect_8 : decode cX0_effect 8 = .ok (.invokestatic 192, 3) := dk_184 0 192 (dk_at dksX0_effect_0 8 rfl rfl)
theorem dX0_effect_11 : decode cX0_effect 11 = .ok (.ifCond .eq 14, 3) := dk_153 0 14 (dk_at dksX0_effect_0 11 rfl rfl)
theorem dX0_effect_14 : decode cX0_effect 14 = .ok (.iload_n 3, 1) := dk_29 (dk_at dksX0_effect_0 14 rfl rfl)
theorem dX0_effect_15 : decode cX0_effect 15 = .ok (.bipush (-20), 2) := dk_16 236 (dk_at dksX0_effect_0 15 rfl rfl)
theorem dX0_effect_17 : decode cX0_effect 17 = .ok (.bipush 20, 2) := dk_16 20 (dk_at dksX0_effect_0 17 rfl rfl)
theorem dX0_effect_19 : decode cX0_effect 19 = .ok (.invokestatic 76, 3) := dk_184 0 76 (dk_at dksX0_effect_0 19 rfl rfl)
theorem dX0_effect_22 : decode cX0_effect 22 = .ok (.ifCond .ne 5, 3) := dk_154 0 5 (dk_at dksX0_effect_1 0 rfl rfl)
theorem dX0_effect_25 : decode cX0_effect 25 = .ok (.iconst (-1), 1) := dk_2 (dk_at dksX0_effect_1 3 rfl rfl)
theorem dX0_effect_26 : decode cX0_effect 26 = .ok (.ireturn, 1) := dk_172 (dk_at dksX0_effect_1 4 rfl rfl)
theorem dX0_effect_27 : decode cX0_effect 27 = .ok (.aload_n 0, 1) := dk_42 (dk_at dksX0_effect_1 5 rfl rfl)
theorem dX0_effect_28 : decode cX0_effect 28 = .ok (.getfield 25, 3) := dk_180 0 25 (dk_at dksX0_effect_1 6 rfl rfl)
theorem dX0_effect_31 : decode cX0_effect 31 = .ok (.iload_n 1, 1) := dk_27 (dk_at dksX0_effect_1 9 rfl rfl)
theorem dX0_effect_32 : decode cX0_effect 32 = .ok (.aaload, 1) := dk_50 (dk_at dksX0_effect_1 10 rfl rfl)
theorem dX0_effect_33 : decode cX0_effect 33 = .ok (.ifnull 12, 3) := dk_198 0 12 (dk_at dksX0_effect_1 11 rfl rfl)
theorem dX0_effect_36 : decode cX0_effect 36 = .ok (.aload_n 0, 1) := dk_42 (dk_at dksX0_effect_1 14 rfl rfl)
theorem dX0_effect_37 : decode cX0_effect 37 = .ok (.getfield 25, 3) := dk_180 0 25 (dk_at dksX0_effect_1 15 rfl rfl)
theorem dX0_effect_40 : decode cX0_effect 40 = .ok (.iload_n 2, 1) := dk_28 (dk_at dksX0_effect_1 18 rfl rfl)
theorem dX0_effect_41 : decode cX0_effect 41 = .ok (.aaload, 1) := dk_50 (dk_at dksX0_effect_1 19 rfl rfl)
theorem dX0_effect_42 : decode cX0_effect 42 = .ok (.ifnonnull 9, 3) := dk_199 0 9 (dk_at dksX0_effect_1 20 rfl rfl)
theorem dX0_effect_45 : decode cX0_effect 45 = .ok (.aload_n 0, 1) := dk_42 (dk_at dksX0_effect_1 23 rfl rfl)
theorem dX0_effect_46 : decode cX0_effect 46 = .ok (.iconst 1, 1) := dk_4 (dk_at dksX0_effect_2 0 rfl rfl)
theorem dX0_effect_47 : decode cX0_effect 47 = .ok (.invokevirtual 86, 3) := dk_182 0 86 (dk_at dksX0_effect_2 1 rfl rfl)
theorem dX0_effect_50 : decode cX0_effect 50 = .ok (.ireturn, 1) := dk_172 (dk_at dksX0_effect_2 4 rfl rfl)
theorem dX0_effect_51 : decode cX0_effect 51 = .ok (.aload_n 0, 1) := dk_42 (dk_at dksX0_effect_2 5 rfl rfl)
theorem dX0_effect_52 : decode cX0_effect 52 = .ok (.aload_n 0, 1) := dk_42 (dk_at dksX0_effect_2 6 rfl rfl)
theorem dX0_effect_53 : decode cX0_effect 53 = .ok (.getfield 38, 3) := dk_180 0 38 (dk_at dksX0_effect_2 7 rfl rfl)
theorem dX0_effect_56 : decode cX0_effect 56 = .ok (.iload_n 1, 1) := dk_27 (dk_at dksX0_effect_2 10 rfl rfl)
theorem dX0_effect_57 : decode cX0_effect 57 = .ok (.iload_n 2, 1) := dk_28 (dk_at dksX0_effect_2 11 rfl rfl)
theorem dX0_effect_58 : decode cX0_effect 58 = .ok (.invokestatic 181, 3) := dk_184 0 181 (dk_at dksX0_effect_2 12 rfl rfl)
theorem dX0_effect_61 : decode cX0_effect 61 = .ok (.iaload, 1) := dk_46 (dk_at dksX0_effect_2 15 rfl rfl)
theorem dX0_effect_62 : decode cX0_effect 62 = .ok (.putfield 281, 3) := dk_181 1 25 (dk_at dksX0_effect_2 16 rfl rfl)
theorem dX0_effect_65 : decode cX0_effect 65 = .ok (.aload_n 0, 1) := dk_42 (dk_at dksX0_effect_2 19 rfl rfl)
theorem dX0_effect_66 : decode cX0_effect 66 = .ok (.getfield 38, 3) := dk_180 0 38 (dk_at dksX0_effect_2 20 rfl rfl)
theorem dX0_effect_69 : decode cX0_effect 69 = .ok (.iload_n 1, 1) := dk_27 (dk_at dksX0_effect_2 23 rfl rfl)
theorem dX0_effect_70 : decode cX0_effect 70 = .ok (.iload_n 2, 1) := dk_28 (dk_at dksX0_effect_3 0 rfl rfl)
theorem dX0_effect_71 : decode cX0_effect 71 = .ok (.invokestatic 181, 3) := dk_184 0 181 (dk_at dksX0_effect_3 1 rfl rfl)
theorem dX0_effect_74 : decode cX0_effect 74 = .ok (.iload_n 3, 1) := dk_29 (dk_at dksX0_effect_3 4 rfl rfl)
theorem dX0_effect_75 : decode cX0_effect 75 = .ok (.iastore, 1) := dk_79 (dk_at dksX0_effect_3 5 rfl rfl)
theorem dX0_effect_76 : decode cX0_effect 76 = .ok (.iconst 1, 1) := dk_4 (dk_at dksX0_effect_3 6 rfl rfl)
theorem dX0_effect_77 : decode cX0_effect 77 = .ok (.ireturn, 1) := dk_172 (dk_at dksX0_effect_3 7 rfl rfl)
abbrev cX0_push : ByteArray := prog_1_method_73_code
def yX0_push : MethodName := ⟨RX0, "push", "(II)I"⟩
def dkwX0_push_2 : List UInt8 := [167, 0, 23, 42, 42, 42, 27, 182, 1, 83, 42, 28, 182, 1, 83, 182, 1, 86, 22, 5, 182, 1, 89, 172]
abbrev dktX0_push_2 : List UInt8 := dkwX0_push_2 ++ []
def dkwX0_push_1 : List UInt8 := [21, 4, 21, 4, 10, 182, 1, 71, 55, 5, 22, 5, 9, 148, 154, 0, 11, 42, 7, 182, 0, 86]
abbrev dktX0_push_1 : List UInt8 := dkwX0_push_1 ++ dktX0_push_2
def dkwX0_push_0 : List UInt8 := [42, 27, 28, 182, 1, 80, 62, 29, 156, 0, 5, 29, 172, 4, 42, 180, 1, 62, 120, 4, 100, 54, 4, 42]
abbrev dktX0_push_0 : List UInt8 := dkwX0_push_0 ++ dktX0_push_1
theorem dksX0_push_0 : cX0_push.data.toList.drop 0 = dktX0_push_0 := by decide +kernel
theorem dksX0_push_1 : cX0_push.data.toList.drop 24 = dktX0_push_1 := dk_seg dksX0_push_0 24 rfl rfl
theorem dksX0_push_2 : cX0_push.data.toList.drop 46 = dktX0_push_2 := dk_seg dksX0_push_1 22 rfl rfl
theorem dX0_push_0 : decode cX0_push 0 = .ok (.aload_n 0, 1) := dk_42 (dk_at dksX0_push_0 0 rfl rfl)
theorem dX0_push_1 : decode cX0_push 1 = .ok (.iload_n 1, 1) := dk_27 (dk_at dksX0_push_0 1 rfl rfl)
theorem dX0_push_2 : decode cX0_push 2 = .ok (.iload_n 2, 1) := dk_28 (dk_at dksX0_push_0 2 rfl rfl)
theorem dX0_push_3 : decode cX0_push 3 = .ok (.invokevirtual 336, 3) := dk_182 1 80 (dk_at dksX0_push_0 3 rfl rfl)
theorem dX0_push_6 : decode cX0_push 6 = .ok (.istore_n 3, 1) := dk_62 (dk_at dksX0_push_0 6 rfl rfl)
theorem dX0_push_7 : decode cX0_push 7 = .ok (.iload_n 3, 1) := dk_29 (dk_at dksX0_push_0 7 rfl rfl)
theorem dX0_push_8 : decode cX0_push 8 = .ok (.ifCond .ge 5, 3) := dk_156 0 5 (dk_at dksX0_push_0 8 rfl rfl)
theorem dX0_push_11 : decode cX0_push 11 = .ok (.iload_n 3, 1) := dk_29 (dk_at dksX0_push_0 11 rfl rfl)
theorem dX0_push_12 : decode cX0_push 12 = .ok (.ireturn, 1) := dk_172 (dk_at dksX0_push_0 12 rfl rfl)
theorem dX0_push_13 : decode cX0_push 13 = .ok (.iconst 1, 1) := dk_4 (dk_at dksX0_push_0 13 rfl rfl)
theorem dX0_push_14 : decode cX0_push 14 = .ok (.aload_n 0, 1) := dk_42 (dk_at dksX0_push_0 14 rfl rfl)
theorem dX0_push_15 : decode cX0_push 15 = .ok (.getfield 318, 3) := dk_180 1 62 (dk_at dksX0_push_0 15 rfl rfl)
theorem dX0_push_18 : decode cX0_push 18 = .ok (.ishl, 1) := dk_120 (dk_at dksX0_push_0 18 rfl rfl)
theorem dX0_push_19 : decode cX0_push 19 = .ok (.iconst 1, 1) := dk_4 (dk_at dksX0_push_0 19 rfl rfl)
theorem dX0_push_20 : decode cX0_push 20 = .ok (.isub, 1) := dk_100 (dk_at dksX0_push_0 20 rfl rfl)
theorem dX0_push_21 : decode cX0_push 21 = .ok (.istore 4, 2) := dk_54 4 (dk_at dksX0_push_0 21 rfl rfl)
theorem dX0_push_23 : decode cX0_push 23 = .ok (.aload_n 0, 1) := dk_42 (dk_at dksX0_push_0 23 rfl rfl)
theorem dX0_push_24 : decode cX0_push 24 = .ok (.iload 4, 2) := dk_21 4 (dk_at dksX0_push_1 0 rfl rfl)
theorem dX0_push_26 : decode cX0_push 26 = .ok (.iload 4, 2) := dk_21 4 (dk_at dksX0_push_1 2 rfl rfl)
theorem dX0_push_28 : decode cX0_push 28 = .ok (.lconst 1, 1) := dk_10 (dk_at dksX0_push_1 4 rfl rfl)
theorem dX0_push_29 : decode cX0_push 29 = .ok (.invokevirtual 327, 3) := dk_182 1 71 (dk_at dksX0_push_1 5 rfl rfl)
theorem dX0_push_32 : decode cX0_push 32 = .ok (.lstore 5, 2) := dk_55 5 (dk_at dksX0_push_1 8 rfl rfl)
theorem dX0_push_34 : decode cX0_push 34 = .ok (.lload 5, 2) := dk_22 5 (dk_at dksX0_push_1 10 rfl rfl)
theorem dX0_push_36 : decode cX0_push 36 = .ok (.lconst 0, 1) := dk_9 (dk_at dksX0_push_1 12 rfl rfl)
theorem dX0_push_37 : decode cX0_push 37 = .ok (.lcmp, 1) := dk_148 (dk_at dksX0_push_1 13 rfl rfl)
theorem dX0_push_38 : decode cX0_push 38 = .ok (.ifCond .ne 11, 3) := dk_154 0 11 (dk_at dksX0_push_1 14 rfl rfl)
theorem dX0_push_41 : decode cX0_push 41 = .ok (.aload_n 0, 1) := dk_42 (dk_at dksX0_push_1 17 rfl rfl)
theorem dX0_push_42 : decode cX0_push 42 = .ok (.iconst 4, 1) := dk_7 (dk_at dksX0_push_1 18 rfl rfl)
theorem dX0_push_43 : decode cX0_push 43 = .ok (.invokevirtual 86, 3) := dk_182 0 86 (dk_at dksX0_push_1 19 rfl rfl)
theorem dX0_push_46 : decode cX0_push 46 = .ok (.goto 23, 3) := dk_167 0 23 (dk_at dksX0_push_2 0 rfl rfl)
theorem dX0_push_49 : decode cX0_push 49 = .ok (.aload_n 0, 1) := dk_42 (dk_at dksX0_push_2 3 rfl rfl)
theorem dX0_push_50 : decode cX0_push 50 = .ok (.aload_n 0, 1) := dk_42 (dk_at dksX0_push_2 4 rfl rfl)
theorem dX0_push_51 : decode cX0_push 51 = .ok (.aload_n 0, 1) := dk_42 (dk_at dksX0_push_2 5 rfl rfl)
theorem dX0_push_52 : decode cX0_push 52 = .ok (.iload_n 1, 1) := dk_27 (dk_at dksX0_push_2 6 rfl rfl)
theorem dX0_push_53 : decode cX0_push 53 = .ok (.invokevirtual 339, 3) := dk_182 1 83 (dk_at dksX0_push_2 7 rfl rfl)
theorem dX0_push_56 : decode cX0_push 56 = .ok (.aload_n 0, 1) := dk_42 (dk_at dksX0_push_2 10 rfl rfl)
theorem dX0_push_57 : decode cX0_push 57 = .ok (.iload_n 2, 1) := dk_28 (dk_at dksX0_push_2 11 rfl rfl)
theorem dX0_push_58 : decode cX0_push 58 = .ok (.invokevirtual 339, 3) := dk_182 1 83 (dk_at dksX0_push_2 12 rfl rfl)
theorem dX0_push_61 : decode cX0_push 61 = .ok (.invokevirtual 342, 3) := dk_182 1 86 (dk_at dksX0_push_2 15 rfl rfl)
theorem dX0_push_64 : decode cX0_push 64 = .ok (.lload 5, 2) := dk_22 5 (dk_at dksX0_push_2 18 rfl rfl)
theorem dX0_push_66 : decode cX0_push 66 = .ok (.invokevirtual 345, 3) := dk_182 1 89 (dk_at dksX0_push_2 20 rfl rfl)
theorem dX0_push_69 : decode cX0_push 69 = .ok (.ireturn, 1) := dk_172 (dk_at dksX0_push_2 23 rfl rfl)
abbrev cX0_askedTwo : ByteArray := prog_1_method_72_code
def yX0_askedTwo : MethodName := ⟨RX0, "askedTwo", "(II)I"⟩
def dkwX0_askedTwo_2 : List UInt8 := [153, 0, 7, 3, 167, 0, 5, 16, 252, 172]
abbrev dktX0_askedTwo_2 : List UInt8 := dkwX0_askedTwo_2 ++ []
def dkwX0_askedTwo_1 : List UInt8 := [198, 0, 12, 42, 180, 0, 25, 28, 50, 199, 0, 9, 42, 4, 182, 0, 86, 172, 42, 182, 1, 77]
abbrev dktX0_askedTwo_1 : List UInt8 := dkwX0_askedTwo_1 ++ dktX0_askedTwo_2
def dkwX0_askedTwo_0 : List UInt8 := [27, 184, 0, 192, 153, 0, 10, 28, 184, 0, 192, 154, 0, 5, 2, 172, 42, 180, 0, 25, 27, 50]
abbrev dktX0_askedTwo_0 : List UInt8 := dkwX0_askedTwo_0 ++ dktX0_askedTwo_1
theorem dksX0_askedTwo_0 : cX0_askedTwo.data.toList.drop 0 = dktX0_askedTwo_0 := by decide +kernel
theorem dksX0_askedTwo_1 : cX0_askedTwo.data.toList.drop 22 = dktX0_askedTwo_1 := dk_seg dksX0_askedTwo_0 22 rfl rfl
theorem dksX0_askedTwo_2 : cX0_askedTwo.data.toList.drop 44 = dktX0_askedTwo_2 := dk_seg dksX0_askedTwo_1 22 rfl rfl
theorem dX0_askedTwo_0 : decode cX0_askedTwo 0 = .ok (.iload_n 1, 1) := dk_27 (dk_at dksX0_askedTwo_0 0 rfl rfl)
theorem dX0_askedTwo_1 : decode cX0_askedTwo 1 = .ok (.invokestatic 192, 3) := dk_184 0 192 (dk_at dksX0_askedTwo_0 1 rfl rfl)
theorem dX0_askedTwo_4 : decode cX0_askedTwo 4 = .ok (.ifCond .eq 10, 3) := dk_153 0 10 (dk_at dksX0_askedTwo_0 4 rfl rfl)
theorem dX0_askedTwo_7 : decode cX0_askedTwo 7 = .ok (.iload_n 2, 1) := dk_28 (dk_at dksX0_askedTwo_0 7 rfl rfl)
theorem dX0_askedTwo_8 : decode cX0_askedTwo 8 = .ok (.invokestatic 192, 3) := dk_184 0 192 (dk_at dksX0_askedTwo_0 8 rfl rfl)
theorem dX0_askedTwo_11 : decode cX0_askedTwo 11 = .ok (.ifCond .ne 5, 3) := dk_154 0 5 (dk_at dksX0_askedTwo_0 11 rfl rfl)
theorem dX0_askedTwo_14 : decode cX0_askedTwo 14 = .ok (.iconst (-1), 1) := dk_2 (dk_at dksX0_askedTwo_0 14 rfl rfl)
theorem dX0_askedTwo_15 : decode cX0_askedTwo 15 = .ok (.ireturn, 1) := dk_172 (dk_at dksX0_askedTwo_0 15 rfl rfl)
theorem dX0_askedTwo_16 : decode cX0_askedTwo 16 = .ok (.aload_n 0, 1) := dk_42 (dk_at dksX0_askedTwo_0 16 rfl rfl)
theorem dX0_askedTwo_17 : decode cX0_askedTwo 17 = .ok (.getfield 25, 3) := dk_180 0 25 (dk_at dksX0_askedTwo_0 17 rfl rfl)
theorem dX0_askedTwo_20 : decode cX0_askedTwo 20 = .ok (.iload_n 1, 1) := dk_27 (dk_at dksX0_askedTwo_0 20 rfl rfl)
theorem dX0_askedTwo_21 : decode cX0_askedTwo 21 = .ok (.aaload, 1) := dk_50 (dk_at dksX0_askedTwo_0 21 rfl rfl)
theorem dX0_askedTwo_22 : decode cX0_askedTwo 22 = .ok (.ifnull 12, 3) := dk_198 0 12 (dk_at dksX0_askedTwo_1 0 rfl rfl)
theorem dX0_askedTwo_25 : decode cX0_askedTwo 25 = .ok (.aload_n 0, 1) := dk_42 (dk_at dksX0_askedTwo_1 3 rfl rfl)
theorem dX0_askedTwo_26 : decode cX0_askedTwo 26 = .ok (.getfield 25, 3) := dk_180 0 25 (dk_at dksX0_askedTwo_1 4 rfl rfl)
theorem dX0_askedTwo_29 : decode cX0_askedTwo 29 = .ok (.iload_n 2, 1) := dk_28 (dk_at dksX0_askedTwo_1 7 rfl rfl)
theorem dX0_askedTwo_30 : decode cX0_askedTwo 30 = .ok (.aaload, 1) := dk_50 (dk_at dksX0_askedTwo_1 8 rfl rfl)
theorem dX0_askedTwo_31 : decode cX0_askedTwo 31 = .ok (.ifnonnull 9, 3) := dk_199 0 9 (dk_at dksX0_askedTwo_1 9 rfl rfl)
theorem dX0_askedTwo_34 : decode cX0_askedTwo 34 = .ok (.aload_n 0, 1) := dk_42 (dk_at dksX0_askedTwo_1 12 rfl rfl)
theorem dX0_askedTwo_35 : decode cX0_askedTwo 35 = .ok (.iconst 1, 1) := dk_4 (dk_at dksX0_askedTwo_1 13 rfl rfl)
theorem dX0_askedTwo_36 : decode cX0_askedTwo 36 = .ok (.invokevirtual 86, 3) := dk_182 0 86 (dk_at dksX0_askedTwo_1 14 rfl rfl)
theorem dX0_askedTwo_39 : decode cX0_askedTwo 39 = .ok (.ireturn, 1) := dk_172 (dk_at dksX0_askedTwo_1 17 rfl rfl)
theorem dX0_askedTwo_40 : decode cX0_askedTwo 40 = .ok (.aload_n 0, 1) := dk_42 (dk_at dksX0_askedTwo_1 18 rfl rfl)
theorem dX0_askedTwo_41 : decode cX0_askedTwo 41 = .ok (.invokevirtual 333, 3) := dk_182 1 77 (dk_at dksX0_askedTwo_1 19 rfl rfl)
theorem dX0_askedTwo_44 : decode cX0_askedTwo 44 = .ok (.ifCond .eq 7, 3) := dk_153 0 7 (dk_at dksX0_askedTwo_2 0 rfl rfl)
theorem dX0_askedTwo_47 : decode cX0_askedTwo 47 = .ok (.iconst 0, 1) := dk_3 (dk_at dksX0_askedTwo_2 3 rfl rfl)
theorem dX0_askedTwo_48 : decode cX0_askedTwo 48 = .ok (.goto 5, 3) := dk_167 0 5 (dk_at dksX0_askedTwo_2 4 rfl rfl)
theorem dX0_askedTwo_51 : decode cX0_askedTwo 51 = .ok (.bipush (-4), 2) := dk_16 252 (dk_at dksX0_askedTwo_2 7 rfl rfl)
theorem dX0_askedTwo_53 : decode cX0_askedTwo 53 = .ok (.ireturn, 1) := dk_172 (dk_at dksX0_askedTwo_2 9 rfl rfl)
abbrev cX0_isLaid : ByteArray := prog_1_method_68_code
def yX0_isLaid : MethodName := ⟨RX0, "isLaid", "()Z"⟩
def dkwX0_isLaid_5 : List UInt8 := [132, 1, 1, 167, 255, 188, 42, 180, 1, 62, 16, 6, 163, 0, 7, 4, 167, 0, 4, 3, 172]
abbrev dktX0_isLaid_5 : List UInt8 := dkwX0_isLaid_5 ++ []
def dkwX0_isLaid_4 : List UInt8 := [180, 0, 57, 27, 46, 42, 180, 0, 57, 28, 46, 184, 0, 181, 46, 116, 79, 132, 2, 1, 167, 255, 213]
abbrev dktX0_isLaid_4 : List UInt8 := dkwX0_isLaid_4 ++ dktX0_isLaid_5
def dkwX0_isLaid_3 : List UInt8 := [28, 42, 180, 1, 62, 162, 0, 41, 42, 180, 0, 60, 16, 6, 27, 104, 28, 96, 42, 180, 0, 38, 42]
abbrev dktX0_isLaid_3 : List UInt8 := dkwX0_isLaid_3 ++ dktX0_isLaid_4
def dkwX0_isLaid_2 : List UInt8 := [167, 255, 218, 3, 60, 27, 42, 180, 1, 62, 162, 0, 66, 42, 180, 1, 62, 16, 6, 163, 0, 57, 3, 61]
abbrev dktX0_isLaid_2 : List UInt8 := dkwX0_isLaid_2 ++ dktX0_isLaid_3
def dkwX0_isLaid_1 : List UInt8 := [180, 0, 57, 42, 180, 1, 62, 27, 79, 42, 89, 180, 1, 62, 4, 96, 181, 1, 62, 132, 1, 1]
abbrev dktX0_isLaid_1 : List UInt8 := dkwX0_isLaid_1 ++ dktX0_isLaid_2
def dkwX0_isLaid_0 : List UInt8 := [42, 3, 181, 1, 62, 3, 60, 27, 16, 8, 162, 0, 38, 42, 180, 0, 25, 27, 50, 198, 0, 23, 42]
abbrev dktX0_isLaid_0 : List UInt8 := dkwX0_isLaid_0 ++ dktX0_isLaid_1
theorem dksX0_isLaid_0 : cX0_isLaid.data.toList.drop 0 = dktX0_isLaid_0 := by decide +kernel
theorem dksX0_isLaid_1 : cX0_isLaid.data.toList.drop 23 = dktX0_isLaid_1 := dk_seg dksX0_isLaid_0 23 rfl rfl
theorem dksX0_isLaid_2 : cX0_isLaid.data.toList.drop 45 = dktX0_isLaid_2 := dk_seg dksX0_isLaid_1 22 rfl rfl
theorem dksX0_isLaid_3 : cX0_isLaid.data.toList.drop 69 = dktX0_isLaid_3 := dk_seg dksX0_isLaid_2 24 rfl rfl
theorem dksX0_isLaid_4 : cX0_isLaid.data.toList.drop 92 = dktX0_isLaid_4 := dk_seg dksX0_isLaid_3 23 rfl rfl
theorem dksX0_isLaid_5 : cX0_isLaid.data.toList.drop 115 = dktX0_isLaid_5 := dk_seg dksX0_isLaid_4 23 rfl rfl
theorem dX0_isLaid_0 : decode cX0_isLaid 0 = .ok (.aload_n 0, 1) := dk_42 (dk_at dksX0_isLaid_0 0 rfl rfl)
theorem dX0_isLaid_1 : decode cX0_isLaid 1 = .ok (.iconst 0, 1) := dk_3 (dk_at dksX0_isLaid_0 1 rfl rfl)
theorem dX0_isLaid_2 : decode cX0_isLaid 2 = .ok (.putfield 318, 3) := dk_181 1 62 (dk_at dksX0_isLaid_0 2 rfl rfl)
theorem dX0_isLaid_5 : decode cX0_isLaid 5 = .ok (.iconst 0, 1) := dk_3 (dk_at dksX0_isLaid_0 5 rfl rfl)
theorem dX0_isLaid_6 : decode cX0_isLaid 6 = .ok (.istore_n 1, 1) := dk_60 (dk_at dksX0_isLaid_0 6 rfl rfl)
theorem dX0_isLaid_7 : decode cX0_isLaid 7 = .ok (.iload_n 1, 1) := dk_27 (dk_at dksX0_isLaid_0 7 rfl rfl)
theorem dX0_isLaid_8 : decode cX0_isLaid 8 = .ok (.bipush 8, 2) := dk_16 8 (dk_at dksX0_isLaid_0 8 rfl rfl)
theorem dX0_isLaid_10 : decode cX0_isLaid 10 = .ok (.if_icmp .ge 38, 3) := dk_162 0 38 (dk_at dksX0_isLaid_0 10 rfl rfl)
theorem dX0_isLaid_13 : decode cX0_isLaid 13 = .ok (.aload_n 0, 1) := dk_42 (dk_at dksX0_isLaid_0 13 rfl rfl)
theorem dX0_isLaid_14 : decode cX0_isLaid 14 = .ok (.getfield 25, 3) := dk_180 0 25 (dk_at dksX0_isLaid_0 14 rfl rfl)
theorem dX0_isLaid_17 : decode cX0_isLaid 17 = .ok (.iload_n 1, 1) := dk_27 (dk_at dksX0_isLaid_0 17 rfl rfl)
theorem dX0_isLaid_18 : decode cX0_isLaid 18 = .ok (.aaload, 1) := dk_50 (dk_at dksX0_isLaid_0 18 rfl rfl)
theorem dX0_isLaid_19 : decode cX0_isLaid 19 = .ok (.ifnull 23, 3) := dk_198 0 23 (dk_at dksX0_isLaid_0 19 rfl rfl)
theorem dX0_isLaid_22 : decode cX0_isLaid 22 = .ok (.aload_n 0, 1) := dk_42 (dk_at dksX0_isLaid_0 22 rfl rfl)
theorem dX0_isLaid_23 : decode cX0_isLaid 23 = .ok (.getfield 57, 3) := dk_180 0 57 (dk_at dksX0_isLaid_1 0 rfl rfl)
theorem dX0_isLaid_26 : decode cX0_isLaid 26 = .ok (.aload_n 0, 1) := dk_42 (dk_at dksX0_isLaid_1 3 rfl rfl)
theorem dX0_isLaid_27 : decode cX0_isLaid 27 = .ok (.getfield 318, 3) := dk_180 1 62 (dk_at dksX0_isLaid_1 4 rfl rfl)
theorem dX0_isLaid_30 : decode cX0_isLaid 30 = .ok (.iload_n 1, 1) := dk_27 (dk_at dksX0_isLaid_1 7 rfl rfl)
theorem dX0_isLaid_31 : decode cX0_isLaid 31 = .ok (.iastore, 1) := dk_79 (dk_at dksX0_isLaid_1 8 rfl rfl)
theorem dX0_isLaid_32 : decode cX0_isLaid 32 = .ok (.aload_n 0, 1) := dk_42 (dk_at dksX0_isLaid_1 9 rfl rfl)
theorem dX0_isLaid_33 : decode cX0_isLaid 33 = .ok (.dup, 1) := dk_89 (dk_at dksX0_isLaid_1 10 rfl rfl)
theorem dX0_isLaid_34 : decode cX0_isLaid 34 = .ok (.getfield 318, 3) := dk_180 1 62 (dk_at dksX0_isLaid_1 11 rfl rfl)
theorem dX0_isLaid_37 : decode cX0_isLaid 37 = .ok (.iconst 1, 1) := dk_4 (dk_at dksX0_isLaid_1 14 rfl rfl)
theorem dX0_isLaid_38 : decode cX0_isLaid 38 = .ok (.iadd, 1) := dk_96 (dk_at dksX0_isLaid_1 15 rfl rfl)
theorem dX0_isLaid_39 : decode cX0_isLaid 39 = .ok (.putfield 318, 3) := dk_181 1 62 (dk_at dksX0_isLaid_1 16 rfl rfl)
theorem dX0_isLaid_42 : decode cX0_isLaid 42 = .ok (.iinc 1 1, 3) := dk_132 1 1 (dk_at dksX0_isLaid_1 19 rfl rfl)
theorem dX0_isLaid_45 : decode cX0_isLaid 45 = .ok (.goto (-38), 3) := dk_167 255 218 (dk_at dksX0_isLaid_2 0 rfl rfl)
theorem dX0_isLaid_48 : decode cX0_isLaid 48 = .ok (.iconst 0, 1) := dk_3 (dk_at dksX0_isLaid_2 3 rfl rfl)
theorem dX0_isLaid_49 : decode cX0_isLaid 49 = .ok (.istore_n 1, 1) := dk_60 (dk_at dksX0_isLaid_2 4 rfl rfl)
theorem dX0_isLaid_50 : decode cX0_isLaid 50 = .ok (.iload_n 1, 1) := dk_27 (dk_at dksX0_isLaid_2 5 rfl rfl)
theorem dX0_isLaid_51 : decode cX0_isLaid 51 = .ok (.aload_n 0, 1) := dk_42 (dk_at dksX0_isLaid_2 6 rfl rfl)
theorem dX0_isLaid_52 : decode cX0_isLaid 52 = .ok (.getfield 318, 3) := dk_180 1 62 (dk_at dksX0_isLaid_2 7 rfl rfl)
theorem dX0_isLaid_55 : decode cX0_isLaid 55 = .ok (.if_icmp .ge 66, 3) := dk_162 0 66 (dk_at dksX0_isLaid_2 10 rfl rfl)
theorem dX0_isLaid_58 : decode cX0_isLaid 58 = .ok (.aload_n 0, 1) := dk_42 (dk_at dksX0_isLaid_2 13 rfl rfl)
theorem dX0_isLaid_59 : decode cX0_isLaid 59 = .ok (.getfield 318, 3) := dk_180 1 62 (dk_at dksX0_isLaid_2 14 rfl rfl)
theorem dX0_isLaid_62 : decode cX0_isLaid 62 = .ok (.bipush 6, 2) := dk_16 6 (dk_at dksX0_isLaid_2 17 rfl rfl)
theorem dX0_isLaid_64 : decode cX0_isLaid 64 = .ok (.if_icmp .gt 57, 3) := dk_163 0 57 (dk_at dksX0_isLaid_2 19 rfl rfl)
theorem dX0_isLaid_67 : decode cX0_isLaid 67 = .ok (.iconst 0, 1) := dk_3 (dk_at dksX0_isLaid_2 22 rfl rfl)
theorem dX0_isLaid_68 : decode cX0_isLaid 68 = .ok (.istore_n 2, 1) := dk_61 (dk_at dksX0_isLaid_2 23 rfl rfl)
theorem dX0_isLaid_69 : decode cX0_isLaid 69 = .ok (.iload_n 2, 1) := dk_28 (dk_at dksX0_isLaid_3 0 rfl rfl)
theorem dX0_isLaid_70 : decode cX0_isLaid 70 = .ok (.aload_n 0, 1) := dk_42 (dk_at dksX0_isLaid_3 1 rfl rfl)
theorem dX0_isLaid_71 : decode cX0_isLaid 71 = .ok (.getfield 318, 3) := dk_180 1 62 (dk_at dksX0_isLaid_3 2 rfl rfl)
theorem dX0_isLaid_74 : decode cX0_isLaid 74 = .ok (.if_icmp .ge 41, 3) := dk_162 0 41 (dk_at dksX0_isLaid_3 5 rfl rfl)
theorem dX0_isLaid_77 : decode cX0_isLaid 77 = .ok (.aload_n 0, 1) := dk_42 (dk_at dksX0_isLaid_3 8 rfl rfl)
theorem dX0_isLaid_78 : decode cX0_isLaid 78 = .ok (.getfield 60, 3) := dk_180 0 60 (dk_at dksX0_isLaid_3 9 rfl rfl)
theorem dX0_isLaid_81 : decode cX0_isLaid 81 = .ok (.bipush 6, 2) := dk_16 6 (dk_at dksX0_isLaid_3 12 rfl rfl)
theorem dX0_isLaid_83 : decode cX0_isLaid 83 = .ok (.iload_n 1, 1) := dk_27 (dk_at dksX0_isLaid_3 14 rfl rfl)
theorem dX0_isLaid_84 : decode cX0_isLaid 84 = .ok (.imul, 1) := dk_104 (dk_at dksX0_isLaid_3 15 rfl rfl)
theorem dX0_isLaid_85 : decode cX0_isLaid 85 = .ok (.iload_n 2, 1) := dk_28 (dk_at dksX0_isLaid_3 16 rfl rfl)
theorem dX0_isLaid_86 : decode cX0_isLaid 86 = .ok (.iadd, 1) := dk_96 (dk_at dksX0_isLaid_3 17 rfl rfl)
theorem dX0_isLaid_87 : decode cX0_isLaid 87 = .ok (.aload_n 0, 1) := dk_42 (dk_at dksX0_isLaid_3 18 rfl rfl)
theorem dX0_isLaid_88 : decode cX0_isLaid 88 = .ok (.getfield 38, 3) := dk_180 0 38 (dk_at dksX0_isLaid_3 19 rfl rfl)
theorem dX0_isLaid_91 : decode cX0_isLaid 91 = .ok (.aload_n 0, 1) := dk_42 (dk_at dksX0_isLaid_3 22 rfl rfl)
theorem dX0_isLaid_92 : decode cX0_isLaid 92 = .ok (.getfield 57, 3) := dk_180 0 57 (dk_at dksX0_isLaid_4 0 rfl rfl)
theorem dX0_isLaid_95 : decode cX0_isLaid 95 = .ok (.iload_n 1, 1) := dk_27 (dk_at dksX0_isLaid_4 3 rfl rfl)
theorem dX0_isLaid_96 : decode cX0_isLaid 96 = .ok (.iaload, 1) := dk_46 (dk_at dksX0_isLaid_4 4 rfl rfl)
theorem dX0_isLaid_97 : decode cX0_isLaid 97 = .ok (.aload_n 0, 1) := dk_42 (dk_at dksX0_isLaid_4 5 rfl rfl)
theorem dX0_isLaid_98 : decode cX0_isLaid 98 = .ok (.getfield 57, 3) := dk_180 0 57 (dk_at dksX0_isLaid_4 6 rfl rfl)
theorem dX0_isLaid_101 : decode cX0_isLaid 101 = .ok (.iload_n 2, 1) := dk_28 (dk_at dksX0_isLaid_4 9 rfl rfl)
theorem dX0_isLaid_102 : decode cX0_isLaid 102 = .ok (.iaload, 1) := dk_46 (dk_at dksX0_isLaid_4 10 rfl rfl)
theorem dX0_isLaid_103 : decode cX0_isLaid 103 = .ok (.invokestatic 181, 3) := dk_184 0 181 (dk_at dksX0_isLaid_4 11 rfl rfl)
theorem dX0_isLaid_106 : decode cX0_isLaid 106 = .ok (.iaload, 1) := dk_46 (dk_at dksX0_isLaid_4 14 rfl rfl)
theorem dX0_isLaid_107 : decode cX0_isLaid 107 = .ok (.ineg, 1) := dk_116 (dk_at dksX0_isLaid_4 15 rfl rfl)
theorem dX0_isLaid_108 : decode cX0_isLaid 108 = .ok (.iastore, 1) := dk_79 (dk_at dksX0_isLaid_4 16 rfl rfl)
theorem dX0_isLaid_109 : decode cX0_isLaid 109 = .ok (.iinc 2 1, 3) := dk_132 2 1 (dk_at dksX0_isLaid_4 17 rfl rfl)
theorem dX0_isLaid_112 : decode cX0_isLaid 112 = .ok (.goto (-43), 3) := dk_167 255 213 (dk_at dksX0_isLaid_4 20 rfl rfl)
theorem dX0_isLaid_115 : decode cX0_isLaid 115 = .ok (.iinc 1 1, 3) := dk_132 1 1 (dk_at dksX0_isLaid_5 0 rfl rfl)
theorem dX0_isLaid_118 : decode cX0_isLaid 118 = .ok (.goto (-68), 3) := dk_167 255 188 (dk_at dksX0_isLaid_5 3 rfl rfl)
theorem dX0_isLaid_121 : decode cX0_isLaid 121 = .ok (.aload_n 0, 1) := dk_42 (dk_at dksX0_isLaid_5 6 rfl rfl)
theorem dX0_isLaid_122 : decode cX0_isLaid 122 = .ok (.getfield 318, 3) := dk_180 1 62 (dk_at dksX0_isLaid_5 7 rfl rfl)
theorem dX0_isLaid_125 : decode cX0_isLaid 125 = .ok (.bipush 6, 2) := dk_16 6 (dk_at dksX0_isLaid_5 10 rfl rfl)
theorem dX0_isLaid_127 : decode cX0_isLaid 127 = .ok (.if_icmp .gt 7, 3) := dk_163 0 7 (dk_at dksX0_isLaid_5 12 rfl rfl)
theorem dX0_isLaid_130 : decode cX0_isLaid 130 = .ok (.iconst 1, 1) := dk_4 (dk_at dksX0_isLaid_5 15 rfl rfl)
theorem dX0_isLaid_131 : decode cX0_isLaid 131 = .ok (.goto 4, 3) := dk_167 0 4 (dk_at dksX0_isLaid_5 16 rfl rfl)
theorem dX0_isLaid_134 : decode cX0_isLaid 134 = .ok (.iconst 0, 1) := dk_3 (dk_at dksX0_isLaid_5 19 rfl rfl)
theorem dX0_isLaid_135 : decode cX0_isLaid 135 = .ok (.ireturn, 1) := dk_172 (dk_at dksX0_isLaid_5 20 rfl rfl)
abbrev cX0_sumOfWays : ByteArray := prog_1_method_70_code
def yX0_sumOfWays : MethodName := ⟨RX0, "sumOfWays", "(IIJ)J"⟩
def dkwX0_sumOfWays_7 : List UInt8 := [173]
abbrev dktX0_sumOfWays_7 : List UInt8 := dkwX0_sumOfWays_7 ++ []
def dkwX0_sumOfWays_6 : List UInt8 := [105, 21, 10, 133, 105, 182, 1, 71, 97, 55, 6, 21, 8, 116, 54, 8, 132, 9, 1, 167, 255, 171, 22, 6]
abbrev dktX0_sumOfWays_6 : List UInt8 := dkwX0_sumOfWays_6 ++ dktX0_sumOfWays_7
def dkwX0_sumOfWays_5 : List UInt8 := [167, 0, 32, 42, 27, 4, 21, 5, 120, 2, 130, 126, 28, 4, 21, 9, 120, 2, 130, 126, 21, 8, 133, 33]
abbrev dktX0_sumOfWays_5 : List UInt8 := dkwX0_sumOfWays_5 ++ dktX0_sumOfWays_6
def dkwX0_sumOfWays_4 : List UInt8 := [180, 0, 60, 16, 6, 21, 5, 104, 21, 9, 96, 46, 54, 10, 22, 6, 21, 10, 154, 0, 7, 9]
abbrev dktX0_sumOfWays_4 : List UInt8 := dkwX0_sumOfWays_4 ++ dktX0_sumOfWays_5
def dkwX0_sumOfWays_3 : List UInt8 := [54, 9, 21, 9, 42, 180, 1, 62, 162, 0, 82, 28, 21, 9, 122, 4, 126, 4, 160, 0, 66, 42]
abbrev dktX0_sumOfWays_3 : List UInt8 := dkwX0_sumOfWays_3 ++ dktX0_sumOfWays_4
def dkwX0_sumOfWays_2 : List UInt8 := [54, 5, 27, 21, 5, 122, 4, 126, 154, 0, 9, 132, 5, 1, 167, 255, 244, 9, 55, 6, 4, 54, 8, 3]
abbrev dktX0_sumOfWays_2 : List UInt8 := dkwX0_sumOfWays_2 ++ dktX0_sumOfWays_3
def dkwX0_sumOfWays_1 : List UInt8 := [42, 89, 180, 1, 68, 33, 9, 148, 156, 0, 7, 4, 167, 0, 4, 3, 96, 181, 1, 68, 33, 173, 3]
abbrev dktX0_sumOfWays_1 : List UInt8 := dkwX0_sumOfWays_1 ++ dktX0_sumOfWays_2
def dkwX0_sumOfWays_0 : List UInt8 := [27, 154, 0, 45, 42, 89, 180, 1, 65, 33, 9, 148, 158, 0, 7, 4, 167, 0, 4, 3, 96, 181, 1, 65]
abbrev dktX0_sumOfWays_0 : List UInt8 := dkwX0_sumOfWays_0 ++ dktX0_sumOfWays_1
theorem dksX0_sumOfWays_0 : cX0_sumOfWays.data.toList.drop 0 = dktX0_sumOfWays_0 := by decide +kernel
theorem dksX0_sumOfWays_1 : cX0_sumOfWays.data.toList.drop 24 = dktX0_sumOfWays_1 := dk_seg dksX0_sumOfWays_0 24 rfl rfl
theorem dksX0_sumOfWays_2 : cX0_sumOfWays.data.toList.drop 47 = dktX0_sumOfWays_2 := dk_seg dksX0_sumOfWays_1 23 rfl rfl
theorem dksX0_sumOfWays_3 : cX0_sumOfWays.data.toList.drop 71 = dktX0_sumOfWays_3 := dk_seg dksX0_sumOfWays_2 24 rfl rfl
theorem dksX0_sumOfWays_4 : cX0_sumOfWays.data.toList.drop 93 = dktX0_sumOfWays_4 := dk_seg dksX0_sumOfWays_3 22 rfl rfl
theorem dksX0_sumOfWays_5 : cX0_sumOfWays.data.toList.drop 115 = dktX0_sumOfWays_5 := dk_seg dksX0_sumOfWays_4 22 rfl rfl
theorem dksX0_sumOfWays_6 : cX0_sumOfWays.data.toList.drop 139 = dktX0_sumOfWays_6 := dk_seg dksX0_sumOfWays_5 24 rfl rfl
theorem dksX0_sumOfWays_7 : cX0_sumOfWays.data.toList.drop 163 = dktX0_sumOfWays_7 := dk_seg dksX0_sumOfWays_6 24 rfl rfl
theorem dX0_sumOfWays_0 : decode cX0_sumOfWays 0 = .ok (.iload_n 1, 1) := dk_27 (dk_at dksX0_sumOfWays_0 0 rfl rfl)
theorem dX0_sumOfWays_1 : decode cX0_sumOfWays 1 = .ok (.ifCond .ne 45, 3) := dk_154 0 45 (dk_at dksX0_sumOfWays_0 1 rfl rfl)
theorem dX0_sumOfWays_4 : decode cX0_sumOfWays 4 = .ok (.aload_n 0, 1) := dk_42 (dk_at dksX0_sumOfWays_0 4 rfl rfl)
theorem dX0_sumOfWays_5 : decode cX0_sumOfWays 5 = .ok (.dup, 1) := dk_89 (dk_at dksX0_sumOfWays_0 5 rfl rfl)
theorem dX0_sumOfWays_6 : decode cX0_sumOfWays 6 = .ok (.getfield 321, 3) := dk_180 1 65 (dk_at dksX0_sumOfWays_0 6 rfl rfl)
theorem dX0_sumOfWays_9 : decode cX0_sumOfWays 9 = .ok (.lload_n 3, 1) := dk_33 (dk_at dksX0_sumOfWays_0 9 rfl rfl)
theorem dX0_sumOfWays_10 : decode cX0_sumOfWays 10 = .ok (.lconst 0, 1) := dk_9 (dk_at dksX0_sumOfWays_0 10 rfl rfl)
theorem dX0_sumOfWays_11 : decode cX0_sumOfWays 11 = .ok (.lcmp, 1) := dk_148 (dk_at dksX0_sumOfWays_0 11 rfl rfl)
theorem dX0_sumOfWays_12 : decode cX0_sumOfWays 12 = .ok (.ifCond .le 7, 3) := dk_158 0 7 (dk_at dksX0_sumOfWays_0 12 rfl rfl)
theorem dX0_sumOfWays_15 : decode cX0_sumOfWays 15 = .ok (.iconst 1, 1) := dk_4 (dk_at dksX0_sumOfWays_0 15 rfl rfl)
theorem dX0_sumOfWays_16 : decode cX0_sumOfWays 16 = .ok (.goto 4, 3) := dk_167 0 4 (dk_at dksX0_sumOfWays_0 16 rfl rfl)
theorem dX0_sumOfWays_19 : decode cX0_sumOfWays 19 = .ok (.iconst 0, 1) := dk_3 (dk_at dksX0_sumOfWays_0 19 rfl rfl)
theorem dX0_sumOfWays_20 : decode cX0_sumOfWays 20 = .ok (.iadd, 1) := dk_96 (dk_at dksX0_sumOfWays_0 20 rfl rfl)
theorem dX0_sumOfWays_21 : decode cX0_sumOfWays 21 = .ok (.putfield 321, 3) := dk_181 1 65 (dk_at dksX0_sumOfWays_0 21 rfl rfl)
theorem dX0_sumOfWays_24 : decode cX0_sumOfWays 24 = .ok (.aload_n 0, 1) := dk_42 (dk_at dksX0_sumOfWays_1 0 rfl rfl)
theorem dX0_sumOfWays_25 : decode cX0_sumOfWays 25 = .ok (.dup, 1) := dk_89 (dk_at dksX0_sumOfWays_1 1 rfl rfl)
theorem dX0_sumOfWays_26 : decode cX0_sumOfWays 26 = .ok (.getfield 324, 3) := dk_180 1 68 (dk_at dksX0_sumOfWays_1 2 rfl rfl)
theorem dX0_sumOfWays_29 : decode cX0_sumOfWays 29 = .ok (.lload_n 3, 1) := dk_33 (dk_at dksX0_sumOfWays_1 5 rfl rfl)
theorem dX0_sumOfWays_30 : decode cX0_sumOfWays 30 = .ok (.lconst 0, 1) := dk_9 (dk_at dksX0_sumOfWays_1 6 rfl rfl)
theorem dX0_sumOfWays_31 : decode cX0_sumOfWays 31 = .ok (.lcmp, 1) := dk_148 (dk_at dksX0_sumOfWays_1 7 rfl rfl)
theorem dX0_sumOfWays_32 : decode cX0_sumOfWays 32 = .ok (.ifCond .ge 7, 3) := dk_156 0 7 (dk_at dksX0_sumOfWays_1 8 rfl rfl)
theorem dX0_sumOfWays_35 : decode cX0_sumOfWays 35 = .ok (.iconst 1, 1) := dk_4 (dk_at dksX0_sumOfWays_1 11 rfl rfl)
theorem dX0_sumOfWays_36 : decode cX0_sumOfWays 36 = .ok (.goto 4, 3) := dk_167 0 4 (dk_at dksX0_sumOfWays_1 12 rfl rfl)
theorem dX0_sumOfWays_39 : decode cX0_sumOfWays 39 = .ok (.iconst 0, 1) := dk_3 (dk_at dksX0_sumOfWays_1 15 rfl rfl)
theorem dX0_sumOfWays_40 : decode cX0_sumOfWays 40 = .ok (.iadd, 1) := dk_96 (dk_at dksX0_sumOfWays_1 16 rfl rfl)
theorem dX0_sumOfWays_41 : decode cX0_sumOfWays 41 = .ok (.putfield 324, 3) := dk_181 1 68 (dk_at dksX0_sumOfWays_1 17 rfl rfl)
theorem dX0_sumOfWays_44 : decode cX0_sumOfWays 44 = .ok (.lload_n 3, 1) := dk_33 (dk_at dksX0_sumOfWays_1 20 rfl rfl)
theorem dX0_sumOfWays_45 : decode cX0_sumOfWays 45 = .ok (.lreturn, 1) := dk_173 (dk_at dksX0_sumOfWays_1 21 rfl rfl)
theorem dX0_sumOfWays_46 : decode cX0_sumOfWays 46 = .ok (.iconst 0, 1) := dk_3 (dk_at dksX0_sumOfWays_1 22 rfl rfl)
theorem dX0_sumOfWays_47 : decode cX0_sumOfWays 47 = .ok (.istore 5, 2) := dk_54 5 (dk_at dksX0_sumOfWays_2 0 rfl rfl)
theorem dX0_sumOfWays_49 : decode cX0_sumOfWays 49 = .ok (.iload_n 1, 1) := dk_27 (dk_at dksX0_sumOfWays_2 2 rfl rfl)
theorem dX0_sumOfWays_50 : decode cX0_sumOfWays 50 = .ok (.iload 5, 2) := dk_21 5 (dk_at dksX0_sumOfWays_2 3 rfl rfl)
theorem dX0_sumOfWays_52 : decode cX0_sumOfWays 52 = .ok (.ishr, 1) := dk_122 (dk_at dksX0_sumOfWays_2 5 rfl rfl)
theorem dX0_sumOfWays_53 : decode cX0_sumOfWays 53 = .ok (.iconst 1, 1) := dk_4 (dk_at dksX0_sumOfWays_2 6 rfl rfl)
theorem dX0_sumOfWays_54 : decode cX0_sumOfWays 54 = .ok (.iand, 1) := dk_126 (dk_at dksX0_sumOfWays_2 7 rfl rfl)
theorem dX0_sumOfWays_55 : decode cX0_sumOfWays 55 = .ok (.ifCond .ne 9, 3) := dk_154 0 9 (dk_at dksX0_sumOfWays_2 8 rfl rfl)
theorem dX0_sumOfWays_58 : decode cX0_sumOfWays 58 = .ok (.iinc 5 1, 3) := dk_132 5 1 (dk_at dksX0_sumOfWays_2 11 rfl rfl)
theorem dX0_sumOfWays_61 : decode cX0_sumOfWays 61 = .ok (.goto (-12), 3) := dk_167 255 244 (dk_at dksX0_sumOfWays_2 14 rfl rfl)
theorem dX0_sumOfWays_64 : decode cX0_sumOfWays 64 = .ok (.lconst 0, 1) := dk_9 (dk_at dksX0_sumOfWays_2 17 rfl rfl)
theorem dX0_sumOfWays_65 : decode cX0_sumOfWays 65 = .ok (.lstore 6, 2) := dk_55 6 (dk_at dksX0_sumOfWays_2 18 rfl rfl)
theorem dX0_sumOfWays_67 : decode cX0_sumOfWays 67 = .ok (.iconst 1, 1) := dk_4 (dk_at dksX0_sumOfWays_2 20 rfl rfl)
theorem dX0_sumOfWays_68 : decode cX0_sumOfWays 68 = .ok (.istore 8, 2) := dk_54 8 (dk_at dksX0_sumOfWays_2 21 rfl rfl)
theorem dX0_sumOfWays_70 : decode cX0_sumOfWays 70 = .ok (.iconst 0, 1) := dk_3 (dk_at dksX0_sumOfWays_2 23 rfl rfl)
theorem dX0_sumOfWays_71 : decode cX0_sumOfWays 71 = .ok (.istore 9, 2) := dk_54 9 (dk_at dksX0_sumOfWays_3 0 rfl rfl)
theorem dX0_sumOfWays_73 : decode cX0_sumOfWays 73 = .ok (.iload 9, 2) := dk_21 9 (dk_at dksX0_sumOfWays_3 2 rfl rfl)
theorem dX0_sumOfWays_75 : decode cX0_sumOfWays 75 = .ok (.aload_n 0, 1) := dk_42 (dk_at dksX0_sumOfWays_3 4 rfl rfl)
theorem dX0_sumOfWays_76 : decode cX0_sumOfWays 76 = .ok (.getfield 318, 3) := dk_180 1 62 (dk_at dksX0_sumOfWays_3 5 rfl rfl)
theorem dX0_sumOfWays_79 : decode cX0_sumOfWays 79 = .ok (.if_icmp .ge 82, 3) := dk_162 0 82 (dk_at dksX0_sumOfWays_3 8 rfl rfl)
theorem dX0_sumOfWays_82 : decode cX0_sumOfWays 82 = .ok (.iload_n 2, 1) := dk_28 (dk_at dksX0_sumOfWays_3 11 rfl rfl)
theorem dX0_sumOfWays_83 : decode cX0_sumOfWays 83 = .ok (.iload 9, 2) := dk_21 9 (dk_at dksX0_sumOfWays_3 12 rfl rfl)
theorem dX0_sumOfWays_85 : decode cX0_sumOfWays 85 = .ok (.ishr, 1) := dk_122 (dk_at dksX0_sumOfWays_3 14 rfl rfl)
theorem dX0_sumOfWays_86 : decode cX0_sumOfWays 86 = .ok (.iconst 1, 1) := dk_4 (dk_at dksX0_sumOfWays_3 15 rfl rfl)
theorem dX0_sumOfWays_87 : decode cX0_sumOfWays 87 = .ok (.iand, 1) := dk_126 (dk_at dksX0_sumOfWays_3 16 rfl rfl)
theorem dX0_sumOfWays_88 : decode cX0_sumOfWays 88 = .ok (.iconst 1, 1) := dk_4 (dk_at dksX0_sumOfWays_3 17 rfl rfl)
theorem dX0_sumOfWays_89 : decode cX0_sumOfWays 89 = .ok (.if_icmp .ne 66, 3) := dk_160 0 66 (dk_at dksX0_sumOfWays_3 18 rfl rfl)
theorem dX0_sumOfWays_92 : decode cX0_sumOfWays 92 = .ok (.aload_n 0, 1) := dk_42 (dk_at dksX0_sumOfWays_3 21 rfl rfl)
theorem dX0_sumOfWays_93 : decode cX0_sumOfWays 93 = .ok (.getfield 60, 3) := dk_180 0 60 (dk_at dksX0_sumOfWays_4 0 rfl rfl)
theorem dX0_sumOfWays_96 : decode cX0_sumOfWays 96 = .ok (.bipush 6, 2) := dk_16 6 (dk_at dksX0_sumOfWays_4 3 rfl rfl)
theorem dX0_sumOfWays_98 : decode cX0_sumOfWays 98 = .ok (.iload 5, 2) := dk_21 5 (dk_at dksX0_sumOfWays_4 5 rfl rfl)
theorem dX0_sumOfWays_100 : decode cX0_sumOfWays 100 = .ok (.imul, 1) := dk_104 (dk_at dksX0_sumOfWays_4 7 rfl rfl)
theorem dX0_sumOfWays_101 : decode cX0_sumOfWays 101 = .ok (.iload 9, 2) := dk_21 9 (dk_at dksX0_sumOfWays_4 8 rfl rfl)
theorem dX0_sumOfWays_103 : decode cX0_sumOfWays 103 = .ok (.iadd, 1) := dk_96 (dk_at dksX0_sumOfWays_4 10 rfl rfl)
theorem dX0_sumOfWays_104 : decode cX0_sumOfWays 104 = .ok (.iaload, 1) := dk_46 (dk_at dksX0_sumOfWays_4 11 rfl rfl)
theorem dX0_sumOfWays_105 : decode cX0_sumOfWays 105 = .ok (.istore 10, 2) := dk_54 10 (dk_at dksX0_sumOfWays_4 12 rfl rfl)
theorem dX0_sumOfWays_107 : decode cX0_sumOfWays 107 = .ok (.lload 6, 2) := dk_22 6 (dk_at dksX0_sumOfWays_4 14 rfl rfl)
theorem dX0_sumOfWays_109 : decode cX0_sumOfWays 109 = .ok (.iload 10, 2) := dk_21 10 (dk_at dksX0_sumOfWays_4 16 rfl rfl)
theorem dX0_sumOfWays_111 : decode cX0_sumOfWays 111 = .ok (.ifCond .ne 7, 3) := dk_154 0 7 (dk_at dksX0_sumOfWays_4 18 rfl rfl)
theorem dX0_sumOfWays_114 : decode cX0_sumOfWays 114 = .ok (.lconst 0, 1) := dk_9 (dk_at dksX0_sumOfWays_4 21 rfl rfl)
theorem dX0_sumOfWays_115 : decode cX0_sumOfWays 115 = .ok (.goto 32, 3) := dk_167 0 32 (dk_at dksX0_sumOfWays_5 0 rfl rfl)
theorem dX0_sumOfWays_118 : decode cX0_sumOfWays 118 = .ok (.aload_n 0, 1) := dk_42 (dk_at dksX0_sumOfWays_5 3 rfl rfl)
theorem dX0_sumOfWays_119 : decode cX0_sumOfWays 119 = .ok (.iload_n 1, 1) := dk_27 (dk_at dksX0_sumOfWays_5 4 rfl rfl)
theorem dX0_sumOfWays_120 : decode cX0_sumOfWays 120 = .ok (.iconst 1, 1) := dk_4 (dk_at dksX0_sumOfWays_5 5 rfl rfl)
theorem dX0_sumOfWays_121 : decode cX0_sumOfWays 121 = .ok (.iload 5, 2) := dk_21 5 (dk_at dksX0_sumOfWays_5 6 rfl rfl)
theorem dX0_sumOfWays_123 : decode cX0_sumOfWays 123 = .ok (.ishl, 1) := dk_120 (dk_at dksX0_sumOfWays_5 8 rfl rfl)
theorem dX0_sumOfWays_124 : decode cX0_sumOfWays 124 = .ok (.iconst (-1), 1) := dk_2 (dk_at dksX0_sumOfWays_5 9 rfl rfl)
theorem dX0_sumOfWays_125 : decode cX0_sumOfWays 125 = .ok (.ixor, 1) := dk_130 (dk_at dksX0_sumOfWays_5 10 rfl rfl)
theorem dX0_sumOfWays_126 : decode cX0_sumOfWays 126 = .ok (.iand, 1) := dk_126 (dk_at dksX0_sumOfWays_5 11 rfl rfl)
theorem dX0_sumOfWays_127 : decode cX0_sumOfWays 127 = .ok (.iload_n 2, 1) := dk_28 (dk_at dksX0_sumOfWays_5 12 rfl rfl)
theorem dX0_sumOfWays_128 : decode cX0_sumOfWays 128 = .ok (.iconst 1, 1) := dk_4 (dk_at dksX0_sumOfWays_5 13 rfl rfl)
theorem dX0_sumOfWays_129 : decode cX0_sumOfWays 129 = .ok (.iload 9, 2) := dk_21 9 (dk_at dksX0_sumOfWays_5 14 rfl rfl)
theorem dX0_sumOfWays_131 : decode cX0_sumOfWays 131 = .ok (.ishl, 1) := dk_120 (dk_at dksX0_sumOfWays_5 16 rfl rfl)
theorem dX0_sumOfWays_132 : decode cX0_sumOfWays 132 = .ok (.iconst (-1), 1) := dk_2 (dk_at dksX0_sumOfWays_5 17 rfl rfl)
theorem dX0_sumOfWays_133 : decode cX0_sumOfWays 133 = .ok (.ixor, 1) := dk_130 (dk_at dksX0_sumOfWays_5 18 rfl rfl)
theorem dX0_sumOfWays_134 : decode cX0_sumOfWays 134 = .ok (.iand, 1) := dk_126 (dk_at dksX0_sumOfWays_5 19 rfl rfl)
theorem dX0_sumOfWays_135 : decode cX0_sumOfWays 135 = .ok (.iload 8, 2) := dk_21 8 (dk_at dksX0_sumOfWays_5 20 rfl rfl)
theorem dX0_sumOfWays_137 : decode cX0_sumOfWays 137 = .ok (.i2l, 1) := dk_133 (dk_at dksX0_sumOfWays_5 22 rfl rfl)
theorem dX0_sumOfWays_138 : decode cX0_sumOfWays 138 = .ok (.lload_n 3, 1) := dk_33 (dk_at dksX0_sumOfWays_5 23 rfl rfl)
theorem dX0_sumOfWays_139 : decode cX0_sumOfWays 139 = .ok (.lmul, 1) := dk_105 (dk_at dksX0_sumOfWays_6 0 rfl rfl)
theorem dX0_sumOfWays_140 : decode cX0_sumOfWays 140 = .ok (.iload 10, 2) := dk_21 10 (dk_at dksX0_sumOfWays_6 1 rfl rfl)
theorem dX0_sumOfWays_142 : decode cX0_sumOfWays 142 = .ok (.i2l, 1) := dk_133 (dk_at dksX0_sumOfWays_6 3 rfl rfl)
theorem dX0_sumOfWays_143 : decode cX0_sumOfWays 143 = .ok (.lmul, 1) := dk_105 (dk_at dksX0_sumOfWays_6 4 rfl rfl)
theorem dX0_sumOfWays_144 : decode cX0_sumOfWays 144 = .ok (.invokevirtual 327, 3) := dk_182 1 71 (dk_at dksX0_sumOfWays_6 5 rfl rfl)
theorem dX0_sumOfWays_147 : decode cX0_sumOfWays 147 = .ok (.ladd, 1) := dk_97 (dk_at dksX0_sumOfWays_6 8 rfl rfl)
theorem dX0_sumOfWays_148 : decode cX0_sumOfWays 148 = .ok (.lstore 6, 2) := dk_55 6 (dk_at dksX0_sumOfWays_6 9 rfl rfl)
theorem dX0_sumOfWays_150 : decode cX0_sumOfWays 150 = .ok (.iload 8, 2) := dk_21 8 (dk_at dksX0_sumOfWays_6 11 rfl rfl)
theorem dX0_sumOfWays_152 : decode cX0_sumOfWays 152 = .ok (.ineg, 1) := dk_116 (dk_at dksX0_sumOfWays_6 13 rfl rfl)
theorem dX0_sumOfWays_153 : decode cX0_sumOfWays 153 = .ok (.istore 8, 2) := dk_54 8 (dk_at dksX0_sumOfWays_6 14 rfl rfl)
theorem dX0_sumOfWays_155 : decode cX0_sumOfWays 155 = .ok (.iinc 9 1, 3) := dk_132 9 1 (dk_at dksX0_sumOfWays_6 16 rfl rfl)
theorem dX0_sumOfWays_158 : decode cX0_sumOfWays 158 = .ok (.goto (-85), 3) := dk_167 255 171 (dk_at dksX0_sumOfWays_6 19 rfl rfl)
theorem dX0_sumOfWays_161 : decode cX0_sumOfWays 161 = .ok (.lload 6, 2) := dk_22 6 (dk_at dksX0_sumOfWays_6 22 rfl rfl)
theorem dX0_sumOfWays_163 : decode cX0_sumOfWays 163 = .ok (.lreturn, 1) := dk_173 (dk_at dksX0_sumOfWays_7 0 rfl rfl)
abbrev cX0_placeOf : ByteArray := prog_1_method_69_code
def yX0_placeOf : MethodName := ⟨RX0, "placeOf", "(I)I"⟩
def dkwX0_placeOf_0 : List UInt8 := [3, 61, 42, 180, 0, 57, 28, 46, 27, 159, 0, 9, 132, 2, 1, 167, 255, 243, 28, 172]
abbrev dktX0_placeOf_0 : List UInt8 := dkwX0_placeOf_0 ++ []
theorem dksX0_placeOf_0 : cX0_placeOf.data.toList.drop 0 = dktX0_placeOf_0 := by decide +kernel
theorem dX0_placeOf_0 : decode cX0_placeOf 0 = .ok (.iconst 0, 1) := dk_3 (dk_at dksX0_placeOf_0 0 rfl rfl)
theorem dX0_placeOf_1 : decode cX0_placeOf 1 = .ok (.istore_n 2, 1) := dk_61 (dk_at dksX0_placeOf_0 1 rfl rfl)
theorem dX0_placeOf_2 : decode cX0_placeOf 2 = .ok (.aload_n 0, 1) := dk_42 (dk_at dksX0_placeOf_0 2 rfl rfl)
theorem dX0_placeOf_3 : decode cX0_placeOf 3 = .ok (.getfield 57, 3) := dk_180 0 57 (dk_at dksX0_placeOf_0 3 rfl rfl)
theorem dX0_placeOf_6 : decode cX0_placeOf 6 = .ok (.iload_n 2, 1) := dk_28 (dk_at dksX0_placeOf_0 6 rfl rfl)
theorem dX0_placeOf_7 : decode cX0_placeOf 7 = .ok (.iaload, 1) := dk_46 (dk_at dksX0_placeOf_0 7 rfl rfl)
theorem dX0_placeOf_8 : decode cX0_placeOf 8 = .ok (.iload_n 1, 1) := dk_27 (dk_at dksX0_placeOf_0 8 rfl rfl)
theorem dX0_placeOf_9 : decode cX0_placeOf 9 = .ok (.if_icmp .eq 9, 3) := dk_159 0 9 (dk_at dksX0_placeOf_0 9 rfl rfl)
theorem dX0_placeOf_12 : decode cX0_placeOf 12 = .ok (.iinc 2 1, 3) := dk_132 2 1 (dk_at dksX0_placeOf_0 12 rfl rfl)
theorem dX0_placeOf_15 : decode cX0_placeOf 15 = .ok (.goto (-13), 3) := dk_167 255 243 (dk_at dksX0_placeOf_0 15 rfl rfl)
theorem dX0_placeOf_18 : decode cX0_placeOf 18 = .ok (.iload_n 2, 1) := dk_28 (dk_at dksX0_placeOf_0 18 rfl rfl)
theorem dX0_placeOf_19 : decode cX0_placeOf 19 = .ok (.ireturn, 1) := dk_172 (dk_at dksX0_placeOf_0 19 rfl rfl)
abbrev cX0_partOf : ByteArray := prog_1_method_71_code
def yX0_partOf : MethodName := ⟨RX0, "partOf", "(II)J"⟩
def dkwX0_partOf_2 : List UInt8 := [20, 1, 75, 182, 1, 71, 173]
abbrev dktX0_partOf_2 : List UInt8 := dkwX0_partOf_2 ++ []
def dkwX0_partOf_1 : List UInt8 := [2, 130, 126, 29, 4, 27, 120, 2, 130, 126, 27, 28, 96, 5, 112, 154, 0, 7, 10, 167, 0, 6]
abbrev dktX0_partOf_1 : List UInt8 := dkwX0_partOf_1 ++ dktX0_partOf_2
def dkwX0_partOf_0 : List UInt8 := [4, 42, 180, 1, 62, 120, 4, 100, 62, 42, 3, 181, 1, 65, 42, 3, 181, 1, 68, 42, 29, 4, 28, 120]
abbrev dktX0_partOf_0 : List UInt8 := dkwX0_partOf_0 ++ dktX0_partOf_1
theorem dksX0_partOf_0 : cX0_partOf.data.toList.drop 0 = dktX0_partOf_0 := by decide +kernel
theorem dksX0_partOf_1 : cX0_partOf.data.toList.drop 24 = dktX0_partOf_1 := dk_seg dksX0_partOf_0 24 rfl rfl
theorem dksX0_partOf_2 : cX0_partOf.data.toList.drop 46 = dktX0_partOf_2 := dk_seg dksX0_partOf_1 22 rfl rfl
theorem dX0_partOf_0 : decode cX0_partOf 0 = .ok (.iconst 1, 1) := dk_4 (dk_at dksX0_partOf_0 0 rfl rfl)
theorem dX0_partOf_1 : decode cX0_partOf 1 = .ok (.aload_n 0, 1) := dk_42 (dk_at dksX0_partOf_0 1 rfl rfl)
theorem dX0_partOf_2 : decode cX0_partOf 2 = .ok (.getfield 318, 3) := dk_180 1 62 (dk_at dksX0_partOf_0 2 rfl rfl)
theorem dX0_partOf_5 : decode cX0_partOf 5 = .ok (.ishl, 1) := dk_120 (dk_at dksX0_partOf_0 5 rfl rfl)
theorem dX0_partOf_6 : decode cX0_partOf 6 = .ok (.iconst 1, 1) := dk_4 (dk_at dksX0_partOf_0 6 rfl rfl)
theorem dX0_partOf_7 : decode cX0_partOf 7 = .ok (.isub, 1) := dk_100 (dk_at dksX0_partOf_0 7 rfl rfl)
theorem dX0_partOf_8 : decode cX0_partOf 8 = .ok (.istore_n 3, 1) := dk_62 (dk_at dksX0_partOf_0 8 rfl rfl)
theorem dX0_partOf_9 : decode cX0_partOf 9 = .ok (.aload_n 0, 1) := dk_42 (dk_at dksX0_partOf_0 9 rfl rfl)
theorem dX0_partOf_10 : decode cX0_partOf 10 = .ok (.iconst 0, 1) := dk_3 (dk_at dksX0_partOf_0 10 rfl rfl)
theorem dX0_partOf_11 : decode cX0_partOf 11 = .ok (.putfield 321, 3) := dk_181 1 65 (dk_at dksX0_partOf_0 11 rfl rfl)
theorem dX0_partOf_14 : decode cX0_partOf 14 = .ok (.aload_n 0, 1) := dk_42 (dk_at dksX0_partOf_0 14 rfl rfl)
theorem dX0_partOf_15 : decode cX0_partOf 15 = .ok (.iconst 0, 1) := dk_3 (dk_at dksX0_partOf_0 15 rfl rfl)
theorem dX0_partOf_16 : decode cX0_partOf 16 = .ok (.putfield 324, 3) := dk_181 1 68 (dk_at dksX0_partOf_0 16 rfl rfl)
theorem dX0_partOf_19 : decode cX0_partOf 19 = .ok (.aload_n 0, 1) := dk_42 (dk_at dksX0_partOf_0 19 rfl rfl)
theorem dX0_partOf_20 : decode cX0_partOf 20 = .ok (.iload_n 3, 1) := dk_29 (dk_at dksX0_partOf_0 20 rfl rfl)
theorem dX0_partOf_21 : decode cX0_partOf 21 = .ok (.iconst 1, 1) := dk_4 (dk_at dksX0_partOf_0 21 rfl rfl)
theorem dX0_partOf_22 : decode cX0_partOf 22 = .ok (.iload_n 2, 1) := dk_28 (dk_at dksX0_partOf_0 22 rfl rfl)
theorem dX0_partOf_23 : decode cX0_partOf 23 = .ok (.ishl, 1) := dk_120 (dk_at dksX0_partOf_0 23 rfl rfl)
theorem dX0_partOf_24 : decode cX0_partOf 24 = .ok (.iconst (-1), 1) := dk_2 (dk_at dksX0_partOf_1 0 rfl rfl)
theorem dX0_partOf_25 : decode cX0_partOf 25 = .ok (.ixor, 1) := dk_130 (dk_at dksX0_partOf_1 1 rfl rfl)
theorem dX0_partOf_26 : decode cX0_partOf 26 = .ok (.iand, 1) := dk_126 (dk_at dksX0_partOf_1 2 rfl rfl)
theorem dX0_partOf_27 : decode cX0_partOf 27 = .ok (.iload_n 3, 1) := dk_29 (dk_at dksX0_partOf_1 3 rfl rfl)
theorem dX0_partOf_28 : decode cX0_partOf 28 = .ok (.iconst 1, 1) := dk_4 (dk_at dksX0_partOf_1 4 rfl rfl)
theorem dX0_partOf_29 : decode cX0_partOf 29 = .ok (.iload_n 1, 1) := dk_27 (dk_at dksX0_partOf_1 5 rfl rfl)
theorem dX0_partOf_30 : decode cX0_partOf 30 = .ok (.ishl, 1) := dk_120 (dk_at dksX0_partOf_1 6 rfl rfl)
theorem dX0_partOf_31 : decode cX0_partOf 31 = .ok (.iconst (-1), 1) := dk_2 (dk_at dksX0_partOf_1 7 rfl rfl)
theorem dX0_partOf_32 : decode cX0_partOf 32 = .ok (.ixor, 1) := dk_130 (dk_at dksX0_partOf_1 8 rfl rfl)
theorem dX0_partOf_33 : decode cX0_partOf 33 = .ok (.iand, 1) := dk_126 (dk_at dksX0_partOf_1 9 rfl rfl)
theorem dX0_partOf_34 : decode cX0_partOf 34 = .ok (.iload_n 1, 1) := dk_27 (dk_at dksX0_partOf_1 10 rfl rfl)
theorem dX0_partOf_35 : decode cX0_partOf 35 = .ok (.iload_n 2, 1) := dk_28 (dk_at dksX0_partOf_1 11 rfl rfl)
theorem dX0_partOf_36 : decode cX0_partOf 36 = .ok (.iadd, 1) := dk_96 (dk_at dksX0_partOf_1 12 rfl rfl)
theorem dX0_partOf_37 : decode cX0_partOf 37 = .ok (.iconst 2, 1) := dk_5 (dk_at dksX0_partOf_1 13 rfl rfl)
theorem dX0_partOf_38 : decode cX0_partOf 38 = .ok (.irem, 1) := dk_112 (dk_at dksX0_partOf_1 14 rfl rfl)
theorem dX0_partOf_39 : decode cX0_partOf 39 = .ok (.ifCond .ne 7, 3) := dk_154 0 7 (dk_at dksX0_partOf_1 15 rfl rfl)
theorem dX0_partOf_42 : decode cX0_partOf 42 = .ok (.lconst 1, 1) := dk_10 (dk_at dksX0_partOf_1 18 rfl rfl)
theorem dX0_partOf_43 : decode cX0_partOf 43 = .ok (.goto 6, 3) := dk_167 0 6 (dk_at dksX0_partOf_1 19 rfl rfl)
theorem dX0_partOf_46 : decode cX0_partOf 46 = .ok (.ldc2_w 331, 3) := dk_20 1 75 (dk_at dksX0_partOf_2 0 rfl rfl)
theorem dX0_partOf_49 : decode cX0_partOf 49 = .ok (.invokevirtual 327, 3) := dk_182 1 71 (dk_at dksX0_partOf_2 3 rfl rfl)
theorem dX0_partOf_52 : decode cX0_partOf 52 = .ok (.lreturn, 1) := dk_173 (dk_at dksX0_partOf_2 6 rfl rfl)
abbrev cX0_tell : ByteArray := prog_1_method_4_code
def yX0_tell : MethodName := ⟨RX0, "tell", "(JJ)I"⟩
def dkwX0_tell_3 : List UInt8 := [172]
abbrev dktX0_tell_3 : List UInt8 := dkwX0_tell_3 ++ []
def dkwX0_tell_2 : List UInt8 := [167, 0, 5, 22, 5, 55, 9, 42, 31, 22, 9, 109, 181, 0, 73, 42, 33, 22, 9, 109, 181, 0, 13, 4]
abbrev dktX0_tell_2 : List UInt8 := dkwX0_tell_2 ++ dktX0_tell_3
def dkwX0_tell_1 : List UInt8 := [55, 9, 22, 7, 55, 5, 22, 9, 55, 7, 167, 255, 234, 33, 9, 148, 156, 0, 9, 22, 5, 117]
abbrev dktX0_tell_1 : List UInt8 := dkwX0_tell_1 ++ dktX0_tell_2
def dkwX0_tell_0 : List UInt8 := [31, 184, 0, 67, 55, 5, 33, 184, 0, 67, 55, 7, 22, 7, 9, 148, 153, 0, 21, 22, 5, 22, 7, 113]
abbrev dktX0_tell_0 : List UInt8 := dkwX0_tell_0 ++ dktX0_tell_1
theorem dksX0_tell_0 : cX0_tell.data.toList.drop 0 = dktX0_tell_0 := by decide +kernel
theorem dksX0_tell_1 : cX0_tell.data.toList.drop 24 = dktX0_tell_1 := dk_seg dksX0_tell_0 24 rfl rfl
theorem dksX0_tell_2 : cX0_tell.data.toList.drop 46 = dktX0_tell_2 := dk_seg dksX0_tell_1 22 rfl rfl
theorem dksX0_tell_3 : cX0_tell.data.toList.drop 70 = dktX0_tell_3 := dk_seg dksX0_tell_2 24 rfl rfl
theorem dX0_tell_0 : decode cX0_tell 0 = .ok (.lload_n 1, 1) := dk_31 (dk_at dksX0_tell_0 0 rfl rfl)
theorem dX0_tell_1 : decode cX0_tell 1 = .ok (.invokestatic 67, 3) := dk_184 0 67 (dk_at dksX0_tell_0 1 rfl rfl)
theorem dX0_tell_4 : decode cX0_tell 4 = .ok (.lstore 5, 2) := dk_55 5 (dk_at dksX0_tell_0 4 rfl rfl)
theorem dX0_tell_6 : decode cX0_tell 6 = .ok (.lload_n 3, 1) := dk_33 (dk_at dksX0_tell_0 6 rfl rfl)
theorem dX0_tell_7 : decode cX0_tell 7 = .ok (.invokestatic 67, 3) := dk_184 0 67 (dk_at dksX0_tell_0 7 rfl rfl)
theorem dX0_tell_10 : decode cX0_tell 10 = .ok (.lstore 7, 2) := dk_55 7 (dk_at dksX0_tell_0 10 rfl rfl)
theorem dX0_tell_12 : decode cX0_tell 12 = .ok (.lload 7, 2) := dk_22 7 (dk_at dksX0_tell_0 12 rfl rfl)
theorem dX0_tell_14 : decode cX0_tell 14 = .ok (.lconst 0, 1) := dk_9 (dk_at dksX0_tell_0 14 rfl rfl)
theorem dX0_tell_15 : decode cX0_tell 15 = .ok (.lcmp, 1) := dk_148 (dk_at dksX0_tell_0 15 rfl rfl)
theorem dX0_tell_16 : decode cX0_tell 16 = .ok (.ifCond .eq 21, 3) := dk_153 0 21 (dk_at dksX0_tell_0 16 rfl rfl)
theorem dX0_tell_19 : decode cX0_tell 19 = .ok (.lload 5, 2) := dk_22 5 (dk_at dksX0_tell_0 19 rfl rfl)
theorem dX0_tell_21 : decode cX0_tell 21 = .ok (.lload 7, 2) := dk_22 7 (dk_at dksX0_tell_0 21 rfl rfl)
theorem dX0_tell_23 : decode cX0_tell 23 = .ok (.lrem, 1) := dk_113 (dk_at dksX0_tell_0 23 rfl rfl)
theorem dX0_tell_24 : decode cX0_tell 24 = .ok (.lstore 9, 2) := dk_55 9 (dk_at dksX0_tell_1 0 rfl rfl)
theorem dX0_tell_26 : decode cX0_tell 26 = .ok (.lload 7, 2) := dk_22 7 (dk_at dksX0_tell_1 2 rfl rfl)
theorem dX0_tell_28 : decode cX0_tell 28 = .ok (.lstore 5, 2) := dk_55 5 (dk_at dksX0_tell_1 4 rfl rfl)
theorem dX0_tell_30 : decode cX0_tell 30 = .ok (.lload 9, 2) := dk_22 9 (dk_at dksX0_tell_1 6 rfl rfl)
theorem dX0_tell_32 : decode cX0_tell 32 = .ok (.lstore 7, 2) := dk_55 7 (dk_at dksX0_tell_1 8 rfl rfl)
theorem dX0_tell_34 : decode cX0_tell 34 = .ok (.goto (-22), 3) := dk_167 255 234 (dk_at dksX0_tell_1 10 rfl rfl)
theorem dX0_tell_37 : decode cX0_tell 37 = .ok (.lload_n 3, 1) := dk_33 (dk_at dksX0_tell_1 13 rfl rfl)
theorem dX0_tell_38 : decode cX0_tell 38 = .ok (.lconst 0, 1) := dk_9 (dk_at dksX0_tell_1 14 rfl rfl)
theorem dX0_tell_39 : decode cX0_tell 39 = .ok (.lcmp, 1) := dk_148 (dk_at dksX0_tell_1 15 rfl rfl)
theorem dX0_tell_40 : decode cX0_tell 40 = .ok (.ifCond .ge 9, 3) := dk_156 0 9 (dk_at dksX0_tell_1 16 rfl rfl)
theorem dX0_tell_43 : decode cX0_tell 43 = .ok (.lload 5, 2) := dk_22 5 (dk_at dksX0_tell_1 19 rfl rfl)
theorem dX0_tell_45 : decode cX0_tell 45 = .ok (.lneg, 1) := dk_117 (dk_at dksX0_tell_1 21 rfl rfl)
theorem dX0_tell_46 : decode cX0_tell 46 = .ok (.goto 5, 3) := dk_167 0 5 (dk_at dksX0_tell_2 0 rfl rfl)
theorem dX0_tell_49 : decode cX0_tell 49 = .ok (.lload 5, 2) := dk_22 5 (dk_at dksX0_tell_2 3 rfl rfl)
theorem dX0_tell_51 : decode cX0_tell 51 = .ok (.lstore 9, 2) := dk_55 9 (dk_at dksX0_tell_2 5 rfl rfl)
theorem dX0_tell_53 : decode cX0_tell 53 = .ok (.aload_n 0, 1) := dk_42 (dk_at dksX0_tell_2 7 rfl rfl)
theorem dX0_tell_54 : decode cX0_tell 54 = .ok (.lload_n 1, 1) := dk_31 (dk_at dksX0_tell_2 8 rfl rfl)
theorem dX0_tell_55 : decode cX0_tell 55 = .ok (.lload 9, 2) := dk_22 9 (dk_at dksX0_tell_2 9 rfl rfl)
theorem dX0_tell_57 : decode cX0_tell 57 = .ok (.ldiv, 1) := dk_109 (dk_at dksX0_tell_2 11 rfl rfl)
theorem dX0_tell_58 : decode cX0_tell 58 = .ok (.putfield 73, 3) := dk_181 0 73 (dk_at dksX0_tell_2 12 rfl rfl)
theorem dX0_tell_61 : decode cX0_tell 61 = .ok (.aload_n 0, 1) := dk_42 (dk_at dksX0_tell_2 15 rfl rfl)
theorem dX0_tell_62 : decode cX0_tell 62 = .ok (.lload_n 3, 1) := dk_33 (dk_at dksX0_tell_2 16 rfl rfl)
theorem dX0_tell_63 : decode cX0_tell 63 = .ok (.lload 9, 2) := dk_22 9 (dk_at dksX0_tell_2 17 rfl rfl)
theorem dX0_tell_65 : decode cX0_tell 65 = .ok (.ldiv, 1) := dk_109 (dk_at dksX0_tell_2 19 rfl rfl)
theorem dX0_tell_66 : decode cX0_tell 66 = .ok (.putfield 13, 3) := dk_181 0 13 (dk_at dksX0_tell_2 20 rfl rfl)
theorem dX0_tell_69 : decode cX0_tell 69 = .ok (.iconst 1, 1) := dk_4 (dk_at dksX0_tell_2 23 rfl rfl)
theorem dX0_tell_70 : decode cX0_tell 70 = .ok (.ireturn, 1) := dk_172 (dk_at dksX0_tell_3 0 rfl rfl)
abbrev cX0_terms : ByteArray := prog_1_method_74_code
def yX0_terms : MethodName := ⟨RX0, "terms", "(II)I"⟩
def dkwX0_terms_3 : List UInt8 := [42, 180, 1, 65, 104, 42, 180, 1, 68, 96, 172]
abbrev dktX0_terms_3 : List UInt8 := dkwX0_terms_3 ++ []
def dkwX0_terms_2 : List UInt8 := [180, 1, 65, 153, 0, 10, 42, 180, 1, 68, 154, 0, 7, 4, 167, 0, 4, 5, 181, 1, 25, 17, 3, 232]
abbrev dktX0_terms_2 : List UInt8 := dkwX0_terms_2 ++ dktX0_terms_3
def dkwX0_terms_1 : List UInt8 := [182, 1, 86, 55, 4, 42, 42, 180, 1, 65, 42, 180, 1, 68, 96, 154, 0, 7, 3, 167, 0, 22, 42]
abbrev dktX0_terms_1 : List UInt8 := dkwX0_terms_1 ++ dktX0_terms_2
def dkwX0_terms_0 : List UInt8 := [42, 27, 28, 182, 1, 80, 62, 29, 156, 0, 5, 29, 172, 42, 42, 27, 182, 1, 83, 42, 28, 182, 1, 83]
abbrev dktX0_terms_0 : List UInt8 := dkwX0_terms_0 ++ dktX0_terms_1
theorem dksX0_terms_0 : cX0_terms.data.toList.drop 0 = dktX0_terms_0 := by decide +kernel
theorem dksX0_terms_1 : cX0_terms.data.toList.drop 24 = dktX0_terms_1 := dk_seg dksX0_terms_0 24 rfl rfl
theorem dksX0_terms_2 : cX0_terms.data.toList.drop 47 = dktX0_terms_2 := dk_seg dksX0_terms_1 23 rfl rfl
theorem dksX0_terms_3 : cX0_terms.data.toList.drop 71 = dktX0_terms_3 := dk_seg dksX0_terms_2 24 rfl rfl
theorem dX0_terms_0 : decode cX0_terms 0 = .ok (.aload_n 0, 1) := dk_42 (dk_at dksX0_terms_0 0 rfl rfl)
theorem dX0_terms_1 : decode cX0_terms 1 = .ok (.iload_n 1, 1) := dk_27 (dk_at dksX0_terms_0 1 rfl rfl)
theorem dX0_terms_2 : decode cX0_terms 2 = .ok (.iload_n 2, 1) := dk_28 (dk_at dksX0_terms_0 2 rfl rfl)
theorem dX0_terms_3 : decode cX0_terms 3 = .ok (.invokevirtual 336, 3) := dk_182 1 80 (dk_at dksX0_terms_0 3 rfl rfl)
theorem dX0_terms_6 : decode cX0_terms 6 = .ok (.istore_n 3, 1) := dk_62 (dk_at dksX0_terms_0 6 rfl rfl)
theorem dX0_terms_7 : decode cX0_terms 7 = .ok (.iload_n 3, 1) := dk_29 (dk_at dksX0_terms_0 7 rfl rfl)
theorem dX0_terms_8 : decode cX0_terms 8 = .ok (.ifCond .ge 5, 3) := dk_156 0 5 (dk_at dksX0_terms_0 8 rfl rfl)
theorem dX0_terms_11 : decode cX0_terms 11 = .ok (.iload_n 3, 1) := dk_29 (dk_at dksX0_terms_0 11 rfl rfl)
theorem dX0_terms_12 : decode cX0_terms 12 = .ok (.ireturn, 1) := dk_172 (dk_at dksX0_terms_0 12 rfl rfl)
theorem dX0_terms_13 : decode cX0_terms 13 = .ok (.aload_n 0, 1) := dk_42 (dk_at dksX0_terms_0 13 rfl rfl)
theorem dX0_terms_14 : decode cX0_terms 14 = .ok (.aload_n 0, 1) := dk_42 (dk_at dksX0_terms_0 14 rfl rfl)
theorem dX0_terms_15 : decode cX0_terms 15 = .ok (.iload_n 1, 1) := dk_27 (dk_at dksX0_terms_0 15 rfl rfl)
theorem dX0_terms_16 : decode cX0_terms 16 = .ok (.invokevirtual 339, 3) := dk_182 1 83 (dk_at dksX0_terms_0 16 rfl rfl)
theorem dX0_terms_19 : decode cX0_terms 19 = .ok (.aload_n 0, 1) := dk_42 (dk_at dksX0_terms_0 19 rfl rfl)
theorem dX0_terms_20 : decode cX0_terms 20 = .ok (.iload_n 2, 1) := dk_28 (dk_at dksX0_terms_0 20 rfl rfl)
theorem dX0_terms_21 : decode cX0_terms 21 = .ok (.invokevirtual 339, 3) := dk_182 1 83 (dk_at dksX0_terms_0 21 rfl rfl)
theorem dX0_terms_24 : decode cX0_terms 24 = .ok (.invokevirtual 342, 3) := dk_182 1 86 (dk_at dksX0_terms_1 0 rfl rfl)
theorem dX0_terms_27 : decode cX0_terms 27 = .ok (.lstore 4, 2) := dk_55 4 (dk_at dksX0_terms_1 3 rfl rfl)
theorem dX0_terms_29 : decode cX0_terms 29 = .ok (.aload_n 0, 1) := dk_42 (dk_at dksX0_terms_1 5 rfl rfl)
theorem dX0_terms_30 : decode cX0_terms 30 = .ok (.aload_n 0, 1) := dk_42 (dk_at dksX0_terms_1 6 rfl rfl)
theorem dX0_terms_31 : decode cX0_terms 31 = .ok (.getfield 321, 3) := dk_180 1 65 (dk_at dksX0_terms_1 7 rfl rfl)
theorem dX0_terms_34 : decode cX0_terms 34 = .ok (.aload_n 0, 1) := dk_42 (dk_at dksX0_terms_1 10 rfl rfl)
theorem dX0_terms_35 : decode cX0_terms 35 = .ok (.getfield 324, 3) := dk_180 1 68 (dk_at dksX0_terms_1 11 rfl rfl)
theorem dX0_terms_38 : decode cX0_terms 38 = .ok (.iadd, 1) := dk_96 (dk_at dksX0_terms_1 14 rfl rfl)
theorem dX0_terms_39 : decode cX0_terms 39 = .ok (.ifCond .ne 7, 3) := dk_154 0 7 (dk_at dksX0_terms_1 15 rfl rfl)
theorem dX0_terms_42 : decode cX0_terms 42 = .ok (.iconst 0, 1) := dk_3 (dk_at dksX0_terms_1 18 rfl rfl)
theorem dX0_terms_43 : decode cX0_terms 43 = .ok (.goto 22, 3) := dk_167 0 22 (dk_at dksX0_terms_1 19 rfl rfl)
theorem dX0_terms_46 : decode cX0_terms 46 = .ok (.aload_n 0, 1) := dk_42 (dk_at dksX0_terms_1 22 rfl rfl)
theorem dX0_terms_47 : decode cX0_terms 47 = .ok (.getfield 321, 3) := dk_180 1 65 (dk_at dksX0_terms_2 0 rfl rfl)
theorem dX0_terms_50 : decode cX0_terms 50 = .ok (.ifCond .eq 10, 3) := dk_153 0 10 (dk_at dksX0_terms_2 3 rfl rfl)
theorem dX0_terms_53 : decode cX0_terms 53 = .ok (.aload_n 0, 1) := dk_42 (dk_at dksX0_terms_2 6 rfl rfl)
theorem dX0_terms_54 : decode cX0_terms 54 = .ok (.getfield 324, 3) := dk_180 1 68 (dk_at dksX0_terms_2 7 rfl rfl)
theorem dX0_terms_57 : decode cX0_terms 57 = .ok (.ifCond .ne 7, 3) := dk_154 0 7 (dk_at dksX0_terms_2 10 rfl rfl)
theorem dX0_terms_60 : decode cX0_terms 60 = .ok (.iconst 1, 1) := dk_4 (dk_at dksX0_terms_2 13 rfl rfl)
theorem dX0_terms_61 : decode cX0_terms 61 = .ok (.goto 4, 3) := dk_167 0 4 (dk_at dksX0_terms_2 14 rfl rfl)
theorem dX0_terms_64 : decode cX0_terms 64 = .ok (.iconst 2, 1) := dk_5 (dk_at dksX0_terms_2 17 rfl rfl)
theorem dX0_terms_65 : decode cX0_terms 65 = .ok (.putfield 281, 3) := dk_181 1 25 (dk_at dksX0_terms_2 18 rfl rfl)
theorem dX0_terms_68 : decode cX0_terms 68 = .ok (.sipush 1000, 3) := dk_17 3 232 (dk_at dksX0_terms_2 21 rfl rfl)
theorem dX0_terms_71 : decode cX0_terms 71 = .ok (.aload_n 0, 1) := dk_42 (dk_at dksX0_terms_3 0 rfl rfl)
theorem dX0_terms_72 : decode cX0_terms 72 = .ok (.getfield 321, 3) := dk_180 1 65 (dk_at dksX0_terms_3 1 rfl rfl)
theorem dX0_terms_75 : decode cX0_terms 75 = .ok (.imul, 1) := dk_104 (dk_at dksX0_terms_3 4 rfl rfl)
theorem dX0_terms_76 : decode cX0_terms 76 = .ok (.aload_n 0, 1) := dk_42 (dk_at dksX0_terms_3 5 rfl rfl)
theorem dX0_terms_77 : decode cX0_terms 77 = .ok (.getfield 324, 3) := dk_180 1 68 (dk_at dksX0_terms_3 6 rfl rfl)
theorem dX0_terms_80 : decode cX0_terms 80 = .ok (.iadd, 1) := dk_96 (dk_at dksX0_terms_3 9 rfl rfl)
theorem dX0_terms_81 : decode cX0_terms 81 = .ok (.ireturn, 1) := dk_172 (dk_at dksX0_terms_3 10 rfl rfl)
abbrev cX0_steady : ByteArray := prog_1_method_76_code
def yX0_steady : MethodName := ⟨RX0, "steady", "()I"⟩
def dkwX0_steady_8 : List UInt8 := [4, 167, 0, 4, 3, 172]
abbrev dktX0_steady_8 : List UInt8 := dkwX0_steady_8 ++ []
def dkwX0_steady_7 : List UInt8 := [31, 31, 105, 22, 7, 105, 97, 148, 158, 0, 7, 4, 167, 0, 4, 3, 126, 54, 9, 21, 9, 153, 0, 7]
abbrev dktX0_steady_7 : List UInt8 := dkwX0_steady_7 ++ dktX0_steady_8
def dkwX0_steady_6 : List UInt8 := [126, 54, 9, 42, 180, 1, 62, 7, 160, 0, 35, 21, 9, 31, 33, 105, 22, 5, 105, 22, 5, 22, 5, 105]
abbrev dktX0_steady_6 : List UInt8 := dkwX0_steady_6 ++ dktX0_steady_7
def dkwX0_steady_5 : List UInt8 := [42, 180, 1, 62, 6, 160, 0, 22, 21, 9, 31, 33, 105, 22, 5, 148, 158, 0, 7, 4, 167, 0, 4, 3]
abbrev dktX0_steady_5 : List UInt8 := dkwX0_steady_5 ++ dktX0_steady_6
def dkwX0_steady_4 : List UInt8 := [158, 0, 21, 22, 5, 9, 148, 158, 0, 14, 22, 7, 9, 148, 158, 0, 7, 4, 167, 0, 4, 3, 54, 9]
abbrev dktX0_steady_4 : List UInt8 := dkwX0_steady_4 ++ dktX0_steady_5
def dkwX0_steady_3 : List UInt8 := [6, 164, 0, 11, 42, 7, 182, 1, 93, 167, 0, 4, 10, 55, 7, 31, 9, 148, 158, 0, 27, 33, 9, 148]
abbrev dktX0_steady_3 : List UInt8 := dkwX0_steady_3 ++ dktX0_steady_4
def dkwX0_steady_2 : List UInt8 := [66, 42, 180, 1, 62, 5, 164, 0, 11, 42, 6, 182, 1, 93, 167, 0, 4, 10, 55, 5, 42, 180, 1, 62]
abbrev dktX0_steady_2 : List UInt8 := dkwX0_steady_2 ++ dktX0_steady_3
def dkwX0_steady_1 : List UInt8 := [172, 42, 4, 182, 1, 93, 64, 42, 180, 1, 62, 4, 164, 0, 11, 42, 5, 182, 1, 93, 167, 0, 4, 10]
abbrev dktX0_steady_1 : List UInt8 := dkwX0_steady_1 ++ dktX0_steady_2
def dkwX0_steady_0 : List UInt8 := [42, 182, 1, 77, 153, 0, 18, 42, 180, 1, 62, 153, 0, 11, 42, 180, 1, 62, 7, 164, 0, 6, 16, 252]
abbrev dktX0_steady_0 : List UInt8 := dkwX0_steady_0 ++ dktX0_steady_1
theorem dksX0_steady_0 : cX0_steady.data.toList.drop 0 = dktX0_steady_0 := by decide +kernel
theorem dksX0_steady_1 : cX0_steady.data.toList.drop 24 = dktX0_steady_1 := dk_seg dksX0_steady_0 24 rfl rfl
theorem dksX0_steady_2 : cX0_steady.data.toList.drop 48 = dktX0_steady_2 := dk_seg dksX0_steady_1 24 rfl rfl
theorem dksX0_steady_3 : cX0_steady.data.toList.drop 72 = dktX0_steady_3 := dk_seg dksX0_steady_2 24 rfl rfl
theorem dksX0_steady_4 : cX0_steady.data.toList.drop 96 = dktX0_steady_4 := dk_seg dksX0_steady_3 24 rfl rfl
theorem dksX0_steady_5 : cX0_steady.data.toList.drop 120 = dktX0_steady_5 := dk_seg dksX0_steady_4 24 rfl rfl
theorem dksX0_steady_6 : cX0_steady.data.toList.drop 144 = dktX0_steady_6 := dk_seg dksX0_steady_5 24 rfl rfl
theorem dksX0_steady_7 : cX0_steady.data.toList.drop 168 = dktX0_steady_7 := dk_seg dksX0_steady_6 24 rfl rfl
theorem dksX0_steady_8 : cX0_steady.data.toList.drop 192 = dktX0_steady_8 := dk_seg dksX0_steady_7 24 rfl rfl
theorem dX0_steady_0 : decode cX0_steady 0 = .ok (.aload_n 0, 1) := dk_42 (dk_at dksX0_steady_0 0 rfl rfl)
theorem dX0_steady_1 : decode cX0_steady 1 = .ok (.invokevirtual 333, 3) := dk_182 1 77 (dk_at dksX0_steady_0 1 rfl rfl)
theorem dX0_steady_4 : decode cX0_steady 4 = .ok (.ifCond .eq 18, 3) := dk_153 0 18 (dk_at dksX0_steady_0 4 rfl rfl)
theorem dX0_steady_7 : decode cX0_steady 7 = .ok (.aload_n 0, 1) := dk_42 (dk_at dksX0_steady_0 7 rfl rfl)
theorem dX0_steady_8 : decode cX0_steady 8 = .ok (.getfield 318, 3) := dk_180 1 62 (dk_at dksX0_steady_0 8 rfl rfl)
theorem dX0_steady_11 : decode cX0_steady 11 = .ok (.ifCond .eq 11, 3) := dk_153 0 11 (dk_at dksX0_steady_0 11 rfl rfl)
theorem dX0_steady_14 : decode cX0_steady 14 = .ok (.aload_n 0, 1) := dk_42 (dk_at dksX0_steady_0 14 rfl rfl)
theorem dX0_steady_15 : decode cX0_steady 15 = .ok (.getfield 318, 3) := dk_180 1 62 (dk_at dksX0_steady_0 15 rfl rfl)
theorem dX0_steady_18 : decode cX0_steady 18 = .ok (.iconst 4, 1) := dk_7 (dk_at dksX0_steady_0 18 rfl rfl)
theorem dX0_steady_19 : decode cX0_steady 19 = .ok (.if_icmp .le 6, 3) := dk_164 0 6 (dk_at dksX0_steady_0 19 rfl rfl)
theorem dX0_steady_22 : decode cX0_steady 22 = .ok (.bipush (-4), 2) := dk_16 252 (dk_at dksX0_steady_0 22 rfl rfl)
theorem dX0_steady_24 : decode cX0_steady 24 = .ok (.ireturn, 1) := dk_172 (dk_at dksX0_steady_1 0 rfl rfl)
theorem dX0_steady_25 : decode cX0_steady 25 = .ok (.aload_n 0, 1) := dk_42 (dk_at dksX0_steady_1 1 rfl rfl)
theorem dX0_steady_26 : decode cX0_steady 26 = .ok (.iconst 1, 1) := dk_4 (dk_at dksX0_steady_1 2 rfl rfl)
theorem dX0_steady_27 : decode cX0_steady 27 = .ok (.invokevirtual 349, 3) := dk_182 1 93 (dk_at dksX0_steady_1 3 rfl rfl)
theorem dX0_steady_30 : decode cX0_steady 30 = .ok (.lstore_n 1, 1) := dk_64 (dk_at dksX0_steady_1 6 rfl rfl)
theorem dX0_steady_31 : decode cX0_steady 31 = .ok (.aload_n 0, 1) := dk_42 (dk_at dksX0_steady_1 7 rfl rfl)
theorem dX0_steady_32 : decode cX0_steady 32 = .ok (.getfield 318, 3) := dk_180 1 62 (dk_at dksX0_steady_1 8 rfl rfl)
theorem dX0_steady_35 : decode cX0_steady 35 = .ok (.iconst 1, 1) := dk_4 (dk_at dksX0_steady_1 11 rfl rfl)
theorem dX0_steady_36 : decode cX0_steady 36 = .ok (.if_icmp .le 11, 3) := dk_164 0 11 (dk_at dksX0_steady_1 12 rfl rfl)
theorem dX0_steady_39 : decode cX0_steady 39 = .ok (.aload_n 0, 1) := dk_42 (dk_at dksX0_steady_1 15 rfl rfl)
theorem dX0_steady_40 : decode cX0_steady 40 = .ok (.iconst 2, 1) := dk_5 (dk_at dksX0_steady_1 16 rfl rfl)
theorem dX0_steady_41 : decode cX0_steady 41 = .ok (.invokevirtual 349, 3) := dk_182 1 93 (dk_at dksX0_steady_1 17 rfl rfl)
theorem dX0_steady_44 : decode cX0_steady 44 = .ok (.goto 4, 3) := dk_167 0 4 (dk_at dksX0_steady_1 20 rfl rfl)
theorem dX0_steady_47 : decode cX0_steady 47 = .ok (.lconst 1, 1) := dk_10 (dk_at dksX0_steady_1 23 rfl rfl)
theorem dX0_steady_48 : decode cX0_steady 48 = .ok (.lstore_n 3, 1) := dk_66 (dk_at dksX0_steady_2 0 rfl rfl)
theorem dX0_steady_49 : decode cX0_steady 49 = .ok (.aload_n 0, 1) := dk_42 (dk_at dksX0_steady_2 1 rfl rfl)
theorem dX0_steady_50 : decode cX0_steady 50 = .ok (.getfield 318, 3) := dk_180 1 62 (dk_at dksX0_steady_2 2 rfl rfl)
theorem dX0_steady_53 : decode cX0_steady 53 = .ok (.iconst 2, 1) := dk_5 (dk_at dksX0_steady_2 5 rfl rfl)
theorem dX0_steady_54 : decode cX0_steady 54 = .ok (.if_icmp .le 11, 3) := dk_164 0 11 (dk_at dksX0_steady_2 6 rfl rfl)
theorem dX0_steady_57 : decode cX0_steady 57 = .ok (.aload_n 0, 1) := dk_42 (dk_at dksX0_steady_2 9 rfl rfl)
theorem dX0_steady_58 : decode cX0_steady 58 = .ok (.iconst 3, 1) := dk_6 (dk_at dksX0_steady_2 10 rfl rfl)
theorem dX0_steady_59 : decode cX0_steady 59 = .ok (.invokevirtual 349, 3) := dk_182 1 93 (dk_at dksX0_steady_2 11 rfl rfl)
theorem dX0_steady_62 : decode cX0_steady 62 = .ok (.goto 4, 3) := dk_167 0 4 (dk_at dksX0_steady_2 14 rfl rfl)
theorem dX0_steady_65 : decode cX0_steady 65 = .ok (.lconst 1, 1) := dk_10 (dk_at dksX0_steady_2 17 rfl rfl)
theorem dX0_steady_66 : decode cX0_steady 66 = .ok (.lstore 5, 2) := dk_55 5 (dk_at dksX0_steady_2 18 rfl rfl)
theorem dX0_steady_68 : decode cX0_steady 68 = .ok (.aload_n 0, 1) := dk_42 (dk_at dksX0_steady_2 20 rfl rfl)
theorem dX0_steady_69 : decode cX0_steady 69 = .ok (.getfield 318, 3) := dk_180 1 62 (dk_at dksX0_steady_2 21 rfl rfl)
theorem dX0_steady_72 : decode cX0_steady 72 = .ok (.iconst 3, 1) := dk_6 (dk_at dksX0_steady_3 0 rfl rfl)
theorem dX0_steady_73 : decode cX0_steady 73 = .ok (.if_icmp .le 11, 3) := dk_164 0 11 (dk_at dksX0_steady_3 1 rfl rfl)
theorem dX0_steady_76 : decode cX0_steady 76 = .ok (.aload_n 0, 1) := dk_42 (dk_at dksX0_steady_3 4 rfl rfl)
theorem dX0_steady_77 : decode cX0_steady 77 = .ok (.iconst 4, 1) := dk_7 (dk_at dksX0_steady_3 5 rfl rfl)
theorem dX0_steady_78 : decode cX0_steady 78 = .ok (.invokevirtual 349, 3) := dk_182 1 93 (dk_at dksX0_steady_3 6 rfl rfl)
theorem dX0_steady_81 : decode cX0_steady 81 = .ok (.goto 4, 3) := dk_167 0 4 (dk_at dksX0_steady_3 9 rfl rfl)
theorem dX0_steady_84 : decode cX0_steady 84 = .ok (.lconst 1, 1) := dk_10 (dk_at dksX0_steady_3 12 rfl rfl)
theorem dX0_steady_85 : decode cX0_steady 85 = .ok (.lstore 7, 2) := dk_55 7 (dk_at dksX0_steady_3 13 rfl rfl)
theorem dX0_steady_87 : decode cX0_steady 87 = .ok (.lload_n 1, 1) := dk_31 (dk_at dksX0_steady_3 15 rfl rfl)
theorem dX0_steady_88 : decode cX0_steady 88 = .ok (.lconst 0, 1) := dk_9 (dk_at dksX0_steady_3 16 rfl rfl)
theorem dX0_steady_89 : decode cX0_steady 89 = .ok (.lcmp, 1) := dk_148 (dk_at dksX0_steady_3 17 rfl rfl)
theorem dX0_steady_90 : decode cX0_steady 90 = .ok (.ifCond .le 27, 3) := dk_158 0 27 (dk_at dksX0_steady_3 18 rfl rfl)
theorem dX0_steady_93 : decode cX0_steady 93 = .ok (.lload_n 3, 1) := dk_33 (dk_at dksX0_steady_3 21 rfl rfl)
theorem dX0_steady_94 : decode cX0_steady 94 = .ok (.lconst 0, 1) := dk_9 (dk_at dksX0_steady_3 22 rfl rfl)
theorem dX0_steady_95 : decode cX0_steady 95 = .ok (.lcmp, 1) := dk_148 (dk_at dksX0_steady_3 23 rfl rfl)
theorem dX0_steady_96 : decode cX0_steady 96 = .ok (.ifCond .le 21, 3) := dk_158 0 21 (dk_at dksX0_steady_4 0 rfl rfl)
theorem dX0_steady_99 : decode cX0_steady 99 = .ok (.lload 5, 2) := dk_22 5 (dk_at dksX0_steady_4 3 rfl rfl)
theorem dX0_steady_101 : decode cX0_steady 101 = .ok (.lconst 0, 1) := dk_9 (dk_at dksX0_steady_4 5 rfl rfl)
theorem dX0_steady_102 : decode cX0_steady 102 = .ok (.lcmp, 1) := dk_148 (dk_at dksX0_steady_4 6 rfl rfl)
theorem dX0_steady_103 : decode cX0_steady 103 = .ok (.ifCond .le 14, 3) := dk_158 0 14 (dk_at dksX0_steady_4 7 rfl rfl)
theorem dX0_steady_106 : decode cX0_steady 106 = .ok (.lload 7, 2) := dk_22 7 (dk_at dksX0_steady_4 10 rfl rfl)
theorem dX0_steady_108 : decode cX0_steady 108 = .ok (.lconst 0, 1) := dk_9 (dk_at dksX0_steady_4 12 rfl rfl)
theorem dX0_steady_109 : decode cX0_steady 109 = .ok (.lcmp, 1) := dk_148 (dk_at dksX0_steady_4 13 rfl rfl)
theorem dX0_steady_110 : decode cX0_steady 110 = .ok (.ifCond .le 7, 3) := dk_158 0 7 (dk_at dksX0_steady_4 14 rfl rfl)
theorem dX0_steady_113 : decode cX0_steady 113 = .ok (.iconst 1, 1) := dk_4 (dk_at dksX0_steady_4 17 rfl rfl)
theorem dX0_steady_114 : decode cX0_steady 114 = .ok (.goto 4, 3) := dk_167 0 4 (dk_at dksX0_steady_4 18 rfl rfl)
theorem dX0_steady_117 : decode cX0_steady 117 = .ok (.iconst 0, 1) := dk_3 (dk_at dksX0_steady_4 21 rfl rfl)
theorem dX0_steady_118 : decode cX0_steady 118 = .ok (.istore 9, 2) := dk_54 9 (dk_at dksX0_steady_4 22 rfl rfl)
theorem dX0_steady_120 : decode cX0_steady 120 = .ok (.aload_n 0, 1) := dk_42 (dk_at dksX0_steady_5 0 rfl rfl)
theorem dX0_steady_121 : decode cX0_steady 121 = .ok (.getfield 318, 3) := dk_180 1 62 (dk_at dksX0_steady_5 1 rfl rfl)
theorem dX0_steady_124 : decode cX0_steady 124 = .ok (.iconst 3, 1) := dk_6 (dk_at dksX0_steady_5 4 rfl rfl)
theorem dX0_steady_125 : decode cX0_steady 125 = .ok (.if_icmp .ne 22, 3) := dk_160 0 22 (dk_at dksX0_steady_5 5 rfl rfl)
theorem dX0_steady_128 : decode cX0_steady 128 = .ok (.iload 9, 2) := dk_21 9 (dk_at dksX0_steady_5 8 rfl rfl)
theorem dX0_steady_130 : decode cX0_steady 130 = .ok (.lload_n 1, 1) := dk_31 (dk_at dksX0_steady_5 10 rfl rfl)
theorem dX0_steady_131 : decode cX0_steady 131 = .ok (.lload_n 3, 1) := dk_33 (dk_at dksX0_steady_5 11 rfl rfl)
theorem dX0_steady_132 : decode cX0_steady 132 = .ok (.lmul, 1) := dk_105 (dk_at dksX0_steady_5 12 rfl rfl)
theorem dX0_steady_133 : decode cX0_steady 133 = .ok (.lload 5, 2) := dk_22 5 (dk_at dksX0_steady_5 13 rfl rfl)
theorem dX0_steady_135 : decode cX0_steady 135 = .ok (.lcmp, 1) := dk_148 (dk_at dksX0_steady_5 15 rfl rfl)
theorem dX0_steady_136 : decode cX0_steady 136 = .ok (.ifCond .le 7, 3) := dk_158 0 7 (dk_at dksX0_steady_5 16 rfl rfl)
theorem dX0_steady_139 : decode cX0_steady 139 = .ok (.iconst 1, 1) := dk_4 (dk_at dksX0_steady_5 19 rfl rfl)
theorem dX0_steady_140 : decode cX0_steady 140 = .ok (.goto 4, 3) := dk_167 0 4 (dk_at dksX0_steady_5 20 rfl rfl)
theorem dX0_steady_143 : decode cX0_steady 143 = .ok (.iconst 0, 1) := dk_3 (dk_at dksX0_steady_5 23 rfl rfl)
theorem dX0_steady_144 : decode cX0_steady 144 = .ok (.iand, 1) := dk_126 (dk_at dksX0_steady_6 0 rfl rfl)
theorem dX0_steady_145 : decode cX0_steady 145 = .ok (.istore 9, 2) := dk_54 9 (dk_at dksX0_steady_6 1 rfl rfl)
theorem dX0_steady_147 : decode cX0_steady 147 = .ok (.aload_n 0, 1) := dk_42 (dk_at dksX0_steady_6 3 rfl rfl)
theorem dX0_steady_148 : decode cX0_steady 148 = .ok (.getfield 318, 3) := dk_180 1 62 (dk_at dksX0_steady_6 4 rfl rfl)
theorem dX0_steady_151 : decode cX0_steady 151 = .ok (.iconst 4, 1) := dk_7 (dk_at dksX0_steady_6 7 rfl rfl)
theorem dX0_steady_152 : decode cX0_steady 152 = .ok (.if_icmp .ne 35, 3) := dk_160 0 35 (dk_at dksX0_steady_6 8 rfl rfl)
theorem dX0_steady_155 : decode cX0_steady 155 = .ok (.iload 9, 2) := dk_21 9 (dk_at dksX0_steady_6 11 rfl rfl)
theorem dX0_steady_157 : decode cX0_steady 157 = .ok (.lload_n 1, 1) := dk_31 (dk_at dksX0_steady_6 13 rfl rfl)
theorem dX0_steady_158 : decode cX0_steady 158 = .ok (.lload_n 3, 1) := dk_33 (dk_at dksX0_steady_6 14 rfl rfl)
theorem dX0_steady_159 : decode cX0_steady 159 = .ok (.lmul, 1) := dk_105 (dk_at dksX0_steady_6 15 rfl rfl)
theorem dX0_steady_160 : decode cX0_steady 160 = .ok (.lload 5, 2) := dk_22 5 (dk_at dksX0_steady_6 16 rfl rfl)
theorem dX0_steady_162 : decode cX0_steady 162 = .ok (.lmul, 1) := dk_105 (dk_at dksX0_steady_6 18 rfl rfl)
theorem dX0_steady_163 : decode cX0_steady 163 = .ok (.lload 5, 2) := dk_22 5 (dk_at dksX0_steady_6 19 rfl rfl)
theorem dX0_steady_165 : decode cX0_steady 165 = .ok (.lload 5, 2) := dk_22 5 (dk_at dksX0_steady_6 21 rfl rfl)
theorem dX0_steady_167 : decode cX0_steady 167 = .ok (.lmul, 1) := dk_105 (dk_at dksX0_steady_6 23 rfl rfl)
theorem dX0_steady_168 : decode cX0_steady 168 = .ok (.lload_n 1, 1) := dk_31 (dk_at dksX0_steady_7 0 rfl rfl)
theorem dX0_steady_169 : decode cX0_steady 169 = .ok (.lload_n 1, 1) := dk_31 (dk_at dksX0_steady_7 1 rfl rfl)
theorem dX0_steady_170 : decode cX0_steady 170 = .ok (.lmul, 1) := dk_105 (dk_at dksX0_steady_7 2 rfl rfl)
theorem dX0_steady_171 : decode cX0_steady 171 = .ok (.lload 7, 2) := dk_22 7 (dk_at dksX0_steady_7 3 rfl rfl)
theorem dX0_steady_173 : decode cX0_steady 173 = .ok (.lmul, 1) := dk_105 (dk_at dksX0_steady_7 5 rfl rfl)
theorem dX0_steady_174 : decode cX0_steady 174 = .ok (.ladd, 1) := dk_97 (dk_at dksX0_steady_7 6 rfl rfl)
theorem dX0_steady_175 : decode cX0_steady 175 = .ok (.lcmp, 1) := dk_148 (dk_at dksX0_steady_7 7 rfl rfl)
theorem dX0_steady_176 : decode cX0_steady 176 = .ok (.ifCond .le 7, 3) := dk_158 0 7 (dk_at dksX0_steady_7 8 rfl rfl)
theorem dX0_steady_179 : decode cX0_steady 179 = .ok (.iconst 1, 1) := dk_4 (dk_at dksX0_steady_7 11 rfl rfl)
theorem dX0_steady_180 : decode cX0_steady 180 = .ok (.goto 4, 3) := dk_167 0 4 (dk_at dksX0_steady_7 12 rfl rfl)
theorem dX0_steady_183 : decode cX0_steady 183 = .ok (.iconst 0, 1) := dk_3 (dk_at dksX0_steady_7 15 rfl rfl)
theorem dX0_steady_184 : decode cX0_steady 184 = .ok (.iand, 1) := dk_126 (dk_at dksX0_steady_7 16 rfl rfl)
theorem dX0_steady_185 : decode cX0_steady 185 = .ok (.istore 9, 2) := dk_54 9 (dk_at dksX0_steady_7 17 rfl rfl)
theorem dX0_steady_187 : decode cX0_steady 187 = .ok (.iload 9, 2) := dk_21 9 (dk_at dksX0_steady_7 19 rfl rfl)
theorem dX0_steady_189 : decode cX0_steady 189 = .ok (.ifCond .eq 7, 3) := dk_153 0 7 (dk_at dksX0_steady_7 21 rfl rfl)
theorem dX0_steady_192 : decode cX0_steady 192 = .ok (.iconst 1, 1) := dk_4 (dk_at dksX0_steady_8 0 rfl rfl)
theorem dX0_steady_193 : decode cX0_steady 193 = .ok (.goto 4, 3) := dk_167 0 4 (dk_at dksX0_steady_8 1 rfl rfl)
theorem dX0_steady_196 : decode cX0_steady 196 = .ok (.iconst 0, 1) := dk_3 (dk_at dksX0_steady_8 4 rfl rfl)
theorem dX0_steady_197 : decode cX0_steady 197 = .ok (.ireturn, 1) := dk_172 (dk_at dksX0_steady_8 5 rfl rfl)
abbrev cX0_inner : ByteArray := prog_1_method_75_code
def yX0_inner : MethodName := ⟨RX0, "inner", "(I)J"⟩
def dkwX0_inner_2 : List UInt8 := [32, 173]
abbrev dktX0_inner_2 : List UInt8 := dkwX0_inner_2 ++ []
def dkwX0_inner_1 : List UInt8 := [160, 0, 15, 42, 21, 4, 21, 4, 10, 182, 1, 71, 167, 0, 4, 9, 97, 65, 132, 4, 1, 167, 255, 217]
abbrev dktX0_inner_1 : List UInt8 := dkwX0_inner_1 ++ dktX0_inner_2
def dkwX0_inner_0 : List UInt8 := [9, 65, 3, 54, 4, 21, 4, 4, 42, 180, 1, 62, 120, 162, 0, 34, 32, 21, 4, 184, 0, 236, 27]
abbrev dktX0_inner_0 : List UInt8 := dkwX0_inner_0 ++ dktX0_inner_1
theorem dksX0_inner_0 : cX0_inner.data.toList.drop 0 = dktX0_inner_0 := by decide +kernel
theorem dksX0_inner_1 : cX0_inner.data.toList.drop 23 = dktX0_inner_1 := dk_seg dksX0_inner_0 23 rfl rfl
theorem dksX0_inner_2 : cX0_inner.data.toList.drop 47 = dktX0_inner_2 := dk_seg dksX0_inner_1 24 rfl rfl
theorem dX0_inner_0 : decode cX0_inner 0 = .ok (.lconst 0, 1) := dk_9 (dk_at dksX0_inner_0 0 rfl rfl)
theorem dX0_inner_1 : decode cX0_inner 1 = .ok (.lstore_n 2, 1) := dk_65 (dk_at dksX0_inner_0 1 rfl rfl)
theorem dX0_inner_2 : decode cX0_inner 2 = .ok (.iconst 0, 1) := dk_3 (dk_at dksX0_inner_0 2 rfl rfl)
theorem dX0_inner_3 : decode cX0_inner 3 = .ok (.istore 4, 2) := dk_54 4 (dk_at dksX0_inner_0 3 rfl rfl)
theorem dX0_inner_5 : decode cX0_inner 5 = .ok (.iload 4, 2) := dk_21 4 (dk_at dksX0_inner_0 5 rfl rfl)
theorem dX0_inner_7 : decode cX0_inner 7 = .ok (.iconst 1, 1) := dk_4 (dk_at dksX0_inner_0 7 rfl rfl)
theorem dX0_inner_8 : decode cX0_inner 8 = .ok (.aload_n 0, 1) := dk_42 (dk_at dksX0_inner_0 8 rfl rfl)
theorem dX0_inner_9 : decode cX0_inner 9 = .ok (.getfield 318, 3) := dk_180 1 62 (dk_at dksX0_inner_0 9 rfl rfl)
theorem dX0_inner_12 : decode cX0_inner 12 = .ok (.ishl, 1) := dk_120 (dk_at dksX0_inner_0 12 rfl rfl)
theorem dX0_inner_13 : decode cX0_inner 13 = .ok (.if_icmp .ge 34, 3) := dk_162 0 34 (dk_at dksX0_inner_0 13 rfl rfl)
theorem dX0_inner_16 : decode cX0_inner 16 = .ok (.lload_n 2, 1) := dk_32 (dk_at dksX0_inner_0 16 rfl rfl)
theorem dX0_inner_17 : decode cX0_inner 17 = .ok (.iload 4, 2) := dk_21 4 (dk_at dksX0_inner_0 17 rfl rfl)
theorem dX0_inner_19 : decode cX0_inner 19 = .ok (.invokestatic 236, 3) := dk_184 0 236 (dk_at dksX0_inner_0 19 rfl rfl)
theorem dX0_inner_22 : decode cX0_inner 22 = .ok (.iload_n 1, 1) := dk_27 (dk_at dksX0_inner_0 22 rfl rfl)
theorem dX0_inner_23 : decode cX0_inner 23 = .ok (.if_icmp .ne 15, 3) := dk_160 0 15 (dk_at dksX0_inner_1 0 rfl rfl)
theorem dX0_inner_26 : decode cX0_inner 26 = .ok (.aload_n 0, 1) := dk_42 (dk_at dksX0_inner_1 3 rfl rfl)
theorem dX0_inner_27 : decode cX0_inner 27 = .ok (.iload 4, 2) := dk_21 4 (dk_at dksX0_inner_1 4 rfl rfl)
theorem dX0_inner_29 : decode cX0_inner 29 = .ok (.iload 4, 2) := dk_21 4 (dk_at dksX0_inner_1 6 rfl rfl)
theorem dX0_inner_31 : decode cX0_inner 31 = .ok (.lconst 1, 1) := dk_10 (dk_at dksX0_inner_1 8 rfl rfl)
theorem dX0_inner_32 : decode cX0_inner 32 = .ok (.invokevirtual 327, 3) := dk_182 1 71 (dk_at dksX0_inner_1 9 rfl rfl)
theorem dX0_inner_35 : decode cX0_inner 35 = .ok (.goto 4, 3) := dk_167 0 4 (dk_at dksX0_inner_1 12 rfl rfl)
theorem dX0_inner_38 : decode cX0_inner 38 = .ok (.lconst 0, 1) := dk_9 (dk_at dksX0_inner_1 15 rfl rfl)
theorem dX0_inner_39 : decode cX0_inner 39 = .ok (.ladd, 1) := dk_97 (dk_at dksX0_inner_1 16 rfl rfl)
theorem dX0_inner_40 : decode cX0_inner 40 = .ok (.lstore_n 2, 1) := dk_65 (dk_at dksX0_inner_1 17 rfl rfl)
theorem dX0_inner_41 : decode cX0_inner 41 = .ok (.iinc 4 1, 3) := dk_132 4 1 (dk_at dksX0_inner_1 18 rfl rfl)
theorem dX0_inner_44 : decode cX0_inner 44 = .ok (.goto (-39), 3) := dk_167 255 217 (dk_at dksX0_inner_1 21 rfl rfl)
theorem dX0_inner_47 : decode cX0_inner 47 = .ok (.lload_n 2, 1) := dk_32 (dk_at dksX0_inner_2 0 rfl rfl)
theorem dX0_inner_48 : decode cX0_inner 48 = .ok (.lreturn, 1) := dk_173 (dk_at dksX0_inner_2 1 rfl rfl)
abbrev cX0_asked : ByteArray := prog_1_method_77_code
def yX0_asked : MethodName := ⟨RX0, "asked", "()I"⟩
theorem dX0_asked_0 : decode cX0_asked 0 = .ok (.aload_n 0, 1) := by decide +kernel
theorem dX0_asked_1 : decode cX0_asked 1 = .ok (.getfield 281, 3) := by decide +kernel
theorem dX0_asked_4 : decode cX0_asked 4 = .ok (.ireturn, 1) := by decide +kernel
abbrev cX0_upper : ByteArray := prog_1_method_78_code
def yX0_upper : MethodName := ⟨RX0, "upper", "()J"⟩
theorem dX0_upper_0 : decode cX0_upper 0 = .ok (.aload_n 0, 1) := by decide +kernel
theorem dX0_upper_1 : decode cX0_upper 1 = .ok (.getfield 73, 3) := by decide +kernel
theorem dX0_upper_4 : decode cX0_upper 4 = .ok (.lreturn, 1) := by decide +kernel
abbrev cX0_lower : ByteArray := prog_1_method_79_code
def yX0_lower : MethodName := ⟨RX0, "lower", "()J"⟩
theorem dX0_lower_0 : decode cX0_lower 0 = .ok (.aload_n 0, 1) := by decide +kernel
theorem dX0_lower_1 : decode cX0_lower 1 = .ok (.getfield 13, 3) := by decide +kernel
theorem dX0_lower_4 : decode cX0_lower 4 = .ok (.lreturn, 1) := by decide +kernel
abbrev cX0_count : ByteArray := prog_1_method_83_code
def yX0_count : MethodName := ⟨RX0, "count", "(I)I"⟩
def dkwX0_count_0 : List UInt8 := [27, 3, 7, 184, 0, 76, 153, 0, 11, 42, 27, 182, 1, 103, 167, 0, 4, 2, 172]
abbrev dktX0_count_0 : List UInt8 := dkwX0_count_0 ++ []
theorem dksX0_count_0 : cX0_count.data.toList.drop 0 = dktX0_count_0 := by decide +kernel
theorem dX0_count_0 : decode cX0_count 0 = .ok (.iload_n 1, 1) := dk_27 (dk_at dksX0_count_0 0 rfl rfl)
theorem dX0_count_1 : decode cX0_count 1 = .ok (.iconst 0, 1) := dk_3 (dk_at dksX0_count_0 1 rfl rfl)
theorem dX0_count_2 : decode cX0_count 2 = .ok (.iconst 4, 1) := dk_7 (dk_at dksX0_count_0 2 rfl rfl)
theorem dX0_count_3 : decode cX0_count 3 = .ok (.invokestatic 76, 3) := dk_184 0 76 (dk_at dksX0_count_0 3 rfl rfl)
theorem dX0_count_6 : decode cX0_count 6 = .ok (.ifCond .eq 11, 3) := dk_153 0 11 (dk_at dksX0_count_0 6 rfl rfl)
theorem dX0_count_9 : decode cX0_count 9 = .ok (.aload_n 0, 1) := dk_42 (dk_at dksX0_count_0 9 rfl rfl)
theorem dX0_count_10 : decode cX0_count 10 = .ok (.iload_n 1, 1) := dk_27 (dk_at dksX0_count_0 10 rfl rfl)
theorem dX0_count_11 : decode cX0_count 11 = .ok (.invokevirtual 359, 3) := dk_182 1 103 (dk_at dksX0_count_0 11 rfl rfl)
theorem dX0_count_14 : decode cX0_count 14 = .ok (.goto 4, 3) := dk_167 0 4 (dk_at dksX0_count_0 14 rfl rfl)
theorem dX0_count_17 : decode cX0_count 17 = .ok (.iconst (-1), 1) := dk_2 (dk_at dksX0_count_0 17 rfl rfl)
theorem dX0_count_18 : decode cX0_count 18 = .ok (.ireturn, 1) := dk_172 (dk_at dksX0_count_0 18 rfl rfl)
abbrev cX0_counts : ByteArray := prog_1_method_82_code
def yX0_counts : MethodName := ⟨RX0, "counts", "(I)I"⟩
def dkwX0_counts_3 : List UInt8 := [182, 1, 100, 172]
abbrev dktX0_counts_3 : List UInt8 := dkwX0_counts_3 ++ []
def dkwX0_counts_2 : List UInt8 := [42, 180, 0, 175, 172, 42, 182, 0, 233, 184, 0, 236, 172, 42, 182, 0, 230, 172, 42, 182, 1, 97, 172, 42]
abbrev dktX0_counts_2 : List UInt8 := dkwX0_counts_2 ++ dktX0_counts_3
def dkwX0_counts_1 : List UInt8 := [170, 0, 0, 0, 0, 0, 54, 0, 0, 0, 0, 0, 0, 0, 3, 0, 0, 0, 31, 0, 0, 0, 36, 0, 0, 0, 44, 0, 0, 0, 49]
abbrev dktX0_counts_1 : List UInt8 := dkwX0_counts_1 ++ dktX0_counts_2
def dkwX0_counts_0 : List UInt8 := [27]
abbrev dktX0_counts_0 : List UInt8 := dkwX0_counts_0 ++ dktX0_counts_1
theorem dksX0_counts_0 : cX0_counts.data.toList.drop 0 = dktX0_counts_0 := by decide +kernel
theorem dksX0_counts_1 : cX0_counts.data.toList.drop 1 = dktX0_counts_1 := dk_seg dksX0_counts_0 1 rfl rfl
theorem dksX0_counts_2 : cX0_counts.data.toList.drop 32 = dktX0_counts_2 := dk_seg dksX0_counts_1 31 rfl rfl
theorem dksX0_counts_3 : cX0_counts.data.toList.drop 56 = dktX0_counts_3 := dk_seg dksX0_counts_2 24 rfl rfl
theorem dX0_counts_0 : decode cX0_counts 0 = .ok (.iload_n 1, 1) := dk_27 (dk_at dksX0_counts_0 0 rfl rfl)
theorem dX0_counts_1 : decode cX0_counts 1 = .ok (.tableswitch 54 0 3 #[31, 36, 44, 49], 31) := by decide +kernel
theorem dX0_counts_32 : decode cX0_counts 32 = .ok (.aload_n 0, 1) := dk_42 (dk_at dksX0_counts_2 0 rfl rfl)
theorem dX0_counts_33 : decode cX0_counts 33 = .ok (.getfield 175, 3) := dk_180 0 175 (dk_at dksX0_counts_2 1 rfl rfl)
theorem dX0_counts_36 : decode cX0_counts 36 = .ok (.ireturn, 1) := dk_172 (dk_at dksX0_counts_2 4 rfl rfl)
theorem dX0_counts_37 : decode cX0_counts 37 = .ok (.aload_n 0, 1) := dk_42 (dk_at dksX0_counts_2 5 rfl rfl)
theorem dX0_counts_38 : decode cX0_counts 38 = .ok (.invokevirtual 233, 3) := dk_182 0 233 (dk_at dksX0_counts_2 6 rfl rfl)
theorem dX0_counts_41 : decode cX0_counts 41 = .ok (.invokestatic 236, 3) := dk_184 0 236 (dk_at dksX0_counts_2 9 rfl rfl)
theorem dX0_counts_44 : decode cX0_counts 44 = .ok (.ireturn, 1) := dk_172 (dk_at dksX0_counts_2 12 rfl rfl)
theorem dX0_counts_45 : decode cX0_counts 45 = .ok (.aload_n 0, 1) := dk_42 (dk_at dksX0_counts_2 13 rfl rfl)
theorem dX0_counts_46 : decode cX0_counts 46 = .ok (.invokevirtual 230, 3) := dk_182 0 230 (dk_at dksX0_counts_2 14 rfl rfl)
theorem dX0_counts_49 : decode cX0_counts 49 = .ok (.ireturn, 1) := dk_172 (dk_at dksX0_counts_2 17 rfl rfl)
theorem dX0_counts_50 : decode cX0_counts 50 = .ok (.aload_n 0, 1) := dk_42 (dk_at dksX0_counts_2 18 rfl rfl)
theorem dX0_counts_51 : decode cX0_counts 51 = .ok (.invokevirtual 353, 3) := dk_182 1 97 (dk_at dksX0_counts_2 19 rfl rfl)
theorem dX0_counts_54 : decode cX0_counts 54 = .ok (.ireturn, 1) := dk_172 (dk_at dksX0_counts_2 22 rfl rfl)
theorem dX0_counts_55 : decode cX0_counts 55 = .ok (.aload_n 0, 1) := dk_42 (dk_at dksX0_counts_2 23 rfl rfl)
theorem dX0_counts_56 : decode cX0_counts 56 = .ok (.invokevirtual 356, 3) := dk_182 1 100 (dk_at dksX0_counts_3 0 rfl rfl)
theorem dX0_counts_59 : decode cX0_counts 59 = .ok (.ireturn, 1) := dk_172 (dk_at dksX0_counts_3 3 rfl rfl)
abbrev cX0_linkCount : ByteArray := prog_1_method_80_code
def yX0_linkCount : MethodName := ⟨RX0, "linkCount", "()I"⟩
def dkwX0_linkCount_1 : List UInt8 := [54, 5, 27, 21, 5, 158, 0, 7, 4, 167, 0, 4, 3, 96, 60, 132, 4, 1, 167, 255, 228, 27, 172]
abbrev dktX0_linkCount_1 : List UInt8 := dkwX0_linkCount_1 ++ []
def dkwX0_linkCount_0 : List UInt8 := [3, 60, 42, 180, 0, 29, 77, 44, 190, 62, 3, 54, 4, 21, 4, 29, 162, 0, 28, 44, 21, 4, 46]
abbrev dktX0_linkCount_0 : List UInt8 := dkwX0_linkCount_0 ++ dktX0_linkCount_1
theorem dksX0_linkCount_0 : cX0_linkCount.data.toList.drop 0 = dktX0_linkCount_0 := by decide +kernel
theorem dksX0_linkCount_1 : cX0_linkCount.data.toList.drop 23 = dktX0_linkCount_1 := dk_seg dksX0_linkCount_0 23 rfl rfl
theorem dX0_linkCount_0 : decode cX0_linkCount 0 = .ok (.iconst 0, 1) := dk_3 (dk_at dksX0_linkCount_0 0 rfl rfl)
theorem dX0_linkCount_1 : decode cX0_linkCount 1 = .ok (.istore_n 1, 1) := dk_60 (dk_at dksX0_linkCount_0 1 rfl rfl)
theorem dX0_linkCount_2 : decode cX0_linkCount 2 = .ok (.aload_n 0, 1) := dk_42 (dk_at dksX0_linkCount_0 2 rfl rfl)
theorem dX0_linkCount_3 : decode cX0_linkCount 3 = .ok (.getfield 29, 3) := dk_180 0 29 (dk_at dksX0_linkCount_0 3 rfl rfl)
theorem dX0_linkCount_6 : decode cX0_linkCount 6 = .ok (.astore_n 2, 1) := dk_77 (dk_at dksX0_linkCount_0 6 rfl rfl)
theorem dX0_linkCount_7 : decode cX0_linkCount 7 = .ok (.aload_n 2, 1) := dk_44 (dk_at dksX0_linkCount_0 7 rfl rfl)
theorem dX0_linkCount_8 : decode cX0_linkCount 8 = .ok (.arraylength, 1) := dk_190 (dk_at dksX0_linkCount_0 8 rfl rfl)
theorem dX0_linkCount_9 : decode cX0_linkCount 9 = .ok (.istore_n 3, 1) := dk_62 (dk_at dksX0_linkCount_0 9 rfl rfl)
theorem dX0_linkCount_10 : decode cX0_linkCount 10 = .ok (.iconst 0, 1) := dk_3 (dk_at dksX0_linkCount_0 10 rfl rfl)
theorem dX0_linkCount_11 : decode cX0_linkCount 11 = .ok (.istore 4, 2) := dk_54 4 (dk_at dksX0_linkCount_0 11 rfl rfl)
theorem dX0_linkCount_13 : decode cX0_linkCount 13 = .ok (.iload 4, 2) := dk_21 4 (dk_at dksX0_linkCount_0 13 rfl rfl)
theorem dX0_linkCount_15 : decode cX0_linkCount 15 = .ok (.iload_n 3, 1) := dk_29 (dk_at dksX0_linkCount_0 15 rfl rfl)
theorem dX0_linkCount_16 : decode cX0_linkCount 16 = .ok (.if_icmp .ge 28, 3) := dk_162 0 28 (dk_at dksX0_linkCount_0 16 rfl rfl)
theorem dX0_linkCount_19 : decode cX0_linkCount 19 = .ok (.aload_n 2, 1) := dk_44 (dk_at dksX0_linkCount_0 19 rfl rfl)
theorem dX0_linkCount_20 : decode cX0_linkCount 20 = .ok (.iload 4, 2) := dk_21 4 (dk_at dksX0_linkCount_0 20 rfl rfl)
theorem dX0_linkCount_22 : decode cX0_linkCount 22 = .ok (.iaload, 1) := dk_46 (dk_at dksX0_linkCount_0 22 rfl rfl)
theorem dX0_linkCount_23 : decode cX0_linkCount 23 = .ok (.istore 5, 2) := dk_54 5 (dk_at dksX0_linkCount_1 0 rfl rfl)
theorem dX0_linkCount_25 : decode cX0_linkCount 25 = .ok (.iload_n 1, 1) := dk_27 (dk_at dksX0_linkCount_1 2 rfl rfl)
theorem dX0_linkCount_26 : decode cX0_linkCount 26 = .ok (.iload 5, 2) := dk_21 5 (dk_at dksX0_linkCount_1 3 rfl rfl)
theorem dX0_linkCount_28 : decode cX0_linkCount 28 = .ok (.ifCond .le 7, 3) := dk_158 0 7 (dk_at dksX0_linkCount_1 5 rfl rfl)
theorem dX0_linkCount_31 : decode cX0_linkCount 31 = .ok (.iconst 1, 1) := dk_4 (dk_at dksX0_linkCount_1 8 rfl rfl)
theorem dX0_linkCount_32 : decode cX0_linkCount 32 = .ok (.goto 4, 3) := dk_167 0 4 (dk_at dksX0_linkCount_1 9 rfl rfl)
theorem dX0_linkCount_35 : decode cX0_linkCount 35 = .ok (.iconst 0, 1) := dk_3 (dk_at dksX0_linkCount_1 12 rfl rfl)
theorem dX0_linkCount_36 : decode cX0_linkCount 36 = .ok (.iadd, 1) := dk_96 (dk_at dksX0_linkCount_1 13 rfl rfl)
theorem dX0_linkCount_37 : decode cX0_linkCount 37 = .ok (.istore_n 1, 1) := dk_60 (dk_at dksX0_linkCount_1 14 rfl rfl)
theorem dX0_linkCount_38 : decode cX0_linkCount 38 = .ok (.iinc 4 1, 3) := dk_132 4 1 (dk_at dksX0_linkCount_1 15 rfl rfl)
theorem dX0_linkCount_41 : decode cX0_linkCount 41 = .ok (.goto (-28), 3) := dk_167 255 228 (dk_at dksX0_linkCount_1 18 rfl rfl)
theorem dX0_linkCount_44 : decode cX0_linkCount 44 = .ok (.iload_n 1, 1) := dk_27 (dk_at dksX0_linkCount_1 21 rfl rfl)
theorem dX0_linkCount_45 : decode cX0_linkCount 45 = .ok (.ireturn, 1) := dk_172 (dk_at dksX0_linkCount_1 22 rfl rfl)
abbrev cX0_textCount : ByteArray := prog_1_method_81_code
def yX0_textCount : MethodName := ⟨RX0, "textCount", "()I"⟩
def dkwX0_textCount_1 : List UInt8 := [58, 5, 27, 25, 5, 199, 0, 7, 3, 167, 0, 4, 4, 96, 60, 132, 4, 1, 167, 255, 228, 27, 172]
abbrev dktX0_textCount_1 : List UInt8 := dkwX0_textCount_1 ++ []
def dkwX0_textCount_0 : List UInt8 := [3, 60, 42, 180, 0, 19, 77, 44, 190, 62, 3, 54, 4, 21, 4, 29, 162, 0, 28, 44, 21, 4, 50]
abbrev dktX0_textCount_0 : List UInt8 := dkwX0_textCount_0 ++ dktX0_textCount_1
theorem dksX0_textCount_0 : cX0_textCount.data.toList.drop 0 = dktX0_textCount_0 := by decide +kernel
theorem dksX0_textCount_1 : cX0_textCount.data.toList.drop 23 = dktX0_textCount_1 := dk_seg dksX0_textCount_0 23 rfl rfl
theorem dX0_textCount_0 : decode cX0_textCount 0 = .ok (.iconst 0, 1) := dk_3 (dk_at dksX0_textCount_0 0 rfl rfl)
theorem dX0_textCount_1 : decode cX0_textCount 1 = .ok (.istore_n 1, 1) := dk_60 (dk_at dksX0_textCount_0 1 rfl rfl)
theorem dX0_textCount_2 : decode cX0_textCount 2 = .ok (.aload_n 0, 1) := dk_42 (dk_at dksX0_textCount_0 2 rfl rfl)
theorem dX0_textCount_3 : decode cX0_textCount 3 = .ok (.getfield 19, 3) := dk_180 0 19 (dk_at dksX0_textCount_0 3 rfl rfl)
theorem dX0_textCount_6 : decode cX0_textCount 6 = .ok (.astore_n 2, 1) := dk_77 (dk_at dksX0_textCount_0 6 rfl rfl)
theorem dX0_textCount_7 : decode cX0_textCount 7 = .ok (.aload_n 2, 1) := dk_44 (dk_at dksX0_textCount_0 7 rfl rfl)
theorem dX0_textCount_8 : decode cX0_textCount 8 = .ok (.arraylength, 1) := dk_190 (dk_at dksX0_textCount_0 8 rfl rfl)
theorem dX0_textCount_9 : decode cX0_textCount 9 = .ok (.istore_n 3, 1) := dk_62 (dk_at dksX0_textCount_0 9 rfl rfl)
theorem dX0_textCount_10 : decode cX0_textCount 10 = .ok (.iconst 0, 1) := dk_3 (dk_at dksX0_textCount_0 10 rfl rfl)
theorem dX0_textCount_11 : decode cX0_textCount 11 = .ok (.istore 4, 2) := dk_54 4 (dk_at dksX0_textCount_0 11 rfl rfl)
theorem dX0_textCount_13 : decode cX0_textCount 13 = .ok (.iload 4, 2) := dk_21 4 (dk_at dksX0_textCount_0 13 rfl rfl)
theorem dX0_textCount_15 : decode cX0_textCount 15 = .ok (.iload_n 3, 1) := dk_29 (dk_at dksX0_textCount_0 15 rfl rfl)
theorem dX0_textCount_16 : decode cX0_textCount 16 = .ok (.if_icmp .ge 28, 3) := dk_162 0 28 (dk_at dksX0_textCount_0 16 rfl rfl)
theorem dX0_textCount_19 : decode cX0_textCount 19 = .ok (.aload_n 2, 1) := dk_44 (dk_at dksX0_textCount_0 19 rfl rfl)
theorem dX0_textCount_20 : decode cX0_textCount 20 = .ok (.iload 4, 2) := dk_21 4 (dk_at dksX0_textCount_0 20 rfl rfl)
theorem dX0_textCount_22 : decode cX0_textCount 22 = .ok (.aaload, 1) := dk_50 (dk_at dksX0_textCount_0 22 rfl rfl)
theorem dX0_textCount_23 : decode cX0_textCount 23 = .ok (.astore 5, 2) := dk_58 5 (dk_at dksX0_textCount_1 0 rfl rfl)
theorem dX0_textCount_25 : decode cX0_textCount 25 = .ok (.iload_n 1, 1) := dk_27 (dk_at dksX0_textCount_1 2 rfl rfl)
theorem dX0_textCount_26 : decode cX0_textCount 26 = .ok (.aload 5, 2) := dk_25 5 (dk_at dksX0_textCount_1 3 rfl rfl)
theorem dX0_textCount_28 : decode cX0_textCount 28 = .ok (.ifnonnull 7, 3) := dk_199 0 7 (dk_at dksX0_textCount_1 5 rfl rfl)
theorem dX0_textCount_31 : decode cX0_textCount 31 = .ok (.iconst 0, 1) := dk_3 (dk_at dksX0_textCount_1 8 rfl rfl)
theorem dX0_textCount_32 : decode cX0_textCount 32 = .ok (.goto 4, 3) := dk_167 0 4 (dk_at dksX0_textCount_1 9 rfl rfl)
theorem dX0_textCount_35 : decode cX0_textCount 35 = .ok (.iconst 1, 1) := dk_4 (dk_at dksX0_textCount_1 12 rfl rfl)
theorem dX0_textCount_36 : decode cX0_textCount 36 = .ok (.iadd, 1) := dk_96 (dk_at dksX0_textCount_1 13 rfl rfl)
theorem dX0_textCount_37 : decode cX0_textCount 37 = .ok (.istore_n 1, 1) := dk_60 (dk_at dksX0_textCount_1 14 rfl rfl)
theorem dX0_textCount_38 : decode cX0_textCount 38 = .ok (.iinc 4 1, 3) := dk_132 4 1 (dk_at dksX0_textCount_1 15 rfl rfl)
theorem dX0_textCount_41 : decode cX0_textCount 41 = .ok (.goto (-28), 3) := dk_167 255 228 (dk_at dksX0_textCount_1 18 rfl rfl)
theorem dX0_textCount_44 : decode cX0_textCount 44 = .ok (.iload_n 1, 1) := dk_27 (dk_at dksX0_textCount_1 21 rfl rfl)
theorem dX0_textCount_45 : decode cX0_textCount 45 = .ok (.ireturn, 1) := dk_172 (dk_at dksX0_textCount_1 22 rfl rfl)
abbrev cX0_finding : ByteArray := prog_1_method_84_code
def yX0_finding : MethodName := ⟨RX0, "finding", "()I"⟩
theorem dX0_finding_0 : decode cX0_finding 0 = .ok (.aload_n 0, 1) := by decide +kernel
theorem dX0_finding_1 : decode cX0_finding 1 = .ok (.getfield 63, 3) := by decide +kernel
theorem dX0_finding_4 : decode cX0_finding 4 = .ok (.ireturn, 1) := by decide +kernel
abbrev cX0_findings : ByteArray := prog_1_method_85_code
def yX0_findings : MethodName := ⟨RX0, "findings", "(I)I"⟩
def dkwX0_findings_0 : List UInt8 := [27, 4, 8, 184, 0, 76, 153, 0, 12, 42, 180, 0, 7, 27, 46, 167, 0, 4, 2, 172]
abbrev dktX0_findings_0 : List UInt8 := dkwX0_findings_0 ++ []
theorem dksX0_findings_0 : cX0_findings.data.toList.drop 0 = dktX0_findings_0 := by decide +kernel
theorem dX0_findings_0 : decode cX0_findings 0 = .ok (.iload_n 1, 1) := dk_27 (dk_at dksX0_findings_0 0 rfl rfl)
theorem dX0_findings_1 : decode cX0_findings 1 = .ok (.iconst 1, 1) := dk_4 (dk_at dksX0_findings_0 1 rfl rfl)
theorem dX0_findings_2 : decode cX0_findings 2 = .ok (.iconst 5, 1) := dk_8 (dk_at dksX0_findings_0 2 rfl rfl)
theorem dX0_findings_3 : decode cX0_findings 3 = .ok (.invokestatic 76, 3) := dk_184 0 76 (dk_at dksX0_findings_0 3 rfl rfl)
theorem dX0_findings_6 : decode cX0_findings 6 = .ok (.ifCond .eq 12, 3) := dk_153 0 12 (dk_at dksX0_findings_0 6 rfl rfl)
theorem dX0_findings_9 : decode cX0_findings 9 = .ok (.aload_n 0, 1) := dk_42 (dk_at dksX0_findings_0 9 rfl rfl)
theorem dX0_findings_10 : decode cX0_findings 10 = .ok (.getfield 7, 3) := dk_180 0 7 (dk_at dksX0_findings_0 10 rfl rfl)
theorem dX0_findings_13 : decode cX0_findings 13 = .ok (.iload_n 1, 1) := dk_27 (dk_at dksX0_findings_0 13 rfl rfl)
theorem dX0_findings_14 : decode cX0_findings 14 = .ok (.iaload, 1) := dk_46 (dk_at dksX0_findings_0 14 rfl rfl)
theorem dX0_findings_15 : decode cX0_findings 15 = .ok (.goto 4, 3) := dk_167 0 4 (dk_at dksX0_findings_0 15 rfl rfl)
theorem dX0_findings_18 : decode cX0_findings 18 = .ok (.iconst (-1), 1) := dk_2 (dk_at dksX0_findings_0 18 rfl rfl)
theorem dX0_findings_19 : decode cX0_findings 19 = .ok (.ireturn, 1) := dk_172 (dk_at dksX0_findings_0 19 rfl rfl)
abbrev cX0_digest : ByteArray := prog_1_method_88_code
def yX0_digest : MethodName := ⟨RX0, "digest", "()J"⟩
def dkwX0_digest_5 : List UInt8 := [132, 6, 1, 167, 255, 236, 132, 3, 1, 167, 255, 196, 42, 180, 1, 108, 173]
abbrev dktX0_digest_5 : List UInt8 := dkwX0_digest_5 ++ []
def dkwX0_digest_4 : List UInt8 := [182, 1, 111, 3, 54, 6, 21, 6, 21, 5, 162, 0, 19, 42, 25, 4, 21, 6, 51, 133, 182, 1, 111]
abbrev dktX0_digest_4 : List UInt8 := dkwX0_digest_4 ++ dktX0_digest_5
def dkwX0_digest_3 : List UInt8 := [43, 29, 50, 58, 4, 25, 4, 199, 0, 7, 2, 167, 0, 6, 25, 4, 190, 54, 5, 42, 21, 5, 133]
abbrev dktX0_digest_3 : List UInt8 := dkwX0_digest_3 ++ dktX0_digest_4
def dkwX0_digest_2 : List UInt8 := [182, 1, 117, 132, 1, 1, 167, 255, 242, 42, 180, 0, 19, 76, 43, 190, 61, 3, 62, 29, 28, 162, 0, 61]
abbrev dktX0_digest_2 : List UInt8 := dkwX0_digest_2 ++ dktX0_digest_3
def dkwX0_digest_1 : List UInt8 := [132, 1, 1, 167, 255, 238, 42, 42, 180, 1, 16, 182, 1, 111, 3, 60, 27, 16, 8, 162, 0, 14, 42, 27]
abbrev dktX0_digest_1 : List UInt8 := dkwX0_digest_1 ++ dktX0_digest_2
def dkwX0_digest_0 : List UInt8 := [42, 20, 1, 115, 181, 1, 108, 3, 60, 27, 7, 163, 0, 19, 42, 42, 27, 182, 1, 103, 133, 182, 1, 111]
abbrev dktX0_digest_0 : List UInt8 := dkwX0_digest_0 ++ dktX0_digest_1
theorem dksX0_digest_0 : cX0_digest.data.toList.drop 0 = dktX0_digest_0 := by decide +kernel
theorem dksX0_digest_1 : cX0_digest.data.toList.drop 24 = dktX0_digest_1 := dk_seg dksX0_digest_0 24 rfl rfl
theorem dksX0_digest_2 : cX0_digest.data.toList.drop 48 = dktX0_digest_2 := dk_seg dksX0_digest_1 24 rfl rfl
theorem dksX0_digest_3 : cX0_digest.data.toList.drop 72 = dktX0_digest_3 := dk_seg dksX0_digest_2 24 rfl rfl
theorem dksX0_digest_4 : cX0_digest.data.toList.drop 95 = dktX0_digest_4 := dk_seg dksX0_digest_3 23 rfl rfl
theorem dksX0_digest_5 : cX0_digest.data.toList.drop 118 = dktX0_digest_5 := dk_seg dksX0_digest_4 23 rfl rfl
theorem dX0_digest_0 : decode cX0_digest 0 = .ok (.aload_n 0, 1) := dk_42 (dk_at dksX0_digest_0 0 rfl rfl)
theorem dX0_digest_1 : decode cX0_digest 1 = .ok (.ldc2_w 371, 3) := dk_20 1 115 (dk_at dksX0_digest_0 1 rfl rfl)
theorem dX0_digest_4 : decode cX0_digest 4 = .ok (.putfield 364, 3) := dk_181 1 108 (dk_at dksX0_digest_0 4 rfl rfl)
theorem dX0_digest_7 : decode cX0_digest 7 = .ok (.iconst 0, 1) := dk_3 (dk_at dksX0_digest_0 7 rfl rfl)
theorem dX0_digest_8 : decode cX0_digest 8 = .ok (.istore_n 1, 1) := dk_60 (dk_at dksX0_digest_0 8 rfl rfl)
theorem dX0_digest_9 : decode cX0_digest 9 = .ok (.iload_n 1, 1) := dk_27 (dk_at dksX0_digest_0 9 rfl rfl)
theorem dX0_digest_10 : decode cX0_digest 10 = .ok (.iconst 4, 1) := dk_7 (dk_at dksX0_digest_0 10 rfl rfl)
theorem dX0_digest_11 : decode cX0_digest 11 = .ok (.if_icmp .gt 19, 3) := dk_163 0 19 (dk_at dksX0_digest_0 11 rfl rfl)
theorem dX0_digest_14 : decode cX0_digest 14 = .ok (.aload_n 0, 1) := dk_42 (dk_at dksX0_digest_0 14 rfl rfl)
theorem dX0_digest_15 : decode cX0_digest 15 = .ok (.aload_n 0, 1) := dk_42 (dk_at dksX0_digest_0 15 rfl rfl)
theorem dX0_digest_16 : decode cX0_digest 16 = .ok (.iload_n 1, 1) := dk_27 (dk_at dksX0_digest_0 16 rfl rfl)
theorem dX0_digest_17 : decode cX0_digest 17 = .ok (.invokevirtual 359, 3) := dk_182 1 103 (dk_at dksX0_digest_0 17 rfl rfl)
theorem dX0_digest_20 : decode cX0_digest 20 = .ok (.i2l, 1) := dk_133 (dk_at dksX0_digest_0 20 rfl rfl)
theorem dX0_digest_21 : decode cX0_digest 21 = .ok (.invokevirtual 367, 3) := dk_182 1 111 (dk_at dksX0_digest_0 21 rfl rfl)
theorem dX0_digest_24 : decode cX0_digest 24 = .ok (.iinc 1 1, 3) := dk_132 1 1 (dk_at dksX0_digest_1 0 rfl rfl)
theorem dX0_digest_27 : decode cX0_digest 27 = .ok (.goto (-18), 3) := dk_167 255 238 (dk_at dksX0_digest_1 3 rfl rfl)
theorem dX0_digest_30 : decode cX0_digest 30 = .ok (.aload_n 0, 1) := dk_42 (dk_at dksX0_digest_1 6 rfl rfl)
theorem dX0_digest_31 : decode cX0_digest 31 = .ok (.aload_n 0, 1) := dk_42 (dk_at dksX0_digest_1 7 rfl rfl)
theorem dX0_digest_32 : decode cX0_digest 32 = .ok (.getfield 272, 3) := dk_180 1 16 (dk_at dksX0_digest_1 8 rfl rfl)
theorem dX0_digest_35 : decode cX0_digest 35 = .ok (.invokevirtual 367, 3) := dk_182 1 111 (dk_at dksX0_digest_1 11 rfl rfl)
theorem dX0_digest_38 : decode cX0_digest 38 = .ok (.iconst 0, 1) := dk_3 (dk_at dksX0_digest_1 14 rfl rfl)
theorem dX0_digest_39 : decode cX0_digest 39 = .ok (.istore_n 1, 1) := dk_60 (dk_at dksX0_digest_1 15 rfl rfl)
theorem dX0_digest_40 : decode cX0_digest 40 = .ok (.iload_n 1, 1) := dk_27 (dk_at dksX0_digest_1 16 rfl rfl)
theorem dX0_digest_41 : decode cX0_digest 41 = .ok (.bipush 8, 2) := dk_16 8 (dk_at dksX0_digest_1 17 rfl rfl)
theorem dX0_digest_43 : decode cX0_digest 43 = .ok (.if_icmp .ge 14, 3) := dk_162 0 14 (dk_at dksX0_digest_1 19 rfl rfl)
theorem dX0_digest_46 : decode cX0_digest 46 = .ok (.aload_n 0, 1) := dk_42 (dk_at dksX0_digest_1 22 rfl rfl)
theorem dX0_digest_47 : decode cX0_digest 47 = .ok (.iload_n 1, 1) := dk_27 (dk_at dksX0_digest_1 23 rfl rfl)
theorem dX0_digest_48 : decode cX0_digest 48 = .ok (.invokevirtual 373, 3) := dk_182 1 117 (dk_at dksX0_digest_2 0 rfl rfl)
theorem dX0_digest_51 : decode cX0_digest 51 = .ok (.iinc 1 1, 3) := dk_132 1 1 (dk_at dksX0_digest_2 3 rfl rfl)
theorem dX0_digest_54 : decode cX0_digest 54 = .ok (.goto (-14), 3) := dk_167 255 242 (dk_at dksX0_digest_2 6 rfl rfl)
theorem dX0_digest_57 : decode cX0_digest 57 = .ok (.aload_n 0, 1) := dk_42 (dk_at dksX0_digest_2 9 rfl rfl)
theorem dX0_digest_58 : decode cX0_digest 58 = .ok (.getfield 19, 3) := dk_180 0 19 (dk_at dksX0_digest_2 10 rfl rfl)
theorem dX0_digest_61 : decode cX0_digest 61 = .ok (.astore_n 1, 1) := dk_76 (dk_at dksX0_digest_2 13 rfl rfl)
theorem dX0_digest_62 : decode cX0_digest 62 = .ok (.aload_n 1, 1) := dk_43 (dk_at dksX0_digest_2 14 rfl rfl)
theorem dX0_digest_63 : decode cX0_digest 63 = .ok (.arraylength, 1) := dk_190 (dk_at dksX0_digest_2 15 rfl rfl)
theorem dX0_digest_64 : decode cX0_digest 64 = .ok (.istore_n 2, 1) := dk_61 (dk_at dksX0_digest_2 16 rfl rfl)
theorem dX0_digest_65 : decode cX0_digest 65 = .ok (.iconst 0, 1) := dk_3 (dk_at dksX0_digest_2 17 rfl rfl)
theorem dX0_digest_66 : decode cX0_digest 66 = .ok (.istore_n 3, 1) := dk_62 (dk_at dksX0_digest_2 18 rfl rfl)
theorem dX0_digest_67 : decode cX0_digest 67 = .ok (.iload_n 3, 1) := dk_29 (dk_at dksX0_digest_2 19 rfl rfl)
theorem dX0_digest_68 : decode cX0_digest 68 = .ok (.iload_n 2, 1) := dk_28 (dk_at dksX0_digest_2 20 rfl rfl)
theorem dX0_digest_69 : decode cX0_digest 69 = .ok (.if_icmp .ge 61, 3) := dk_162 0 61 (dk_at dksX0_digest_2 21 rfl rfl)
theorem dX0_digest_72 : decode cX0_digest 72 = .ok (.aload_n 1, 1) := dk_43 (dk_at dksX0_digest_3 0 rfl rfl)
theorem dX0_digest_73 : decode cX0_digest 73 = .ok (.iload_n 3, 1) := dk_29 (dk_at dksX0_digest_3 1 rfl rfl)
theorem dX0_digest_74 : decode cX0_digest 74 = .ok (.aaload, 1) := dk_50 (dk_at dksX0_digest_3 2 rfl rfl)
theorem dX0_digest_75 : decode cX0_digest 75 = .ok (.astore 4, 2) := dk_58 4 (dk_at dksX0_digest_3 3 rfl rfl)
theorem dX0_digest_77 : decode cX0_digest 77 = .ok (.aload 4, 2) := dk_25 4 (dk_at dksX0_digest_3 5 rfl rfl)
theorem dX0_digest_79 : decode cX0_digest 79 = .ok (.ifnonnull 7, 3) := dk_199 0 7 (dk_at dksX0_digest_3 7 rfl rfl)
theorem dX0_digest_82 : decode cX0_digest 82 = .ok (.iconst (-1), 1) := dk_2 (dk_at dksX0_digest_3 10 rfl rfl)
theorem dX0_digest_83 : decode cX0_digest 83 = .ok (.goto 6, 3) := dk_167 0 6 (dk_at dksX0_digest_3 11 rfl rfl)
theorem dX0_digest_86 : decode cX0_digest 86 = .ok (.aload 4, 2) := dk_25 4 (dk_at dksX0_digest_3 14 rfl rfl)
theorem dX0_digest_88 : decode cX0_digest 88 = .ok (.arraylength, 1) := dk_190 (dk_at dksX0_digest_3 16 rfl rfl)
theorem dX0_digest_89 : decode cX0_digest 89 = .ok (.istore 5, 2) := dk_54 5 (dk_at dksX0_digest_3 17 rfl rfl)
theorem dX0_digest_91 : decode cX0_digest 91 = .ok (.aload_n 0, 1) := dk_42 (dk_at dksX0_digest_3 19 rfl rfl)
theorem dX0_digest_92 : decode cX0_digest 92 = .ok (.iload 5, 2) := dk_21 5 (dk_at dksX0_digest_3 20 rfl rfl)
theorem dX0_digest_94 : decode cX0_digest 94 = .ok (.i2l, 1) := dk_133 (dk_at dksX0_digest_3 22 rfl rfl)
theorem dX0_digest_95 : decode cX0_digest 95 = .ok (.invokevirtual 367, 3) := dk_182 1 111 (dk_at dksX0_digest_4 0 rfl rfl)
theorem dX0_digest_98 : decode cX0_digest 98 = .ok (.iconst 0, 1) := dk_3 (dk_at dksX0_digest_4 3 rfl rfl)
theorem dX0_digest_99 : decode cX0_digest 99 = .ok (.istore 6, 2) := dk_54 6 (dk_at dksX0_digest_4 4 rfl rfl)
theorem dX0_digest_101 : decode cX0_digest 101 = .ok (.iload 6, 2) := dk_21 6 (dk_at dksX0_digest_4 6 rfl rfl)
theorem dX0_digest_103 : decode cX0_digest 103 = .ok (.iload 5, 2) := dk_21 5 (dk_at dksX0_digest_4 8 rfl rfl)
theorem dX0_digest_105 : decode cX0_digest 105 = .ok (.if_icmp .ge 19, 3) := dk_162 0 19 (dk_at dksX0_digest_4 10 rfl rfl)
theorem dX0_digest_108 : decode cX0_digest 108 = .ok (.aload_n 0, 1) := dk_42 (dk_at dksX0_digest_4 13 rfl rfl)
theorem dX0_digest_109 : decode cX0_digest 109 = .ok (.aload 4, 2) := dk_25 4 (dk_at dksX0_digest_4 14 rfl rfl)
theorem dX0_digest_111 : decode cX0_digest 111 = .ok (.iload 6, 2) := dk_21 6 (dk_at dksX0_digest_4 16 rfl rfl)
theorem dX0_digest_113 : decode cX0_digest 113 = .ok (.baload, 1) := dk_51 (dk_at dksX0_digest_4 18 rfl rfl)
theorem dX0_digest_114 : decode cX0_digest 114 = .ok (.i2l, 1) := dk_133 (dk_at dksX0_digest_4 19 rfl rfl)
theorem dX0_digest_115 : decode cX0_digest 115 = .ok (.invokevirtual 367, 3) := dk_182 1 111 (dk_at dksX0_digest_4 20 rfl rfl)
theorem dX0_digest_118 : decode cX0_digest 118 = .ok (.iinc 6 1, 3) := dk_132 6 1 (dk_at dksX0_digest_5 0 rfl rfl)
theorem dX0_digest_121 : decode cX0_digest 121 = .ok (.goto (-20), 3) := dk_167 255 236 (dk_at dksX0_digest_5 3 rfl rfl)
theorem dX0_digest_124 : decode cX0_digest 124 = .ok (.iinc 3 1, 3) := dk_132 3 1 (dk_at dksX0_digest_5 6 rfl rfl)
theorem dX0_digest_127 : decode cX0_digest 127 = .ok (.goto (-60), 3) := dk_167 255 196 (dk_at dksX0_digest_5 9 rfl rfl)
theorem dX0_digest_130 : decode cX0_digest 130 = .ok (.aload_n 0, 1) := dk_42 (dk_at dksX0_digest_5 12 rfl rfl)
theorem dX0_digest_131 : decode cX0_digest 131 = .ok (.getfield 364, 3) := dk_180 1 108 (dk_at dksX0_digest_5 13 rfl rfl)
theorem dX0_digest_134 : decode cX0_digest 134 = .ok (.lreturn, 1) := dk_173 (dk_at dksX0_digest_5 16 rfl rfl)
abbrev cX0_mix : ByteArray := prog_1_method_86_code
def yX0_mix : MethodName := ⟨RX0, "mix", "(J)V"⟩
def dkwX0_mix_0 : List UInt8 := [42, 20, 1, 106, 42, 180, 1, 108, 105, 31, 97, 181, 1, 108, 177]
abbrev dktX0_mix_0 : List UInt8 := dkwX0_mix_0 ++ []
theorem dksX0_mix_0 : cX0_mix.data.toList.drop 0 = dktX0_mix_0 := by decide +kernel
theorem dX0_mix_0 : decode cX0_mix 0 = .ok (.aload_n 0, 1) := dk_42 (dk_at dksX0_mix_0 0 rfl rfl)
theorem dX0_mix_1 : decode cX0_mix 1 = .ok (.ldc2_w 362, 3) := dk_20 1 106 (dk_at dksX0_mix_0 1 rfl rfl)
theorem dX0_mix_4 : decode cX0_mix 4 = .ok (.aload_n 0, 1) := dk_42 (dk_at dksX0_mix_0 4 rfl rfl)
theorem dX0_mix_5 : decode cX0_mix 5 = .ok (.getfield 364, 3) := dk_180 1 108 (dk_at dksX0_mix_0 5 rfl rfl)
theorem dX0_mix_8 : decode cX0_mix 8 = .ok (.lmul, 1) := dk_105 (dk_at dksX0_mix_0 8 rfl rfl)
theorem dX0_mix_9 : decode cX0_mix 9 = .ok (.lload_n 1, 1) := dk_31 (dk_at dksX0_mix_0 9 rfl rfl)
theorem dX0_mix_10 : decode cX0_mix 10 = .ok (.ladd, 1) := dk_97 (dk_at dksX0_mix_0 10 rfl rfl)
theorem dX0_mix_11 : decode cX0_mix 11 = .ok (.putfield 364, 3) := dk_181 1 108 (dk_at dksX0_mix_0 11 rfl rfl)
theorem dX0_mix_14 : decode cX0_mix 14 = .ok (.return_, 1) := dk_177 (dk_at dksX0_mix_0 14 rfl rfl)
abbrev cX0_mixBeing : ByteArray := prog_1_method_87_code
def yX0_mixBeing : MethodName := ⟨RX0, "mixBeing", "(I)V"⟩
def dkwX0_mixBeing_11 : List UInt8 := [167, 255, 223, 177]
abbrev dktX0_mixBeing_11 : List UInt8 := dkwX0_mixBeing_11 ++ []
def dkwX0_mixBeing_10 : List UInt8 := [28, 50, 198, 0, 18, 42, 42, 180, 0, 38, 27, 28, 184, 0, 181, 46, 133, 182, 1, 111, 132, 2, 1]
abbrev dktX0_mixBeing_10 : List UInt8 := dkwX0_mixBeing_10 ++ dktX0_mixBeing_11
def dkwX0_mixBeing_9 : List UInt8 := [29, 46, 133, 182, 1, 111, 132, 2, 1, 167, 255, 199, 3, 61, 28, 16, 8, 162, 0, 33, 42, 180, 0, 25]
abbrev dktX0_mixBeing_9 : List UInt8 := dkwX0_mixBeing_9 ++ dktX0_mixBeing_10
def dkwX0_mixBeing_8 : List UInt8 := [180, 0, 29, 29, 46, 158, 0, 25, 42, 42, 180, 0, 32, 29, 46, 133, 182, 1, 111, 42, 42, 180, 0, 35]
abbrev dktX0_mixBeing_8 : List UInt8 := dkwX0_mixBeing_8 ++ dktX0_mixBeing_9
def dkwX0_mixBeing_7 : List UInt8 := [16, 8, 162, 0, 57, 27, 28, 184, 0, 181, 62, 42, 42, 180, 0, 29, 29, 46, 133, 182, 1, 111, 42]
abbrev dktX0_mixBeing_7 : List UInt8 := dkwX0_mixBeing_7 ++ dktX0_mixBeing_8
def dkwX0_mixBeing_6 : List UInt8 := [42, 180, 0, 41, 7, 27, 104, 28, 96, 46, 133, 182, 1, 111, 132, 2, 1, 167, 255, 233, 3, 61, 28]
abbrev dktX0_mixBeing_6 : List UInt8 := dkwX0_mixBeing_6 ++ dktX0_mixBeing_7
def dkwX0_mixBeing_5 : List UInt8 := [42, 180, 0, 25, 27, 50, 192, 0, 170, 180, 0, 211, 133, 182, 1, 111, 3, 61, 28, 7, 162, 0, 24, 42]
abbrev dktX0_mixBeing_5 : List UInt8 := dkwX0_mixBeing_5 ++ dktX0_mixBeing_6
def dkwX0_mixBeing_4 : List UInt8 := [182, 0, 153, 153, 0, 37, 42, 42, 180, 0, 25, 27, 50, 192, 0, 170, 180, 0, 208, 133, 182, 1, 111, 42]
abbrev dktX0_mixBeing_4 : List UInt8 := dkwX0_mixBeing_4 ++ dktX0_mixBeing_5
def dkwX0_mixBeing_3 : List UInt8 := [42, 180, 0, 25, 27, 50, 192, 0, 167, 180, 0, 203, 133, 182, 1, 111, 42, 180, 0, 25, 27, 50, 5]
abbrev dktX0_mixBeing_3 : List UInt8 := dkwX0_mixBeing_3 ++ dktX0_mixBeing_4
def dkwX0_mixBeing_2 : List UInt8 := [182, 0, 153, 153, 0, 37, 42, 42, 180, 0, 25, 27, 50, 192, 0, 167, 180, 0, 200, 133, 182, 1, 111, 42]
abbrev dktX0_mixBeing_2 : List UInt8 := dkwX0_mixBeing_2 ++ dktX0_mixBeing_3
def dkwX0_mixBeing_1 : List UInt8 := [42, 42, 27, 28, 182, 0, 224, 133, 182, 1, 111, 132, 2, 1, 167, 255, 237, 42, 180, 0, 25, 27, 50, 4]
abbrev dktX0_mixBeing_1 : List UInt8 := dkwX0_mixBeing_1 ++ dktX0_mixBeing_2
def dkwX0_mixBeing_0 : List UInt8 := [42, 180, 0, 25, 27, 50, 199, 0, 11, 42, 20, 1, 75, 182, 1, 111, 177, 3, 61, 28, 8, 163, 0, 20]
abbrev dktX0_mixBeing_0 : List UInt8 := dkwX0_mixBeing_0 ++ dktX0_mixBeing_1
theorem dksX0_mixBeing_0 : cX0_mixBeing.data.toList.drop 0 = dktX0_mixBeing_0 := by decide +kernel
theorem dksX0_mixBeing_1 : cX0_mixBeing.data.toList.drop 24 = dktX0_mixBeing_1 := dk_seg dksX0_mixBeing_0 24 rfl rfl
theorem dksX0_mixBeing_2 : cX0_mixBeing.data.toList.drop 48 = dktX0_mixBeing_2 := dk_seg dksX0_mixBeing_1 24 rfl rfl
theorem dksX0_mixBeing_3 : cX0_mixBeing.data.toList.drop 72 = dktX0_mixBeing_3 := dk_seg dksX0_mixBeing_2 24 rfl rfl
theorem dksX0_mixBeing_4 : cX0_mixBeing.data.toList.drop 95 = dktX0_mixBeing_4 := dk_seg dksX0_mixBeing_3 23 rfl rfl
theorem dksX0_mixBeing_5 : cX0_mixBeing.data.toList.drop 119 = dktX0_mixBeing_5 := dk_seg dksX0_mixBeing_4 24 rfl rfl
theorem dksX0_mixBeing_6 : cX0_mixBeing.data.toList.drop 143 = dktX0_mixBeing_6 := dk_seg dksX0_mixBeing_5 24 rfl rfl
theorem dksX0_mixBeing_7 : cX0_mixBeing.data.toList.drop 166 = dktX0_mixBeing_7 := dk_seg dksX0_mixBeing_6 23 rfl rfl
theorem dksX0_mixBeing_8 : cX0_mixBeing.data.toList.drop 189 = dktX0_mixBeing_8 := dk_seg dksX0_mixBeing_7 23 rfl rfl
theorem dksX0_mixBeing_9 : cX0_mixBeing.data.toList.drop 213 = dktX0_mixBeing_9 := dk_seg dksX0_mixBeing_8 24 rfl rfl
theorem dksX0_mixBeing_10 : cX0_mixBeing.data.toList.drop 237 = dktX0_mixBeing_10 := dk_seg dksX0_mixBeing_9 24 rfl rfl
theorem dksX0_mixBeing_11 : cX0_mixBeing.data.toList.drop 260 = dktX0_mixBeing_11 := dk_seg dksX0_mixBeing_10 23 rfl rfl
theorem dX0_mixBeing_0 : decode cX0_mixBeing 0 = .ok (.aload_n 0, 1) := dk_42 (dk_at dksX0_mixBeing_0 0 rfl rfl)
theorem dX0_mixBeing_1 : decode cX0_mixBeing 1 = .ok (.getfield 25, 3) := dk_180 0 25 (dk_at dksX0_mixBeing_0 1 rfl rfl)
theorem dX0_mixBeing_4 : decode cX0_mixBeing 4 = .ok (.iload_n 1, 1) := dk_27 (dk_at dksX0_mixBeing_0 4 rfl rfl)
theorem dX0_mixBeing_5 : decode cX0_mixBeing 5 = .ok (.aaload, 1) := dk_50 (dk_at dksX0_mixBeing_0 5 rfl rfl)
theorem dX0_mixBeing_6 : decode cX0_mixBeing 6 = .ok (.ifnonnull 11, 3) := dk_199 0 11 (dk_at dksX0_mixBeing_0 6 rfl rfl)
theorem dX0_mixBeing_9 : decode cX0_mixBeing 9 = .ok (.aload_n 0, 1) := dk_42 (dk_at dksX0_mixBeing_0 9 rfl rfl)
theorem dX0_mixBeing_10 : decode cX0_mixBeing 10 = .ok (.ldc2_w 331, 3) := dk_20 1 75 (dk_at dksX0_mixBeing_0 10 rfl rfl)
theorem dX0_mixBeing_13 : decode cX0_mixBeing 13 = .ok (.invokevirtual 367, 3) := dk_182 1 111 (dk_at dksX0_mixBeing_0 13 rfl rfl)
theorem dX0_mixBeing_16 : decode cX0_mixBeing 16 = .ok (.return_, 1) := dk_177 (dk_at dksX0_mixBeing_0 16 rfl rfl)
theorem dX0_mixBeing_17 : decode cX0_mixBeing 17 = .ok (.iconst 0, 1) := dk_3 (dk_at dksX0_mixBeing_0 17 rfl rfl)
theorem dX0_mixBeing_18 : decode cX0_mixBeing 18 = .ok (.istore_n 2, 1) := dk_61 (dk_at dksX0_mixBeing_0 18 rfl rfl)
theorem dX0_mixBeing_19 : decode cX0_mixBeing 19 = .ok (.iload_n 2, 1) := dk_28 (dk_at dksX0_mixBeing_0 19 rfl rfl)
theorem dX0_mixBeing_20 : decode cX0_mixBeing 20 = .ok (.iconst 5, 1) := dk_8 (dk_at dksX0_mixBeing_0 20 rfl rfl)
theorem dX0_mixBeing_21 : decode cX0_mixBeing 21 = .ok (.if_icmp .gt 20, 3) := dk_163 0 20 (dk_at dksX0_mixBeing_0 21 rfl rfl)
theorem dX0_mixBeing_24 : decode cX0_mixBeing 24 = .ok (.aload_n 0, 1) := dk_42 (dk_at dksX0_mixBeing_1 0 rfl rfl)
theorem dX0_mixBeing_25 : decode cX0_mixBeing 25 = .ok (.aload_n 0, 1) := dk_42 (dk_at dksX0_mixBeing_1 1 rfl rfl)
theorem dX0_mixBeing_26 : decode cX0_mixBeing 26 = .ok (.iload_n 1, 1) := dk_27 (dk_at dksX0_mixBeing_1 2 rfl rfl)
theorem dX0_mixBeing_27 : decode cX0_mixBeing 27 = .ok (.iload_n 2, 1) := dk_28 (dk_at dksX0_mixBeing_1 3 rfl rfl)
theorem dX0_mixBeing_28 : decode cX0_mixBeing 28 = .ok (.invokevirtual 224, 3) := dk_182 0 224 (dk_at dksX0_mixBeing_1 4 rfl rfl)
theorem dX0_mixBeing_31 : decode cX0_mixBeing 31 = .ok (.i2l, 1) := dk_133 (dk_at dksX0_mixBeing_1 7 rfl rfl)
theorem dX0_mixBeing_32 : decode cX0_mixBeing 32 = .ok (.invokevirtual 367, 3) := dk_182 1 111 (dk_at dksX0_mixBeing_1 8 rfl rfl)
theorem dX0_mixBeing_35 : decode cX0_mixBeing 35 = .ok (.iinc 2 1, 3) := dk_132 2 1 (dk_at dksX0_mixBeing_1 11 rfl rfl)
theorem dX0_mixBeing_38 : decode cX0_mixBeing 38 = .ok (.goto (-19), 3) := dk_167 255 237 (dk_at dksX0_mixBeing_1 14 rfl rfl)
theorem dX0_mixBeing_41 : decode cX0_mixBeing 41 = .ok (.aload_n 0, 1) := dk_42 (dk_at dksX0_mixBeing_1 17 rfl rfl)
theorem dX0_mixBeing_42 : decode cX0_mixBeing 42 = .ok (.getfield 25, 3) := dk_180 0 25 (dk_at dksX0_mixBeing_1 18 rfl rfl)
theorem dX0_mixBeing_45 : decode cX0_mixBeing 45 = .ok (.iload_n 1, 1) := dk_27 (dk_at dksX0_mixBeing_1 21 rfl rfl)
theorem dX0_mixBeing_46 : decode cX0_mixBeing 46 = .ok (.aaload, 1) := dk_50 (dk_at dksX0_mixBeing_1 22 rfl rfl)
theorem dX0_mixBeing_47 : decode cX0_mixBeing 47 = .ok (.iconst 1, 1) := dk_4 (dk_at dksX0_mixBeing_1 23 rfl rfl)
theorem dX0_mixBeing_48 : decode cX0_mixBeing 48 = .ok (.invokevirtual 153, 3) := dk_182 0 153 (dk_at dksX0_mixBeing_2 0 rfl rfl)
theorem dX0_mixBeing_51 : decode cX0_mixBeing 51 = .ok (.ifCond .eq 37, 3) := dk_153 0 37 (dk_at dksX0_mixBeing_2 3 rfl rfl)
theorem dX0_mixBeing_54 : decode cX0_mixBeing 54 = .ok (.aload_n 0, 1) := dk_42 (dk_at dksX0_mixBeing_2 6 rfl rfl)
theorem dX0_mixBeing_55 : decode cX0_mixBeing 55 = .ok (.aload_n 0, 1) := dk_42 (dk_at dksX0_mixBeing_2 7 rfl rfl)
theorem dX0_mixBeing_56 : decode cX0_mixBeing 56 = .ok (.getfield 25, 3) := dk_180 0 25 (dk_at dksX0_mixBeing_2 8 rfl rfl)
theorem dX0_mixBeing_59 : decode cX0_mixBeing 59 = .ok (.iload_n 1, 1) := dk_27 (dk_at dksX0_mixBeing_2 11 rfl rfl)
theorem dX0_mixBeing_60 : decode cX0_mixBeing 60 = .ok (.aaload, 1) := dk_50 (dk_at dksX0_mixBeing_2 12 rfl rfl)
theorem dX0_mixBeing_61 : decode cX0_mixBeing 61 = .ok (.checkcast 167, 3) := dk_192 0 167 (dk_at dksX0_mixBeing_2 13 rfl rfl)
theorem dX0_mixBeing_64 : decode cX0_mixBeing 64 = .ok (.getfield 200, 3) := dk_180 0 200 (dk_at dksX0_mixBeing_2 16 rfl rfl)
theorem dX0_mixBeing_67 : decode cX0_mixBeing 67 = .ok (.i2l, 1) := dk_133 (dk_at dksX0_mixBeing_2 19 rfl rfl)
theorem dX0_mixBeing_68 : decode cX0_mixBeing 68 = .ok (.invokevirtual 367, 3) := dk_182 1 111 (dk_at dksX0_mixBeing_2 20 rfl rfl)
theorem dX0_mixBeing_71 : decode cX0_mixBeing 71 = .ok (.aload_n 0, 1) := dk_42 (dk_at dksX0_mixBeing_2 23 rfl rfl)
theorem dX0_mixBeing_72 : decode cX0_mixBeing 72 = .ok (.aload_n 0, 1) := dk_42 (dk_at dksX0_mixBeing_3 0 rfl rfl)
theorem dX0_mixBeing_73 : decode cX0_mixBeing 73 = .ok (.getfield 25, 3) := dk_180 0 25 (dk_at dksX0_mixBeing_3 1 rfl rfl)
theorem dX0_mixBeing_76 : decode cX0_mixBeing 76 = .ok (.iload_n 1, 1) := dk_27 (dk_at dksX0_mixBeing_3 4 rfl rfl)
theorem dX0_mixBeing_77 : decode cX0_mixBeing 77 = .ok (.aaload, 1) := dk_50 (dk_at dksX0_mixBeing_3 5 rfl rfl)
theorem dX0_mixBeing_78 : decode cX0_mixBeing 78 = .ok (.checkcast 167, 3) := dk_192 0 167 (dk_at dksX0_mixBeing_3 6 rfl rfl)
theorem dX0_mixBeing_81 : decode cX0_mixBeing 81 = .ok (.getfield 203, 3) := dk_180 0 203 (dk_at dksX0_mixBeing_3 9 rfl rfl)
theorem dX0_mixBeing_84 : decode cX0_mixBeing 84 = .ok (.i2l, 1) := dk_133 (dk_at dksX0_mixBeing_3 12 rfl rfl)
theorem dX0_mixBeing_85 : decode cX0_mixBeing 85 = .ok (.invokevirtual 367, 3) := dk_182 1 111 (dk_at dksX0_mixBeing_3 13 rfl rfl)
theorem dX0_mixBeing_88 : decode cX0_mixBeing 88 = .ok (.aload_n 0, 1) := dk_42 (dk_at dksX0_mixBeing_3 16 rfl rfl)
theorem dX0_mixBeing_89 : decode cX0_mixBeing 89 = .ok (.getfield 25, 3) := dk_180 0 25 (dk_at dksX0_mixBeing_3 17 rfl rfl)
theorem dX0_mixBeing_92 : decode cX0_mixBeing 92 = .ok (.iload_n 1, 1) := dk_27 (dk_at dksX0_mixBeing_3 20 rfl rfl)
theorem dX0_mixBeing_93 : decode cX0_mixBeing 93 = .ok (.aaload, 1) := dk_50 (dk_at dksX0_mixBeing_3 21 rfl rfl)
theorem dX0_mixBeing_94 : decode cX0_mixBeing 94 = .ok (.iconst 2, 1) := dk_5 (dk_at dksX0_mixBeing_3 22 rfl rfl)
theorem dX0_mixBeing_95 : decode cX0_mixBeing 95 = .ok (.invokevirtual 153, 3) := dk_182 0 153 (dk_at dksX0_mixBeing_4 0 rfl rfl)
theorem dX0_mixBeing_98 : decode cX0_mixBeing 98 = .ok (.ifCond .eq 37, 3) := dk_153 0 37 (dk_at dksX0_mixBeing_4 3 rfl rfl)
theorem dX0_mixBeing_101 : decode cX0_mixBeing 101 = .ok (.aload_n 0, 1) := dk_42 (dk_at dksX0_mixBeing_4 6 rfl rfl)
theorem dX0_mixBeing_102 : decode cX0_mixBeing 102 = .ok (.aload_n 0, 1) := dk_42 (dk_at dksX0_mixBeing_4 7 rfl rfl)
theorem dX0_mixBeing_103 : decode cX0_mixBeing 103 = .ok (.getfield 25, 3) := dk_180 0 25 (dk_at dksX0_mixBeing_4 8 rfl rfl)
theorem dX0_mixBeing_106 : decode cX0_mixBeing 106 = .ok (.iload_n 1, 1) := dk_27 (dk_at dksX0_mixBeing_4 11 rfl rfl)
theorem dX0_mixBeing_107 : decode cX0_mixBeing 107 = .ok (.aaload, 1) := dk_50 (dk_at dksX0_mixBeing_4 12 rfl rfl)
theorem dX0_mixBeing_108 : decode cX0_mixBeing 108 = .ok (.checkcast 170, 3) := dk_192 0 170 (dk_at dksX0_mixBeing_4 13 rfl rfl)
theorem dX0_mixBeing_111 : decode cX0_mixBeing 111 = .ok (.getfield 208, 3) := dk_180 0 208 (dk_at dksX0_mixBeing_4 16 rfl rfl)
theorem dX0_mixBeing_114 : decode cX0_mixBeing 114 = .ok (.i2l, 1) := dk_133 (dk_at dksX0_mixBeing_4 19 rfl rfl)
theorem dX0_mixBeing_115 : decode cX0_mixBeing 115 = .ok (.invokevirtual 367, 3) := dk_182 1 111 (dk_at dksX0_mixBeing_4 20 rfl rfl)
theorem dX0_mixBeing_118 : decode cX0_mixBeing 118 = .ok (.aload_n 0, 1) := dk_42 (dk_at dksX0_mixBeing_4 23 rfl rfl)
theorem dX0_mixBeing_119 : decode cX0_mixBeing 119 = .ok (.aload_n 0, 1) := dk_42 (dk_at dksX0_mixBeing_5 0 rfl rfl)
theorem dX0_mixBeing_120 : decode cX0_mixBeing 120 = .ok (.getfield 25, 3) := dk_180 0 25 (dk_at dksX0_mixBeing_5 1 rfl rfl)
theorem dX0_mixBeing_123 : decode cX0_mixBeing 123 = .ok (.iload_n 1, 1) := dk_27 (dk_at dksX0_mixBeing_5 4 rfl rfl)
theorem dX0_mixBeing_124 : decode cX0_mixBeing 124 = .ok (.aaload, 1) := dk_50 (dk_at dksX0_mixBeing_5 5 rfl rfl)
theorem dX0_mixBeing_125 : decode cX0_mixBeing 125 = .ok (.checkcast 170, 3) := dk_192 0 170 (dk_at dksX0_mixBeing_5 6 rfl rfl)
theorem dX0_mixBeing_128 : decode cX0_mixBeing 128 = .ok (.getfield 211, 3) := dk_180 0 211 (dk_at dksX0_mixBeing_5 9 rfl rfl)
theorem dX0_mixBeing_131 : decode cX0_mixBeing 131 = .ok (.i2l, 1) := dk_133 (dk_at dksX0_mixBeing_5 12 rfl rfl)
theorem dX0_mixBeing_132 : decode cX0_mixBeing 132 = .ok (.invokevirtual 367, 3) := dk_182 1 111 (dk_at dksX0_mixBeing_5 13 rfl rfl)
theorem dX0_mixBeing_135 : decode cX0_mixBeing 135 = .ok (.iconst 0, 1) := dk_3 (dk_at dksX0_mixBeing_5 16 rfl rfl)
theorem dX0_mixBeing_136 : decode cX0_mixBeing 136 = .ok (.istore_n 2, 1) := dk_61 (dk_at dksX0_mixBeing_5 17 rfl rfl)
theorem dX0_mixBeing_137 : decode cX0_mixBeing 137 = .ok (.iload_n 2, 1) := dk_28 (dk_at dksX0_mixBeing_5 18 rfl rfl)
theorem dX0_mixBeing_138 : decode cX0_mixBeing 138 = .ok (.iconst 4, 1) := dk_7 (dk_at dksX0_mixBeing_5 19 rfl rfl)
theorem dX0_mixBeing_139 : decode cX0_mixBeing 139 = .ok (.if_icmp .ge 24, 3) := dk_162 0 24 (dk_at dksX0_mixBeing_5 20 rfl rfl)
theorem dX0_mixBeing_142 : decode cX0_mixBeing 142 = .ok (.aload_n 0, 1) := dk_42 (dk_at dksX0_mixBeing_5 23 rfl rfl)
theorem dX0_mixBeing_143 : decode cX0_mixBeing 143 = .ok (.aload_n 0, 1) := dk_42 (dk_at dksX0_mixBeing_6 0 rfl rfl)
theorem dX0_mixBeing_144 : decode cX0_mixBeing 144 = .ok (.getfield 41, 3) := dk_180 0 41 (dk_at dksX0_mixBeing_6 1 rfl rfl)
theorem dX0_mixBeing_147 : decode cX0_mixBeing 147 = .ok (.iconst 4, 1) := dk_7 (dk_at dksX0_mixBeing_6 4 rfl rfl)
theorem dX0_mixBeing_148 : decode cX0_mixBeing 148 = .ok (.iload_n 1, 1) := dk_27 (dk_at dksX0_mixBeing_6 5 rfl rfl)
theorem dX0_mixBeing_149 : decode cX0_mixBeing 149 = .ok (.imul, 1) := dk_104 (dk_at dksX0_mixBeing_6 6 rfl rfl)
theorem dX0_mixBeing_150 : decode cX0_mixBeing 150 = .ok (.iload_n 2, 1) := dk_28 (dk_at dksX0_mixBeing_6 7 rfl rfl)
theorem dX0_mixBeing_151 : decode cX0_mixBeing 151 = .ok (.iadd, 1) := dk_96 (dk_at dksX0_mixBeing_6 8 rfl rfl)
theorem dX0_mixBeing_152 : decode cX0_mixBeing 152 = .ok (.iaload, 1) := dk_46 (dk_at dksX0_mixBeing_6 9 rfl rfl)
theorem dX0_mixBeing_153 : decode cX0_mixBeing 153 = .ok (.i2l, 1) := dk_133 (dk_at dksX0_mixBeing_6 10 rfl rfl)
theorem dX0_mixBeing_154 : decode cX0_mixBeing 154 = .ok (.invokevirtual 367, 3) := dk_182 1 111 (dk_at dksX0_mixBeing_6 11 rfl rfl)
theorem dX0_mixBeing_157 : decode cX0_mixBeing 157 = .ok (.iinc 2 1, 3) := dk_132 2 1 (dk_at dksX0_mixBeing_6 14 rfl rfl)
theorem dX0_mixBeing_160 : decode cX0_mixBeing 160 = .ok (.goto (-23), 3) := dk_167 255 233 (dk_at dksX0_mixBeing_6 17 rfl rfl)
theorem dX0_mixBeing_163 : decode cX0_mixBeing 163 = .ok (.iconst 0, 1) := dk_3 (dk_at dksX0_mixBeing_6 20 rfl rfl)
theorem dX0_mixBeing_164 : decode cX0_mixBeing 164 = .ok (.istore_n 2, 1) := dk_61 (dk_at dksX0_mixBeing_6 21 rfl rfl)
theorem dX0_mixBeing_165 : decode cX0_mixBeing 165 = .ok (.iload_n 2, 1) := dk_28 (dk_at dksX0_mixBeing_6 22 rfl rfl)
theorem dX0_mixBeing_166 : decode cX0_mixBeing 166 = .ok (.bipush 8, 2) := dk_16 8 (dk_at dksX0_mixBeing_7 0 rfl rfl)
theorem dX0_mixBeing_168 : decode cX0_mixBeing 168 = .ok (.if_icmp .ge 57, 3) := dk_162 0 57 (dk_at dksX0_mixBeing_7 2 rfl rfl)
theorem dX0_mixBeing_171 : decode cX0_mixBeing 171 = .ok (.iload_n 1, 1) := dk_27 (dk_at dksX0_mixBeing_7 5 rfl rfl)
theorem dX0_mixBeing_172 : decode cX0_mixBeing 172 = .ok (.iload_n 2, 1) := dk_28 (dk_at dksX0_mixBeing_7 6 rfl rfl)
theorem dX0_mixBeing_173 : decode cX0_mixBeing 173 = .ok (.invokestatic 181, 3) := dk_184 0 181 (dk_at dksX0_mixBeing_7 7 rfl rfl)
theorem dX0_mixBeing_176 : decode cX0_mixBeing 176 = .ok (.istore_n 3, 1) := dk_62 (dk_at dksX0_mixBeing_7 10 rfl rfl)
theorem dX0_mixBeing_177 : decode cX0_mixBeing 177 = .ok (.aload_n 0, 1) := dk_42 (dk_at dksX0_mixBeing_7 11 rfl rfl)
theorem dX0_mixBeing_178 : decode cX0_mixBeing 178 = .ok (.aload_n 0, 1) := dk_42 (dk_at dksX0_mixBeing_7 12 rfl rfl)
theorem dX0_mixBeing_179 : decode cX0_mixBeing 179 = .ok (.getfield 29, 3) := dk_180 0 29 (dk_at dksX0_mixBeing_7 13 rfl rfl)
theorem dX0_mixBeing_182 : decode cX0_mixBeing 182 = .ok (.iload_n 3, 1) := dk_29 (dk_at dksX0_mixBeing_7 16 rfl rfl)
theorem dX0_mixBeing_183 : decode cX0_mixBeing 183 = .ok (.iaload, 1) := dk_46 (dk_at dksX0_mixBeing_7 17 rfl rfl)
theorem dX0_mixBeing_184 : decode cX0_mixBeing 184 = .ok (.i2l, 1) := dk_133 (dk_at dksX0_mixBeing_7 18 rfl rfl)
theorem dX0_mixBeing_185 : decode cX0_mixBeing 185 = .ok (.invokevirtual 367, 3) := dk_182 1 111 (dk_at dksX0_mixBeing_7 19 rfl rfl)
theorem dX0_mixBeing_188 : decode cX0_mixBeing 188 = .ok (.aload_n 0, 1) := dk_42 (dk_at dksX0_mixBeing_7 22 rfl rfl)
theorem dX0_mixBeing_189 : decode cX0_mixBeing 189 = .ok (.getfield 29, 3) := dk_180 0 29 (dk_at dksX0_mixBeing_8 0 rfl rfl)
theorem dX0_mixBeing_192 : decode cX0_mixBeing 192 = .ok (.iload_n 3, 1) := dk_29 (dk_at dksX0_mixBeing_8 3 rfl rfl)
theorem dX0_mixBeing_193 : decode cX0_mixBeing 193 = .ok (.iaload, 1) := dk_46 (dk_at dksX0_mixBeing_8 4 rfl rfl)
theorem dX0_mixBeing_194 : decode cX0_mixBeing 194 = .ok (.ifCond .le 25, 3) := dk_158 0 25 (dk_at dksX0_mixBeing_8 5 rfl rfl)
theorem dX0_mixBeing_197 : decode cX0_mixBeing 197 = .ok (.aload_n 0, 1) := dk_42 (dk_at dksX0_mixBeing_8 8 rfl rfl)
theorem dX0_mixBeing_198 : decode cX0_mixBeing 198 = .ok (.aload_n 0, 1) := dk_42 (dk_at dksX0_mixBeing_8 9 rfl rfl)
theorem dX0_mixBeing_199 : decode cX0_mixBeing 199 = .ok (.getfield 32, 3) := dk_180 0 32 (dk_at dksX0_mixBeing_8 10 rfl rfl)
theorem dX0_mixBeing_202 : decode cX0_mixBeing 202 = .ok (.iload_n 3, 1) := dk_29 (dk_at dksX0_mixBeing_8 13 rfl rfl)
theorem dX0_mixBeing_203 : decode cX0_mixBeing 203 = .ok (.iaload, 1) := dk_46 (dk_at dksX0_mixBeing_8 14 rfl rfl)
theorem dX0_mixBeing_204 : decode cX0_mixBeing 204 = .ok (.i2l, 1) := dk_133 (dk_at dksX0_mixBeing_8 15 rfl rfl)
theorem dX0_mixBeing_205 : decode cX0_mixBeing 205 = .ok (.invokevirtual 367, 3) := dk_182 1 111 (dk_at dksX0_mixBeing_8 16 rfl rfl)
theorem dX0_mixBeing_208 : decode cX0_mixBeing 208 = .ok (.aload_n 0, 1) := dk_42 (dk_at dksX0_mixBeing_8 19 rfl rfl)
theorem dX0_mixBeing_209 : decode cX0_mixBeing 209 = .ok (.aload_n 0, 1) := dk_42 (dk_at dksX0_mixBeing_8 20 rfl rfl)
theorem dX0_mixBeing_210 : decode cX0_mixBeing 210 = .ok (.getfield 35, 3) := dk_180 0 35 (dk_at dksX0_mixBeing_8 21 rfl rfl)
theorem dX0_mixBeing_213 : decode cX0_mixBeing 213 = .ok (.iload_n 3, 1) := dk_29 (dk_at dksX0_mixBeing_9 0 rfl rfl)
theorem dX0_mixBeing_214 : decode cX0_mixBeing 214 = .ok (.iaload, 1) := dk_46 (dk_at dksX0_mixBeing_9 1 rfl rfl)
theorem dX0_mixBeing_215 : decode cX0_mixBeing 215 = .ok (.i2l, 1) := dk_133 (dk_at dksX0_mixBeing_9 2 rfl rfl)
theorem dX0_mixBeing_216 : decode cX0_mixBeing 216 = .ok (.invokevirtual 367, 3) := dk_182 1 111 (dk_at dksX0_mixBeing_9 3 rfl rfl)
theorem dX0_mixBeing_219 : decode cX0_mixBeing 219 = .ok (.iinc 2 1, 3) := dk_132 2 1 (dk_at dksX0_mixBeing_9 6 rfl rfl)
theorem dX0_mixBeing_222 : decode cX0_mixBeing 222 = .ok (.goto (-57), 3) := dk_167 255 199 (dk_at dksX0_mixBeing_9 9 rfl rfl)
theorem dX0_mixBeing_225 : decode cX0_mixBeing 225 = .ok (.iconst 0, 1) := dk_3 (dk_at dksX0_mixBeing_9 12 rfl rfl)
theorem dX0_mixBeing_226 : decode cX0_mixBeing 226 = .ok (.istore_n 2, 1) := dk_61 (dk_at dksX0_mixBeing_9 13 rfl rfl)
theorem dX0_mixBeing_227 : decode cX0_mixBeing 227 = .ok (.iload_n 2, 1) := dk_28 (dk_at dksX0_mixBeing_9 14 rfl rfl)
theorem dX0_mixBeing_228 : decode cX0_mixBeing 228 = .ok (.bipush 8, 2) := dk_16 8 (dk_at dksX0_mixBeing_9 15 rfl rfl)
theorem dX0_mixBeing_230 : decode cX0_mixBeing 230 = .ok (.if_icmp .ge 33, 3) := dk_162 0 33 (dk_at dksX0_mixBeing_9 17 rfl rfl)
theorem dX0_mixBeing_233 : decode cX0_mixBeing 233 = .ok (.aload_n 0, 1) := dk_42 (dk_at dksX0_mixBeing_9 20 rfl rfl)
theorem dX0_mixBeing_234 : decode cX0_mixBeing 234 = .ok (.getfield 25, 3) := dk_180 0 25 (dk_at dksX0_mixBeing_9 21 rfl rfl)
theorem dX0_mixBeing_237 : decode cX0_mixBeing 237 = .ok (.iload_n 2, 1) := dk_28 (dk_at dksX0_mixBeing_10 0 rfl rfl)
theorem dX0_mixBeing_238 : decode cX0_mixBeing 238 = .ok (.aaload, 1) := dk_50 (dk_at dksX0_mixBeing_10 1 rfl rfl)
theorem dX0_mixBeing_239 : decode cX0_mixBeing 239 = .ok (.ifnull 18, 3) := dk_198 0 18 (dk_at dksX0_mixBeing_10 2 rfl rfl)
theorem dX0_mixBeing_242 : decode cX0_mixBeing 242 = .ok (.aload_n 0, 1) := dk_42 (dk_at dksX0_mixBeing_10 5 rfl rfl)
theorem dX0_mixBeing_243 : decode cX0_mixBeing 243 = .ok (.aload_n 0, 1) := dk_42 (dk_at dksX0_mixBeing_10 6 rfl rfl)
theorem dX0_mixBeing_244 : decode cX0_mixBeing 244 = .ok (.getfield 38, 3) := dk_180 0 38 (dk_at dksX0_mixBeing_10 7 rfl rfl)
theorem dX0_mixBeing_247 : decode cX0_mixBeing 247 = .ok (.iload_n 1, 1) := dk_27 (dk_at dksX0_mixBeing_10 10 rfl rfl)
theorem dX0_mixBeing_248 : decode cX0_mixBeing 248 = .ok (.iload_n 2, 1) := dk_28 (dk_at dksX0_mixBeing_10 11 rfl rfl)
theorem dX0_mixBeing_249 : decode cX0_mixBeing 249 = .ok (.invokestatic 181, 3) := dk_184 0 181 (dk_at dksX0_mixBeing_10 12 rfl rfl)
theorem dX0_mixBeing_252 : decode cX0_mixBeing 252 = .ok (.iaload, 1) := dk_46 (dk_at dksX0_mixBeing_10 15 rfl rfl)
theorem dX0_mixBeing_253 : decode cX0_mixBeing 253 = .ok (.i2l, 1) := dk_133 (dk_at dksX0_mixBeing_10 16 rfl rfl)
theorem dX0_mixBeing_254 : decode cX0_mixBeing 254 = .ok (.invokevirtual 367, 3) := dk_182 1 111 (dk_at dksX0_mixBeing_10 17 rfl rfl)
theorem dX0_mixBeing_257 : decode cX0_mixBeing 257 = .ok (.iinc 2 1, 3) := dk_132 2 1 (dk_at dksX0_mixBeing_10 20 rfl rfl)
theorem dX0_mixBeing_260 : decode cX0_mixBeing 260 = .ok (.goto (-33), 3) := dk_167 255 223 (dk_at dksX0_mixBeing_11 0 rfl rfl)
theorem dX0_mixBeing_263 : decode cX0_mixBeing 263 = .ok (.return_, 1) := dk_177 (dk_at dksX0_mixBeing_11 3 rfl rfl)
theorem q84 : (Jvm.Cond.initialized "EaterWebs") ∈ lw_all := lw_g (lw_at lw_m1 1 rfl) rfl
theorem q104 : (Jvm.Cond.instantiable "EaterWebs" (29 : Nat)) ∈ lw_all := lw_g (lw_at lw_m1 21 rfl) rfl
theorem q106 : (Jvm.Cond.instanceMethod ({ cls := "EaterWebs", name := "<init>", desc := "()V" } : Jvm.MethodName)) ∈ lw_all := lw_g (lw_at lw_m1 23 rfl) rfl
theorem q107 : (Jvm.Cond.code ({ cls := "EaterWebs", name := "<init>", desc := "()V" } : Jvm.MethodName) prog_1_method_1_code (1 : Nat) (Option.none : Option Jvm.ClassFile.FieldType)) ∈ lw_all := lw_g (lw_at lw_m1 24 rfl) rfl
theorem q108 : (Jvm.Cond.methodLink "EaterWebs" (1 : Nat) ({ cls := "java/lang/Object", name := "<init>", desc := "()V" } : Jvm.MethodName)) ∈ lw_all := lw_g (lw_at lw_m1 25 rfl) rfl
theorem q111 : (Jvm.Cond.classLink "EaterWebs" (17 : Nat) "[B") ∈ lw_all := lw_g (lw_at lw_m1 28 rfl) rfl
theorem q113 : (Jvm.Cond.classLink "EaterWebs" (23 : Nat) "EaterWebs$Being") ∈ lw_all := lw_g (lw_at lw_m1 30 rfl) rfl
theorem q115 : (Jvm.Cond.fieldLink "EaterWebs" (63 : Nat) "EaterWebs" "finding" "I") ∈ lw_all := lw_g (lw_at lw_m1 32 rfl) rfl
theorem q116 : (Jvm.Cond.fieldLink "EaterWebs" (7 : Nat) "EaterWebs" "findings" "[I") ∈ lw_all := lw_g (lw_at lw_m1 33 rfl) rfl
theorem q117 : (Jvm.Cond.fieldLink "EaterWebs" (281 : Nat) "EaterWebs" "asked" "I") ∈ lw_all := lw_g (lw_at lw_m1 34 rfl) rfl
theorem q118 : (Jvm.Cond.fieldLink "EaterWebs" (73 : Nat) "EaterWebs" "upper" "J") ∈ lw_all := lw_g (lw_at lw_m1 35 rfl) rfl
theorem q119 : (Jvm.Cond.fieldLink "EaterWebs" (13 : Nat) "EaterWebs" "lower" "J") ∈ lw_all := lw_g (lw_at lw_m1 36 rfl) rfl
theorem q120 : (Jvm.Cond.fieldLink "EaterWebs" (175 : Nat) "EaterWebs" "now" "I") ∈ lw_all := lw_g (lw_at lw_m1 37 rfl) rfl
theorem q121 : (Jvm.Cond.fieldLink "EaterWebs" (19 : Nat) "EaterWebs" "texts" "[[B") ∈ lw_all := lw_g (lw_at lw_m1 38 rfl) rfl
theorem q122 : (Jvm.Cond.fieldLink "EaterWebs" (112 : Nat) "EaterWebs" "itemBeing" "I") ∈ lw_all := lw_g (lw_at lw_m1 39 rfl) rfl
theorem q123 : (Jvm.Cond.fieldLink "EaterWebs" (118 : Nat) "EaterWebs" "itemSign" "I") ∈ lw_all := lw_g (lw_at lw_m1 40 rfl) rfl
theorem q124 : (Jvm.Cond.fieldLink "EaterWebs" (126 : Nat) "EaterWebs" "itemOther" "I") ∈ lw_all := lw_g (lw_at lw_m1 41 rfl) rfl
theorem q125 : (Jvm.Cond.fieldLink "EaterWebs" (25 : Nat) "EaterWebs" "beings" "[LEaterWebs$Being;") ∈ lw_all := lw_g (lw_at lw_m1 42 rfl) rfl
theorem q126 : (Jvm.Cond.fieldLink "EaterWebs" (29 : Nat) "EaterWebs" "links" "[I") ∈ lw_all := lw_g (lw_at lw_m1 43 rfl) rfl
theorem q127 : (Jvm.Cond.fieldLink "EaterWebs" (32 : Nat) "EaterWebs" "leasts" "[I") ∈ lw_all := lw_g (lw_at lw_m1 44 rfl) rfl
theorem q128 : (Jvm.Cond.fieldLink "EaterWebs" (35 : Nat) "EaterWebs" "mosts" "[I") ∈ lw_all := lw_g (lw_at lw_m1 45 rfl) rfl
theorem q129 : (Jvm.Cond.fieldLink "EaterWebs" (38 : Nat) "EaterWebs" "effects" "[I") ∈ lw_all := lw_g (lw_at lw_m1 46 rfl) rfl
theorem q130 : (Jvm.Cond.fieldLink "EaterWebs" (41 : Nat) "EaterWebs" "doors" "[I") ∈ lw_all := lw_g (lw_at lw_m1 47 rfl) rfl
theorem q131 : (Jvm.Cond.fieldLink "EaterWebs" (272 : Nat) "EaterWebs" "caught" "J") ∈ lw_all := lw_g (lw_at lw_m1 48 rfl) rfl
theorem q132 : (Jvm.Cond.fieldLink "EaterWebs" (44 : Nat) "EaterWebs" "got" "[J") ∈ lw_all := lw_g (lw_at lw_m1 49 rfl) rfl
theorem q133 : (Jvm.Cond.fieldLink "EaterWebs" (48 : Nat) "EaterWebs" "next" "[I") ∈ lw_all := lw_g (lw_at lw_m1 50 rfl) rfl
theorem q134 : (Jvm.Cond.fieldLink "EaterWebs" (51 : Nat) "EaterWebs" "catches" "[I") ∈ lw_all := lw_g (lw_at lw_m1 51 rfl) rfl
theorem q135 : (Jvm.Cond.fieldLink "EaterWebs" (253 : Nat) "EaterWebs" "fallen" "I") ∈ lw_all := lw_g (lw_at lw_m1 52 rfl) rfl
theorem q136 : (Jvm.Cond.fieldLink "EaterWebs" (54 : Nat) "EaterWebs" "past" "[I") ∈ lw_all := lw_g (lw_at lw_m1 53 rfl) rfl
theorem q137 : (Jvm.Cond.fieldLink "EaterWebs" (293 : Nat) "EaterWebs" "caughtBy" "J") ∈ lw_all := lw_g (lw_at lw_m1 54 rfl) rfl
theorem q138 : (Jvm.Cond.fieldLink "EaterWebs" (318 : Nat) "EaterWebs" "size" "I") ∈ lw_all := lw_g (lw_at lw_m1 55 rfl) rfl
theorem q139 : (Jvm.Cond.fieldLink "EaterWebs" (57 : Nat) "EaterWebs" "who" "[I") ∈ lw_all := lw_g (lw_at lw_m1 56 rfl) rfl
theorem q140 : (Jvm.Cond.fieldLink "EaterWebs" (60 : Nat) "EaterWebs" "table" "[I") ∈ lw_all := lw_g (lw_at lw_m1 57 rfl) rfl
theorem q141 : (Jvm.Cond.fieldLink "EaterWebs" (321 : Nat) "EaterWebs" "above" "I") ∈ lw_all := lw_g (lw_at lw_m1 58 rfl) rfl
theorem q142 : (Jvm.Cond.fieldLink "EaterWebs" (324 : Nat) "EaterWebs" "below" "I") ∈ lw_all := lw_g (lw_at lw_m1 59 rfl) rfl
theorem q143 : (Jvm.Cond.fieldLink "EaterWebs" (364 : Nat) "EaterWebs" "h" "J") ∈ lw_all := lw_g (lw_at lw_m1 60 rfl) rfl
theorem q144 : (Jvm.Cond.lays "EaterWebs" "EaterWebs" "finding" "I") ∈ lw_all := lw_g (lw_at lw_m1 61 rfl) rfl
theorem q145 : (Jvm.Cond.soleField "EaterWebs" "finding") ∈ lw_all := lw_g (lw_at lw_m1 62 rfl) rfl
theorem q146 : (Jvm.Cond.laysFinal "EaterWebs" "EaterWebs" "findings" "[I") ∈ lw_all := lw_g (lw_at lw_m1 63 rfl) rfl
theorem q147 : (Jvm.Cond.soleField "EaterWebs" "findings") ∈ lw_all := lw_g (lw_at lw_m1 64 rfl) rfl
theorem q148 : (Jvm.Cond.lays "EaterWebs" "EaterWebs" "asked" "I") ∈ lw_all := lw_g (lw_at lw_m1 65 rfl) rfl
theorem q149 : (Jvm.Cond.soleField "EaterWebs" "asked") ∈ lw_all := lw_g (lw_at lw_m1 66 rfl) rfl
theorem q150 : (Jvm.Cond.lays "EaterWebs" "EaterWebs" "upper" "J") ∈ lw_all := lw_g (lw_at lw_m1 67 rfl) rfl
theorem q151 : (Jvm.Cond.soleField "EaterWebs" "upper") ∈ lw_all := lw_g (lw_at lw_m1 68 rfl) rfl
theorem q152 : (Jvm.Cond.lays "EaterWebs" "EaterWebs" "lower" "J") ∈ lw_all := lw_g (lw_at lw_m1 69 rfl) rfl
theorem q153 : (Jvm.Cond.soleField "EaterWebs" "lower") ∈ lw_all := lw_g (lw_at lw_m1 70 rfl) rfl
theorem q154 : (Jvm.Cond.lays "EaterWebs" "EaterWebs" "now" "I") ∈ lw_all := lw_g (lw_at lw_m1 71 rfl) rfl
theorem q155 : (Jvm.Cond.soleField "EaterWebs" "now") ∈ lw_all := lw_g (lw_at lw_m1 72 rfl) rfl
theorem q156 : (Jvm.Cond.laysFinal "EaterWebs" "EaterWebs" "texts" "[[B") ∈ lw_all := lw_g (lw_at lw_m1 73 rfl) rfl
theorem q157 : (Jvm.Cond.soleField "EaterWebs" "texts") ∈ lw_all := lw_g (lw_at lw_m1 74 rfl) rfl
theorem q158 : (Jvm.Cond.lays "EaterWebs" "EaterWebs" "itemBeing" "I") ∈ lw_all := lw_g (lw_at lw_m1 75 rfl) rfl
theorem q159 : (Jvm.Cond.soleField "EaterWebs" "itemBeing") ∈ lw_all := lw_g (lw_at lw_m1 76 rfl) rfl
theorem q160 : (Jvm.Cond.lays "EaterWebs" "EaterWebs" "itemSign" "I") ∈ lw_all := lw_g (lw_at lw_m1 77 rfl) rfl
theorem q161 : (Jvm.Cond.soleField "EaterWebs" "itemSign") ∈ lw_all := lw_g (lw_at lw_m1 78 rfl) rfl
theorem q162 : (Jvm.Cond.lays "EaterWebs" "EaterWebs" "itemOther" "I") ∈ lw_all := lw_g (lw_at lw_m1 79 rfl) rfl
theorem q163 : (Jvm.Cond.soleField "EaterWebs" "itemOther") ∈ lw_all := lw_g (lw_at lw_m1 80 rfl) rfl
theorem q164 : (Jvm.Cond.laysFinal "EaterWebs" "EaterWebs" "beings" "[LEaterWebs$Being;") ∈ lw_all := lw_g (lw_at lw_m1 81 rfl) rfl
theorem q165 : (Jvm.Cond.soleField "EaterWebs" "beings") ∈ lw_all := lw_g (lw_at lw_m1 82 rfl) rfl
theorem q166 : (Jvm.Cond.laysFinal "EaterWebs" "EaterWebs" "links" "[I") ∈ lw_all := lw_g (lw_at lw_m1 83 rfl) rfl
theorem q167 : (Jvm.Cond.soleField "EaterWebs" "links") ∈ lw_all := lw_g (lw_at lw_m1 84 rfl) rfl
theorem q168 : (Jvm.Cond.laysFinal "EaterWebs" "EaterWebs" "leasts" "[I") ∈ lw_all := lw_g (lw_at lw_m1 85 rfl) rfl
theorem q169 : (Jvm.Cond.soleField "EaterWebs" "leasts") ∈ lw_all := lw_g (lw_at lw_m1 86 rfl) rfl
theorem q170 : (Jvm.Cond.laysFinal "EaterWebs" "EaterWebs" "mosts" "[I") ∈ lw_all := lw_g (lw_at lw_m1 87 rfl) rfl
theorem q171 : (Jvm.Cond.soleField "EaterWebs" "mosts") ∈ lw_all := lw_g (lw_at lw_m1 88 rfl) rfl
theorem q172 : (Jvm.Cond.laysFinal "EaterWebs" "EaterWebs" "effects" "[I") ∈ lw_all := lw_g (lw_at lw_m1 89 rfl) rfl
theorem q173 : (Jvm.Cond.soleField "EaterWebs" "effects") ∈ lw_all := lw_g (lw_at lw_m1 90 rfl) rfl
theorem q174 : (Jvm.Cond.laysFinal "EaterWebs" "EaterWebs" "doors" "[I") ∈ lw_all := lw_g (lw_at lw_m1 91 rfl) rfl
theorem q175 : (Jvm.Cond.soleField "EaterWebs" "doors") ∈ lw_all := lw_g (lw_at lw_m1 92 rfl) rfl
theorem q176 : (Jvm.Cond.lays "EaterWebs" "EaterWebs" "caught" "J") ∈ lw_all := lw_g (lw_at lw_m1 93 rfl) rfl
theorem q177 : (Jvm.Cond.soleField "EaterWebs" "caught") ∈ lw_all := lw_g (lw_at lw_m1 94 rfl) rfl
theorem q178 : (Jvm.Cond.laysFinal "EaterWebs" "EaterWebs" "got" "[J") ∈ lw_all := lw_g (lw_at lw_m1 95 rfl) rfl
theorem q179 : (Jvm.Cond.soleField "EaterWebs" "got") ∈ lw_all := lw_g (lw_at lw_m1 96 rfl) rfl
theorem q180 : (Jvm.Cond.laysFinal "EaterWebs" "EaterWebs" "next" "[I") ∈ lw_all := lw_g (lw_at lw_m1 97 rfl) rfl
theorem q181 : (Jvm.Cond.soleField "EaterWebs" "next") ∈ lw_all := lw_g (lw_at lw_m1 98 rfl) rfl
theorem q182 : (Jvm.Cond.laysFinal "EaterWebs" "EaterWebs" "catches" "[I") ∈ lw_all := lw_g (lw_at lw_m1 99 rfl) rfl
theorem q183 : (Jvm.Cond.soleField "EaterWebs" "catches") ∈ lw_all := lw_g (lw_at lw_m1 100 rfl) rfl
theorem q184 : (Jvm.Cond.lays "EaterWebs" "EaterWebs" "fallen" "I") ∈ lw_all := lw_g (lw_at lw_m1 101 rfl) rfl
theorem q185 : (Jvm.Cond.soleField "EaterWebs" "fallen") ∈ lw_all := lw_g (lw_at lw_m1 102 rfl) rfl
theorem q186 : (Jvm.Cond.laysFinal "EaterWebs" "EaterWebs" "past" "[I") ∈ lw_all := lw_g (lw_at lw_m1 103 rfl) rfl
theorem q187 : (Jvm.Cond.soleField "EaterWebs" "past") ∈ lw_all := lw_g (lw_at lw_m1 104 rfl) rfl
theorem q188 : (Jvm.Cond.lays "EaterWebs" "EaterWebs" "caughtBy" "J") ∈ lw_all := lw_g (lw_at lw_m1 105 rfl) rfl
theorem q189 : (Jvm.Cond.soleField "EaterWebs" "caughtBy") ∈ lw_all := lw_g (lw_at lw_m1 106 rfl) rfl
theorem q190 : (Jvm.Cond.lays "EaterWebs" "EaterWebs" "size" "I") ∈ lw_all := lw_g (lw_at lw_m1 107 rfl) rfl
theorem q191 : (Jvm.Cond.soleField "EaterWebs" "size") ∈ lw_all := lw_g (lw_at lw_m1 108 rfl) rfl
theorem q192 : (Jvm.Cond.laysFinal "EaterWebs" "EaterWebs" "who" "[I") ∈ lw_all := lw_g (lw_at lw_m1 109 rfl) rfl
theorem q193 : (Jvm.Cond.soleField "EaterWebs" "who") ∈ lw_all := lw_g (lw_at lw_m1 110 rfl) rfl
theorem q194 : (Jvm.Cond.laysFinal "EaterWebs" "EaterWebs" "table" "[I") ∈ lw_all := lw_g (lw_at lw_m1 111 rfl) rfl
theorem q195 : (Jvm.Cond.soleField "EaterWebs" "table") ∈ lw_all := lw_g (lw_at lw_m1 112 rfl) rfl
theorem q196 : (Jvm.Cond.lays "EaterWebs" "EaterWebs" "above" "I") ∈ lw_all := lw_g (lw_at lw_m1 113 rfl) rfl
theorem q197 : (Jvm.Cond.soleField "EaterWebs" "above") ∈ lw_all := lw_g (lw_at lw_m1 114 rfl) rfl
theorem q198 : (Jvm.Cond.lays "EaterWebs" "EaterWebs" "below" "I") ∈ lw_all := lw_g (lw_at lw_m1 115 rfl) rfl
theorem q199 : (Jvm.Cond.soleField "EaterWebs" "below") ∈ lw_all := lw_g (lw_at lw_m1 116 rfl) rfl
theorem q200 : (Jvm.Cond.lays "EaterWebs" "EaterWebs" "h" "J") ∈ lw_all := lw_g (lw_at lw_m1 117 rfl) rfl
theorem q201 : (Jvm.Cond.soleField "EaterWebs" "h") ∈ lw_all := lw_g (lw_at lw_m1 118 rfl) rfl
theorem q202 : (Jvm.Cond.superclass "EaterWebs" "java/lang/Object") ∈ lw_all := lw_g (lw_at lw_m1 119 rfl) rfl
theorem q206 : (Jvm.Cond.instanceMethod ({ cls := "EaterWebs", name := "text", desc := "(II)I" } : Jvm.MethodName)) ∈ lw_all := lw_g (lw_at lw_m1 123 rfl) rfl
theorem q207 : (Jvm.Cond.selects "EaterWebs" ({ cls := "EaterWebs", name := "text", desc := "(II)I" } : Jvm.MethodName) ({ cls := "EaterWebs", name := "text", desc := "(II)I" } : Jvm.MethodName)) ∈ lw_all := lw_g (lw_at lw_m1 124 rfl) rfl
theorem q208 : (Jvm.Cond.codeWith ({ cls := "EaterWebs", name := "text", desc := "(II)I" } : Jvm.MethodName) prog_1_method_6_code (5 : Nat) (Option.some Jvm.ClassFile.FieldType.int) [((15 : Nat), (48 : Nat), (49 : Nat), (84 : Nat))]) ∈ lw_all := lw_g (lw_at lw_m1 125 rfl) rfl
theorem q209 : (Jvm.Cond.classLink "EaterWebs" (84 : Nat) "java/lang/NegativeArraySizeException") ∈ lw_all := lw_g (lw_at lw_m1 126 rfl) rfl
theorem q295 : (Jvm.Cond.methodLink "EaterWebs" (80 : Nat) ({ cls := "EaterWebs", name := "isText", desc := "(I)Z" } : Jvm.MethodName)) ∈ lw_all := lw_g (lw_at lw_m1 212 rfl) rfl
theorem q296 : (Jvm.Cond.static ({ cls := "EaterWebs", name := "isText", desc := "(I)Z" } : Jvm.MethodName)) ∈ lw_all := lw_g (lw_at lw_m1 213 rfl) rfl
theorem q297 : (Jvm.Cond.code ({ cls := "EaterWebs", name := "isText", desc := "(I)Z" } : Jvm.MethodName) prog_1_method_5_code (1 : Nat) (Option.some Jvm.ClassFile.FieldType.boolean)) ∈ lw_all := lw_g (lw_at lw_m1 214 rfl) rfl
theorem q298 : (Jvm.Cond.methodLink "EaterWebs" (76 : Nat) ({ cls := "EaterWebs", name := "isIn", desc := "(III)Z" } : Jvm.MethodName)) ∈ lw_all := lw_g (lw_at lw_m1 215 rfl) rfl
theorem q299 : (Jvm.Cond.static ({ cls := "EaterWebs", name := "isIn", desc := "(III)Z" } : Jvm.MethodName)) ∈ lw_all := lw_g (lw_at lw_m1 216 rfl) rfl
theorem q300 : (Jvm.Cond.code ({ cls := "EaterWebs", name := "isIn", desc := "(III)Z" } : Jvm.MethodName) prog_1_method_2_code (3 : Nat) (Option.some Jvm.ClassFile.FieldType.boolean)) ∈ lw_all := lw_g (lw_at lw_m1 217 rfl) rfl
theorem q301 : (Jvm.Cond.methodLink "EaterWebs" (86 : Nat) ({ cls := "EaterWebs", name := "met", desc := "(I)I" } : Jvm.MethodName)) ∈ lw_all := lw_g (lw_at lw_m1 218 rfl) rfl
theorem q302 : (Jvm.Cond.privateMethod ({ cls := "EaterWebs", name := "met", desc := "(I)I" } : Jvm.MethodName)) ∈ lw_tbl := lw_at lw_m1 219 rfl
theorem q303 : (Jvm.Cond.instanceMethod ({ cls := "EaterWebs", name := "met", desc := "(I)I" } : Jvm.MethodName)) ∈ lw_all := lw_g (lw_at lw_m1 220 rfl) rfl
theorem q304 : (Jvm.Cond.code ({ cls := "EaterWebs", name := "met", desc := "(I)I" } : Jvm.MethodName) prog_1_method_3_code (2 : Nat) (Option.some Jvm.ClassFile.FieldType.int)) ∈ lw_all := lw_g (lw_at lw_m1 221 rfl) rfl
theorem q306 : (Jvm.Cond.instanceMethod ({ cls := "EaterWebs", name := "lay", desc := "(III)I" } : Jvm.MethodName)) ∈ lw_all := lw_g (lw_at lw_m1 223 rfl) rfl
theorem q307 : (Jvm.Cond.selects "EaterWebs" ({ cls := "EaterWebs", name := "lay", desc := "(III)I" } : Jvm.MethodName) ({ cls := "EaterWebs", name := "lay", desc := "(III)I" } : Jvm.MethodName)) ∈ lw_all := lw_g (lw_at lw_m1 224 rfl) rfl
theorem q308 : (Jvm.Cond.codeWith ({ cls := "EaterWebs", name := "lay", desc := "(III)I" } : Jvm.MethodName) prog_1_method_7_code (5 : Nat) (Option.some Jvm.ClassFile.FieldType.int) [((9 : Nat), (35 : Nat), (36 : Nat), (90 : Nat)), ((9 : Nat), (35 : Nat), (44 : Nat), (92 : Nat))]) ∈ lw_all := lw_g (lw_at lw_m1 225 rfl) rfl
theorem q309 : (Jvm.Cond.classLink "EaterWebs" (90 : Nat) "java/lang/NullPointerException") ∈ lw_all := lw_g (lw_at lw_m1 226 rfl) rfl
theorem q334 : (Jvm.Cond.classLink "EaterWebs" (92 : Nat) "java/lang/ArrayIndexOutOfBoundsException") ∈ lw_all := lw_g (lw_at lw_m2 11 rfl) rfl
theorem q354 : (Jvm.Cond.instanceMethod ({ cls := "EaterWebs", name := "burn", desc := "(I)I" } : Jvm.MethodName)) ∈ lw_all := lw_g (lw_at lw_m2 31 rfl) rfl
theorem q355 : (Jvm.Cond.selects "EaterWebs" ({ cls := "EaterWebs", name := "burn", desc := "(I)I" } : Jvm.MethodName) ({ cls := "EaterWebs", name := "burn", desc := "(I)I" } : Jvm.MethodName)) ∈ lw_all := lw_g (lw_at lw_m2 32 rfl) rfl
theorem q356 : (Jvm.Cond.codeWith ({ cls := "EaterWebs", name := "burn", desc := "(I)I" } : Jvm.MethodName) prog_1_method_8_code (3 : Nat) (Option.some Jvm.ClassFile.FieldType.int) [((9 : Nat), (25 : Nat), (26 : Nat), (90 : Nat))]) ∈ lw_all := lw_g (lw_at lw_m2 33 rfl) rfl
theorem q358 : (Jvm.Cond.instanceMethod ({ cls := "EaterWebs", name := "copy", desc := "(IIIII)I" } : Jvm.MethodName)) ∈ lw_all := lw_g (lw_at lw_m2 35 rfl) rfl
theorem q359 : (Jvm.Cond.selects "EaterWebs" ({ cls := "EaterWebs", name := "copy", desc := "(IIIII)I" } : Jvm.MethodName) ({ cls := "EaterWebs", name := "copy", desc := "(IIIII)I" } : Jvm.MethodName)) ∈ lw_all := lw_g (lw_at lw_m2 36 rfl) rfl
theorem q360 : (Jvm.Cond.codeWith ({ cls := "EaterWebs", name := "copy", desc := "(IIIII)I" } : Jvm.MethodName) prog_1_method_9_code (7 : Nat) (Option.some Jvm.ClassFile.FieldType.int) [((16 : Nat), (37 : Nat), (38 : Nat), (90 : Nat)), ((16 : Nat), (37 : Nat), (46 : Nat), (100 : Nat))]) ∈ lw_all := lw_g (lw_at lw_m2 37 rfl) rfl
theorem q361 : (Jvm.Cond.classLink "EaterWebs" (100 : Nat) "java/lang/IndexOutOfBoundsException") ∈ lw_all := lw_g (lw_at lw_m2 38 rfl) rfl
theorem q362 : (Jvm.Cond.methodLink "EaterWebs" (94 : Nat) ({ cls := "java/lang/System", name := "arraycopy", desc := "(Ljava/lang/Object;ILjava/lang/Object;II)V" } : Jvm.MethodName)) ∈ lw_all := lw_g (lw_at lw_m2 39 rfl) rfl
theorem q366 : (Jvm.Cond.instanceMethod ({ cls := "EaterWebs", name := "fault", desc := "(I)I" } : Jvm.MethodName)) ∈ lw_all := lw_g (lw_at lw_m2 43 rfl) rfl
theorem q367 : (Jvm.Cond.selects "EaterWebs" ({ cls := "EaterWebs", name := "fault", desc := "(I)I" } : Jvm.MethodName) ({ cls := "EaterWebs", name := "fault", desc := "(I)I" } : Jvm.MethodName)) ∈ lw_all := lw_g (lw_at lw_m2 44 rfl) rfl
theorem q368 : (Jvm.Cond.code ({ cls := "EaterWebs", name := "fault", desc := "(I)I" } : Jvm.MethodName) prog_1_method_12_code (2 : Nat) (Option.some Jvm.ClassFile.FieldType.int)) ∈ lw_all := lw_g (lw_at lw_m2 45 rfl) rfl
theorem q369 : (Jvm.Cond.methodLink "EaterWebs" (142 : Nat) ({ cls := "EaterWebs", name := "faultOf", desc := "([B)I" } : Jvm.MethodName)) ∈ lw_all := lw_g (lw_at lw_m2 46 rfl) rfl
theorem q370 : (Jvm.Cond.privateMethod ({ cls := "EaterWebs", name := "faultOf", desc := "([B)I" } : Jvm.MethodName)) ∈ lw_tbl := lw_at lw_m2 47 rfl
theorem q371 : (Jvm.Cond.instanceMethod ({ cls := "EaterWebs", name := "faultOf", desc := "([B)I" } : Jvm.MethodName)) ∈ lw_all := lw_g (lw_at lw_m2 48 rfl) rfl
theorem q372 : (Jvm.Cond.code ({ cls := "EaterWebs", name := "faultOf", desc := "([B)I" } : Jvm.MethodName) prog_1_method_11_code (3 : Nat) (Option.some Jvm.ClassFile.FieldType.int)) ∈ lw_all := lw_g (lw_at lw_m2 49 rfl) rfl
theorem q373 : (Jvm.Cond.classLink "EaterWebs" (103 : Nat) "EaterWebs$Reader") ∈ lw_all := lw_g (lw_at lw_m2 50 rfl) rfl
theorem q375 : (Jvm.Cond.methodLink "EaterWebs" (129 : Nat) ({ cls := "EaterWebs$Reader", name := "<init>", desc := "([B)V" } : Jvm.MethodName)) ∈ lw_all := lw_g (lw_at lw_m2 52 rfl) rfl
theorem q381 : (Jvm.Cond.fieldLinkNest "EaterWebs" (115 : Nat) "EaterWebs$Reader" "at" "I" "EaterWebs") ∈ lw_tbl := lw_at lw_m2 58 rfl
theorem q383 : (Jvm.Cond.fieldLinkNest "EaterWebs" (160 : Nat) "EaterWebs$Reader" "number" "I" "EaterWebs") ∈ lw_tbl := lw_at lw_m2 60 rfl
theorem q391 : (Jvm.Cond.methodLink "EaterWebs" (132 : Nat) ({ cls := "EaterWebs$Reader", name := "skip", desc := "()V" } : Jvm.MethodName)) ∈ lw_all := lw_g (lw_at lw_m2 68 rfl) rfl
theorem q403 : (Jvm.Cond.methodLink "EaterWebs" (135 : Nat) ({ cls := "EaterWebs$Reader", name := "isEnd", desc := "()Z" } : Jvm.MethodName)) ∈ lw_all := lw_g (lw_at lw_m2 80 rfl) rfl
theorem q404 : (Jvm.Cond.methodLink "EaterWebs" (138 : Nat) ({ cls := "EaterWebs", name := "isItem", desc := "(LEaterWebs$Reader;)Z" } : Jvm.MethodName)) ∈ lw_all := lw_g (lw_at lw_m2 81 rfl) rfl
theorem q405 : (Jvm.Cond.privateMethod ({ cls := "EaterWebs", name := "isItem", desc := "(LEaterWebs$Reader;)Z" } : Jvm.MethodName)) ∈ lw_tbl := lw_at lw_m2 82 rfl
theorem q406 : (Jvm.Cond.instanceMethod ({ cls := "EaterWebs", name := "isItem", desc := "(LEaterWebs$Reader;)Z" } : Jvm.MethodName)) ∈ lw_all := lw_g (lw_at lw_m2 83 rfl) rfl
theorem q407 : (Jvm.Cond.code ({ cls := "EaterWebs", name := "isItem", desc := "(LEaterWebs$Reader;)Z" } : Jvm.MethodName) prog_1_method_10_code (2 : Nat) (Option.some Jvm.ClassFile.FieldType.boolean)) ∈ lw_all := lw_g (lw_at lw_m2 84 rfl) rfl
theorem q408 : (Jvm.Cond.methodLink "EaterWebs" (102 : Nat) ({ cls := "EaterWebs$Reader", name := "isBeing", desc := "()Z" } : Jvm.MethodName)) ∈ lw_all := lw_g (lw_at lw_m2 85 rfl) rfl
theorem q412 : (Jvm.Cond.methodLink "EaterWebs" (108 : Nat) ({ cls := "EaterWebs$Reader", name := "here", desc := "()I" } : Jvm.MethodName)) ∈ lw_all := lw_g (lw_at lw_m2 89 rfl) rfl
theorem q413 : (Jvm.Cond.methodLink "EaterWebs" (121 : Nat) ({ cls := "EaterWebs$Reader", name := "reads", desc := "(II)Z" } : Jvm.MethodName)) ∈ lw_all := lw_g (lw_at lw_m2 90 rfl) rfl
theorem q421 : (Jvm.Cond.constant "EaterWebs" (125 : Nat) (100000 : Int32)) ∈ lw_all := lw_g (lw_at lw_m2 98 rfl) rfl
theorem q423 : (Jvm.Cond.instanceMethod ({ cls := "EaterWebs", name := "read", desc := "(I)I" } : Jvm.MethodName)) ∈ lw_all := lw_g (lw_at lw_m2 100 rfl) rfl
theorem q424 : (Jvm.Cond.selects "EaterWebs" ({ cls := "EaterWebs", name := "read", desc := "(I)I" } : Jvm.MethodName) ({ cls := "EaterWebs", name := "read", desc := "(I)I" } : Jvm.MethodName)) ∈ lw_all := lw_g (lw_at lw_m2 101 rfl) rfl
theorem q425 : (Jvm.Cond.code ({ cls := "EaterWebs", name := "read", desc := "(I)I" } : Jvm.MethodName) prog_1_method_14_code (4 : Nat) (Option.some Jvm.ClassFile.FieldType.int)) ∈ lw_all := lw_g (lw_at lw_m2 102 rfl) rfl
theorem q426 : (Jvm.Cond.methodLink "EaterWebs" (163 : Nat) ({ cls := "EaterWebs", name := "does", desc := "(I)Z" } : Jvm.MethodName)) ∈ lw_all := lw_g (lw_at lw_m2 103 rfl) rfl
theorem q427 : (Jvm.Cond.privateMethod ({ cls := "EaterWebs", name := "does", desc := "(I)Z" } : Jvm.MethodName)) ∈ lw_tbl := lw_at lw_m2 104 rfl
theorem q428 : (Jvm.Cond.instanceMethod ({ cls := "EaterWebs", name := "does", desc := "(I)Z" } : Jvm.MethodName)) ∈ lw_all := lw_g (lw_at lw_m2 105 rfl) rfl
theorem q429 : (Jvm.Cond.code ({ cls := "EaterWebs", name := "does", desc := "(I)Z" } : Jvm.MethodName) prog_1_method_13_code (5 : Nat) (Option.some Jvm.ClassFile.FieldType.boolean)) ∈ lw_all := lw_g (lw_at lw_m2 106 rfl) rfl
theorem q430 : (Jvm.Cond.methodLink "EaterWebs" (146 : Nat) ({ cls := "EaterWebs", name := "come", desc := "(II)V" } : Jvm.MethodName)) ∈ lw_all := lw_g (lw_at lw_m2 107 rfl) rfl
theorem q431 : (Jvm.Cond.privateMethod ({ cls := "EaterWebs", name := "come", desc := "(II)V" } : Jvm.MethodName)) ∈ lw_tbl := lw_at lw_m2 108 rfl
theorem q432 : (Jvm.Cond.instanceMethod ({ cls := "EaterWebs", name := "come", desc := "(II)V" } : Jvm.MethodName)) ∈ lw_all := lw_g (lw_at lw_m2 109 rfl) rfl
theorem q433 : (Jvm.Cond.code ({ cls := "EaterWebs", name := "come", desc := "(II)V" } : Jvm.MethodName) prog_1_method_21_code (3 : Nat) (Option.none : Option Jvm.ClassFile.FieldType)) ∈ lw_all := lw_g (lw_at lw_m2 110 rfl) rfl
theorem q434 : (Jvm.Cond.methodLink "EaterWebs" (185 : Nat) ({ cls := "EaterWebs", name := "clear", desc := "(I)V" } : Jvm.MethodName)) ∈ lw_all := lw_g (lw_at lw_m2 111 rfl) rfl
theorem q435 : (Jvm.Cond.privateMethod ({ cls := "EaterWebs", name := "clear", desc := "(I)V" } : Jvm.MethodName)) ∈ lw_tbl := lw_at lw_m2 112 rfl
theorem q436 : (Jvm.Cond.instanceMethod ({ cls := "EaterWebs", name := "clear", desc := "(I)V" } : Jvm.MethodName)) ∈ lw_all := lw_g (lw_at lw_m2 113 rfl) rfl
theorem q437 : (Jvm.Cond.code ({ cls := "EaterWebs", name := "clear", desc := "(I)V" } : Jvm.MethodName) prog_1_method_20_code (3 : Nat) (Option.none : Option Jvm.ClassFile.FieldType)) ∈ lw_all := lw_g (lw_at lw_m2 114 rfl) rfl
theorem q438 : (Jvm.Cond.methodLink "EaterWebs" (156 : Nat) ({ cls := "EaterWebs", name := "setLink", desc := "(III)V" } : Jvm.MethodName)) ∈ lw_all := lw_g (lw_at lw_m2 115 rfl) rfl
theorem q439 : (Jvm.Cond.privateMethod ({ cls := "EaterWebs", name := "setLink", desc := "(III)V" } : Jvm.MethodName)) ∈ lw_tbl := lw_at lw_m2 116 rfl
theorem q440 : (Jvm.Cond.instanceMethod ({ cls := "EaterWebs", name := "setLink", desc := "(III)V" } : Jvm.MethodName)) ∈ lw_all := lw_g (lw_at lw_m2 117 rfl) rfl
theorem q441 : (Jvm.Cond.code ({ cls := "EaterWebs", name := "setLink", desc := "(III)V" } : Jvm.MethodName) prog_1_method_19_code (5 : Nat) (Option.none : Option Jvm.ClassFile.FieldType)) ∈ lw_all := lw_g (lw_at lw_m2 118 rfl) rfl
theorem q442 : (Jvm.Cond.methodLink "EaterWebs" (181 : Nat) ({ cls := "EaterWebs", name := "pair", desc := "(II)I" } : Jvm.MethodName)) ∈ lw_all := lw_g (lw_at lw_m2 119 rfl) rfl
theorem q443 : (Jvm.Cond.static ({ cls := "EaterWebs", name := "pair", desc := "(II)I" } : Jvm.MethodName)) ∈ lw_all := lw_g (lw_at lw_m2 120 rfl) rfl
theorem q444 : (Jvm.Cond.code ({ cls := "EaterWebs", name := "pair", desc := "(II)I" } : Jvm.MethodName) prog_1_method_17_code (2 : Nat) (Option.some Jvm.ClassFile.FieldType.int)) ∈ lw_all := lw_g (lw_at lw_m2 121 rfl) rfl
theorem q445 : (Jvm.Cond.methodLink "EaterWebs" (188 : Nat) ({ cls := "EaterWebs", name := "made", desc := "(I)LEaterWebs$Being;" } : Jvm.MethodName)) ∈ lw_all := lw_g (lw_at lw_m2 122 rfl) rfl
theorem q446 : (Jvm.Cond.privateMethod ({ cls := "EaterWebs", name := "made", desc := "(I)LEaterWebs$Being;" } : Jvm.MethodName)) ∈ lw_tbl := lw_at lw_m2 123 rfl
theorem q447 : (Jvm.Cond.instanceMethod ({ cls := "EaterWebs", name := "made", desc := "(I)LEaterWebs$Being;" } : Jvm.MethodName)) ∈ lw_all := lw_g (lw_at lw_m2 124 rfl) rfl
theorem q448 : (Jvm.Cond.code ({ cls := "EaterWebs", name := "made", desc := "(I)LEaterWebs$Being;" } : Jvm.MethodName) prog_1_method_18_code (2 : Nat) (Option.some (Jvm.ClassFile.FieldType.object "EaterWebs$Being"))) ∈ lw_all := lw_g (lw_at lw_m2 125 rfl) rfl
theorem q450 : (Jvm.Cond.methodLinkNest "EaterWebs" (166 : Nat) ({ cls := "EaterWebs$Being", name := "<init>", desc := "()V" } : Jvm.MethodName) "EaterWebs") ∈ lw_tbl := lw_at lw_m2 127 rfl
theorem q455 : (Jvm.Cond.fieldLinkNest "EaterWebs" (150 : Nat) "EaterWebs$Being" "stock" "I" "EaterWebs") ∈ lw_tbl := lw_at lw_m2 132 rfl
theorem q456 : (Jvm.Cond.fieldLinkNest "EaterWebs" (214 : Nat) "EaterWebs$Being" "taken" "I" "EaterWebs") ∈ lw_tbl := lw_at lw_m2 133 rfl
theorem q458 : (Jvm.Cond.fieldLinkNest "EaterWebs" (221 : Nat) "EaterWebs$Being" "fell" "I" "EaterWebs") ∈ lw_tbl := lw_at lw_m2 135 rfl
theorem q466 : (Jvm.Cond.classLink "EaterWebs" (167 : Nat) "EaterWebs$Plant") ∈ lw_all := lw_g (lw_at lw_m2 143 rfl) rfl
theorem q468 : (Jvm.Cond.methodLinkNest "EaterWebs" (169 : Nat) ({ cls := "EaterWebs$Plant", name := "<init>", desc := "()V" } : Jvm.MethodName) "EaterWebs") ∈ lw_tbl := lw_at lw_m2 145 rfl
theorem q473 : (Jvm.Cond.fieldLinkNest "EaterWebs" (200 : Nat) "EaterWebs$Plant" "rate" "I" "EaterWebs") ∈ lw_tbl := lw_at lw_m2 150 rfl
theorem q475 : (Jvm.Cond.fieldLinkNest "EaterWebs" (203 : Nat) "EaterWebs$Plant" "cap" "I" "EaterWebs") ∈ lw_tbl := lw_at lw_m2 152 rfl
theorem q484 : (Jvm.Cond.classLink "EaterWebs" (170 : Nat) "EaterWebs$Eater") ∈ lw_all := lw_g (lw_at lw_m2 161 rfl) rfl
theorem q486 : (Jvm.Cond.methodLinkNest "EaterWebs" (172 : Nat) ({ cls := "EaterWebs$Eater", name := "<init>", desc := "()V" } : Jvm.MethodName) "EaterWebs") ∈ lw_tbl := lw_at lw_m2 163 rfl
theorem q491 : (Jvm.Cond.fieldLinkNest "EaterWebs" (208 : Nat) "EaterWebs$Eater" "loss" "I" "EaterWebs") ∈ lw_tbl := lw_at lw_m2 168 rfl
theorem q493 : (Jvm.Cond.fieldLinkNest "EaterWebs" (211 : Nat) "EaterWebs$Eater" "gain" "I" "EaterWebs") ∈ lw_tbl := lw_at lw_m2 170 rfl
theorem q502 : (Jvm.Cond.classLink "EaterWebs" (173 : Nat) "EaterWebs$Guest") ∈ lw_all := lw_g (lw_at lw_m2 179 rfl) rfl
theorem q504 : (Jvm.Cond.methodLink "EaterWebs" (178 : Nat) ({ cls := "EaterWebs$Guest", name := "<init>", desc := "(I)V" } : Jvm.MethodName)) ∈ lw_all := lw_g (lw_at lw_m2 181 rfl) rfl
theorem q509 : (Jvm.Cond.fieldLinkNest "EaterWebs" (227 : Nat) "EaterWebs$Guest" "since" "I" "EaterWebs") ∈ lw_tbl := lw_at lw_m2 186 rfl
theorem q518 : (Jvm.Cond.methodLink "EaterWebs" (153 : Nat) ({ cls := "EaterWebs$Being", name := "is", desc := "(I)Z" } : Jvm.MethodName)) ∈ lw_all := lw_g (lw_at lw_m2 195 rfl) rfl
theorem q536 : (Jvm.Cond.instanceMethod ({ cls := "EaterWebs", name := "being", desc := "(II)I" } : Jvm.MethodName)) ∈ lw_all := lw_g (lw_at lw_m2 213 rfl) rfl
theorem q537 : (Jvm.Cond.selects "EaterWebs" ({ cls := "EaterWebs", name := "being", desc := "(II)I" } : Jvm.MethodName) ({ cls := "EaterWebs", name := "being", desc := "(II)I" } : Jvm.MethodName)) ∈ lw_all := lw_g (lw_at lw_m2 214 rfl) rfl
theorem q538 : (Jvm.Cond.code ({ cls := "EaterWebs", name := "being", desc := "(II)I" } : Jvm.MethodName) prog_1_method_22_code (4 : Nat) (Option.some Jvm.ClassFile.FieldType.int)) ∈ lw_all := lw_g (lw_at lw_m2 215 rfl) rfl
theorem q539 : (Jvm.Cond.methodLink "EaterWebs" (192 : Nat) ({ cls := "EaterWebs", name := "isBeing", desc := "(I)Z" } : Jvm.MethodName)) ∈ lw_all := lw_g (lw_at lw_m2 216 rfl) rfl
theorem q540 : (Jvm.Cond.static ({ cls := "EaterWebs", name := "isBeing", desc := "(I)Z" } : Jvm.MethodName)) ∈ lw_all := lw_g (lw_at lw_m2 217 rfl) rfl
theorem q541 : (Jvm.Cond.code ({ cls := "EaterWebs", name := "isBeing", desc := "(I)Z" } : Jvm.MethodName) prog_1_method_15_code (1 : Nat) (Option.some Jvm.ClassFile.FieldType.boolean)) ∈ lw_all := lw_g (lw_at lw_m2 218 rfl) rfl
theorem q543 : (Jvm.Cond.instanceMethod ({ cls := "EaterWebs", name := "drop", desc := "(I)I" } : Jvm.MethodName)) ∈ lw_all := lw_g (lw_at lw_m2 220 rfl) rfl
theorem q544 : (Jvm.Cond.selects "EaterWebs" ({ cls := "EaterWebs", name := "drop", desc := "(I)I" } : Jvm.MethodName) ({ cls := "EaterWebs", name := "drop", desc := "(I)I" } : Jvm.MethodName)) ∈ lw_all := lw_g (lw_at lw_m2 221 rfl) rfl
theorem q545 : (Jvm.Cond.codeWith ({ cls := "EaterWebs", name := "drop", desc := "(I)I" } : Jvm.MethodName) prog_1_method_23_code (3 : Nat) (Option.some Jvm.ClassFile.FieldType.int) [((9 : Nat), (25 : Nat), (26 : Nat), (90 : Nat))]) ∈ lw_all := lw_g (lw_at lw_m2 222 rfl) rfl
theorem q546 : (Jvm.Cond.methodLink "EaterWebs" (194 : Nat) ({ cls := "EaterWebs$Being", name := "kind", desc := "()I" } : Jvm.MethodName)) ∈ lw_all := lw_g (lw_at lw_m2 223 rfl) rfl
theorem q561 : (Jvm.Cond.instanceMethod ({ cls := "EaterWebs", name := "stock", desc := "(II)I" } : Jvm.MethodName)) ∈ lw_all := lw_g (lw_at lw_m2 238 rfl) rfl
theorem q562 : (Jvm.Cond.selects "EaterWebs" ({ cls := "EaterWebs", name := "stock", desc := "(II)I" } : Jvm.MethodName) ({ cls := "EaterWebs", name := "stock", desc := "(II)I" } : Jvm.MethodName)) ∈ lw_all := lw_g (lw_at lw_m2 239 rfl) rfl
theorem q563 : (Jvm.Cond.codeWith ({ cls := "EaterWebs", name := "stock", desc := "(II)I" } : Jvm.MethodName) prog_1_method_24_code (4 : Nat) (Option.some Jvm.ClassFile.FieldType.int) [((16 : Nat), (37 : Nat), (38 : Nat), (90 : Nat))]) ∈ lw_all := lw_g (lw_at lw_m3 0 rfl) rfl
theorem q564 : (Jvm.Cond.methodLink "EaterWebs" (197 : Nat) ({ cls := "EaterWebs", name := "isMuch", desc := "(I)Z" } : Jvm.MethodName)) ∈ lw_all := lw_g (lw_at lw_m3 1 rfl) rfl
theorem q565 : (Jvm.Cond.static ({ cls := "EaterWebs", name := "isMuch", desc := "(I)Z" } : Jvm.MethodName)) ∈ lw_all := lw_g (lw_at lw_m3 2 rfl) rfl
theorem q566 : (Jvm.Cond.code ({ cls := "EaterWebs", name := "isMuch", desc := "(I)Z" } : Jvm.MethodName) prog_1_method_16_code (1 : Nat) (Option.some Jvm.ClassFile.FieldType.boolean)) ∈ lw_all := lw_g (lw_at lw_m3 3 rfl) rfl
theorem q568 : (Jvm.Cond.instanceMethod ({ cls := "EaterWebs", name := "plant", desc := "(III)I" } : Jvm.MethodName)) ∈ lw_all := lw_g (lw_at lw_m3 5 rfl) rfl
theorem q569 : (Jvm.Cond.selects "EaterWebs" ({ cls := "EaterWebs", name := "plant", desc := "(III)I" } : Jvm.MethodName) ({ cls := "EaterWebs", name := "plant", desc := "(III)I" } : Jvm.MethodName)) ∈ lw_all := lw_g (lw_at lw_m3 6 rfl) rfl
theorem q570 : (Jvm.Cond.codeWith ({ cls := "EaterWebs", name := "plant", desc := "(III)I" } : Jvm.MethodName) prog_1_method_25_code (5 : Nat) (Option.some Jvm.ClassFile.FieldType.int) [((30 : Nat), (54 : Nat), (55 : Nat), (90 : Nat)), ((30 : Nat), (54 : Nat), (63 : Nat), (206 : Nat))]) ∈ lw_all := lw_g (lw_at lw_m3 7 rfl) rfl
theorem q571 : (Jvm.Cond.classLink "EaterWebs" (206 : Nat) "java/lang/ClassCastException") ∈ lw_all := lw_g (lw_at lw_m3 8 rfl) rfl
theorem q586 : (Jvm.Cond.instanceMethod ({ cls := "EaterWebs", name := "eater", desc := "(III)I" } : Jvm.MethodName)) ∈ lw_all := lw_g (lw_at lw_m3 23 rfl) rfl
theorem q587 : (Jvm.Cond.selects "EaterWebs" ({ cls := "EaterWebs", name := "eater", desc := "(III)I" } : Jvm.MethodName) ({ cls := "EaterWebs", name := "eater", desc := "(III)I" } : Jvm.MethodName)) ∈ lw_all := lw_g (lw_at lw_m3 24 rfl) rfl
theorem q588 : (Jvm.Cond.codeWith ({ cls := "EaterWebs", name := "eater", desc := "(III)I" } : Jvm.MethodName) prog_1_method_26_code (5 : Nat) (Option.some Jvm.ClassFile.FieldType.int) [((30 : Nat), (54 : Nat), (55 : Nat), (90 : Nat)), ((30 : Nat), (54 : Nat), (63 : Nat), (206 : Nat))]) ∈ lw_all := lw_g (lw_at lw_m3 25 rfl) rfl
theorem q590 : (Jvm.Cond.instanceMethod ({ cls := "EaterWebs", name := "link", desc := "(III)I" } : Jvm.MethodName)) ∈ lw_all := lw_g (lw_at lw_m3 27 rfl) rfl
theorem q591 : (Jvm.Cond.selects "EaterWebs" ({ cls := "EaterWebs", name := "link", desc := "(III)I" } : Jvm.MethodName) ({ cls := "EaterWebs", name := "link", desc := "(III)I" } : Jvm.MethodName)) ∈ lw_all := lw_g (lw_at lw_m3 28 rfl) rfl
theorem q592 : (Jvm.Cond.code ({ cls := "EaterWebs", name := "link", desc := "(III)I" } : Jvm.MethodName) prog_1_method_27_code (5 : Nat) (Option.some Jvm.ClassFile.FieldType.int)) ∈ lw_all := lw_g (lw_at lw_m3 29 rfl) rfl
theorem q594 : (Jvm.Cond.instanceMethod ({ cls := "EaterWebs", name := "take", desc := "(II)I" } : Jvm.MethodName)) ∈ lw_all := lw_g (lw_at lw_m3 31 rfl) rfl
theorem q595 : (Jvm.Cond.selects "EaterWebs" ({ cls := "EaterWebs", name := "take", desc := "(II)I" } : Jvm.MethodName) ({ cls := "EaterWebs", name := "take", desc := "(II)I" } : Jvm.MethodName)) ∈ lw_all := lw_g (lw_at lw_m3 32 rfl) rfl
theorem q596 : (Jvm.Cond.codeWith ({ cls := "EaterWebs", name := "take", desc := "(II)I" } : Jvm.MethodName) prog_1_method_28_code (4 : Nat) (Option.some Jvm.ClassFile.FieldType.int) [((16 : Nat), (37 : Nat), (38 : Nat), (90 : Nat))]) ∈ lw_all := lw_g (lw_at lw_m3 33 rfl) rfl
theorem q598 : (Jvm.Cond.instanceMethod ({ cls := "EaterWebs", name := "told", desc := "(II)I" } : Jvm.MethodName)) ∈ lw_all := lw_g (lw_at lw_m3 35 rfl) rfl
theorem q599 : (Jvm.Cond.selects "EaterWebs" ({ cls := "EaterWebs", name := "told", desc := "(II)I" } : Jvm.MethodName) ({ cls := "EaterWebs", name := "told", desc := "(II)I" } : Jvm.MethodName)) ∈ lw_all := lw_g (lw_at lw_m3 36 rfl) rfl
theorem q600 : (Jvm.Cond.codeWith ({ cls := "EaterWebs", name := "told", desc := "(II)I" } : Jvm.MethodName) prog_1_method_31_code (4 : Nat) (Option.some Jvm.ClassFile.FieldType.int) [((18 : Nat), (42 : Nat), (43 : Nat), (90 : Nat))]) ∈ lw_all := lw_g (lw_at lw_m3 37 rfl) rfl
theorem q601 : (Jvm.Cond.methodLink "EaterWebs" (224 : Nat) ({ cls := "EaterWebs", name := "tells", desc := "(II)I" } : Jvm.MethodName)) ∈ lw_all := lw_g (lw_at lw_m3 38 rfl) rfl
theorem q602 : (Jvm.Cond.privateMethod ({ cls := "EaterWebs", name := "tells", desc := "(II)I" } : Jvm.MethodName)) ∈ lw_tbl := lw_at lw_m3 39 rfl
theorem q603 : (Jvm.Cond.instanceMethod ({ cls := "EaterWebs", name := "tells", desc := "(II)I" } : Jvm.MethodName)) ∈ lw_all := lw_g (lw_at lw_m3 40 rfl) rfl
theorem q604 : (Jvm.Cond.code ({ cls := "EaterWebs", name := "tells", desc := "(II)I" } : Jvm.MethodName) prog_1_method_30_code (4 : Nat) (Option.some Jvm.ClassFile.FieldType.int)) ∈ lw_all := lw_g (lw_at lw_m3 41 rfl) rfl
theorem q605 : (Jvm.Cond.methodLink "EaterWebs" (217 : Nat) ({ cls := "EaterWebs", name := "eats", desc := "(IZ)I" } : Jvm.MethodName)) ∈ lw_all := lw_g (lw_at lw_m3 42 rfl) rfl
theorem q606 : (Jvm.Cond.privateMethod ({ cls := "EaterWebs", name := "eats", desc := "(IZ)I" } : Jvm.MethodName)) ∈ lw_tbl := lw_at lw_m3 43 rfl
theorem q607 : (Jvm.Cond.instanceMethod ({ cls := "EaterWebs", name := "eats", desc := "(IZ)I" } : Jvm.MethodName)) ∈ lw_all := lw_g (lw_at lw_m3 44 rfl) rfl
theorem q608 : (Jvm.Cond.code ({ cls := "EaterWebs", name := "eats", desc := "(IZ)I" } : Jvm.MethodName) prog_1_method_29_code (5 : Nat) (Option.some Jvm.ClassFile.FieldType.int)) ∈ lw_all := lw_g (lw_at lw_m3 45 rfl) rfl
theorem q610 : (Jvm.Cond.instanceMethod ({ cls := "EaterWebs", name := "mark", desc := "(II)I" } : Jvm.MethodName)) ∈ lw_all := lw_g (lw_at lw_m3 47 rfl) rfl
theorem q611 : (Jvm.Cond.selects "EaterWebs" ({ cls := "EaterWebs", name := "mark", desc := "(II)I" } : Jvm.MethodName) ({ cls := "EaterWebs", name := "mark", desc := "(II)I" } : Jvm.MethodName)) ∈ lw_all := lw_g (lw_at lw_m3 48 rfl) rfl
theorem q612 : (Jvm.Cond.codeWith ({ cls := "EaterWebs", name := "mark", desc := "(II)I" } : Jvm.MethodName) prog_1_method_32_code (5 : Nat) (Option.some Jvm.ClassFile.FieldType.int) [((18 : Nat), (64 : Nat), (94 : Nat), (90 : Nat)), ((65 : Nat), (72 : Nat), (94 : Nat), (90 : Nat)), ((73 : Nat), (80 : Nat), (94 : Nat), (90 : Nat)), ((81 : Nat), (93 : Nat), (94 : Nat), (90 : Nat)), ((18 : Nat), (64 : Nat), (101 : Nat), (206 : Nat)), ((65 : Nat), (72 : Nat), (101 : Nat), (206 : Nat)), ((73 : Nat), (80 : Nat), (101 : Nat), (206 : Nat)), ((81 : Nat), (93 : Nat), (101 : Nat), (206 : Nat))]) ∈ lw_all := lw_g (lw_at lw_m3 49 rfl) rfl
theorem q614 : (Jvm.Cond.instanceMethod ({ cls := "EaterWebs", name := "mean", desc := "()I" } : Jvm.MethodName)) ∈ lw_all := lw_g (lw_at lw_m3 51 rfl) rfl
theorem q615 : (Jvm.Cond.selects "EaterWebs" ({ cls := "EaterWebs", name := "mean", desc := "()I" } : Jvm.MethodName) ({ cls := "EaterWebs", name := "mean", desc := "()I" } : Jvm.MethodName)) ∈ lw_all := lw_g (lw_at lw_m3 52 rfl) rfl
theorem q616 : (Jvm.Cond.codeWith ({ cls := "EaterWebs", name := "mean", desc := "()I" } : Jvm.MethodName) prog_1_method_36_code (2 : Nat) (Option.some Jvm.ClassFile.FieldType.int) [((0 : Nat), (12 : Nat), (13 : Nat), (239 : Nat))]) ∈ lw_all := lw_g (lw_at lw_m3 53 rfl) rfl
theorem q617 : (Jvm.Cond.classLink "EaterWebs" (239 : Nat) "java/lang/ArithmeticException") ∈ lw_all := lw_g (lw_at lw_m3 54 rfl) rfl
theorem q631 : (Jvm.Cond.methodLink "EaterWebs" (230 : Nat) ({ cls := "EaterWebs", name := "allStocks", desc := "()I" } : Jvm.MethodName)) ∈ lw_all := lw_g (lw_at lw_m3 68 rfl) rfl
theorem q632 : (Jvm.Cond.privateMethod ({ cls := "EaterWebs", name := "allStocks", desc := "()I" } : Jvm.MethodName)) ∈ lw_tbl := lw_at lw_m3 69 rfl
theorem q633 : (Jvm.Cond.instanceMethod ({ cls := "EaterWebs", name := "allStocks", desc := "()I" } : Jvm.MethodName)) ∈ lw_all := lw_g (lw_at lw_m3 70 rfl) rfl
theorem q634 : (Jvm.Cond.code ({ cls := "EaterWebs", name := "allStocks", desc := "()I" } : Jvm.MethodName) prog_1_method_35_code (6 : Nat) (Option.some Jvm.ClassFile.FieldType.int)) ∈ lw_all := lw_g (lw_at lw_m3 71 rfl) rfl
theorem q635 : (Jvm.Cond.methodLink "EaterWebs" (233 : Nat) ({ cls := "EaterWebs", name := "present", desc := "()I" } : Jvm.MethodName)) ∈ lw_all := lw_g (lw_at lw_m3 72 rfl) rfl
theorem q636 : (Jvm.Cond.privateMethod ({ cls := "EaterWebs", name := "present", desc := "()I" } : Jvm.MethodName)) ∈ lw_tbl := lw_at lw_m3 73 rfl
theorem q637 : (Jvm.Cond.instanceMethod ({ cls := "EaterWebs", name := "present", desc := "()I" } : Jvm.MethodName)) ∈ lw_all := lw_g (lw_at lw_m3 74 rfl) rfl
theorem q638 : (Jvm.Cond.code ({ cls := "EaterWebs", name := "present", desc := "()I" } : Jvm.MethodName) prog_1_method_33_code (3 : Nat) (Option.some Jvm.ClassFile.FieldType.int)) ∈ lw_all := lw_g (lw_at lw_m3 75 rfl) rfl
theorem q639 : (Jvm.Cond.methodLink "EaterWebs" (236 : Nat) ({ cls := "EaterWebs", name := "bits", desc := "(I)I" } : Jvm.MethodName)) ∈ lw_all := lw_g (lw_at lw_m3 76 rfl) rfl
theorem q640 : (Jvm.Cond.static ({ cls := "EaterWebs", name := "bits", desc := "(I)I" } : Jvm.MethodName)) ∈ lw_all := lw_g (lw_at lw_m3 77 rfl) rfl
theorem q641 : (Jvm.Cond.code ({ cls := "EaterWebs", name := "bits", desc := "(I)I" } : Jvm.MethodName) prog_1_method_34_code (3 : Nat) (Option.some Jvm.ClassFile.FieldType.int)) ∈ lw_all := lw_g (lw_at lw_m3 78 rfl) rfl
theorem q643 : (Jvm.Cond.instanceMethod ({ cls := "EaterWebs", name := "pass", desc := "(I)I" } : Jvm.MethodName)) ∈ lw_all := lw_g (lw_at lw_m3 80 rfl) rfl
theorem q644 : (Jvm.Cond.selects "EaterWebs" ({ cls := "EaterWebs", name := "pass", desc := "(I)I" } : Jvm.MethodName) ({ cls := "EaterWebs", name := "pass", desc := "(I)I" } : Jvm.MethodName)) ∈ lw_all := lw_g (lw_at lw_m3 81 rfl) rfl
theorem q645 : (Jvm.Cond.code ({ cls := "EaterWebs", name := "pass", desc := "(I)I" } : Jvm.MethodName) prog_1_method_40_code (4 : Nat) (Option.some Jvm.ClassFile.FieldType.int)) ∈ lw_all := lw_g (lw_at lw_m3 82 rfl) rfl
theorem q646 : (Jvm.Cond.constant "EaterWebs" (268 : Nat) (1000000 : Int32)) ∈ lw_all := lw_g (lw_at lw_m3 83 rfl) rfl
theorem q647 : (Jvm.Cond.methodLink "EaterWebs" (269 : Nat) ({ cls := "EaterWebs", name := "week", desc := "()V" } : Jvm.MethodName)) ∈ lw_all := lw_g (lw_at lw_m3 84 rfl) rfl
theorem q648 : (Jvm.Cond.privateMethod ({ cls := "EaterWebs", name := "week", desc := "()V" } : Jvm.MethodName)) ∈ lw_tbl := lw_at lw_m3 85 rfl
theorem q649 : (Jvm.Cond.instanceMethod ({ cls := "EaterWebs", name := "week", desc := "()V" } : Jvm.MethodName)) ∈ lw_all := lw_g (lw_at lw_m3 86 rfl) rfl
theorem q650 : (Jvm.Cond.code ({ cls := "EaterWebs", name := "week", desc := "()V" } : Jvm.MethodName) prog_1_method_39_code (8 : Nat) (Option.none : Option Jvm.ClassFile.FieldType)) ∈ lw_all := lw_g (lw_at lw_m3 87 rfl) rfl
theorem q651 : (Jvm.Cond.methodLink "EaterWebs" (243 : Nat) ({ cls := "EaterWebs", name := "share", desc := "(I)V" } : Jvm.MethodName)) ∈ lw_all := lw_g (lw_at lw_m3 88 rfl) rfl
theorem q652 : (Jvm.Cond.privateMethod ({ cls := "EaterWebs", name := "share", desc := "(I)V" } : Jvm.MethodName)) ∈ lw_tbl := lw_at lw_m3 89 rfl
theorem q653 : (Jvm.Cond.instanceMethod ({ cls := "EaterWebs", name := "share", desc := "(I)V" } : Jvm.MethodName)) ∈ lw_all := lw_g (lw_at lw_m3 90 rfl) rfl
theorem q654 : (Jvm.Cond.code ({ cls := "EaterWebs", name := "share", desc := "(I)V" } : Jvm.MethodName) prog_1_method_37_code (7 : Nat) (Option.none : Option Jvm.ClassFile.FieldType)) ∈ lw_all := lw_g (lw_at lw_m3 91 rfl) rfl
theorem q655 : (Jvm.Cond.constantLong "EaterWebs" (241 : Nat) (100000 : Int64)) ∈ lw_all := lw_g (lw_at lw_m3 92 rfl) rfl
theorem q656 : (Jvm.Cond.methodLink "EaterWebs" (246 : Nat) ({ cls := "EaterWebs", name := "sumOf", desc := "([JII)J" } : Jvm.MethodName)) ∈ lw_all := lw_g (lw_at lw_m3 93 rfl) rfl
theorem q657 : (Jvm.Cond.static ({ cls := "EaterWebs", name := "sumOf", desc := "([JII)J" } : Jvm.MethodName)) ∈ lw_all := lw_g (lw_at lw_m3 94 rfl) rfl
theorem q658 : (Jvm.Cond.code ({ cls := "EaterWebs", name := "sumOf", desc := "([JII)J" } : Jvm.MethodName) prog_1_method_38_code (6 : Nat) (Option.some Jvm.ClassFile.FieldType.long)) ∈ lw_all := lw_g (lw_at lw_m3 95 rfl) rfl
theorem q659 : (Jvm.Cond.methodLink "EaterWebs" (250 : Nat) ({ cls := "EaterWebs$Being", name := "spills", desc := "(J)J" } : Jvm.MethodName)) ∈ lw_all := lw_g (lw_at lw_m3 96 rfl) rfl
theorem q683 : (Jvm.Cond.methodLink "EaterWebs" (256 : Nat) ({ cls := "EaterWebs$Being", name := "grows", desc := "(J)J" } : Jvm.MethodName)) ∈ lw_all := lw_g (lw_at lw_m3 120 rfl) rfl
theorem q701 : (Jvm.Cond.methodLink "EaterWebs" (259 : Nat) ({ cls := "java/lang/Math", name := "min", desc := "(JJ)J" } : Jvm.MethodName)) ∈ lw_all := lw_g (lw_at lw_m3 138 rfl) rfl
theorem q704 : (Jvm.Cond.methodLink "EaterWebs" (263 : Nat) ({ cls := "java/lang/Math", name := "max", desc := "(JJ)J" } : Jvm.MethodName)) ∈ lw_all := lw_g (lw_at lw_m3 141 rfl) rfl
theorem q707 : (Jvm.Cond.methodLink "EaterWebs" (266 : Nat) ({ cls := "java/lang/Math", name := "min", desc := "(II)I" } : Jvm.MethodName)) ∈ lw_all := lw_g (lw_at lw_m3 144 rfl) rfl
theorem q711 : (Jvm.Cond.instanceMethod ({ cls := "EaterWebs", name := "caught", desc := "()J" } : Jvm.MethodName)) ∈ lw_all := lw_g (lw_at lw_m3 148 rfl) rfl
theorem q712 : (Jvm.Cond.selects "EaterWebs" ({ cls := "EaterWebs", name := "caught", desc := "()J" } : Jvm.MethodName) ({ cls := "EaterWebs", name := "caught", desc := "()J" } : Jvm.MethodName)) ∈ lw_all := lw_g (lw_at lw_m3 149 rfl) rfl
theorem q713 : (Jvm.Cond.code ({ cls := "EaterWebs", name := "caught", desc := "()J" } : Jvm.MethodName) prog_1_method_41_code (1 : Nat) (Option.some Jvm.ClassFile.FieldType.long)) ∈ lw_all := lw_g (lw_at lw_m3 150 rfl) rfl
theorem q715 : (Jvm.Cond.instanceMethod ({ cls := "EaterWebs", name := "swings", desc := "(I)I" } : Jvm.MethodName)) ∈ lw_all := lw_g (lw_at lw_m3 152 rfl) rfl
theorem q716 : (Jvm.Cond.selects "EaterWebs" ({ cls := "EaterWebs", name := "swings", desc := "(I)I" } : Jvm.MethodName) ({ cls := "EaterWebs", name := "swings", desc := "(I)I" } : Jvm.MethodName)) ∈ lw_all := lw_g (lw_at lw_m3 153 rfl) rfl
theorem q717 : (Jvm.Cond.code ({ cls := "EaterWebs", name := "swings", desc := "(I)I" } : Jvm.MethodName) prog_1_method_45_code (5 : Nat) (Option.some Jvm.ClassFile.FieldType.int)) ∈ lw_all := lw_g (lw_at lw_m3 154 rfl) rfl
theorem q718 : (Jvm.Cond.methodLink "EaterWebs" (275 : Nat) ({ cls := "EaterWebs", name := "keep", desc := "(I)V" } : Jvm.MethodName)) ∈ lw_all := lw_g (lw_at lw_m3 155 rfl) rfl
theorem q719 : (Jvm.Cond.privateMethod ({ cls := "EaterWebs", name := "keep", desc := "(I)V" } : Jvm.MethodName)) ∈ lw_tbl := lw_at lw_m3 156 rfl
theorem q720 : (Jvm.Cond.instanceMethod ({ cls := "EaterWebs", name := "keep", desc := "(I)V" } : Jvm.MethodName)) ∈ lw_all := lw_g (lw_at lw_m3 157 rfl) rfl
theorem q721 : (Jvm.Cond.code ({ cls := "EaterWebs", name := "keep", desc := "(I)V" } : Jvm.MethodName) prog_1_method_42_code (3 : Nat) (Option.none : Option Jvm.ClassFile.FieldType)) ∈ lw_all := lw_g (lw_at lw_m3 158 rfl) rfl
theorem q722 : (Jvm.Cond.methodLink "EaterWebs" (278 : Nat) ({ cls := "EaterWebs", name := "areAlike", desc := "(II)Z" } : Jvm.MethodName)) ∈ lw_all := lw_g (lw_at lw_m3 159 rfl) rfl
theorem q723 : (Jvm.Cond.privateMethod ({ cls := "EaterWebs", name := "areAlike", desc := "(II)Z" } : Jvm.MethodName)) ∈ lw_tbl := lw_at lw_m3 160 rfl
theorem q724 : (Jvm.Cond.instanceMethod ({ cls := "EaterWebs", name := "areAlike", desc := "(II)Z" } : Jvm.MethodName)) ∈ lw_all := lw_g (lw_at lw_m3 161 rfl) rfl
theorem q725 : (Jvm.Cond.code ({ cls := "EaterWebs", name := "areAlike", desc := "(II)Z" } : Jvm.MethodName) prog_1_method_44_code (5 : Nat) (Option.some Jvm.ClassFile.FieldType.boolean)) ∈ lw_all := lw_g (lw_at lw_m3 162 rfl) rfl
theorem q726 : (Jvm.Cond.methodLink "EaterWebs" (284 : Nat) ({ cls := "EaterWebs", name := "back", desc := "()V" } : Jvm.MethodName)) ∈ lw_all := lw_g (lw_at lw_m3 163 rfl) rfl
theorem q727 : (Jvm.Cond.privateMethod ({ cls := "EaterWebs", name := "back", desc := "()V" } : Jvm.MethodName)) ∈ lw_tbl := lw_at lw_m3 164 rfl
theorem q728 : (Jvm.Cond.instanceMethod ({ cls := "EaterWebs", name := "back", desc := "()V" } : Jvm.MethodName)) ∈ lw_all := lw_g (lw_at lw_m3 165 rfl) rfl
theorem q729 : (Jvm.Cond.code ({ cls := "EaterWebs", name := "back", desc := "()V" } : Jvm.MethodName) prog_1_method_43_code (2 : Nat) (Option.none : Option Jvm.ClassFile.FieldType)) ∈ lw_all := lw_g (lw_at lw_m3 166 rfl) rfl
theorem q731 : (Jvm.Cond.instanceMethod ({ cls := "EaterWebs", name := "bestTake", desc := "(III)I" } : Jvm.MethodName)) ∈ lw_all := lw_g (lw_at lw_m3 168 rfl) rfl
theorem q732 : (Jvm.Cond.selects "EaterWebs" ({ cls := "EaterWebs", name := "bestTake", desc := "(III)I" } : Jvm.MethodName) ({ cls := "EaterWebs", name := "bestTake", desc := "(III)I" } : Jvm.MethodName)) ∈ lw_all := lw_g (lw_at lw_m3 169 rfl) rfl
theorem q733 : (Jvm.Cond.code ({ cls := "EaterWebs", name := "bestTake", desc := "(III)I" } : Jvm.MethodName) prog_1_method_47_code (11 : Nat) (Option.some Jvm.ClassFile.FieldType.int)) ∈ lw_all := lw_g (lw_at lw_m3 170 rfl) rfl
theorem q734 : (Jvm.Cond.constantLong "EaterWebs" (287 : Nat) (-9 : Int64)) ∈ lw_all := lw_g (lw_at lw_m3 171 rfl) rfl
theorem q735 : (Jvm.Cond.methodLink "EaterWebs" (289 : Nat) ({ cls := "EaterWebs", name := "trial", desc := "(II)J" } : Jvm.MethodName)) ∈ lw_all := lw_g (lw_at lw_m3 172 rfl) rfl
theorem q736 : (Jvm.Cond.privateMethod ({ cls := "EaterWebs", name := "trial", desc := "(II)J" } : Jvm.MethodName)) ∈ lw_tbl := lw_at lw_m3 173 rfl
theorem q737 : (Jvm.Cond.instanceMethod ({ cls := "EaterWebs", name := "trial", desc := "(II)J" } : Jvm.MethodName)) ∈ lw_all := lw_g (lw_at lw_m3 174 rfl) rfl
theorem q738 : (Jvm.Cond.code ({ cls := "EaterWebs", name := "trial", desc := "(II)J" } : Jvm.MethodName) prog_1_method_46_code (6 : Nat) (Option.some Jvm.ClassFile.FieldType.long)) ∈ lw_all := lw_g (lw_at lw_m3 175 rfl) rfl
theorem q740 : (Jvm.Cond.instanceMethod ({ cls := "EaterWebs", name := "caughtBy", desc := "()J" } : Jvm.MethodName)) ∈ lw_all := lw_g (lw_at lw_m3 177 rfl) rfl
theorem q741 : (Jvm.Cond.selects "EaterWebs" ({ cls := "EaterWebs", name := "caughtBy", desc := "()J" } : Jvm.MethodName) ({ cls := "EaterWebs", name := "caughtBy", desc := "()J" } : Jvm.MethodName)) ∈ lw_all := lw_g (lw_at lw_m3 178 rfl) rfl
theorem q742 : (Jvm.Cond.code ({ cls := "EaterWebs", name := "caughtBy", desc := "()J" } : Jvm.MethodName) prog_1_method_48_code (1 : Nat) (Option.some Jvm.ClassFile.FieldType.long)) ∈ lw_all := lw_g (lw_at lw_m3 179 rfl) rfl
theorem q744 : (Jvm.Cond.instanceMethod ({ cls := "EaterWebs", name := "without", desc := "(I)I" } : Jvm.MethodName)) ∈ lw_all := lw_g (lw_at lw_m3 181 rfl) rfl
theorem q745 : (Jvm.Cond.selects "EaterWebs" ({ cls := "EaterWebs", name := "without", desc := "(I)I" } : Jvm.MethodName) ({ cls := "EaterWebs", name := "without", desc := "(I)I" } : Jvm.MethodName)) ∈ lw_all := lw_g (lw_at lw_m3 182 rfl) rfl
theorem q746 : (Jvm.Cond.code ({ cls := "EaterWebs", name := "without", desc := "(I)I" } : Jvm.MethodName) prog_1_method_51_code (2 : Nat) (Option.some Jvm.ClassFile.FieldType.int)) ∈ lw_all := lw_g (lw_at lw_m3 183 rfl) rfl
theorem q747 : (Jvm.Cond.methodLink "EaterWebs" (299 : Nat) ({ cls := "EaterWebs", name := "goneWithout", desc := "(I)I" } : Jvm.MethodName)) ∈ lw_all := lw_g (lw_at lw_m3 184 rfl) rfl
theorem q748 : (Jvm.Cond.privateMethod ({ cls := "EaterWebs", name := "goneWithout", desc := "(I)I" } : Jvm.MethodName)) ∈ lw_tbl := lw_at lw_m3 185 rfl
theorem q749 : (Jvm.Cond.instanceMethod ({ cls := "EaterWebs", name := "goneWithout", desc := "(I)I" } : Jvm.MethodName)) ∈ lw_all := lw_g (lw_at lw_m3 186 rfl) rfl
theorem q750 : (Jvm.Cond.code ({ cls := "EaterWebs", name := "goneWithout", desc := "(I)I" } : Jvm.MethodName) prog_1_method_50_code (6 : Nat) (Option.some Jvm.ClassFile.FieldType.int)) ∈ lw_all := lw_g (lw_at lw_m3 187 rfl) rfl
theorem q751 : (Jvm.Cond.methodLink "EaterWebs" (296 : Nat) ({ cls := "EaterWebs", name := "food", desc := "(I)I" } : Jvm.MethodName)) ∈ lw_all := lw_g (lw_at lw_m3 188 rfl) rfl
theorem q752 : (Jvm.Cond.privateMethod ({ cls := "EaterWebs", name := "food", desc := "(I)I" } : Jvm.MethodName)) ∈ lw_tbl := lw_at lw_m3 189 rfl
theorem q753 : (Jvm.Cond.instanceMethod ({ cls := "EaterWebs", name := "food", desc := "(I)I" } : Jvm.MethodName)) ∈ lw_all := lw_g (lw_at lw_m3 190 rfl) rfl
theorem q754 : (Jvm.Cond.code ({ cls := "EaterWebs", name := "food", desc := "(I)I" } : Jvm.MethodName) prog_1_method_49_code (4 : Nat) (Option.some Jvm.ClassFile.FieldType.int)) ∈ lw_all := lw_g (lw_at lw_m3 191 rfl) rfl
theorem q756 : (Jvm.Cond.instanceMethod ({ cls := "EaterWebs", name := "worst", desc := "(I)I" } : Jvm.MethodName)) ∈ lw_all := lw_g (lw_at lw_m3 193 rfl) rfl
theorem q757 : (Jvm.Cond.selects "EaterWebs" ({ cls := "EaterWebs", name := "worst", desc := "(I)I" } : Jvm.MethodName) ({ cls := "EaterWebs", name := "worst", desc := "(I)I" } : Jvm.MethodName)) ∈ lw_all := lw_g (lw_at lw_m3 194 rfl) rfl
theorem q758 : (Jvm.Cond.code ({ cls := "EaterWebs", name := "worst", desc := "(I)I" } : Jvm.MethodName) prog_1_method_52_code (7 : Nat) (Option.some Jvm.ClassFile.FieldType.int)) ∈ lw_all := lw_g (lw_at lw_m3 195 rfl) rfl
theorem q760 : (Jvm.Cond.instanceMethod ({ cls := "EaterWebs", name := "needs", desc := "(II)I" } : Jvm.MethodName)) ∈ lw_all := lw_g (lw_at lw_m3 197 rfl) rfl
theorem q761 : (Jvm.Cond.selects "EaterWebs" ({ cls := "EaterWebs", name := "needs", desc := "(II)I" } : Jvm.MethodName) ({ cls := "EaterWebs", name := "needs", desc := "(II)I" } : Jvm.MethodName)) ∈ lw_all := lw_g (lw_at lw_m3 198 rfl) rfl
theorem q762 : (Jvm.Cond.code ({ cls := "EaterWebs", name := "needs", desc := "(II)I" } : Jvm.MethodName) prog_1_method_53_code (3 : Nat) (Option.some Jvm.ClassFile.FieldType.int)) ∈ lw_all := lw_g (lw_at lw_m3 199 rfl) rfl
theorem q764 : (Jvm.Cond.instanceMethod ({ cls := "EaterWebs", name := "rung", desc := "(I)I" } : Jvm.MethodName)) ∈ lw_all := lw_g (lw_at lw_m3 201 rfl) rfl
theorem q765 : (Jvm.Cond.selects "EaterWebs" ({ cls := "EaterWebs", name := "rung", desc := "(I)I" } : Jvm.MethodName) ({ cls := "EaterWebs", name := "rung", desc := "(I)I" } : Jvm.MethodName)) ∈ lw_all := lw_g (lw_at lw_m3 202 rfl) rfl
theorem q766 : (Jvm.Cond.code ({ cls := "EaterWebs", name := "rung", desc := "(I)I" } : Jvm.MethodName) prog_1_method_54_code (6 : Nat) (Option.some Jvm.ClassFile.FieldType.int)) ∈ lw_all := lw_g (lw_at lw_m3 203 rfl) rfl
theorem q768 : (Jvm.Cond.instanceMethod ({ cls := "EaterWebs", name := "rings", desc := "(I)I" } : Jvm.MethodName)) ∈ lw_all := lw_g (lw_at lw_m3 205 rfl) rfl
theorem q769 : (Jvm.Cond.selects "EaterWebs" ({ cls := "EaterWebs", name := "rings", desc := "(I)I" } : Jvm.MethodName) ({ cls := "EaterWebs", name := "rings", desc := "(I)I" } : Jvm.MethodName)) ∈ lw_all := lw_g (lw_at lw_m3 206 rfl) rfl
theorem q770 : (Jvm.Cond.code ({ cls := "EaterWebs", name := "rings", desc := "(I)I" } : Jvm.MethodName) prog_1_method_56_code (4 : Nat) (Option.some Jvm.ClassFile.FieldType.int)) ∈ lw_all := lw_g (lw_at lw_m3 207 rfl) rfl
theorem q771 : (Jvm.Cond.methodLink "EaterWebs" (302 : Nat) ({ cls := "EaterWebs", name := "ringsFrom", desc := "(IIII)I" } : Jvm.MethodName)) ∈ lw_all := lw_g (lw_at lw_m3 208 rfl) rfl
theorem q772 : (Jvm.Cond.privateMethod ({ cls := "EaterWebs", name := "ringsFrom", desc := "(IIII)I" } : Jvm.MethodName)) ∈ lw_tbl := lw_at lw_m3 209 rfl
theorem q773 : (Jvm.Cond.instanceMethod ({ cls := "EaterWebs", name := "ringsFrom", desc := "(IIII)I" } : Jvm.MethodName)) ∈ lw_all := lw_g (lw_at lw_m3 210 rfl) rfl
theorem q774 : (Jvm.Cond.code ({ cls := "EaterWebs", name := "ringsFrom", desc := "(IIII)I" } : Jvm.MethodName) prog_1_method_55_code (7 : Nat) (Option.some Jvm.ClassFile.FieldType.int)) ∈ lw_all := lw_g (lw_at lw_m3 211 rfl) rfl
theorem q776 : (Jvm.Cond.instanceMethod ({ cls := "EaterWebs", name := "span", desc := "(IIII)I" } : Jvm.MethodName)) ∈ lw_all := lw_g (lw_at lw_m3 213 rfl) rfl
theorem q777 : (Jvm.Cond.selects "EaterWebs" ({ cls := "EaterWebs", name := "span", desc := "(IIII)I" } : Jvm.MethodName) ({ cls := "EaterWebs", name := "span", desc := "(IIII)I" } : Jvm.MethodName)) ∈ lw_all := lw_g (lw_at lw_m3 214 rfl) rfl
theorem q778 : (Jvm.Cond.code ({ cls := "EaterWebs", name := "span", desc := "(IIII)I" } : Jvm.MethodName) prog_1_method_58_code (5 : Nat) (Option.some Jvm.ClassFile.FieldType.int)) ∈ lw_all := lw_g (lw_at lw_m3 215 rfl) rfl
theorem q779 : (Jvm.Cond.methodLink "EaterWebs" (306 : Nat) ({ cls := "EaterWebs", name := "isLink", desc := "(II)Z" } : Jvm.MethodName)) ∈ lw_all := lw_g (lw_at lw_m3 216 rfl) rfl
theorem q780 : (Jvm.Cond.privateMethod ({ cls := "EaterWebs", name := "isLink", desc := "(II)Z" } : Jvm.MethodName)) ∈ lw_tbl := lw_at lw_m3 217 rfl
theorem q781 : (Jvm.Cond.instanceMethod ({ cls := "EaterWebs", name := "isLink", desc := "(II)Z" } : Jvm.MethodName)) ∈ lw_all := lw_g (lw_at lw_m3 218 rfl) rfl
theorem q782 : (Jvm.Cond.code ({ cls := "EaterWebs", name := "isLink", desc := "(II)Z" } : Jvm.MethodName) prog_1_method_57_code (3 : Nat) (Option.some Jvm.ClassFile.FieldType.boolean)) ∈ lw_all := lw_g (lw_at lw_m3 219 rfl) rfl
theorem q784 : (Jvm.Cond.instanceMethod ({ cls := "EaterWebs", name := "door", desc := "(IZII)I" } : Jvm.MethodName)) ∈ lw_all := lw_g (lw_at lw_m3 221 rfl) rfl
theorem q785 : (Jvm.Cond.selects "EaterWebs" ({ cls := "EaterWebs", name := "door", desc := "(IZII)I" } : Jvm.MethodName) ({ cls := "EaterWebs", name := "door", desc := "(IZII)I" } : Jvm.MethodName)) ∈ lw_all := lw_g (lw_at lw_m3 222 rfl) rfl
theorem q786 : (Jvm.Cond.code ({ cls := "EaterWebs", name := "door", desc := "(IZII)I" } : Jvm.MethodName) prog_1_method_59_code (5 : Nat) (Option.some Jvm.ClassFile.FieldType.int)) ∈ lw_all := lw_g (lw_at lw_m3 223 rfl) rfl
theorem q788 : (Jvm.Cond.instanceMethod ({ cls := "EaterWebs", name := "balanced", desc := "()I" } : Jvm.MethodName)) ∈ lw_all := lw_g (lw_at lw_m3 225 rfl) rfl
theorem q789 : (Jvm.Cond.selects "EaterWebs" ({ cls := "EaterWebs", name := "balanced", desc := "()I" } : Jvm.MethodName) ({ cls := "EaterWebs", name := "balanced", desc := "()I" } : Jvm.MethodName)) ∈ lw_all := lw_g (lw_at lw_m3 226 rfl) rfl
theorem q790 : (Jvm.Cond.code ({ cls := "EaterWebs", name := "balanced", desc := "()I" } : Jvm.MethodName) prog_1_method_62_code (1 : Nat) (Option.some Jvm.ClassFile.FieldType.int)) ∈ lw_all := lw_g (lw_at lw_m3 227 rfl) rfl
theorem q791 : (Jvm.Cond.methodLink "EaterWebs" (312 : Nat) ({ cls := "EaterWebs", name := "quarrelling", desc := "()I" } : Jvm.MethodName)) ∈ lw_all := lw_g (lw_at lw_m3 228 rfl) rfl
theorem q792 : (Jvm.Cond.privateMethod ({ cls := "EaterWebs", name := "quarrelling", desc := "()I" } : Jvm.MethodName)) ∈ lw_tbl := lw_at lw_m3 229 rfl
theorem q793 : (Jvm.Cond.instanceMethod ({ cls := "EaterWebs", name := "quarrelling", desc := "()I" } : Jvm.MethodName)) ∈ lw_all := lw_g (lw_at lw_m3 230 rfl) rfl
theorem q794 : (Jvm.Cond.code ({ cls := "EaterWebs", name := "quarrelling", desc := "()I" } : Jvm.MethodName) prog_1_method_61_code (4 : Nat) (Option.some Jvm.ClassFile.FieldType.int)) ∈ lw_all := lw_g (lw_at lw_m3 231 rfl) rfl
theorem q795 : (Jvm.Cond.methodLink "EaterWebs" (309 : Nat) ({ cls := "EaterWebs", name := "quarrels", desc := "(I)Z" } : Jvm.MethodName)) ∈ lw_all := lw_g (lw_at lw_m3 232 rfl) rfl
theorem q796 : (Jvm.Cond.privateMethod ({ cls := "EaterWebs", name := "quarrels", desc := "(I)Z" } : Jvm.MethodName)) ∈ lw_tbl := lw_at lw_m3 233 rfl
theorem q797 : (Jvm.Cond.instanceMethod ({ cls := "EaterWebs", name := "quarrels", desc := "(I)Z" } : Jvm.MethodName)) ∈ lw_all := lw_g (lw_at lw_m3 234 rfl) rfl
theorem q798 : (Jvm.Cond.code ({ cls := "EaterWebs", name := "quarrels", desc := "(I)Z" } : Jvm.MethodName) prog_1_method_60_code (11 : Nat) (Option.some Jvm.ClassFile.FieldType.boolean)) ∈ lw_all := lw_g (lw_at lw_m3 235 rfl) rfl
theorem q800 : (Jvm.Cond.instanceMethod ({ cls := "EaterWebs", name := "quarrel", desc := "()I" } : Jvm.MethodName)) ∈ lw_all := lw_g (lw_at lw_m3 237 rfl) rfl
theorem q801 : (Jvm.Cond.selects "EaterWebs" ({ cls := "EaterWebs", name := "quarrel", desc := "()I" } : Jvm.MethodName) ({ cls := "EaterWebs", name := "quarrel", desc := "()I" } : Jvm.MethodName)) ∈ lw_all := lw_g (lw_at lw_m3 238 rfl) rfl
theorem q802 : (Jvm.Cond.code ({ cls := "EaterWebs", name := "quarrel", desc := "()I" } : Jvm.MethodName) prog_1_method_63_code (1 : Nat) (Option.some Jvm.ClassFile.FieldType.int)) ∈ lw_all := lw_g (lw_at lw_m3 239 rfl) rfl
theorem q804 : (Jvm.Cond.instanceMethod ({ cls := "EaterWebs", name := "range", desc := "(IIZ)I" } : Jvm.MethodName)) ∈ lw_all := lw_g (lw_at lw_m4 1 rfl) rfl
theorem q805 : (Jvm.Cond.selects "EaterWebs" ({ cls := "EaterWebs", name := "range", desc := "(IIZ)I" } : Jvm.MethodName) ({ cls := "EaterWebs", name := "range", desc := "(IIZ)I" } : Jvm.MethodName)) ∈ lw_all := lw_g (lw_at lw_m4 2 rfl) rfl
theorem q806 : (Jvm.Cond.code ({ cls := "EaterWebs", name := "range", desc := "(IIZ)I" } : Jvm.MethodName) prog_1_method_65_code (4 : Nat) (Option.some Jvm.ClassFile.FieldType.int)) ∈ lw_all := lw_g (lw_at lw_m4 3 rfl) rfl
theorem q807 : (Jvm.Cond.methodLink "EaterWebs" (315 : Nat) ({ cls := "EaterWebs", name := "end", desc := "(IZ)I" } : Jvm.MethodName)) ∈ lw_all := lw_g (lw_at lw_m4 4 rfl) rfl
theorem q808 : (Jvm.Cond.privateMethod ({ cls := "EaterWebs", name := "end", desc := "(IZ)I" } : Jvm.MethodName)) ∈ lw_tbl := lw_at lw_m4 5 rfl
theorem q809 : (Jvm.Cond.instanceMethod ({ cls := "EaterWebs", name := "end", desc := "(IZ)I" } : Jvm.MethodName)) ∈ lw_all := lw_g (lw_at lw_m4 6 rfl) rfl
theorem q810 : (Jvm.Cond.code ({ cls := "EaterWebs", name := "end", desc := "(IZ)I" } : Jvm.MethodName) prog_1_method_64_code (9 : Nat) (Option.some Jvm.ClassFile.FieldType.int)) ∈ lw_all := lw_g (lw_at lw_m4 7 rfl) rfl
theorem q812 : (Jvm.Cond.instanceMethod ({ cls := "EaterWebs", name := "nextSight", desc := "()I" } : Jvm.MethodName)) ∈ lw_all := lw_g (lw_at lw_m4 9 rfl) rfl
theorem q813 : (Jvm.Cond.selects "EaterWebs" ({ cls := "EaterWebs", name := "nextSight", desc := "()I" } : Jvm.MethodName) ({ cls := "EaterWebs", name := "nextSight", desc := "()I" } : Jvm.MethodName)) ∈ lw_all := lw_g (lw_at lw_m4 10 rfl) rfl
theorem q814 : (Jvm.Cond.code ({ cls := "EaterWebs", name := "nextSight", desc := "()I" } : Jvm.MethodName) prog_1_method_66_code (5 : Nat) (Option.some Jvm.ClassFile.FieldType.int)) ∈ lw_all := lw_g (lw_at lw_m4 11 rfl) rfl
theorem q816 : (Jvm.Cond.instanceMethod ({ cls := "EaterWebs", name := "effect", desc := "(III)I" } : Jvm.MethodName)) ∈ lw_all := lw_g (lw_at lw_m4 13 rfl) rfl
theorem q817 : (Jvm.Cond.selects "EaterWebs" ({ cls := "EaterWebs", name := "effect", desc := "(III)I" } : Jvm.MethodName) ({ cls := "EaterWebs", name := "effect", desc := "(III)I" } : Jvm.MethodName)) ∈ lw_all := lw_g (lw_at lw_m4 14 rfl) rfl
theorem q818 : (Jvm.Cond.code ({ cls := "EaterWebs", name := "effect", desc := "(III)I" } : Jvm.MethodName) prog_1_method_67_code (4 : Nat) (Option.some Jvm.ClassFile.FieldType.int)) ∈ lw_all := lw_g (lw_at lw_m4 15 rfl) rfl
theorem q820 : (Jvm.Cond.instanceMethod ({ cls := "EaterWebs", name := "push", desc := "(II)I" } : Jvm.MethodName)) ∈ lw_all := lw_g (lw_at lw_m4 17 rfl) rfl
theorem q821 : (Jvm.Cond.selects "EaterWebs" ({ cls := "EaterWebs", name := "push", desc := "(II)I" } : Jvm.MethodName) ({ cls := "EaterWebs", name := "push", desc := "(II)I" } : Jvm.MethodName)) ∈ lw_all := lw_g (lw_at lw_m4 18 rfl) rfl
theorem q822 : (Jvm.Cond.code ({ cls := "EaterWebs", name := "push", desc := "(II)I" } : Jvm.MethodName) prog_1_method_73_code (7 : Nat) (Option.some Jvm.ClassFile.FieldType.int)) ∈ lw_all := lw_g (lw_at lw_m4 19 rfl) rfl
theorem q823 : (Jvm.Cond.methodLink "EaterWebs" (336 : Nat) ({ cls := "EaterWebs", name := "askedTwo", desc := "(II)I" } : Jvm.MethodName)) ∈ lw_all := lw_g (lw_at lw_m4 20 rfl) rfl
theorem q824 : (Jvm.Cond.privateMethod ({ cls := "EaterWebs", name := "askedTwo", desc := "(II)I" } : Jvm.MethodName)) ∈ lw_tbl := lw_at lw_m4 21 rfl
theorem q825 : (Jvm.Cond.instanceMethod ({ cls := "EaterWebs", name := "askedTwo", desc := "(II)I" } : Jvm.MethodName)) ∈ lw_all := lw_g (lw_at lw_m4 22 rfl) rfl
theorem q826 : (Jvm.Cond.code ({ cls := "EaterWebs", name := "askedTwo", desc := "(II)I" } : Jvm.MethodName) prog_1_method_72_code (3 : Nat) (Option.some Jvm.ClassFile.FieldType.int)) ∈ lw_all := lw_g (lw_at lw_m4 23 rfl) rfl
theorem q827 : (Jvm.Cond.methodLink "EaterWebs" (333 : Nat) ({ cls := "EaterWebs", name := "isLaid", desc := "()Z" } : Jvm.MethodName)) ∈ lw_all := lw_g (lw_at lw_m4 24 rfl) rfl
theorem q828 : (Jvm.Cond.privateMethod ({ cls := "EaterWebs", name := "isLaid", desc := "()Z" } : Jvm.MethodName)) ∈ lw_tbl := lw_at lw_m4 25 rfl
theorem q829 : (Jvm.Cond.instanceMethod ({ cls := "EaterWebs", name := "isLaid", desc := "()Z" } : Jvm.MethodName)) ∈ lw_all := lw_g (lw_at lw_m4 26 rfl) rfl
theorem q830 : (Jvm.Cond.code ({ cls := "EaterWebs", name := "isLaid", desc := "()Z" } : Jvm.MethodName) prog_1_method_68_code (3 : Nat) (Option.some Jvm.ClassFile.FieldType.boolean)) ∈ lw_all := lw_g (lw_at lw_m4 27 rfl) rfl
theorem q831 : (Jvm.Cond.methodLink "EaterWebs" (327 : Nat) ({ cls := "EaterWebs", name := "sumOfWays", desc := "(IIJ)J" } : Jvm.MethodName)) ∈ lw_all := lw_g (lw_at lw_m4 28 rfl) rfl
theorem q832 : (Jvm.Cond.privateMethod ({ cls := "EaterWebs", name := "sumOfWays", desc := "(IIJ)J" } : Jvm.MethodName)) ∈ lw_tbl := lw_at lw_m4 29 rfl
theorem q833 : (Jvm.Cond.instanceMethod ({ cls := "EaterWebs", name := "sumOfWays", desc := "(IIJ)J" } : Jvm.MethodName)) ∈ lw_all := lw_g (lw_at lw_m4 30 rfl) rfl
theorem q834 : (Jvm.Cond.code ({ cls := "EaterWebs", name := "sumOfWays", desc := "(IIJ)J" } : Jvm.MethodName) prog_1_method_70_code (11 : Nat) (Option.some Jvm.ClassFile.FieldType.long)) ∈ lw_all := lw_g (lw_at lw_m4 31 rfl) rfl
theorem q835 : (Jvm.Cond.methodLink "EaterWebs" (339 : Nat) ({ cls := "EaterWebs", name := "placeOf", desc := "(I)I" } : Jvm.MethodName)) ∈ lw_all := lw_g (lw_at lw_m4 32 rfl) rfl
theorem q836 : (Jvm.Cond.privateMethod ({ cls := "EaterWebs", name := "placeOf", desc := "(I)I" } : Jvm.MethodName)) ∈ lw_tbl := lw_at lw_m4 33 rfl
theorem q837 : (Jvm.Cond.instanceMethod ({ cls := "EaterWebs", name := "placeOf", desc := "(I)I" } : Jvm.MethodName)) ∈ lw_all := lw_g (lw_at lw_m4 34 rfl) rfl
theorem q838 : (Jvm.Cond.code ({ cls := "EaterWebs", name := "placeOf", desc := "(I)I" } : Jvm.MethodName) prog_1_method_69_code (3 : Nat) (Option.some Jvm.ClassFile.FieldType.int)) ∈ lw_all := lw_g (lw_at lw_m4 35 rfl) rfl
theorem q839 : (Jvm.Cond.methodLink "EaterWebs" (342 : Nat) ({ cls := "EaterWebs", name := "partOf", desc := "(II)J" } : Jvm.MethodName)) ∈ lw_all := lw_g (lw_at lw_m4 36 rfl) rfl
theorem q840 : (Jvm.Cond.privateMethod ({ cls := "EaterWebs", name := "partOf", desc := "(II)J" } : Jvm.MethodName)) ∈ lw_tbl := lw_at lw_m4 37 rfl
theorem q841 : (Jvm.Cond.instanceMethod ({ cls := "EaterWebs", name := "partOf", desc := "(II)J" } : Jvm.MethodName)) ∈ lw_all := lw_g (lw_at lw_m4 38 rfl) rfl
theorem q842 : (Jvm.Cond.code ({ cls := "EaterWebs", name := "partOf", desc := "(II)J" } : Jvm.MethodName) prog_1_method_71_code (4 : Nat) (Option.some Jvm.ClassFile.FieldType.long)) ∈ lw_all := lw_g (lw_at lw_m4 39 rfl) rfl
theorem q843 : (Jvm.Cond.constantLong "EaterWebs" (331 : Nat) (-1 : Int64)) ∈ lw_all := lw_g (lw_at lw_m4 40 rfl) rfl
theorem q844 : (Jvm.Cond.methodLink "EaterWebs" (345 : Nat) ({ cls := "EaterWebs", name := "tell", desc := "(JJ)I" } : Jvm.MethodName)) ∈ lw_all := lw_g (lw_at lw_m4 41 rfl) rfl
theorem q845 : (Jvm.Cond.privateMethod ({ cls := "EaterWebs", name := "tell", desc := "(JJ)I" } : Jvm.MethodName)) ∈ lw_tbl := lw_at lw_m4 42 rfl
theorem q846 : (Jvm.Cond.instanceMethod ({ cls := "EaterWebs", name := "tell", desc := "(JJ)I" } : Jvm.MethodName)) ∈ lw_all := lw_g (lw_at lw_m4 43 rfl) rfl
theorem q847 : (Jvm.Cond.code ({ cls := "EaterWebs", name := "tell", desc := "(JJ)I" } : Jvm.MethodName) prog_1_method_4_code (11 : Nat) (Option.some Jvm.ClassFile.FieldType.int)) ∈ lw_all := lw_g (lw_at lw_m4 44 rfl) rfl
theorem q848 : (Jvm.Cond.methodLink "EaterWebs" (67 : Nat) ({ cls := "java/lang/Math", name := "abs", desc := "(J)J" } : Jvm.MethodName)) ∈ lw_all := lw_g (lw_at lw_m4 45 rfl) rfl
theorem q852 : (Jvm.Cond.instanceMethod ({ cls := "EaterWebs", name := "terms", desc := "(II)I" } : Jvm.MethodName)) ∈ lw_all := lw_g (lw_at lw_m4 49 rfl) rfl
theorem q853 : (Jvm.Cond.selects "EaterWebs" ({ cls := "EaterWebs", name := "terms", desc := "(II)I" } : Jvm.MethodName) ({ cls := "EaterWebs", name := "terms", desc := "(II)I" } : Jvm.MethodName)) ∈ lw_all := lw_g (lw_at lw_m4 50 rfl) rfl
theorem q854 : (Jvm.Cond.code ({ cls := "EaterWebs", name := "terms", desc := "(II)I" } : Jvm.MethodName) prog_1_method_74_code (6 : Nat) (Option.some Jvm.ClassFile.FieldType.int)) ∈ lw_all := lw_g (lw_at lw_m4 51 rfl) rfl
theorem q856 : (Jvm.Cond.instanceMethod ({ cls := "EaterWebs", name := "steady", desc := "()I" } : Jvm.MethodName)) ∈ lw_all := lw_g (lw_at lw_m4 53 rfl) rfl
theorem q857 : (Jvm.Cond.selects "EaterWebs" ({ cls := "EaterWebs", name := "steady", desc := "()I" } : Jvm.MethodName) ({ cls := "EaterWebs", name := "steady", desc := "()I" } : Jvm.MethodName)) ∈ lw_all := lw_g (lw_at lw_m4 54 rfl) rfl
theorem q858 : (Jvm.Cond.code ({ cls := "EaterWebs", name := "steady", desc := "()I" } : Jvm.MethodName) prog_1_method_76_code (10 : Nat) (Option.some Jvm.ClassFile.FieldType.int)) ∈ lw_all := lw_g (lw_at lw_m4 55 rfl) rfl
theorem q859 : (Jvm.Cond.methodLink "EaterWebs" (349 : Nat) ({ cls := "EaterWebs", name := "inner", desc := "(I)J" } : Jvm.MethodName)) ∈ lw_all := lw_g (lw_at lw_m4 56 rfl) rfl
theorem q860 : (Jvm.Cond.privateMethod ({ cls := "EaterWebs", name := "inner", desc := "(I)J" } : Jvm.MethodName)) ∈ lw_tbl := lw_at lw_m4 57 rfl
theorem q861 : (Jvm.Cond.instanceMethod ({ cls := "EaterWebs", name := "inner", desc := "(I)J" } : Jvm.MethodName)) ∈ lw_all := lw_g (lw_at lw_m4 58 rfl) rfl
theorem q862 : (Jvm.Cond.code ({ cls := "EaterWebs", name := "inner", desc := "(I)J" } : Jvm.MethodName) prog_1_method_75_code (5 : Nat) (Option.some Jvm.ClassFile.FieldType.long)) ∈ lw_all := lw_g (lw_at lw_m4 59 rfl) rfl
theorem q864 : (Jvm.Cond.instanceMethod ({ cls := "EaterWebs", name := "asked", desc := "()I" } : Jvm.MethodName)) ∈ lw_all := lw_g (lw_at lw_m4 61 rfl) rfl
theorem q865 : (Jvm.Cond.selects "EaterWebs" ({ cls := "EaterWebs", name := "asked", desc := "()I" } : Jvm.MethodName) ({ cls := "EaterWebs", name := "asked", desc := "()I" } : Jvm.MethodName)) ∈ lw_all := lw_g (lw_at lw_m4 62 rfl) rfl
theorem q866 : (Jvm.Cond.code ({ cls := "EaterWebs", name := "asked", desc := "()I" } : Jvm.MethodName) prog_1_method_77_code (1 : Nat) (Option.some Jvm.ClassFile.FieldType.int)) ∈ lw_all := lw_g (lw_at lw_m4 63 rfl) rfl
theorem q868 : (Jvm.Cond.instanceMethod ({ cls := "EaterWebs", name := "upper", desc := "()J" } : Jvm.MethodName)) ∈ lw_all := lw_g (lw_at lw_m4 65 rfl) rfl
theorem q869 : (Jvm.Cond.selects "EaterWebs" ({ cls := "EaterWebs", name := "upper", desc := "()J" } : Jvm.MethodName) ({ cls := "EaterWebs", name := "upper", desc := "()J" } : Jvm.MethodName)) ∈ lw_all := lw_g (lw_at lw_m4 66 rfl) rfl
theorem q870 : (Jvm.Cond.code ({ cls := "EaterWebs", name := "upper", desc := "()J" } : Jvm.MethodName) prog_1_method_78_code (1 : Nat) (Option.some Jvm.ClassFile.FieldType.long)) ∈ lw_all := lw_g (lw_at lw_m4 67 rfl) rfl
theorem q872 : (Jvm.Cond.instanceMethod ({ cls := "EaterWebs", name := "lower", desc := "()J" } : Jvm.MethodName)) ∈ lw_all := lw_g (lw_at lw_m4 69 rfl) rfl
theorem q873 : (Jvm.Cond.selects "EaterWebs" ({ cls := "EaterWebs", name := "lower", desc := "()J" } : Jvm.MethodName) ({ cls := "EaterWebs", name := "lower", desc := "()J" } : Jvm.MethodName)) ∈ lw_all := lw_g (lw_at lw_m4 70 rfl) rfl
theorem q874 : (Jvm.Cond.code ({ cls := "EaterWebs", name := "lower", desc := "()J" } : Jvm.MethodName) prog_1_method_79_code (1 : Nat) (Option.some Jvm.ClassFile.FieldType.long)) ∈ lw_all := lw_g (lw_at lw_m4 71 rfl) rfl
theorem q876 : (Jvm.Cond.instanceMethod ({ cls := "EaterWebs", name := "count", desc := "(I)I" } : Jvm.MethodName)) ∈ lw_all := lw_g (lw_at lw_m4 73 rfl) rfl
theorem q877 : (Jvm.Cond.selects "EaterWebs" ({ cls := "EaterWebs", name := "count", desc := "(I)I" } : Jvm.MethodName) ({ cls := "EaterWebs", name := "count", desc := "(I)I" } : Jvm.MethodName)) ∈ lw_all := lw_g (lw_at lw_m4 74 rfl) rfl
theorem q878 : (Jvm.Cond.code ({ cls := "EaterWebs", name := "count", desc := "(I)I" } : Jvm.MethodName) prog_1_method_83_code (2 : Nat) (Option.some Jvm.ClassFile.FieldType.int)) ∈ lw_all := lw_g (lw_at lw_m4 75 rfl) rfl
theorem q879 : (Jvm.Cond.methodLink "EaterWebs" (359 : Nat) ({ cls := "EaterWebs", name := "counts", desc := "(I)I" } : Jvm.MethodName)) ∈ lw_all := lw_g (lw_at lw_m4 76 rfl) rfl
theorem q880 : (Jvm.Cond.privateMethod ({ cls := "EaterWebs", name := "counts", desc := "(I)I" } : Jvm.MethodName)) ∈ lw_tbl := lw_at lw_m4 77 rfl
theorem q881 : (Jvm.Cond.instanceMethod ({ cls := "EaterWebs", name := "counts", desc := "(I)I" } : Jvm.MethodName)) ∈ lw_all := lw_g (lw_at lw_m4 78 rfl) rfl
theorem q882 : (Jvm.Cond.code ({ cls := "EaterWebs", name := "counts", desc := "(I)I" } : Jvm.MethodName) prog_1_method_82_code (2 : Nat) (Option.some Jvm.ClassFile.FieldType.int)) ∈ lw_all := lw_g (lw_at lw_m4 79 rfl) rfl
theorem q883 : (Jvm.Cond.methodLink "EaterWebs" (353 : Nat) ({ cls := "EaterWebs", name := "linkCount", desc := "()I" } : Jvm.MethodName)) ∈ lw_all := lw_g (lw_at lw_m4 80 rfl) rfl
theorem q884 : (Jvm.Cond.privateMethod ({ cls := "EaterWebs", name := "linkCount", desc := "()I" } : Jvm.MethodName)) ∈ lw_tbl := lw_at lw_m4 81 rfl
theorem q885 : (Jvm.Cond.instanceMethod ({ cls := "EaterWebs", name := "linkCount", desc := "()I" } : Jvm.MethodName)) ∈ lw_all := lw_g (lw_at lw_m4 82 rfl) rfl
theorem q886 : (Jvm.Cond.code ({ cls := "EaterWebs", name := "linkCount", desc := "()I" } : Jvm.MethodName) prog_1_method_80_code (6 : Nat) (Option.some Jvm.ClassFile.FieldType.int)) ∈ lw_all := lw_g (lw_at lw_m4 83 rfl) rfl
theorem q887 : (Jvm.Cond.methodLink "EaterWebs" (356 : Nat) ({ cls := "EaterWebs", name := "textCount", desc := "()I" } : Jvm.MethodName)) ∈ lw_all := lw_g (lw_at lw_m4 84 rfl) rfl
theorem q888 : (Jvm.Cond.privateMethod ({ cls := "EaterWebs", name := "textCount", desc := "()I" } : Jvm.MethodName)) ∈ lw_tbl := lw_at lw_m4 85 rfl
theorem q889 : (Jvm.Cond.instanceMethod ({ cls := "EaterWebs", name := "textCount", desc := "()I" } : Jvm.MethodName)) ∈ lw_all := lw_g (lw_at lw_m4 86 rfl) rfl
theorem q890 : (Jvm.Cond.code ({ cls := "EaterWebs", name := "textCount", desc := "()I" } : Jvm.MethodName) prog_1_method_81_code (6 : Nat) (Option.some Jvm.ClassFile.FieldType.int)) ∈ lw_all := lw_g (lw_at lw_m4 87 rfl) rfl
theorem q892 : (Jvm.Cond.instanceMethod ({ cls := "EaterWebs", name := "finding", desc := "()I" } : Jvm.MethodName)) ∈ lw_all := lw_g (lw_at lw_m4 89 rfl) rfl
theorem q893 : (Jvm.Cond.selects "EaterWebs" ({ cls := "EaterWebs", name := "finding", desc := "()I" } : Jvm.MethodName) ({ cls := "EaterWebs", name := "finding", desc := "()I" } : Jvm.MethodName)) ∈ lw_all := lw_g (lw_at lw_m4 90 rfl) rfl
theorem q894 : (Jvm.Cond.code ({ cls := "EaterWebs", name := "finding", desc := "()I" } : Jvm.MethodName) prog_1_method_84_code (1 : Nat) (Option.some Jvm.ClassFile.FieldType.int)) ∈ lw_all := lw_g (lw_at lw_m4 91 rfl) rfl
theorem q896 : (Jvm.Cond.instanceMethod ({ cls := "EaterWebs", name := "findings", desc := "(I)I" } : Jvm.MethodName)) ∈ lw_all := lw_g (lw_at lw_m4 93 rfl) rfl
theorem q897 : (Jvm.Cond.selects "EaterWebs" ({ cls := "EaterWebs", name := "findings", desc := "(I)I" } : Jvm.MethodName) ({ cls := "EaterWebs", name := "findings", desc := "(I)I" } : Jvm.MethodName)) ∈ lw_all := lw_g (lw_at lw_m4 94 rfl) rfl
theorem q898 : (Jvm.Cond.code ({ cls := "EaterWebs", name := "findings", desc := "(I)I" } : Jvm.MethodName) prog_1_method_85_code (2 : Nat) (Option.some Jvm.ClassFile.FieldType.int)) ∈ lw_all := lw_g (lw_at lw_m4 95 rfl) rfl
theorem q900 : (Jvm.Cond.instanceMethod ({ cls := "EaterWebs", name := "digest", desc := "()J" } : Jvm.MethodName)) ∈ lw_all := lw_g (lw_at lw_m4 97 rfl) rfl
theorem q901 : (Jvm.Cond.selects "EaterWebs" ({ cls := "EaterWebs", name := "digest", desc := "()J" } : Jvm.MethodName) ({ cls := "EaterWebs", name := "digest", desc := "()J" } : Jvm.MethodName)) ∈ lw_all := lw_g (lw_at lw_m4 98 rfl) rfl
theorem q902 : (Jvm.Cond.code ({ cls := "EaterWebs", name := "digest", desc := "()J" } : Jvm.MethodName) prog_1_method_88_code (7 : Nat) (Option.some Jvm.ClassFile.FieldType.long)) ∈ lw_all := lw_g (lw_at lw_m4 99 rfl) rfl
theorem q903 : (Jvm.Cond.constantLong "EaterWebs" (371 : Nat) (17 : Int64)) ∈ lw_all := lw_g (lw_at lw_m4 100 rfl) rfl
theorem q904 : (Jvm.Cond.methodLink "EaterWebs" (367 : Nat) ({ cls := "EaterWebs", name := "mix", desc := "(J)V" } : Jvm.MethodName)) ∈ lw_all := lw_g (lw_at lw_m4 101 rfl) rfl
theorem q905 : (Jvm.Cond.privateMethod ({ cls := "EaterWebs", name := "mix", desc := "(J)V" } : Jvm.MethodName)) ∈ lw_tbl := lw_at lw_m4 102 rfl
theorem q906 : (Jvm.Cond.instanceMethod ({ cls := "EaterWebs", name := "mix", desc := "(J)V" } : Jvm.MethodName)) ∈ lw_all := lw_g (lw_at lw_m4 103 rfl) rfl
theorem q907 : (Jvm.Cond.code ({ cls := "EaterWebs", name := "mix", desc := "(J)V" } : Jvm.MethodName) prog_1_method_86_code (3 : Nat) (Option.none : Option Jvm.ClassFile.FieldType)) ∈ lw_all := lw_g (lw_at lw_m4 104 rfl) rfl
theorem q908 : (Jvm.Cond.constantLong "EaterWebs" (362 : Nat) (31 : Int64)) ∈ lw_all := lw_g (lw_at lw_m4 105 rfl) rfl
theorem q909 : (Jvm.Cond.methodLink "EaterWebs" (373 : Nat) ({ cls := "EaterWebs", name := "mixBeing", desc := "(I)V" } : Jvm.MethodName)) ∈ lw_all := lw_g (lw_at lw_m4 106 rfl) rfl
theorem q910 : (Jvm.Cond.privateMethod ({ cls := "EaterWebs", name := "mixBeing", desc := "(I)V" } : Jvm.MethodName)) ∈ lw_tbl := lw_at lw_m4 107 rfl
theorem q911 : (Jvm.Cond.instanceMethod ({ cls := "EaterWebs", name := "mixBeing", desc := "(I)V" } : Jvm.MethodName)) ∈ lw_all := lw_g (lw_at lw_m4 108 rfl) rfl
theorem q912 : (Jvm.Cond.code ({ cls := "EaterWebs", name := "mixBeing", desc := "(I)V" } : Jvm.MethodName) prog_1_method_87_code (4 : Nat) (Option.none : Option Jvm.ClassFile.FieldType)) ∈ lw_all := lw_g (lw_at lw_m4 109 rfl) rfl
theorem in_X0 : ∀ w ∈ wsX00, w ∈ lw_all := lw_in wsX00 [144, 146, 148, 150, 152, 154, 156, 158, 160, 162, 164, 166, 168, 170, 172, 174, 176, 178, 180, 182, 184, 186, 188, 190, 192, 194, 196, 198, 200] (by decide +kernel) (by decide +kernel)
/-! EaterWebs$Reader -/
set_option maxRecDepth 100000
def RX2 : String := "EaterWebs$Reader"
def TX2 : u_T := fun k => match k with
  | 0 => ("EaterWebs$Reader", "text", "[B", true)
  | 1 => ("EaterWebs$Reader", "at", "I", false)
  | _ => ("EaterWebs$Reader", "number", "I", false)
def tyX2 : Nat → FieldType := fun k => match k with
  | 0 => .array .byte
  | 1 => .int
  | _ => .int
abbrev wsX20 : List Cond := u_ws RX2 TX2 3
theorem nmX2 : ∀ a, a < 3 → ∀ b, b < 3 → a ≠ b → (TX2 a).2.1 ≠ (TX2 b).2.1 := by decide +kernel
theorem tyX2_ok : ∀ k, k < 3 → parseFieldDescriptor (TX2 k).2.2.1 = some (tyX2 k) := by decide +kernel
abbrev cX2_init : ByteArray := prog_6_method_1_code
def yX2_init : MethodName := ⟨RX2, "<init>", "([B)V"⟩
def dkwX2_init_0 : List UInt8 := [42, 183, 0, 1, 42, 43, 181, 0, 7, 177]
abbrev dktX2_init_0 : List UInt8 := dkwX2_init_0 ++ []
theorem dksX2_init_0 : cX2_init.data.toList.drop 0 = dktX2_init_0 := by decide +kernel
theorem dX2_init_0 : decode cX2_init 0 = .ok (.aload_n 0, 1) := dk_42 (dk_at dksX2_init_0 0 rfl rfl)
theorem dX2_init_1 : decode cX2_init 1 = .ok (.invokespecial 1, 3) := dk_183 0 1 (dk_at dksX2_init_0 1 rfl rfl)
theorem dX2_init_4 : decode cX2_init 4 = .ok (.aload_n 0, 1) := dk_42 (dk_at dksX2_init_0 4 rfl rfl)
theorem dX2_init_5 : decode cX2_init 5 = .ok (.aload_n 1, 1) := dk_43 (dk_at dksX2_init_0 5 rfl rfl)
theorem dX2_init_6 : decode cX2_init 6 = .ok (.putfield 7, 3) := dk_181 0 7 (dk_at dksX2_init_0 6 rfl rfl)
theorem dX2_init_9 : decode cX2_init 9 = .ok (.return_, 1) := dk_177 (dk_at dksX2_init_0 9 rfl rfl)
abbrev cX2_skip : ByteArray := prog_6_method_4_code
def yX2_skip : MethodName := ⟨RX2, "skip", "()V"⟩
def dkwX2_skip_0 : List UInt8 := [42, 182, 0, 21, 16, 32, 160, 0, 16, 42, 89, 180, 0, 13, 4, 96, 181, 0, 13, 167, 255, 237, 177]
abbrev dktX2_skip_0 : List UInt8 := dkwX2_skip_0 ++ []
theorem dksX2_skip_0 : cX2_skip.data.toList.drop 0 = dktX2_skip_0 := by decide +kernel
theorem dX2_skip_0 : decode cX2_skip 0 = .ok (.aload_n 0, 1) := dk_42 (dk_at dksX2_skip_0 0 rfl rfl)
theorem dX2_skip_1 : decode cX2_skip 1 = .ok (.invokevirtual 21, 3) := dk_182 0 21 (dk_at dksX2_skip_0 1 rfl rfl)
theorem dX2_skip_4 : decode cX2_skip 4 = .ok (.bipush 32, 2) := dk_16 32 (dk_at dksX2_skip_0 4 rfl rfl)
theorem dX2_skip_6 : decode cX2_skip 6 = .ok (.if_icmp .ne 16, 3) := dk_160 0 16 (dk_at dksX2_skip_0 6 rfl rfl)
theorem dX2_skip_9 : decode cX2_skip 9 = .ok (.aload_n 0, 1) := dk_42 (dk_at dksX2_skip_0 9 rfl rfl)
theorem dX2_skip_10 : decode cX2_skip 10 = .ok (.dup, 1) := dk_89 (dk_at dksX2_skip_0 10 rfl rfl)
theorem dX2_skip_11 : decode cX2_skip 11 = .ok (.getfield 13, 3) := dk_180 0 13 (dk_at dksX2_skip_0 11 rfl rfl)
theorem dX2_skip_14 : decode cX2_skip 14 = .ok (.iconst 1, 1) := dk_4 (dk_at dksX2_skip_0 14 rfl rfl)
theorem dX2_skip_15 : decode cX2_skip 15 = .ok (.iadd, 1) := dk_96 (dk_at dksX2_skip_0 15 rfl rfl)
theorem dX2_skip_16 : decode cX2_skip 16 = .ok (.putfield 13, 3) := dk_181 0 13 (dk_at dksX2_skip_0 16 rfl rfl)
theorem dX2_skip_19 : decode cX2_skip 19 = .ok (.goto (-19), 3) := dk_167 255 237 (dk_at dksX2_skip_0 19 rfl rfl)
theorem dX2_skip_22 : decode cX2_skip 22 = .ok (.return_, 1) := dk_177 (dk_at dksX2_skip_0 22 rfl rfl)
abbrev cX2_here : ByteArray := prog_6_method_3_code
def yX2_here : MethodName := ⟨RX2, "here", "()I"⟩
def dkwX2_here_0 : List UInt8 := [42, 182, 0, 17, 153, 0, 7, 2, 167, 0, 12, 42, 180, 0, 7, 42, 180, 0, 13, 51, 172]
abbrev dktX2_here_0 : List UInt8 := dkwX2_here_0 ++ []
theorem dksX2_here_0 : cX2_here.data.toList.drop 0 = dktX2_here_0 := by decide +kernel
theorem dX2_here_0 : decode cX2_here 0 = .ok (.aload_n 0, 1) := dk_42 (dk_at dksX2_here_0 0 rfl rfl)
theorem dX2_here_1 : decode cX2_here 1 = .ok (.invokevirtual 17, 3) := dk_182 0 17 (dk_at dksX2_here_0 1 rfl rfl)
theorem dX2_here_4 : decode cX2_here 4 = .ok (.ifCond .eq 7, 3) := dk_153 0 7 (dk_at dksX2_here_0 4 rfl rfl)
theorem dX2_here_7 : decode cX2_here 7 = .ok (.iconst (-1), 1) := dk_2 (dk_at dksX2_here_0 7 rfl rfl)
theorem dX2_here_8 : decode cX2_here 8 = .ok (.goto 12, 3) := dk_167 0 12 (dk_at dksX2_here_0 8 rfl rfl)
theorem dX2_here_11 : decode cX2_here 11 = .ok (.aload_n 0, 1) := dk_42 (dk_at dksX2_here_0 11 rfl rfl)
theorem dX2_here_12 : decode cX2_here 12 = .ok (.getfield 7, 3) := dk_180 0 7 (dk_at dksX2_here_0 12 rfl rfl)
theorem dX2_here_15 : decode cX2_here 15 = .ok (.aload_n 0, 1) := dk_42 (dk_at dksX2_here_0 15 rfl rfl)
theorem dX2_here_16 : decode cX2_here 16 = .ok (.getfield 13, 3) := dk_180 0 13 (dk_at dksX2_here_0 16 rfl rfl)
theorem dX2_here_19 : decode cX2_here 19 = .ok (.baload, 1) := dk_51 (dk_at dksX2_here_0 19 rfl rfl)
theorem dX2_here_20 : decode cX2_here 20 = .ok (.ireturn, 1) := dk_172 (dk_at dksX2_here_0 20 rfl rfl)
abbrev cX2_isEnd : ByteArray := prog_6_method_2_code
def yX2_isEnd : MethodName := ⟨RX2, "isEnd", "()Z"⟩
def dkwX2_isEnd_0 : List UInt8 := [42, 180, 0, 13, 42, 180, 0, 7, 190, 160, 0, 7, 4, 167, 0, 4, 3, 172]
abbrev dktX2_isEnd_0 : List UInt8 := dkwX2_isEnd_0 ++ []
theorem dksX2_isEnd_0 : cX2_isEnd.data.toList.drop 0 = dktX2_isEnd_0 := by decide +kernel
theorem dX2_isEnd_0 : decode cX2_isEnd 0 = .ok (.aload_n 0, 1) := dk_42 (dk_at dksX2_isEnd_0 0 rfl rfl)
theorem dX2_isEnd_1 : decode cX2_isEnd 1 = .ok (.getfield 13, 3) := dk_180 0 13 (dk_at dksX2_isEnd_0 1 rfl rfl)
theorem dX2_isEnd_4 : decode cX2_isEnd 4 = .ok (.aload_n 0, 1) := dk_42 (dk_at dksX2_isEnd_0 4 rfl rfl)
theorem dX2_isEnd_5 : decode cX2_isEnd 5 = .ok (.getfield 7, 3) := dk_180 0 7 (dk_at dksX2_isEnd_0 5 rfl rfl)
theorem dX2_isEnd_8 : decode cX2_isEnd 8 = .ok (.arraylength, 1) := dk_190 (dk_at dksX2_isEnd_0 8 rfl rfl)
theorem dX2_isEnd_9 : decode cX2_isEnd 9 = .ok (.if_icmp .ne 7, 3) := dk_160 0 7 (dk_at dksX2_isEnd_0 9 rfl rfl)
theorem dX2_isEnd_12 : decode cX2_isEnd 12 = .ok (.iconst 1, 1) := dk_4 (dk_at dksX2_isEnd_0 12 rfl rfl)
theorem dX2_isEnd_13 : decode cX2_isEnd 13 = .ok (.goto 4, 3) := dk_167 0 4 (dk_at dksX2_isEnd_0 13 rfl rfl)
theorem dX2_isEnd_16 : decode cX2_isEnd 16 = .ok (.iconst 0, 1) := dk_3 (dk_at dksX2_isEnd_0 16 rfl rfl)
theorem dX2_isEnd_17 : decode cX2_isEnd 17 = .ok (.ireturn, 1) := dk_172 (dk_at dksX2_isEnd_0 17 rfl rfl)
abbrev cX2_isBeing : ByteArray := prog_6_method_5_code
def yX2_isBeing : MethodName := ⟨RX2, "isBeing", "()Z"⟩
def dkwX2_isBeing_0 : List UInt8 := [42, 182, 0, 21, 16, 97, 161, 0, 16, 42, 182, 0, 21, 16, 104, 163, 0, 7, 4, 167, 0, 4, 3, 172]
abbrev dktX2_isBeing_0 : List UInt8 := dkwX2_isBeing_0 ++ []
theorem dksX2_isBeing_0 : cX2_isBeing.data.toList.drop 0 = dktX2_isBeing_0 := by decide +kernel
theorem dX2_isBeing_0 : decode cX2_isBeing 0 = .ok (.aload_n 0, 1) := dk_42 (dk_at dksX2_isBeing_0 0 rfl rfl)
theorem dX2_isBeing_1 : decode cX2_isBeing 1 = .ok (.invokevirtual 21, 3) := dk_182 0 21 (dk_at dksX2_isBeing_0 1 rfl rfl)
theorem dX2_isBeing_4 : decode cX2_isBeing 4 = .ok (.bipush 97, 2) := dk_16 97 (dk_at dksX2_isBeing_0 4 rfl rfl)
theorem dX2_isBeing_6 : decode cX2_isBeing 6 = .ok (.if_icmp .lt 16, 3) := dk_161 0 16 (dk_at dksX2_isBeing_0 6 rfl rfl)
theorem dX2_isBeing_9 : decode cX2_isBeing 9 = .ok (.aload_n 0, 1) := dk_42 (dk_at dksX2_isBeing_0 9 rfl rfl)
theorem dX2_isBeing_10 : decode cX2_isBeing 10 = .ok (.invokevirtual 21, 3) := dk_182 0 21 (dk_at dksX2_isBeing_0 10 rfl rfl)
theorem dX2_isBeing_13 : decode cX2_isBeing 13 = .ok (.bipush 104, 2) := dk_16 104 (dk_at dksX2_isBeing_0 13 rfl rfl)
theorem dX2_isBeing_15 : decode cX2_isBeing 15 = .ok (.if_icmp .gt 7, 3) := dk_163 0 7 (dk_at dksX2_isBeing_0 15 rfl rfl)
theorem dX2_isBeing_18 : decode cX2_isBeing 18 = .ok (.iconst 1, 1) := dk_4 (dk_at dksX2_isBeing_0 18 rfl rfl)
theorem dX2_isBeing_19 : decode cX2_isBeing 19 = .ok (.goto 4, 3) := dk_167 0 4 (dk_at dksX2_isBeing_0 19 rfl rfl)
theorem dX2_isBeing_22 : decode cX2_isBeing 22 = .ok (.iconst 0, 1) := dk_3 (dk_at dksX2_isBeing_0 22 rfl rfl)
theorem dX2_isBeing_23 : decode cX2_isBeing 23 = .ok (.ireturn, 1) := dk_172 (dk_at dksX2_isBeing_0 23 rfl rfl)
abbrev cX2_reads : ByteArray := prog_6_method_7_code
def yX2_reads : MethodName := ⟨RX2, "reads", "(II)Z"⟩
def dkwX2_reads_3 : List UInt8 := [180, 0, 25, 28, 164, 0, 10, 42, 29, 181, 0, 13, 3, 172, 4, 172]
abbrev dktX2_reads_3 : List UInt8 := dkwX2_reads_3 ++ []
def dkwX2_reads_2 : List UInt8 := [180, 0, 13, 4, 96, 181, 0, 13, 167, 255, 210, 42, 180, 0, 13, 29, 160, 0, 5, 3, 172, 42]
abbrev dktX2_reads_2 : List UInt8 := dkwX2_reads_2 ++ dktX2_reads_3
def dkwX2_reads_1 : List UInt8 := [162, 0, 35, 42, 16, 10, 42, 180, 0, 25, 104, 42, 182, 0, 21, 96, 16, 48, 100, 181, 0, 25, 42, 89]
abbrev dktX2_reads_1 : List UInt8 := dkwX2_reads_1 ++ dktX2_reads_2
def dkwX2_reads_0 : List UInt8 := [42, 180, 0, 13, 62, 42, 3, 181, 0, 25, 42, 182, 0, 28, 153, 0, 45, 42, 180, 0, 13, 29, 27, 96]
abbrev dktX2_reads_0 : List UInt8 := dkwX2_reads_0 ++ dktX2_reads_1
theorem dksX2_reads_0 : cX2_reads.data.toList.drop 0 = dktX2_reads_0 := by decide +kernel
theorem dksX2_reads_1 : cX2_reads.data.toList.drop 24 = dktX2_reads_1 := dk_seg dksX2_reads_0 24 rfl rfl
theorem dksX2_reads_2 : cX2_reads.data.toList.drop 48 = dktX2_reads_2 := dk_seg dksX2_reads_1 24 rfl rfl
theorem dksX2_reads_3 : cX2_reads.data.toList.drop 70 = dktX2_reads_3 := dk_seg dksX2_reads_2 22 rfl rfl
theorem dX2_reads_0 : decode cX2_reads 0 = .ok (.aload_n 0, 1) := dk_42 (dk_at dksX2_reads_0 0 rfl rfl)
theorem dX2_reads_1 : decode cX2_reads 1 = .ok (.getfield 13, 3) := dk_180 0 13 (dk_at dksX2_reads_0 1 rfl rfl)
theorem dX2_reads_4 : decode cX2_reads 4 = .ok (.istore_n 3, 1) := dk_62 (dk_at dksX2_reads_0 4 rfl rfl)
theorem dX2_reads_5 : decode cX2_reads 5 = .ok (.aload_n 0, 1) := dk_42 (dk_at dksX2_reads_0 5 rfl rfl)
theorem dX2_reads_6 : decode cX2_reads 6 = .ok (.iconst 0, 1) := dk_3 (dk_at dksX2_reads_0 6 rfl rfl)
theorem dX2_reads_7 : decode cX2_reads 7 = .ok (.putfield 25, 3) := dk_181 0 25 (dk_at dksX2_reads_0 7 rfl rfl)
theorem dX2_reads_10 : decode cX2_reads 10 = .ok (.aload_n 0, 1) := dk_42 (dk_at dksX2_reads_0 10 rfl rfl)
theorem dX2_reads_11 : decode cX2_reads 11 = .ok (.invokevirtual 28, 3) := dk_182 0 28 (dk_at dksX2_reads_0 11 rfl rfl)
theorem dX2_reads_14 : decode cX2_reads 14 = .ok (.ifCond .eq 45, 3) := dk_153 0 45 (dk_at dksX2_reads_0 14 rfl rfl)
theorem dX2_reads_17 : decode cX2_reads 17 = .ok (.aload_n 0, 1) := dk_42 (dk_at dksX2_reads_0 17 rfl rfl)
theorem dX2_reads_18 : decode cX2_reads 18 = .ok (.getfield 13, 3) := dk_180 0 13 (dk_at dksX2_reads_0 18 rfl rfl)
theorem dX2_reads_21 : decode cX2_reads 21 = .ok (.iload_n 3, 1) := dk_29 (dk_at dksX2_reads_0 21 rfl rfl)
theorem dX2_reads_22 : decode cX2_reads 22 = .ok (.iload_n 1, 1) := dk_27 (dk_at dksX2_reads_0 22 rfl rfl)
theorem dX2_reads_23 : decode cX2_reads 23 = .ok (.iadd, 1) := dk_96 (dk_at dksX2_reads_0 23 rfl rfl)
theorem dX2_reads_24 : decode cX2_reads 24 = .ok (.if_icmp .ge 35, 3) := dk_162 0 35 (dk_at dksX2_reads_1 0 rfl rfl)
theorem dX2_reads_27 : decode cX2_reads 27 = .ok (.aload_n 0, 1) := dk_42 (dk_at dksX2_reads_1 3 rfl rfl)
theorem dX2_reads_28 : decode cX2_reads 28 = .ok (.bipush 10, 2) := dk_16 10 (dk_at dksX2_reads_1 4 rfl rfl)
theorem dX2_reads_30 : decode cX2_reads 30 = .ok (.aload_n 0, 1) := dk_42 (dk_at dksX2_reads_1 6 rfl rfl)
theorem dX2_reads_31 : decode cX2_reads 31 = .ok (.getfield 25, 3) := dk_180 0 25 (dk_at dksX2_reads_1 7 rfl rfl)
theorem dX2_reads_34 : decode cX2_reads 34 = .ok (.imul, 1) := dk_104 (dk_at dksX2_reads_1 10 rfl rfl)
theorem dX2_reads_35 : decode cX2_reads 35 = .ok (.aload_n 0, 1) := dk_42 (dk_at dksX2_reads_1 11 rfl rfl)
theorem dX2_reads_36 : decode cX2_reads 36 = .ok (.invokevirtual 21, 3) := dk_182 0 21 (dk_at dksX2_reads_1 12 rfl rfl)
theorem dX2_reads_39 : decode cX2_reads 39 = .ok (.iadd, 1) := dk_96 (dk_at dksX2_reads_1 15 rfl rfl)
theorem dX2_reads_40 : decode cX2_reads 40 = .ok (.bipush 48, 2) := dk_16 48 (dk_at dksX2_reads_1 16 rfl rfl)
theorem dX2_reads_42 : decode cX2_reads 42 = .ok (.isub, 1) := dk_100 (dk_at dksX2_reads_1 18 rfl rfl)
theorem dX2_reads_43 : decode cX2_reads 43 = .ok (.putfield 25, 3) := dk_181 0 25 (dk_at dksX2_reads_1 19 rfl rfl)
theorem dX2_reads_46 : decode cX2_reads 46 = .ok (.aload_n 0, 1) := dk_42 (dk_at dksX2_reads_1 22 rfl rfl)
theorem dX2_reads_47 : decode cX2_reads 47 = .ok (.dup, 1) := dk_89 (dk_at dksX2_reads_1 23 rfl rfl)
theorem dX2_reads_48 : decode cX2_reads 48 = .ok (.getfield 13, 3) := dk_180 0 13 (dk_at dksX2_reads_2 0 rfl rfl)
theorem dX2_reads_51 : decode cX2_reads 51 = .ok (.iconst 1, 1) := dk_4 (dk_at dksX2_reads_2 3 rfl rfl)
theorem dX2_reads_52 : decode cX2_reads 52 = .ok (.iadd, 1) := dk_96 (dk_at dksX2_reads_2 4 rfl rfl)
theorem dX2_reads_53 : decode cX2_reads 53 = .ok (.putfield 13, 3) := dk_181 0 13 (dk_at dksX2_reads_2 5 rfl rfl)
theorem dX2_reads_56 : decode cX2_reads 56 = .ok (.goto (-46), 3) := dk_167 255 210 (dk_at dksX2_reads_2 8 rfl rfl)
theorem dX2_reads_59 : decode cX2_reads 59 = .ok (.aload_n 0, 1) := dk_42 (dk_at dksX2_reads_2 11 rfl rfl)
theorem dX2_reads_60 : decode cX2_reads 60 = .ok (.getfield 13, 3) := dk_180 0 13 (dk_at dksX2_reads_2 12 rfl rfl)
theorem dX2_reads_63 : decode cX2_reads 63 = .ok (.iload_n 3, 1) := dk_29 (dk_at dksX2_reads_2 15 rfl rfl)
theorem dX2_reads_64 : decode cX2_reads 64 = .ok (.if_icmp .ne 5, 3) := dk_160 0 5 (dk_at dksX2_reads_2 16 rfl rfl)
theorem dX2_reads_67 : decode cX2_reads 67 = .ok (.iconst 0, 1) := dk_3 (dk_at dksX2_reads_2 19 rfl rfl)
theorem dX2_reads_68 : decode cX2_reads 68 = .ok (.ireturn, 1) := dk_172 (dk_at dksX2_reads_2 20 rfl rfl)
theorem dX2_reads_69 : decode cX2_reads 69 = .ok (.aload_n 0, 1) := dk_42 (dk_at dksX2_reads_2 21 rfl rfl)
theorem dX2_reads_70 : decode cX2_reads 70 = .ok (.getfield 25, 3) := dk_180 0 25 (dk_at dksX2_reads_3 0 rfl rfl)
theorem dX2_reads_73 : decode cX2_reads 73 = .ok (.iload_n 2, 1) := dk_28 (dk_at dksX2_reads_3 3 rfl rfl)
theorem dX2_reads_74 : decode cX2_reads 74 = .ok (.if_icmp .le 10, 3) := dk_164 0 10 (dk_at dksX2_reads_3 4 rfl rfl)
theorem dX2_reads_77 : decode cX2_reads 77 = .ok (.aload_n 0, 1) := dk_42 (dk_at dksX2_reads_3 7 rfl rfl)
theorem dX2_reads_78 : decode cX2_reads 78 = .ok (.iload_n 3, 1) := dk_29 (dk_at dksX2_reads_3 8 rfl rfl)
theorem dX2_reads_79 : decode cX2_reads 79 = .ok (.putfield 13, 3) := dk_181 0 13 (dk_at dksX2_reads_3 9 rfl rfl)
theorem dX2_reads_82 : decode cX2_reads 82 = .ok (.iconst 0, 1) := dk_3 (dk_at dksX2_reads_3 12 rfl rfl)
theorem dX2_reads_83 : decode cX2_reads 83 = .ok (.ireturn, 1) := dk_172 (dk_at dksX2_reads_3 13 rfl rfl)
theorem dX2_reads_84 : decode cX2_reads 84 = .ok (.iconst 1, 1) := dk_4 (dk_at dksX2_reads_3 14 rfl rfl)
theorem dX2_reads_85 : decode cX2_reads 85 = .ok (.ireturn, 1) := dk_172 (dk_at dksX2_reads_3 15 rfl rfl)
abbrev cX2_isDigit : ByteArray := prog_6_method_6_code
def yX2_isDigit : MethodName := ⟨RX2, "isDigit", "()Z"⟩
def dkwX2_isDigit_0 : List UInt8 := [42, 182, 0, 21, 16, 48, 161, 0, 16, 42, 182, 0, 21, 16, 57, 163, 0, 7, 4, 167, 0, 4, 3, 172]
abbrev dktX2_isDigit_0 : List UInt8 := dkwX2_isDigit_0 ++ []
theorem dksX2_isDigit_0 : cX2_isDigit.data.toList.drop 0 = dktX2_isDigit_0 := by decide +kernel
theorem dX2_isDigit_0 : decode cX2_isDigit 0 = .ok (.aload_n 0, 1) := dk_42 (dk_at dksX2_isDigit_0 0 rfl rfl)
theorem dX2_isDigit_1 : decode cX2_isDigit 1 = .ok (.invokevirtual 21, 3) := dk_182 0 21 (dk_at dksX2_isDigit_0 1 rfl rfl)
theorem dX2_isDigit_4 : decode cX2_isDigit 4 = .ok (.bipush 48, 2) := dk_16 48 (dk_at dksX2_isDigit_0 4 rfl rfl)
theorem dX2_isDigit_6 : decode cX2_isDigit 6 = .ok (.if_icmp .lt 16, 3) := dk_161 0 16 (dk_at dksX2_isDigit_0 6 rfl rfl)
theorem dX2_isDigit_9 : decode cX2_isDigit 9 = .ok (.aload_n 0, 1) := dk_42 (dk_at dksX2_isDigit_0 9 rfl rfl)
theorem dX2_isDigit_10 : decode cX2_isDigit 10 = .ok (.invokevirtual 21, 3) := dk_182 0 21 (dk_at dksX2_isDigit_0 10 rfl rfl)
theorem dX2_isDigit_13 : decode cX2_isDigit 13 = .ok (.bipush 57, 2) := dk_16 57 (dk_at dksX2_isDigit_0 13 rfl rfl)
theorem dX2_isDigit_15 : decode cX2_isDigit 15 = .ok (.if_icmp .gt 7, 3) := dk_163 0 7 (dk_at dksX2_isDigit_0 15 rfl rfl)
theorem dX2_isDigit_18 : decode cX2_isDigit 18 = .ok (.iconst 1, 1) := dk_4 (dk_at dksX2_isDigit_0 18 rfl rfl)
theorem dX2_isDigit_19 : decode cX2_isDigit 19 = .ok (.goto 4, 3) := dk_167 0 4 (dk_at dksX2_isDigit_0 19 rfl rfl)
theorem dX2_isDigit_22 : decode cX2_isDigit 22 = .ok (.iconst 0, 1) := dk_3 (dk_at dksX2_isDigit_0 22 rfl rfl)
theorem dX2_isDigit_23 : decode cX2_isDigit 23 = .ok (.ireturn, 1) := dk_172 (dk_at dksX2_isDigit_0 23 rfl rfl)
theorem q95 : (Jvm.Cond.initialized "EaterWebs$Reader") ∈ lw_all := lw_g (lw_at lw_m1 12 rfl) rfl
theorem q374 : (Jvm.Cond.instantiable "EaterWebs$Reader" (3 : Nat)) ∈ lw_all := lw_g (lw_at lw_m2 51 rfl) rfl
theorem q376 : (Jvm.Cond.instanceMethod ({ cls := "EaterWebs$Reader", name := "<init>", desc := "([B)V" } : Jvm.MethodName)) ∈ lw_all := lw_g (lw_at lw_m2 53 rfl) rfl
theorem q377 : (Jvm.Cond.code ({ cls := "EaterWebs$Reader", name := "<init>", desc := "([B)V" } : Jvm.MethodName) prog_6_method_1_code (2 : Nat) (Option.none : Option Jvm.ClassFile.FieldType)) ∈ lw_all := lw_g (lw_at lw_m2 54 rfl) rfl
theorem q378 : (Jvm.Cond.methodLink "EaterWebs$Reader" (1 : Nat) ({ cls := "java/lang/Object", name := "<init>", desc := "()V" } : Jvm.MethodName)) ∈ lw_all := lw_g (lw_at lw_m2 55 rfl) rfl
theorem q379 : (Jvm.Cond.fieldLink "EaterWebs$Reader" (7 : Nat) "EaterWebs$Reader" "text" "[B") ∈ lw_all := lw_g (lw_at lw_m2 56 rfl) rfl
theorem q380 : (Jvm.Cond.fieldLink "EaterWebs$Reader" (13 : Nat) "EaterWebs$Reader" "at" "I") ∈ lw_all := lw_g (lw_at lw_m2 57 rfl) rfl
theorem q382 : (Jvm.Cond.fieldLink "EaterWebs$Reader" (25 : Nat) "EaterWebs$Reader" "number" "I") ∈ lw_all := lw_g (lw_at lw_m2 59 rfl) rfl
theorem q384 : (Jvm.Cond.laysFinal "EaterWebs$Reader" "EaterWebs$Reader" "text" "[B") ∈ lw_all := lw_g (lw_at lw_m2 61 rfl) rfl
theorem q385 : (Jvm.Cond.soleField "EaterWebs$Reader" "text") ∈ lw_all := lw_g (lw_at lw_m2 62 rfl) rfl
theorem q386 : (Jvm.Cond.lays "EaterWebs$Reader" "EaterWebs$Reader" "at" "I") ∈ lw_all := lw_g (lw_at lw_m2 63 rfl) rfl
theorem q387 : (Jvm.Cond.soleField "EaterWebs$Reader" "at") ∈ lw_all := lw_g (lw_at lw_m2 64 rfl) rfl
theorem q388 : (Jvm.Cond.lays "EaterWebs$Reader" "EaterWebs$Reader" "number" "I") ∈ lw_all := lw_g (lw_at lw_m2 65 rfl) rfl
theorem q389 : (Jvm.Cond.soleField "EaterWebs$Reader" "number") ∈ lw_all := lw_g (lw_at lw_m2 66 rfl) rfl
theorem q390 : (Jvm.Cond.superclass "EaterWebs$Reader" "java/lang/Object") ∈ lw_all := lw_g (lw_at lw_m2 67 rfl) rfl
theorem q392 : (Jvm.Cond.instanceMethod ({ cls := "EaterWebs$Reader", name := "skip", desc := "()V" } : Jvm.MethodName)) ∈ lw_all := lw_g (lw_at lw_m2 69 rfl) rfl
theorem q393 : (Jvm.Cond.selects "EaterWebs$Reader" ({ cls := "EaterWebs$Reader", name := "skip", desc := "()V" } : Jvm.MethodName) ({ cls := "EaterWebs$Reader", name := "skip", desc := "()V" } : Jvm.MethodName)) ∈ lw_all := lw_g (lw_at lw_m2 70 rfl) rfl
theorem q394 : (Jvm.Cond.code ({ cls := "EaterWebs$Reader", name := "skip", desc := "()V" } : Jvm.MethodName) prog_6_method_4_code (1 : Nat) (Option.none : Option Jvm.ClassFile.FieldType)) ∈ lw_all := lw_g (lw_at lw_m2 71 rfl) rfl
theorem q395 : (Jvm.Cond.methodLink "EaterWebs$Reader" (21 : Nat) ({ cls := "EaterWebs$Reader", name := "here", desc := "()I" } : Jvm.MethodName)) ∈ lw_all := lw_g (lw_at lw_m2 72 rfl) rfl
theorem q396 : (Jvm.Cond.instanceMethod ({ cls := "EaterWebs$Reader", name := "here", desc := "()I" } : Jvm.MethodName)) ∈ lw_all := lw_g (lw_at lw_m2 73 rfl) rfl
theorem q397 : (Jvm.Cond.selects "EaterWebs$Reader" ({ cls := "EaterWebs$Reader", name := "here", desc := "()I" } : Jvm.MethodName) ({ cls := "EaterWebs$Reader", name := "here", desc := "()I" } : Jvm.MethodName)) ∈ lw_all := lw_g (lw_at lw_m2 74 rfl) rfl
theorem q398 : (Jvm.Cond.code ({ cls := "EaterWebs$Reader", name := "here", desc := "()I" } : Jvm.MethodName) prog_6_method_3_code (1 : Nat) (Option.some Jvm.ClassFile.FieldType.int)) ∈ lw_all := lw_g (lw_at lw_m2 75 rfl) rfl
theorem q399 : (Jvm.Cond.methodLink "EaterWebs$Reader" (17 : Nat) ({ cls := "EaterWebs$Reader", name := "isEnd", desc := "()Z" } : Jvm.MethodName)) ∈ lw_all := lw_g (lw_at lw_m2 76 rfl) rfl
theorem q400 : (Jvm.Cond.instanceMethod ({ cls := "EaterWebs$Reader", name := "isEnd", desc := "()Z" } : Jvm.MethodName)) ∈ lw_all := lw_g (lw_at lw_m2 77 rfl) rfl
theorem q401 : (Jvm.Cond.selects "EaterWebs$Reader" ({ cls := "EaterWebs$Reader", name := "isEnd", desc := "()Z" } : Jvm.MethodName) ({ cls := "EaterWebs$Reader", name := "isEnd", desc := "()Z" } : Jvm.MethodName)) ∈ lw_all := lw_g (lw_at lw_m2 78 rfl) rfl
theorem q402 : (Jvm.Cond.code ({ cls := "EaterWebs$Reader", name := "isEnd", desc := "()Z" } : Jvm.MethodName) prog_6_method_2_code (1 : Nat) (Option.some Jvm.ClassFile.FieldType.boolean)) ∈ lw_all := lw_g (lw_at lw_m2 79 rfl) rfl
theorem q409 : (Jvm.Cond.instanceMethod ({ cls := "EaterWebs$Reader", name := "isBeing", desc := "()Z" } : Jvm.MethodName)) ∈ lw_all := lw_g (lw_at lw_m2 86 rfl) rfl
theorem q410 : (Jvm.Cond.selects "EaterWebs$Reader" ({ cls := "EaterWebs$Reader", name := "isBeing", desc := "()Z" } : Jvm.MethodName) ({ cls := "EaterWebs$Reader", name := "isBeing", desc := "()Z" } : Jvm.MethodName)) ∈ lw_all := lw_g (lw_at lw_m2 87 rfl) rfl
theorem q411 : (Jvm.Cond.code ({ cls := "EaterWebs$Reader", name := "isBeing", desc := "()Z" } : Jvm.MethodName) prog_6_method_5_code (1 : Nat) (Option.some Jvm.ClassFile.FieldType.boolean)) ∈ lw_all := lw_g (lw_at lw_m2 88 rfl) rfl
theorem q414 : (Jvm.Cond.instanceMethod ({ cls := "EaterWebs$Reader", name := "reads", desc := "(II)Z" } : Jvm.MethodName)) ∈ lw_all := lw_g (lw_at lw_m2 91 rfl) rfl
theorem q415 : (Jvm.Cond.selects "EaterWebs$Reader" ({ cls := "EaterWebs$Reader", name := "reads", desc := "(II)Z" } : Jvm.MethodName) ({ cls := "EaterWebs$Reader", name := "reads", desc := "(II)Z" } : Jvm.MethodName)) ∈ lw_all := lw_g (lw_at lw_m2 92 rfl) rfl
theorem q416 : (Jvm.Cond.code ({ cls := "EaterWebs$Reader", name := "reads", desc := "(II)Z" } : Jvm.MethodName) prog_6_method_7_code (4 : Nat) (Option.some Jvm.ClassFile.FieldType.boolean)) ∈ lw_all := lw_g (lw_at lw_m2 93 rfl) rfl
theorem q417 : (Jvm.Cond.methodLink "EaterWebs$Reader" (28 : Nat) ({ cls := "EaterWebs$Reader", name := "isDigit", desc := "()Z" } : Jvm.MethodName)) ∈ lw_all := lw_g (lw_at lw_m2 94 rfl) rfl
theorem q418 : (Jvm.Cond.instanceMethod ({ cls := "EaterWebs$Reader", name := "isDigit", desc := "()Z" } : Jvm.MethodName)) ∈ lw_all := lw_g (lw_at lw_m2 95 rfl) rfl
theorem q419 : (Jvm.Cond.selects "EaterWebs$Reader" ({ cls := "EaterWebs$Reader", name := "isDigit", desc := "()Z" } : Jvm.MethodName) ({ cls := "EaterWebs$Reader", name := "isDigit", desc := "()Z" } : Jvm.MethodName)) ∈ lw_all := lw_g (lw_at lw_m2 96 rfl) rfl
theorem q420 : (Jvm.Cond.code ({ cls := "EaterWebs$Reader", name := "isDigit", desc := "()Z" } : Jvm.MethodName) prog_6_method_6_code (1 : Nat) (Option.some Jvm.ClassFile.FieldType.boolean)) ∈ lw_all := lw_g (lw_at lw_m2 97 rfl) rfl
theorem in_X2 : ∀ w ∈ wsX20, w ∈ lw_all := lw_in wsX20 [384, 386, 388] (by decide +kernel) (by decide +kernel)
/-! EaterWebs$Being -/
set_option maxRecDepth 100000
def RX3 : String := "EaterWebs$Being"
def TX3 : u_T := fun k => match k with
  | 0 => ("EaterWebs$Being", "stock", "I", false)
  | 1 => ("EaterWebs$Being", "taken", "I", false)
  | _ => ("EaterWebs$Being", "fell", "I", false)
def tyX3 : Nat → FieldType := fun k => match k with
  | 0 => .int
  | 1 => .int
  | _ => .int
abbrev wsX30 : List Cond := u_ws RX3 TX3 3
theorem nmX3 : ∀ a, a < 3 → ∀ b, b < 3 → a ≠ b → (TX3 a).2.1 ≠ (TX3 b).2.1 := by decide +kernel
theorem tyX3_ok : ∀ k, k < 3 → parseFieldDescriptor (TX3 k).2.2.1 = some (tyX3 k) := by decide +kernel
abbrev cX3_init : ByteArray := prog_2_method_1_code
def yX3_init : MethodName := ⟨RX3, "<init>", "()V"⟩
def dkwX3_init_0 : List UInt8 := [42, 183, 0, 3, 42, 16, 247, 181, 0, 9, 177]
abbrev dktX3_init_0 : List UInt8 := dkwX3_init_0 ++ []
theorem dksX3_init_0 : cX3_init.data.toList.drop 0 = dktX3_init_0 := by decide +kernel
theorem dX3_init_0 : decode cX3_init 0 = .ok (.aload_n 0, 1) := dk_42 (dk_at dksX3_init_0 0 rfl rfl)
theorem dX3_init_1 : decode cX3_init 1 = .ok (.invokespecial 3, 3) := dk_183 0 3 (dk_at dksX3_init_0 1 rfl rfl)
theorem dX3_init_4 : decode cX3_init 4 = .ok (.aload_n 0, 1) := dk_42 (dk_at dksX3_init_0 4 rfl rfl)
theorem dX3_init_5 : decode cX3_init 5 = .ok (.bipush (-9), 2) := dk_16 247 (dk_at dksX3_init_0 5 rfl rfl)
theorem dX3_init_7 : decode cX3_init 7 = .ok (.putfield 9, 3) := dk_181 0 9 (dk_at dksX3_init_0 7 rfl rfl)
theorem dX3_init_10 : decode cX3_init 10 = .ok (.return_, 1) := dk_177 (dk_at dksX3_init_0 10 rfl rfl)
abbrev cX3_is : ByteArray := prog_2_method_3_code
def yX3_is : MethodName := ⟨RX3, "is", "(I)Z"⟩
def dkwX3_is_0 : List UInt8 := [27, 154, 0, 7, 4, 167, 0, 4, 3, 172]
abbrev dktX3_is_0 : List UInt8 := dkwX3_is_0 ++ []
theorem dksX3_is_0 : cX3_is.data.toList.drop 0 = dktX3_is_0 := by decide +kernel
theorem dX3_is_0 : decode cX3_is 0 = .ok (.iload_n 1, 1) := dk_27 (dk_at dksX3_is_0 0 rfl rfl)
theorem dX3_is_1 : decode cX3_is 1 = .ok (.ifCond .ne 7, 3) := dk_154 0 7 (dk_at dksX3_is_0 1 rfl rfl)
theorem dX3_is_4 : decode cX3_is 4 = .ok (.iconst 1, 1) := dk_4 (dk_at dksX3_is_0 4 rfl rfl)
theorem dX3_is_5 : decode cX3_is 5 = .ok (.goto 4, 3) := dk_167 0 4 (dk_at dksX3_is_0 5 rfl rfl)
theorem dX3_is_8 : decode cX3_is 8 = .ok (.iconst 0, 1) := dk_3 (dk_at dksX3_is_0 8 rfl rfl)
theorem dX3_is_9 : decode cX3_is 9 = .ok (.ireturn, 1) := dk_172 (dk_at dksX3_is_0 9 rfl rfl)
abbrev cX3_kind : ByteArray := prog_2_method_2_code
def yX3_kind : MethodName := ⟨RX3, "kind", "()I"⟩
theorem dX3_kind_0 : decode cX3_kind 0 = .ok (.iconst 0, 1) := by decide +kernel
theorem dX3_kind_1 : decode cX3_kind 1 = .ok (.ireturn, 1) := by decide +kernel
abbrev cX3_stockNow : ByteArray := prog_2_method_6_code
def yX3_stockNow : MethodName := ⟨RX3, "stockNow", "()I"⟩
theorem dX3_stockNow_0 : decode cX3_stockNow 0 = .ok (.aload_n 0, 1) := by decide +kernel
theorem dX3_stockNow_1 : decode cX3_stockNow 1 = .ok (.getfield 15, 3) := by decide +kernel
theorem dX3_stockNow_4 : decode cX3_stockNow 4 = .ok (.ireturn, 1) := by decide +kernel
abbrev cX3_spills : ByteArray := prog_2_method_5_code
def yX3_spills : MethodName := ⟨RX3, "spills", "(J)J"⟩
theorem dX3_spills_0 : decode cX3_spills 0 = .ok (.lconst 0, 1) := by decide +kernel
theorem dX3_spills_1 : decode cX3_spills 1 = .ok (.lreturn, 1) := by decide +kernel
abbrev cX3_grows : ByteArray := prog_2_method_4_code
def yX3_grows : MethodName := ⟨RX3, "grows", "(J)J"⟩
theorem dX3_grows_0 : decode cX3_grows 0 = .ok (.lconst 0, 1) := by decide +kernel
theorem dX3_grows_1 : decode cX3_grows 1 = .ok (.lreturn, 1) := by decide +kernel
theorem q96 : (Jvm.Cond.initialized "EaterWebs$Being") ∈ lw_all := lw_g (lw_at lw_m1 13 rfl) rfl
theorem q449 : (Jvm.Cond.instantiable "EaterWebs$Being" (3 : Nat)) ∈ lw_all := lw_g (lw_at lw_m2 126 rfl) rfl
theorem q451 : (Jvm.Cond.instanceMethod ({ cls := "EaterWebs$Being", name := "<init>", desc := "()V" } : Jvm.MethodName)) ∈ lw_all := lw_g (lw_at lw_m2 128 rfl) rfl
theorem q452 : (Jvm.Cond.code ({ cls := "EaterWebs$Being", name := "<init>", desc := "()V" } : Jvm.MethodName) prog_2_method_1_code (1 : Nat) (Option.none : Option Jvm.ClassFile.FieldType)) ∈ lw_all := lw_g (lw_at lw_m2 129 rfl) rfl
theorem q453 : (Jvm.Cond.methodLink "EaterWebs$Being" (3 : Nat) ({ cls := "java/lang/Object", name := "<init>", desc := "()V" } : Jvm.MethodName)) ∈ lw_all := lw_g (lw_at lw_m2 130 rfl) rfl
theorem q454 : (Jvm.Cond.fieldLink "EaterWebs$Being" (15 : Nat) "EaterWebs$Being" "stock" "I") ∈ lw_all := lw_g (lw_at lw_m2 131 rfl) rfl
theorem q457 : (Jvm.Cond.fieldLink "EaterWebs$Being" (9 : Nat) "EaterWebs$Being" "fell" "I") ∈ lw_all := lw_g (lw_at lw_m2 134 rfl) rfl
theorem q459 : (Jvm.Cond.lays "EaterWebs$Being" "EaterWebs$Being" "stock" "I") ∈ lw_all := lw_g (lw_at lw_m2 136 rfl) rfl
theorem q460 : (Jvm.Cond.soleField "EaterWebs$Being" "stock") ∈ lw_all := lw_g (lw_at lw_m2 137 rfl) rfl
theorem q461 : (Jvm.Cond.lays "EaterWebs$Being" "EaterWebs$Being" "taken" "I") ∈ lw_all := lw_g (lw_at lw_m2 138 rfl) rfl
theorem q462 : (Jvm.Cond.soleField "EaterWebs$Being" "taken") ∈ lw_all := lw_g (lw_at lw_m2 139 rfl) rfl
theorem q463 : (Jvm.Cond.lays "EaterWebs$Being" "EaterWebs$Being" "fell" "I") ∈ lw_all := lw_g (lw_at lw_m2 140 rfl) rfl
theorem q464 : (Jvm.Cond.soleField "EaterWebs$Being" "fell") ∈ lw_all := lw_g (lw_at lw_m2 141 rfl) rfl
theorem q465 : (Jvm.Cond.superclass "EaterWebs$Being" "java/lang/Object") ∈ lw_all := lw_g (lw_at lw_m2 142 rfl) rfl
theorem q519 : (Jvm.Cond.instanceMethod ({ cls := "EaterWebs$Being", name := "is", desc := "(I)Z" } : Jvm.MethodName)) ∈ lw_all := lw_g (lw_at lw_m2 196 rfl) rfl
theorem q520 : (Jvm.Cond.selects "EaterWebs$Being" ({ cls := "EaterWebs$Being", name := "is", desc := "(I)Z" } : Jvm.MethodName) ({ cls := "EaterWebs$Being", name := "is", desc := "(I)Z" } : Jvm.MethodName)) ∈ lw_all := lw_g (lw_at lw_m2 197 rfl) rfl
theorem q521 : (Jvm.Cond.sameMethod "EaterWebs$Being" "EaterWebs$Being" "is" "(I)Z") ∈ lw_all := lw_g (lw_at lw_m2 198 rfl) rfl
theorem q526 : (Jvm.Cond.code ({ cls := "EaterWebs$Being", name := "is", desc := "(I)Z" } : Jvm.MethodName) prog_2_method_3_code (2 : Nat) (Option.some Jvm.ClassFile.FieldType.boolean)) ∈ lw_all := lw_g (lw_at lw_m2 203 rfl) rfl
theorem q547 : (Jvm.Cond.instanceMethod ({ cls := "EaterWebs$Being", name := "kind", desc := "()I" } : Jvm.MethodName)) ∈ lw_all := lw_g (lw_at lw_m2 224 rfl) rfl
theorem q548 : (Jvm.Cond.selects "EaterWebs$Being" ({ cls := "EaterWebs$Being", name := "kind", desc := "()I" } : Jvm.MethodName) ({ cls := "EaterWebs$Being", name := "kind", desc := "()I" } : Jvm.MethodName)) ∈ lw_all := lw_g (lw_at lw_m2 225 rfl) rfl
theorem q549 : (Jvm.Cond.sameMethod "EaterWebs$Being" "EaterWebs$Being" "kind" "()I") ∈ lw_all := lw_g (lw_at lw_m2 226 rfl) rfl
theorem q559 : (Jvm.Cond.code ({ cls := "EaterWebs$Being", name := "kind", desc := "()I" } : Jvm.MethodName) prog_2_method_2_code (1 : Nat) (Option.some Jvm.ClassFile.FieldType.int)) ∈ lw_all := lw_g (lw_at lw_m2 236 rfl) rfl
theorem q660 : (Jvm.Cond.instanceMethod ({ cls := "EaterWebs$Being", name := "spills", desc := "(J)J" } : Jvm.MethodName)) ∈ lw_all := lw_g (lw_at lw_m3 97 rfl) rfl
theorem q661 : (Jvm.Cond.selects "EaterWebs$Being" ({ cls := "EaterWebs$Being", name := "spills", desc := "(J)J" } : Jvm.MethodName) ({ cls := "EaterWebs$Being", name := "spills", desc := "(J)J" } : Jvm.MethodName)) ∈ lw_all := lw_g (lw_at lw_m3 98 rfl) rfl
theorem q662 : (Jvm.Cond.sameMethod "EaterWebs$Being" "EaterWebs$Being" "spills" "(J)J") ∈ lw_all := lw_g (lw_at lw_m3 99 rfl) rfl
theorem q673 : (Jvm.Cond.declares ({ cls := "EaterWebs$Being", name := "stockNow", desc := "()I" } : Jvm.MethodName)) ∈ lw_tbl := lw_at lw_m3 110 rfl
theorem q676 : (Jvm.Cond.instanceMethod ({ cls := "EaterWebs$Being", name := "stockNow", desc := "()I" } : Jvm.MethodName)) ∈ lw_all := lw_g (lw_at lw_m3 113 rfl) rfl
theorem q677 : (Jvm.Cond.code ({ cls := "EaterWebs$Being", name := "stockNow", desc := "()I" } : Jvm.MethodName) prog_2_method_6_code (1 : Nat) (Option.some Jvm.ClassFile.FieldType.int)) ∈ lw_all := lw_g (lw_at lw_m3 114 rfl) rfl
theorem q682 : (Jvm.Cond.code ({ cls := "EaterWebs$Being", name := "spills", desc := "(J)J" } : Jvm.MethodName) prog_2_method_5_code (3 : Nat) (Option.some Jvm.ClassFile.FieldType.long)) ∈ lw_all := lw_g (lw_at lw_m3 119 rfl) rfl
theorem q684 : (Jvm.Cond.instanceMethod ({ cls := "EaterWebs$Being", name := "grows", desc := "(J)J" } : Jvm.MethodName)) ∈ lw_all := lw_g (lw_at lw_m3 121 rfl) rfl
theorem q685 : (Jvm.Cond.selects "EaterWebs$Being" ({ cls := "EaterWebs$Being", name := "grows", desc := "(J)J" } : Jvm.MethodName) ({ cls := "EaterWebs$Being", name := "grows", desc := "(J)J" } : Jvm.MethodName)) ∈ lw_all := lw_g (lw_at lw_m3 122 rfl) rfl
theorem q686 : (Jvm.Cond.sameMethod "EaterWebs$Being" "EaterWebs$Being" "grows" "(J)J") ∈ lw_all := lw_g (lw_at lw_m3 123 rfl) rfl
theorem q691 : (Jvm.Cond.code ({ cls := "EaterWebs$Being", name := "grows", desc := "(J)J" } : Jvm.MethodName) prog_2_method_4_code (3 : Nat) (Option.some Jvm.ClassFile.FieldType.long)) ∈ lw_all := lw_g (lw_at lw_m3 128 rfl) rfl
theorem in_X3 : ∀ w ∈ wsX30, w ∈ lw_all := lw_in wsX30 [459, 461, 463] (by decide +kernel) (by decide +kernel)
/-! EaterWebs$Plant -/
set_option maxRecDepth 100000
def RX4 : String := "EaterWebs$Plant"
def TX4 : u_T := fun k => match k with
  | 0 => ("EaterWebs$Being", "stock", "I", false)
  | 1 => ("EaterWebs$Being", "taken", "I", false)
  | 2 => ("EaterWebs$Being", "fell", "I", false)
  | 3 => ("EaterWebs$Plant", "rate", "I", false)
  | _ => ("EaterWebs$Plant", "cap", "I", false)
def tyX4 : Nat → FieldType := fun k => match k with
  | 0 => .int
  | 1 => .int
  | 2 => .int
  | 3 => .int
  | _ => .int
abbrev wsX40 : List Cond := u_ws RX4 TX4 5
theorem nmX4 : ∀ a, a < 5 → ∀ b, b < 5 → a ≠ b → (TX4 a).2.1 ≠ (TX4 b).2.1 := by decide +kernel
theorem tyX4_ok : ∀ k, k < 5 → parseFieldDescriptor (TX4 k).2.2.1 = some (tyX4 k) := by decide +kernel
abbrev cX4_init : ByteArray := prog_5_method_1_code
def yX4_init : MethodName := ⟨RX4, "<init>", "()V"⟩
def dkwX4_init_0 : List UInt8 := [42, 183, 0, 3, 42, 16, 100, 181, 0, 9, 42, 17, 3, 232, 181, 0, 15, 177]
abbrev dktX4_init_0 : List UInt8 := dkwX4_init_0 ++ []
theorem dksX4_init_0 : cX4_init.data.toList.drop 0 = dktX4_init_0 := by decide +kernel
theorem dX4_init_0 : decode cX4_init 0 = .ok (.aload_n 0, 1) := dk_42 (dk_at dksX4_init_0 0 rfl rfl)
theorem dX4_init_1 : decode cX4_init 1 = .ok (.invokespecial 3, 3) := dk_183 0 3 (dk_at dksX4_init_0 1 rfl rfl)
theorem dX4_init_4 : decode cX4_init 4 = .ok (.aload_n 0, 1) := dk_42 (dk_at dksX4_init_0 4 rfl rfl)
theorem dX4_init_5 : decode cX4_init 5 = .ok (.bipush 100, 2) := dk_16 100 (dk_at dksX4_init_0 5 rfl rfl)
theorem dX4_init_7 : decode cX4_init 7 = .ok (.putfield 9, 3) := dk_181 0 9 (dk_at dksX4_init_0 7 rfl rfl)
theorem dX4_init_10 : decode cX4_init 10 = .ok (.aload_n 0, 1) := dk_42 (dk_at dksX4_init_0 10 rfl rfl)
theorem dX4_init_11 : decode cX4_init 11 = .ok (.sipush 1000, 3) := dk_17 3 232 (dk_at dksX4_init_0 11 rfl rfl)
theorem dX4_init_14 : decode cX4_init 14 = .ok (.putfield 15, 3) := dk_181 0 15 (dk_at dksX4_init_0 14 rfl rfl)
theorem dX4_init_17 : decode cX4_init 17 = .ok (.return_, 1) := dk_177 (dk_at dksX4_init_0 17 rfl rfl)
abbrev cX4_is : ByteArray := prog_5_method_3_code
def yX4_is : MethodName := ⟨RX4, "is", "(I)Z"⟩
def dkwX4_is_0 : List UInt8 := [27, 4, 159, 0, 11, 42, 27, 183, 0, 18, 153, 0, 7, 4, 167, 0, 4, 3, 172]
abbrev dktX4_is_0 : List UInt8 := dkwX4_is_0 ++ []
theorem dksX4_is_0 : cX4_is.data.toList.drop 0 = dktX4_is_0 := by decide +kernel
theorem dX4_is_0 : decode cX4_is 0 = .ok (.iload_n 1, 1) := dk_27 (dk_at dksX4_is_0 0 rfl rfl)
theorem dX4_is_1 : decode cX4_is 1 = .ok (.iconst 1, 1) := dk_4 (dk_at dksX4_is_0 1 rfl rfl)
theorem dX4_is_2 : decode cX4_is 2 = .ok (.if_icmp .eq 11, 3) := dk_159 0 11 (dk_at dksX4_is_0 2 rfl rfl)
theorem dX4_is_5 : decode cX4_is 5 = .ok (.aload_n 0, 1) := dk_42 (dk_at dksX4_is_0 5 rfl rfl)
theorem dX4_is_6 : decode cX4_is 6 = .ok (.iload_n 1, 1) := dk_27 (dk_at dksX4_is_0 6 rfl rfl)
theorem dX4_is_7 : decode cX4_is 7 = .ok (.invokespecial 18, 3) := dk_183 0 18 (dk_at dksX4_is_0 7 rfl rfl)
theorem dX4_is_10 : decode cX4_is 10 = .ok (.ifCond .eq 7, 3) := dk_153 0 7 (dk_at dksX4_is_0 10 rfl rfl)
theorem dX4_is_13 : decode cX4_is 13 = .ok (.iconst 1, 1) := dk_4 (dk_at dksX4_is_0 13 rfl rfl)
theorem dX4_is_14 : decode cX4_is 14 = .ok (.goto 4, 3) := dk_167 0 4 (dk_at dksX4_is_0 14 rfl rfl)
theorem dX4_is_17 : decode cX4_is 17 = .ok (.iconst 0, 1) := dk_3 (dk_at dksX4_is_0 17 rfl rfl)
theorem dX4_is_18 : decode cX4_is 18 = .ok (.ireturn, 1) := dk_172 (dk_at dksX4_is_0 18 rfl rfl)
abbrev cX4_kind : ByteArray := prog_5_method_2_code
def yX4_kind : MethodName := ⟨RX4, "kind", "()I"⟩
theorem dX4_kind_0 : decode cX4_kind 0 = .ok (.iconst 1, 1) := by decide +kernel
theorem dX4_kind_1 : decode cX4_kind 1 = .ok (.ireturn, 1) := by decide +kernel
abbrev cX4_grows : ByteArray := prog_5_method_4_code
def yX4_grows : MethodName := ⟨RX4, "grows", "(J)J"⟩
def dkwX4_grows_1 : List UInt8 := [100, 133, 105, 20, 0, 30, 42, 180, 0, 15, 133, 105, 109, 97, 173]
abbrev dktX4_grows_1 : List UInt8 := dkwX4_grows_1 ++ []
def dkwX4_grows_0 : List UInt8 := [42, 31, 183, 0, 22, 42, 180, 0, 9, 133, 42, 182, 0, 26, 133, 105, 42, 180, 0, 15, 42, 182, 0, 26]
abbrev dktX4_grows_0 : List UInt8 := dkwX4_grows_0 ++ dktX4_grows_1
theorem dksX4_grows_0 : cX4_grows.data.toList.drop 0 = dktX4_grows_0 := by decide +kernel
theorem dksX4_grows_1 : cX4_grows.data.toList.drop 24 = dktX4_grows_1 := dk_seg dksX4_grows_0 24 rfl rfl
theorem dX4_grows_0 : decode cX4_grows 0 = .ok (.aload_n 0, 1) := dk_42 (dk_at dksX4_grows_0 0 rfl rfl)
theorem dX4_grows_1 : decode cX4_grows 1 = .ok (.lload_n 1, 1) := dk_31 (dk_at dksX4_grows_0 1 rfl rfl)
theorem dX4_grows_2 : decode cX4_grows 2 = .ok (.invokespecial 22, 3) := dk_183 0 22 (dk_at dksX4_grows_0 2 rfl rfl)
theorem dX4_grows_5 : decode cX4_grows 5 = .ok (.aload_n 0, 1) := dk_42 (dk_at dksX4_grows_0 5 rfl rfl)
theorem dX4_grows_6 : decode cX4_grows 6 = .ok (.getfield 9, 3) := dk_180 0 9 (dk_at dksX4_grows_0 6 rfl rfl)
theorem dX4_grows_9 : decode cX4_grows 9 = .ok (.i2l, 1) := dk_133 (dk_at dksX4_grows_0 9 rfl rfl)
theorem dX4_grows_10 : decode cX4_grows 10 = .ok (.aload_n 0, 1) := dk_42 (dk_at dksX4_grows_0 10 rfl rfl)
theorem dX4_grows_11 : decode cX4_grows 11 = .ok (.invokevirtual 26, 3) := dk_182 0 26 (dk_at dksX4_grows_0 11 rfl rfl)
theorem dX4_grows_14 : decode cX4_grows 14 = .ok (.i2l, 1) := dk_133 (dk_at dksX4_grows_0 14 rfl rfl)
theorem dX4_grows_15 : decode cX4_grows 15 = .ok (.lmul, 1) := dk_105 (dk_at dksX4_grows_0 15 rfl rfl)
theorem dX4_grows_16 : decode cX4_grows 16 = .ok (.aload_n 0, 1) := dk_42 (dk_at dksX4_grows_0 16 rfl rfl)
theorem dX4_grows_17 : decode cX4_grows 17 = .ok (.getfield 15, 3) := dk_180 0 15 (dk_at dksX4_grows_0 17 rfl rfl)
theorem dX4_grows_20 : decode cX4_grows 20 = .ok (.aload_n 0, 1) := dk_42 (dk_at dksX4_grows_0 20 rfl rfl)
theorem dX4_grows_21 : decode cX4_grows 21 = .ok (.invokevirtual 26, 3) := dk_182 0 26 (dk_at dksX4_grows_0 21 rfl rfl)
theorem dX4_grows_24 : decode cX4_grows 24 = .ok (.isub, 1) := dk_100 (dk_at dksX4_grows_1 0 rfl rfl)
theorem dX4_grows_25 : decode cX4_grows 25 = .ok (.i2l, 1) := dk_133 (dk_at dksX4_grows_1 1 rfl rfl)
theorem dX4_grows_26 : decode cX4_grows 26 = .ok (.lmul, 1) := dk_105 (dk_at dksX4_grows_1 2 rfl rfl)
theorem dX4_grows_27 : decode cX4_grows 27 = .ok (.ldc2_w 30, 3) := dk_20 0 30 (dk_at dksX4_grows_1 3 rfl rfl)
theorem dX4_grows_30 : decode cX4_grows 30 = .ok (.aload_n 0, 1) := dk_42 (dk_at dksX4_grows_1 6 rfl rfl)
theorem dX4_grows_31 : decode cX4_grows 31 = .ok (.getfield 15, 3) := dk_180 0 15 (dk_at dksX4_grows_1 7 rfl rfl)
theorem dX4_grows_34 : decode cX4_grows 34 = .ok (.i2l, 1) := dk_133 (dk_at dksX4_grows_1 10 rfl rfl)
theorem dX4_grows_35 : decode cX4_grows 35 = .ok (.lmul, 1) := dk_105 (dk_at dksX4_grows_1 11 rfl rfl)
theorem dX4_grows_36 : decode cX4_grows 36 = .ok (.ldiv, 1) := dk_109 (dk_at dksX4_grows_1 12 rfl rfl)
theorem dX4_grows_37 : decode cX4_grows 37 = .ok (.ladd, 1) := dk_97 (dk_at dksX4_grows_1 13 rfl rfl)
theorem dX4_grows_38 : decode cX4_grows 38 = .ok (.lreturn, 1) := dk_173 (dk_at dksX4_grows_1 14 rfl rfl)
theorem q97 : (Jvm.Cond.initialized "EaterWebs$Plant") ∈ lw_all := lw_g (lw_at lw_m1 14 rfl) rfl
theorem q467 : (Jvm.Cond.instantiable "EaterWebs$Plant" (5 : Nat)) ∈ lw_all := lw_g (lw_at lw_m2 144 rfl) rfl
theorem q469 : (Jvm.Cond.instanceMethod ({ cls := "EaterWebs$Plant", name := "<init>", desc := "()V" } : Jvm.MethodName)) ∈ lw_all := lw_g (lw_at lw_m2 146 rfl) rfl
theorem q470 : (Jvm.Cond.code ({ cls := "EaterWebs$Plant", name := "<init>", desc := "()V" } : Jvm.MethodName) prog_5_method_1_code (1 : Nat) (Option.none : Option Jvm.ClassFile.FieldType)) ∈ lw_all := lw_g (lw_at lw_m2 147 rfl) rfl
theorem q471 : (Jvm.Cond.methodLinkNest "EaterWebs$Plant" (3 : Nat) ({ cls := "EaterWebs$Being", name := "<init>", desc := "()V" } : Jvm.MethodName) "EaterWebs") ∈ lw_tbl := lw_at lw_m2 148 rfl
theorem q472 : (Jvm.Cond.fieldLink "EaterWebs$Plant" (9 : Nat) "EaterWebs$Plant" "rate" "I") ∈ lw_all := lw_g (lw_at lw_m2 149 rfl) rfl
theorem q474 : (Jvm.Cond.fieldLink "EaterWebs$Plant" (15 : Nat) "EaterWebs$Plant" "cap" "I") ∈ lw_all := lw_g (lw_at lw_m2 151 rfl) rfl
theorem q476 : (Jvm.Cond.lays "EaterWebs$Plant" "EaterWebs$Plant" "rate" "I") ∈ lw_all := lw_g (lw_at lw_m2 153 rfl) rfl
theorem q477 : (Jvm.Cond.soleField "EaterWebs$Plant" "rate") ∈ lw_all := lw_g (lw_at lw_m2 154 rfl) rfl
theorem q478 : (Jvm.Cond.lays "EaterWebs$Plant" "EaterWebs$Plant" "cap" "I") ∈ lw_all := lw_g (lw_at lw_m2 155 rfl) rfl
theorem q479 : (Jvm.Cond.soleField "EaterWebs$Plant" "cap") ∈ lw_all := lw_g (lw_at lw_m2 156 rfl) rfl
theorem q480 : (Jvm.Cond.lays "EaterWebs$Plant" "EaterWebs$Being" "stock" "I") ∈ lw_all := lw_g (lw_at lw_m2 157 rfl) rfl
theorem q481 : (Jvm.Cond.lays "EaterWebs$Plant" "EaterWebs$Being" "taken" "I") ∈ lw_all := lw_g (lw_at lw_m2 158 rfl) rfl
theorem q482 : (Jvm.Cond.lays "EaterWebs$Plant" "EaterWebs$Being" "fell" "I") ∈ lw_all := lw_g (lw_at lw_m2 159 rfl) rfl
theorem q483 : (Jvm.Cond.superclass "EaterWebs$Plant" "EaterWebs$Being") ∈ lw_all := lw_g (lw_at lw_m2 160 rfl) rfl
theorem q531 : (Jvm.Cond.selects "EaterWebs$Plant" ({ cls := "EaterWebs$Being", name := "is", desc := "(I)Z" } : Jvm.MethodName) ({ cls := "EaterWebs$Plant", name := "is", desc := "(I)Z" } : Jvm.MethodName)) ∈ lw_all := lw_g (lw_at lw_m2 208 rfl) rfl
theorem q532 : (Jvm.Cond.instanceMethod ({ cls := "EaterWebs$Plant", name := "is", desc := "(I)Z" } : Jvm.MethodName)) ∈ lw_all := lw_g (lw_at lw_m2 209 rfl) rfl
theorem q533 : (Jvm.Cond.code ({ cls := "EaterWebs$Plant", name := "is", desc := "(I)Z" } : Jvm.MethodName) prog_5_method_3_code (2 : Nat) (Option.some Jvm.ClassFile.FieldType.boolean)) ∈ lw_all := lw_g (lw_at lw_m2 210 rfl) rfl
theorem q534 : (Jvm.Cond.methodLink "EaterWebs$Plant" (18 : Nat) ({ cls := "EaterWebs$Being", name := "is", desc := "(I)Z" } : Jvm.MethodName)) ∈ lw_all := lw_g (lw_at lw_m2 211 rfl) rfl
theorem q556 : (Jvm.Cond.selects "EaterWebs$Plant" ({ cls := "EaterWebs$Being", name := "kind", desc := "()I" } : Jvm.MethodName) ({ cls := "EaterWebs$Plant", name := "kind", desc := "()I" } : Jvm.MethodName)) ∈ lw_all := lw_g (lw_at lw_m2 233 rfl) rfl
theorem q557 : (Jvm.Cond.instanceMethod ({ cls := "EaterWebs$Plant", name := "kind", desc := "()I" } : Jvm.MethodName)) ∈ lw_all := lw_g (lw_at lw_m2 234 rfl) rfl
theorem q558 : (Jvm.Cond.code ({ cls := "EaterWebs$Plant", name := "kind", desc := "()I" } : Jvm.MethodName) prog_5_method_2_code (1 : Nat) (Option.some Jvm.ClassFile.FieldType.int)) ∈ lw_all := lw_g (lw_at lw_m2 235 rfl) rfl
theorem q681 : (Jvm.Cond.selects "EaterWebs$Plant" ({ cls := "EaterWebs$Being", name := "spills", desc := "(J)J" } : Jvm.MethodName) ({ cls := "EaterWebs$Being", name := "spills", desc := "(J)J" } : Jvm.MethodName)) ∈ lw_all := lw_g (lw_at lw_m3 118 rfl) rfl
theorem q693 : (Jvm.Cond.selects "EaterWebs$Plant" ({ cls := "EaterWebs$Being", name := "grows", desc := "(J)J" } : Jvm.MethodName) ({ cls := "EaterWebs$Plant", name := "grows", desc := "(J)J" } : Jvm.MethodName)) ∈ lw_all := lw_g (lw_at lw_m3 130 rfl) rfl
theorem q694 : (Jvm.Cond.instanceMethod ({ cls := "EaterWebs$Plant", name := "grows", desc := "(J)J" } : Jvm.MethodName)) ∈ lw_all := lw_g (lw_at lw_m3 131 rfl) rfl
theorem q695 : (Jvm.Cond.code ({ cls := "EaterWebs$Plant", name := "grows", desc := "(J)J" } : Jvm.MethodName) prog_5_method_4_code (3 : Nat) (Option.some Jvm.ClassFile.FieldType.long)) ∈ lw_all := lw_g (lw_at lw_m3 132 rfl) rfl
theorem q696 : (Jvm.Cond.methodLink "EaterWebs$Plant" (22 : Nat) ({ cls := "EaterWebs$Being", name := "grows", desc := "(J)J" } : Jvm.MethodName)) ∈ lw_all := lw_g (lw_at lw_m3 133 rfl) rfl
theorem q697 : (Jvm.Cond.methodLink "EaterWebs$Plant" (26 : Nat) ({ cls := "EaterWebs$Plant", name := "stockNow", desc := "()I" } : Jvm.MethodName)) ∈ lw_all := lw_g (lw_at lw_m3 134 rfl) rfl
theorem q698 : (Jvm.Cond.sameMethod "EaterWebs$Plant" "EaterWebs$Being" "stockNow" "()I") ∈ lw_all := lw_g (lw_at lw_m3 135 rfl) rfl
theorem q699 : (Jvm.Cond.selects "EaterWebs$Plant" ({ cls := "EaterWebs$Plant", name := "stockNow", desc := "()I" } : Jvm.MethodName) ({ cls := "EaterWebs$Being", name := "stockNow", desc := "()I" } : Jvm.MethodName)) ∈ lw_all := lw_g (lw_at lw_m3 136 rfl) rfl
theorem q700 : (Jvm.Cond.constantLong "EaterWebs$Plant" (30 : Nat) (1000 : Int64)) ∈ lw_all := lw_g (lw_at lw_m3 137 rfl) rfl
theorem q1450 : (Jvm.Cond.castable "EaterWebs$Plant" "EaterWebs$Being") ∈ lw_tbl := lw_at lw_m6 167 rfl
theorem in_X4 : ∀ w ∈ wsX40, w ∈ lw_all := lw_in wsX40 [480, 481, 482, 476, 478] (by decide +kernel) (by decide +kernel)
/-! EaterWebs$Eater -/
set_option maxRecDepth 100000
def RX5 : String := "EaterWebs$Eater"
def TX5 : u_T := fun k => match k with
  | 0 => ("EaterWebs$Being", "stock", "I", false)
  | 1 => ("EaterWebs$Being", "taken", "I", false)
  | 2 => ("EaterWebs$Being", "fell", "I", false)
  | 3 => ("EaterWebs$Eater", "loss", "I", false)
  | _ => ("EaterWebs$Eater", "gain", "I", false)
def tyX5 : Nat → FieldType := fun k => match k with
  | 0 => .int
  | 1 => .int
  | 2 => .int
  | 3 => .int
  | _ => .int
abbrev wsX50 : List Cond := u_ws RX5 TX5 5
theorem nmX5 : ∀ a, a < 5 → ∀ b, b < 5 → a ≠ b → (TX5 a).2.1 ≠ (TX5 b).2.1 := by decide +kernel
theorem tyX5_ok : ∀ k, k < 5 → parseFieldDescriptor (TX5 k).2.2.1 = some (tyX5 k) := by decide +kernel
abbrev cX5_init : ByteArray := prog_3_method_1_code
def yX5_init : MethodName := ⟨RX5, "<init>", "()V"⟩
def dkwX5_init_0 : List UInt8 := [42, 183, 0, 3, 42, 16, 50, 181, 0, 9, 42, 16, 20, 181, 0, 15, 177]
abbrev dktX5_init_0 : List UInt8 := dkwX5_init_0 ++ []
theorem dksX5_init_0 : cX5_init.data.toList.drop 0 = dktX5_init_0 := by decide +kernel
theorem dX5_init_0 : decode cX5_init 0 = .ok (.aload_n 0, 1) := dk_42 (dk_at dksX5_init_0 0 rfl rfl)
theorem dX5_init_1 : decode cX5_init 1 = .ok (.invokespecial 3, 3) := dk_183 0 3 (dk_at dksX5_init_0 1 rfl rfl)
theorem dX5_init_4 : decode cX5_init 4 = .ok (.aload_n 0, 1) := dk_42 (dk_at dksX5_init_0 4 rfl rfl)
theorem dX5_init_5 : decode cX5_init 5 = .ok (.bipush 50, 2) := dk_16 50 (dk_at dksX5_init_0 5 rfl rfl)
theorem dX5_init_7 : decode cX5_init 7 = .ok (.putfield 9, 3) := dk_181 0 9 (dk_at dksX5_init_0 7 rfl rfl)
theorem dX5_init_10 : decode cX5_init 10 = .ok (.aload_n 0, 1) := dk_42 (dk_at dksX5_init_0 10 rfl rfl)
theorem dX5_init_11 : decode cX5_init 11 = .ok (.bipush 20, 2) := dk_16 20 (dk_at dksX5_init_0 11 rfl rfl)
theorem dX5_init_13 : decode cX5_init 13 = .ok (.putfield 15, 3) := dk_181 0 15 (dk_at dksX5_init_0 13 rfl rfl)
theorem dX5_init_16 : decode cX5_init 16 = .ok (.return_, 1) := dk_177 (dk_at dksX5_init_0 16 rfl rfl)
abbrev cX5_is : ByteArray := prog_3_method_3_code
def yX5_is : MethodName := ⟨RX5, "is", "(I)Z"⟩
def dkwX5_is_0 : List UInt8 := [27, 5, 159, 0, 11, 42, 27, 183, 0, 18, 153, 0, 7, 4, 167, 0, 4, 3, 172]
abbrev dktX5_is_0 : List UInt8 := dkwX5_is_0 ++ []
theorem dksX5_is_0 : cX5_is.data.toList.drop 0 = dktX5_is_0 := by decide +kernel
theorem dX5_is_0 : decode cX5_is 0 = .ok (.iload_n 1, 1) := dk_27 (dk_at dksX5_is_0 0 rfl rfl)
theorem dX5_is_1 : decode cX5_is 1 = .ok (.iconst 2, 1) := dk_5 (dk_at dksX5_is_0 1 rfl rfl)
theorem dX5_is_2 : decode cX5_is 2 = .ok (.if_icmp .eq 11, 3) := dk_159 0 11 (dk_at dksX5_is_0 2 rfl rfl)
theorem dX5_is_5 : decode cX5_is 5 = .ok (.aload_n 0, 1) := dk_42 (dk_at dksX5_is_0 5 rfl rfl)
theorem dX5_is_6 : decode cX5_is 6 = .ok (.iload_n 1, 1) := dk_27 (dk_at dksX5_is_0 6 rfl rfl)
theorem dX5_is_7 : decode cX5_is 7 = .ok (.invokespecial 18, 3) := dk_183 0 18 (dk_at dksX5_is_0 7 rfl rfl)
theorem dX5_is_10 : decode cX5_is 10 = .ok (.ifCond .eq 7, 3) := dk_153 0 7 (dk_at dksX5_is_0 10 rfl rfl)
theorem dX5_is_13 : decode cX5_is 13 = .ok (.iconst 1, 1) := dk_4 (dk_at dksX5_is_0 13 rfl rfl)
theorem dX5_is_14 : decode cX5_is 14 = .ok (.goto 4, 3) := dk_167 0 4 (dk_at dksX5_is_0 14 rfl rfl)
theorem dX5_is_17 : decode cX5_is 17 = .ok (.iconst 0, 1) := dk_3 (dk_at dksX5_is_0 17 rfl rfl)
theorem dX5_is_18 : decode cX5_is 18 = .ok (.ireturn, 1) := dk_172 (dk_at dksX5_is_0 18 rfl rfl)
abbrev cX5_kind : ByteArray := prog_3_method_2_code
def yX5_kind : MethodName := ⟨RX5, "kind", "()I"⟩
theorem dX5_kind_0 : decode cX5_kind 0 = .ok (.iconst 2, 1) := by decide +kernel
theorem dX5_kind_1 : decode cX5_kind 1 = .ok (.ireturn, 1) := by decide +kernel
abbrev cX5_spills : ByteArray := prog_3_method_6_code
def yX5_spills : MethodName := ⟨RX5, "spills", "(J)J"⟩
def dkwX5_spills_0 : List UInt8 := [31, 31, 42, 180, 0, 15, 133, 105, 20, 0, 34, 109, 101, 42, 182, 0, 36, 97, 173]
abbrev dktX5_spills_0 : List UInt8 := dkwX5_spills_0 ++ []
theorem dksX5_spills_0 : cX5_spills.data.toList.drop 0 = dktX5_spills_0 := by decide +kernel
theorem dX5_spills_0 : decode cX5_spills 0 = .ok (.lload_n 1, 1) := dk_31 (dk_at dksX5_spills_0 0 rfl rfl)
theorem dX5_spills_1 : decode cX5_spills 1 = .ok (.lload_n 1, 1) := dk_31 (dk_at dksX5_spills_0 1 rfl rfl)
theorem dX5_spills_2 : decode cX5_spills 2 = .ok (.aload_n 0, 1) := dk_42 (dk_at dksX5_spills_0 2 rfl rfl)
theorem dX5_spills_3 : decode cX5_spills 3 = .ok (.getfield 15, 3) := dk_180 0 15 (dk_at dksX5_spills_0 3 rfl rfl)
theorem dX5_spills_6 : decode cX5_spills 6 = .ok (.i2l, 1) := dk_133 (dk_at dksX5_spills_0 6 rfl rfl)
theorem dX5_spills_7 : decode cX5_spills 7 = .ok (.lmul, 1) := dk_105 (dk_at dksX5_spills_0 7 rfl rfl)
theorem dX5_spills_8 : decode cX5_spills 8 = .ok (.ldc2_w 34, 3) := dk_20 0 34 (dk_at dksX5_spills_0 8 rfl rfl)
theorem dX5_spills_11 : decode cX5_spills 11 = .ok (.ldiv, 1) := dk_109 (dk_at dksX5_spills_0 11 rfl rfl)
theorem dX5_spills_12 : decode cX5_spills 12 = .ok (.lsub, 1) := dk_101 (dk_at dksX5_spills_0 12 rfl rfl)
theorem dX5_spills_13 : decode cX5_spills 13 = .ok (.aload_n 0, 1) := dk_42 (dk_at dksX5_spills_0 13 rfl rfl)
theorem dX5_spills_14 : decode cX5_spills 14 = .ok (.invokevirtual 36, 3) := dk_182 0 36 (dk_at dksX5_spills_0 14 rfl rfl)
theorem dX5_spills_17 : decode cX5_spills 17 = .ok (.ladd, 1) := dk_97 (dk_at dksX5_spills_0 17 rfl rfl)
theorem dX5_spills_18 : decode cX5_spills 18 = .ok (.lreturn, 1) := dk_173 (dk_at dksX5_spills_0 18 rfl rfl)
abbrev cX5_loses : ByteArray := prog_3_method_4_code
def yX5_loses : MethodName := ⟨RX5, "loses", "()J"⟩
def dkwX5_loses_0 : List UInt8 := [42, 180, 0, 9, 133, 42, 182, 0, 22, 133, 105, 20, 0, 26, 97, 20, 0, 28, 109, 173]
abbrev dktX5_loses_0 : List UInt8 := dkwX5_loses_0 ++ []
theorem dksX5_loses_0 : cX5_loses.data.toList.drop 0 = dktX5_loses_0 := by decide +kernel
theorem dX5_loses_0 : decode cX5_loses 0 = .ok (.aload_n 0, 1) := dk_42 (dk_at dksX5_loses_0 0 rfl rfl)
theorem dX5_loses_1 : decode cX5_loses 1 = .ok (.getfield 9, 3) := dk_180 0 9 (dk_at dksX5_loses_0 1 rfl rfl)
theorem dX5_loses_4 : decode cX5_loses 4 = .ok (.i2l, 1) := dk_133 (dk_at dksX5_loses_0 4 rfl rfl)
theorem dX5_loses_5 : decode cX5_loses 5 = .ok (.aload_n 0, 1) := dk_42 (dk_at dksX5_loses_0 5 rfl rfl)
theorem dX5_loses_6 : decode cX5_loses 6 = .ok (.invokevirtual 22, 3) := dk_182 0 22 (dk_at dksX5_loses_0 6 rfl rfl)
theorem dX5_loses_9 : decode cX5_loses 9 = .ok (.i2l, 1) := dk_133 (dk_at dksX5_loses_0 9 rfl rfl)
theorem dX5_loses_10 : decode cX5_loses 10 = .ok (.lmul, 1) := dk_105 (dk_at dksX5_loses_0 10 rfl rfl)
theorem dX5_loses_11 : decode cX5_loses 11 = .ok (.ldc2_w 26, 3) := dk_20 0 26 (dk_at dksX5_loses_0 11 rfl rfl)
theorem dX5_loses_14 : decode cX5_loses 14 = .ok (.ladd, 1) := dk_97 (dk_at dksX5_loses_0 14 rfl rfl)
theorem dX5_loses_15 : decode cX5_loses 15 = .ok (.ldc2_w 28, 3) := dk_20 0 28 (dk_at dksX5_loses_0 15 rfl rfl)
theorem dX5_loses_18 : decode cX5_loses 18 = .ok (.ldiv, 1) := dk_109 (dk_at dksX5_loses_0 18 rfl rfl)
theorem dX5_loses_19 : decode cX5_loses 19 = .ok (.lreturn, 1) := dk_173 (dk_at dksX5_loses_0 19 rfl rfl)
abbrev cX5_grows : ByteArray := prog_3_method_5_code
def yX5_grows : MethodName := ⟨RX5, "grows", "(J)J"⟩
def dkwX5_grows_0 : List UInt8 := [42, 31, 183, 0, 30, 31, 42, 180, 0, 15, 133, 105, 20, 0, 34, 109, 97, 42, 182, 0, 36, 101, 173]
abbrev dktX5_grows_0 : List UInt8 := dkwX5_grows_0 ++ []
theorem dksX5_grows_0 : cX5_grows.data.toList.drop 0 = dktX5_grows_0 := by decide +kernel
theorem dX5_grows_0 : decode cX5_grows 0 = .ok (.aload_n 0, 1) := dk_42 (dk_at dksX5_grows_0 0 rfl rfl)
theorem dX5_grows_1 : decode cX5_grows 1 = .ok (.lload_n 1, 1) := dk_31 (dk_at dksX5_grows_0 1 rfl rfl)
theorem dX5_grows_2 : decode cX5_grows 2 = .ok (.invokespecial 30, 3) := dk_183 0 30 (dk_at dksX5_grows_0 2 rfl rfl)
theorem dX5_grows_5 : decode cX5_grows 5 = .ok (.lload_n 1, 1) := dk_31 (dk_at dksX5_grows_0 5 rfl rfl)
theorem dX5_grows_6 : decode cX5_grows 6 = .ok (.aload_n 0, 1) := dk_42 (dk_at dksX5_grows_0 6 rfl rfl)
theorem dX5_grows_7 : decode cX5_grows 7 = .ok (.getfield 15, 3) := dk_180 0 15 (dk_at dksX5_grows_0 7 rfl rfl)
theorem dX5_grows_10 : decode cX5_grows 10 = .ok (.i2l, 1) := dk_133 (dk_at dksX5_grows_0 10 rfl rfl)
theorem dX5_grows_11 : decode cX5_grows 11 = .ok (.lmul, 1) := dk_105 (dk_at dksX5_grows_0 11 rfl rfl)
theorem dX5_grows_12 : decode cX5_grows 12 = .ok (.ldc2_w 34, 3) := dk_20 0 34 (dk_at dksX5_grows_0 12 rfl rfl)
theorem dX5_grows_15 : decode cX5_grows 15 = .ok (.ldiv, 1) := dk_109 (dk_at dksX5_grows_0 15 rfl rfl)
theorem dX5_grows_16 : decode cX5_grows 16 = .ok (.ladd, 1) := dk_97 (dk_at dksX5_grows_0 16 rfl rfl)
theorem dX5_grows_17 : decode cX5_grows 17 = .ok (.aload_n 0, 1) := dk_42 (dk_at dksX5_grows_0 17 rfl rfl)
theorem dX5_grows_18 : decode cX5_grows 18 = .ok (.invokevirtual 36, 3) := dk_182 0 36 (dk_at dksX5_grows_0 18 rfl rfl)
theorem dX5_grows_21 : decode cX5_grows 21 = .ok (.lsub, 1) := dk_101 (dk_at dksX5_grows_0 21 rfl rfl)
theorem dX5_grows_22 : decode cX5_grows 22 = .ok (.lreturn, 1) := dk_173 (dk_at dksX5_grows_0 22 rfl rfl)
theorem q98 : (Jvm.Cond.initialized "EaterWebs$Eater") ∈ lw_all := lw_g (lw_at lw_m1 15 rfl) rfl
theorem q485 : (Jvm.Cond.instantiable "EaterWebs$Eater" (5 : Nat)) ∈ lw_all := lw_g (lw_at lw_m2 162 rfl) rfl
theorem q487 : (Jvm.Cond.instanceMethod ({ cls := "EaterWebs$Eater", name := "<init>", desc := "()V" } : Jvm.MethodName)) ∈ lw_all := lw_g (lw_at lw_m2 164 rfl) rfl
theorem q488 : (Jvm.Cond.code ({ cls := "EaterWebs$Eater", name := "<init>", desc := "()V" } : Jvm.MethodName) prog_3_method_1_code (1 : Nat) (Option.none : Option Jvm.ClassFile.FieldType)) ∈ lw_all := lw_g (lw_at lw_m2 165 rfl) rfl
theorem q489 : (Jvm.Cond.methodLinkNest "EaterWebs$Eater" (3 : Nat) ({ cls := "EaterWebs$Being", name := "<init>", desc := "()V" } : Jvm.MethodName) "EaterWebs") ∈ lw_tbl := lw_at lw_m2 166 rfl
theorem q490 : (Jvm.Cond.fieldLink "EaterWebs$Eater" (9 : Nat) "EaterWebs$Eater" "loss" "I") ∈ lw_all := lw_g (lw_at lw_m2 167 rfl) rfl
theorem q492 : (Jvm.Cond.fieldLink "EaterWebs$Eater" (15 : Nat) "EaterWebs$Eater" "gain" "I") ∈ lw_all := lw_g (lw_at lw_m2 169 rfl) rfl
theorem q494 : (Jvm.Cond.lays "EaterWebs$Eater" "EaterWebs$Eater" "loss" "I") ∈ lw_all := lw_g (lw_at lw_m2 171 rfl) rfl
theorem q495 : (Jvm.Cond.soleField "EaterWebs$Eater" "loss") ∈ lw_all := lw_g (lw_at lw_m2 172 rfl) rfl
theorem q496 : (Jvm.Cond.lays "EaterWebs$Eater" "EaterWebs$Eater" "gain" "I") ∈ lw_all := lw_g (lw_at lw_m2 173 rfl) rfl
theorem q497 : (Jvm.Cond.soleField "EaterWebs$Eater" "gain") ∈ lw_all := lw_g (lw_at lw_m2 174 rfl) rfl
theorem q498 : (Jvm.Cond.lays "EaterWebs$Eater" "EaterWebs$Being" "stock" "I") ∈ lw_all := lw_g (lw_at lw_m2 175 rfl) rfl
theorem q499 : (Jvm.Cond.lays "EaterWebs$Eater" "EaterWebs$Being" "taken" "I") ∈ lw_all := lw_g (lw_at lw_m2 176 rfl) rfl
theorem q500 : (Jvm.Cond.lays "EaterWebs$Eater" "EaterWebs$Being" "fell" "I") ∈ lw_all := lw_g (lw_at lw_m2 177 rfl) rfl
theorem q501 : (Jvm.Cond.superclass "EaterWebs$Eater" "EaterWebs$Being") ∈ lw_all := lw_g (lw_at lw_m2 178 rfl) rfl
theorem q522 : (Jvm.Cond.selects "EaterWebs$Eater" ({ cls := "EaterWebs$Being", name := "is", desc := "(I)Z" } : Jvm.MethodName) ({ cls := "EaterWebs$Eater", name := "is", desc := "(I)Z" } : Jvm.MethodName)) ∈ lw_all := lw_g (lw_at lw_m2 199 rfl) rfl
theorem q523 : (Jvm.Cond.instanceMethod ({ cls := "EaterWebs$Eater", name := "is", desc := "(I)Z" } : Jvm.MethodName)) ∈ lw_all := lw_g (lw_at lw_m2 200 rfl) rfl
theorem q524 : (Jvm.Cond.code ({ cls := "EaterWebs$Eater", name := "is", desc := "(I)Z" } : Jvm.MethodName) prog_3_method_3_code (2 : Nat) (Option.some Jvm.ClassFile.FieldType.boolean)) ∈ lw_all := lw_g (lw_at lw_m2 201 rfl) rfl
theorem q525 : (Jvm.Cond.methodLink "EaterWebs$Eater" (18 : Nat) ({ cls := "EaterWebs$Being", name := "is", desc := "(I)Z" } : Jvm.MethodName)) ∈ lw_all := lw_g (lw_at lw_m2 202 rfl) rfl
theorem q550 : (Jvm.Cond.selects "EaterWebs$Eater" ({ cls := "EaterWebs$Being", name := "kind", desc := "()I" } : Jvm.MethodName) ({ cls := "EaterWebs$Eater", name := "kind", desc := "()I" } : Jvm.MethodName)) ∈ lw_all := lw_g (lw_at lw_m2 227 rfl) rfl
theorem q551 : (Jvm.Cond.instanceMethod ({ cls := "EaterWebs$Eater", name := "kind", desc := "()I" } : Jvm.MethodName)) ∈ lw_all := lw_g (lw_at lw_m2 228 rfl) rfl
theorem q552 : (Jvm.Cond.code ({ cls := "EaterWebs$Eater", name := "kind", desc := "()I" } : Jvm.MethodName) prog_3_method_2_code (1 : Nat) (Option.some Jvm.ClassFile.FieldType.int)) ∈ lw_all := lw_g (lw_at lw_m2 229 rfl) rfl
theorem q663 : (Jvm.Cond.selects "EaterWebs$Eater" ({ cls := "EaterWebs$Being", name := "spills", desc := "(J)J" } : Jvm.MethodName) ({ cls := "EaterWebs$Eater", name := "spills", desc := "(J)J" } : Jvm.MethodName)) ∈ lw_all := lw_g (lw_at lw_m3 100 rfl) rfl
theorem q664 : (Jvm.Cond.instanceMethod ({ cls := "EaterWebs$Eater", name := "spills", desc := "(J)J" } : Jvm.MethodName)) ∈ lw_all := lw_g (lw_at lw_m3 101 rfl) rfl
theorem q665 : (Jvm.Cond.code ({ cls := "EaterWebs$Eater", name := "spills", desc := "(J)J" } : Jvm.MethodName) prog_3_method_6_code (3 : Nat) (Option.some Jvm.ClassFile.FieldType.long)) ∈ lw_all := lw_g (lw_at lw_m3 102 rfl) rfl
theorem q666 : (Jvm.Cond.constantLong "EaterWebs$Eater" (34 : Nat) (100 : Int64)) ∈ lw_all := lw_g (lw_at lw_m3 103 rfl) rfl
theorem q667 : (Jvm.Cond.methodLink "EaterWebs$Eater" (36 : Nat) ({ cls := "EaterWebs$Eater", name := "loses", desc := "()J" } : Jvm.MethodName)) ∈ lw_all := lw_g (lw_at lw_m3 104 rfl) rfl
theorem q668 : (Jvm.Cond.privateMethod ({ cls := "EaterWebs$Eater", name := "loses", desc := "()J" } : Jvm.MethodName)) ∈ lw_tbl := lw_at lw_m3 105 rfl
theorem q669 : (Jvm.Cond.instanceMethod ({ cls := "EaterWebs$Eater", name := "loses", desc := "()J" } : Jvm.MethodName)) ∈ lw_all := lw_g (lw_at lw_m3 106 rfl) rfl
theorem q670 : (Jvm.Cond.code ({ cls := "EaterWebs$Eater", name := "loses", desc := "()J" } : Jvm.MethodName) prog_3_method_4_code (1 : Nat) (Option.some Jvm.ClassFile.FieldType.long)) ∈ lw_all := lw_g (lw_at lw_m3 107 rfl) rfl
theorem q671 : (Jvm.Cond.methodLink "EaterWebs$Eater" (22 : Nat) ({ cls := "EaterWebs$Eater", name := "stockNow", desc := "()I" } : Jvm.MethodName)) ∈ lw_all := lw_g (lw_at lw_m3 108 rfl) rfl
theorem q672 : (Jvm.Cond.sameMethod "EaterWebs$Eater" "EaterWebs$Being" "stockNow" "()I") ∈ lw_all := lw_g (lw_at lw_m3 109 rfl) rfl
theorem q674 : (Jvm.Cond.selects "EaterWebs$Eater" ({ cls := "EaterWebs$Eater", name := "stockNow", desc := "()I" } : Jvm.MethodName) ({ cls := "EaterWebs$Being", name := "stockNow", desc := "()I" } : Jvm.MethodName)) ∈ lw_all := lw_g (lw_at lw_m3 111 rfl) rfl
theorem q678 : (Jvm.Cond.constantLong "EaterWebs$Eater" (26 : Nat) (999 : Int64)) ∈ lw_all := lw_g (lw_at lw_m3 115 rfl) rfl
theorem q679 : (Jvm.Cond.constantLong "EaterWebs$Eater" (28 : Nat) (1000 : Int64)) ∈ lw_all := lw_g (lw_at lw_m3 116 rfl) rfl
theorem q687 : (Jvm.Cond.selects "EaterWebs$Eater" ({ cls := "EaterWebs$Being", name := "grows", desc := "(J)J" } : Jvm.MethodName) ({ cls := "EaterWebs$Eater", name := "grows", desc := "(J)J" } : Jvm.MethodName)) ∈ lw_all := lw_g (lw_at lw_m3 124 rfl) rfl
theorem q688 : (Jvm.Cond.instanceMethod ({ cls := "EaterWebs$Eater", name := "grows", desc := "(J)J" } : Jvm.MethodName)) ∈ lw_all := lw_g (lw_at lw_m3 125 rfl) rfl
theorem q689 : (Jvm.Cond.code ({ cls := "EaterWebs$Eater", name := "grows", desc := "(J)J" } : Jvm.MethodName) prog_3_method_5_code (3 : Nat) (Option.some Jvm.ClassFile.FieldType.long)) ∈ lw_all := lw_g (lw_at lw_m3 126 rfl) rfl
theorem q690 : (Jvm.Cond.methodLink "EaterWebs$Eater" (30 : Nat) ({ cls := "EaterWebs$Being", name := "grows", desc := "(J)J" } : Jvm.MethodName)) ∈ lw_all := lw_g (lw_at lw_m3 127 rfl) rfl
theorem q1446 : (Jvm.Cond.sameMethod "EaterWebs$Eater" "EaterWebs$Eater" "is" "(I)Z") ∈ lw_all := lw_g (lw_at lw_m6 163 rfl) rfl
theorem q1447 : (Jvm.Cond.sameMethod "EaterWebs$Eater" "EaterWebs$Eater" "loses" "()J") ∈ lw_all := lw_g (lw_at lw_m6 164 rfl) rfl
theorem q1451 : (Jvm.Cond.castable "EaterWebs$Eater" "EaterWebs$Being") ∈ lw_tbl := lw_at lw_m6 168 rfl
theorem in_X5 : ∀ w ∈ wsX50, w ∈ lw_all := lw_in wsX50 [498, 499, 500, 494, 496] (by decide +kernel) (by decide +kernel)
/-! EaterWebs$Guest -/
set_option maxRecDepth 100000
def RX6 : String := "EaterWebs$Guest"
def TX6 : u_T := fun k => match k with
  | 0 => ("EaterWebs$Being", "stock", "I", false)
  | 1 => ("EaterWebs$Being", "taken", "I", false)
  | 2 => ("EaterWebs$Being", "fell", "I", false)
  | 3 => ("EaterWebs$Eater", "loss", "I", false)
  | 4 => ("EaterWebs$Eater", "gain", "I", false)
  | _ => ("EaterWebs$Guest", "since", "I", true)
def tyX6 : Nat → FieldType := fun k => match k with
  | 0 => .int
  | 1 => .int
  | 2 => .int
  | 3 => .int
  | 4 => .int
  | _ => .int
abbrev wsX60 : List Cond := u_ws RX6 TX6 6
theorem nmX6 : ∀ a, a < 6 → ∀ b, b < 6 → a ≠ b → (TX6 a).2.1 ≠ (TX6 b).2.1 := by decide +kernel
theorem tyX6_ok : ∀ k, k < 6 → parseFieldDescriptor (TX6 k).2.2.1 = some (tyX6 k) := by decide +kernel
abbrev cX6_init : ByteArray := prog_4_method_1_code
def yX6_init : MethodName := ⟨RX6, "<init>", "(I)V"⟩
def dkwX6_init_0 : List UInt8 := [42, 183, 0, 3, 42, 27, 181, 0, 9, 177]
abbrev dktX6_init_0 : List UInt8 := dkwX6_init_0 ++ []
theorem dksX6_init_0 : cX6_init.data.toList.drop 0 = dktX6_init_0 := by decide +kernel
theorem dX6_init_0 : decode cX6_init 0 = .ok (.aload_n 0, 1) := dk_42 (dk_at dksX6_init_0 0 rfl rfl)
theorem dX6_init_1 : decode cX6_init 1 = .ok (.invokespecial 3, 3) := dk_183 0 3 (dk_at dksX6_init_0 1 rfl rfl)
theorem dX6_init_4 : decode cX6_init 4 = .ok (.aload_n 0, 1) := dk_42 (dk_at dksX6_init_0 4 rfl rfl)
theorem dX6_init_5 : decode cX6_init 5 = .ok (.iload_n 1, 1) := dk_27 (dk_at dksX6_init_0 5 rfl rfl)
theorem dX6_init_6 : decode cX6_init 6 = .ok (.putfield 9, 3) := dk_181 0 9 (dk_at dksX6_init_0 6 rfl rfl)
theorem dX6_init_9 : decode cX6_init 9 = .ok (.return_, 1) := dk_177 (dk_at dksX6_init_0 9 rfl rfl)
abbrev cX6_is : ByteArray := prog_4_method_3_code
def yX6_is : MethodName := ⟨RX6, "is", "(I)Z"⟩
def dkwX6_is_0 : List UInt8 := [27, 6, 159, 0, 11, 42, 27, 183, 0, 15, 153, 0, 7, 4, 167, 0, 4, 3, 172]
abbrev dktX6_is_0 : List UInt8 := dkwX6_is_0 ++ []
theorem dksX6_is_0 : cX6_is.data.toList.drop 0 = dktX6_is_0 := by decide +kernel
theorem dX6_is_0 : decode cX6_is 0 = .ok (.iload_n 1, 1) := dk_27 (dk_at dksX6_is_0 0 rfl rfl)
theorem dX6_is_1 : decode cX6_is 1 = .ok (.iconst 3, 1) := dk_6 (dk_at dksX6_is_0 1 rfl rfl)
theorem dX6_is_2 : decode cX6_is 2 = .ok (.if_icmp .eq 11, 3) := dk_159 0 11 (dk_at dksX6_is_0 2 rfl rfl)
theorem dX6_is_5 : decode cX6_is 5 = .ok (.aload_n 0, 1) := dk_42 (dk_at dksX6_is_0 5 rfl rfl)
theorem dX6_is_6 : decode cX6_is 6 = .ok (.iload_n 1, 1) := dk_27 (dk_at dksX6_is_0 6 rfl rfl)
theorem dX6_is_7 : decode cX6_is 7 = .ok (.invokespecial 15, 3) := dk_183 0 15 (dk_at dksX6_is_0 7 rfl rfl)
theorem dX6_is_10 : decode cX6_is 10 = .ok (.ifCond .eq 7, 3) := dk_153 0 7 (dk_at dksX6_is_0 10 rfl rfl)
theorem dX6_is_13 : decode cX6_is 13 = .ok (.iconst 1, 1) := dk_4 (dk_at dksX6_is_0 13 rfl rfl)
theorem dX6_is_14 : decode cX6_is 14 = .ok (.goto 4, 3) := dk_167 0 4 (dk_at dksX6_is_0 14 rfl rfl)
theorem dX6_is_17 : decode cX6_is 17 = .ok (.iconst 0, 1) := dk_3 (dk_at dksX6_is_0 17 rfl rfl)
theorem dX6_is_18 : decode cX6_is 18 = .ok (.ireturn, 1) := dk_172 (dk_at dksX6_is_0 18 rfl rfl)
abbrev cX6_kind : ByteArray := prog_4_method_2_code
def yX6_kind : MethodName := ⟨RX6, "kind", "()I"⟩
theorem dX6_kind_0 : decode cX6_kind 0 = .ok (.iconst 3, 1) := by decide +kernel
theorem dX6_kind_1 : decode cX6_kind 1 = .ok (.ireturn, 1) := by decide +kernel
theorem q99 : (Jvm.Cond.initialized "EaterWebs$Guest") ∈ lw_all := lw_g (lw_at lw_m1 16 rfl) rfl
theorem q503 : (Jvm.Cond.instantiable "EaterWebs$Guest" (6 : Nat)) ∈ lw_all := lw_g (lw_at lw_m2 180 rfl) rfl
theorem q505 : (Jvm.Cond.instanceMethod ({ cls := "EaterWebs$Guest", name := "<init>", desc := "(I)V" } : Jvm.MethodName)) ∈ lw_all := lw_g (lw_at lw_m2 182 rfl) rfl
theorem q506 : (Jvm.Cond.code ({ cls := "EaterWebs$Guest", name := "<init>", desc := "(I)V" } : Jvm.MethodName) prog_4_method_1_code (2 : Nat) (Option.none : Option Jvm.ClassFile.FieldType)) ∈ lw_all := lw_g (lw_at lw_m2 183 rfl) rfl
theorem q507 : (Jvm.Cond.methodLinkNest "EaterWebs$Guest" (3 : Nat) ({ cls := "EaterWebs$Eater", name := "<init>", desc := "()V" } : Jvm.MethodName) "EaterWebs") ∈ lw_tbl := lw_at lw_m2 184 rfl
theorem q508 : (Jvm.Cond.fieldLink "EaterWebs$Guest" (9 : Nat) "EaterWebs$Guest" "since" "I") ∈ lw_all := lw_g (lw_at lw_m2 185 rfl) rfl
theorem q510 : (Jvm.Cond.laysFinal "EaterWebs$Guest" "EaterWebs$Guest" "since" "I") ∈ lw_all := lw_g (lw_at lw_m2 187 rfl) rfl
theorem q511 : (Jvm.Cond.soleField "EaterWebs$Guest" "since") ∈ lw_all := lw_g (lw_at lw_m2 188 rfl) rfl
theorem q512 : (Jvm.Cond.lays "EaterWebs$Guest" "EaterWebs$Eater" "loss" "I") ∈ lw_all := lw_g (lw_at lw_m2 189 rfl) rfl
theorem q513 : (Jvm.Cond.lays "EaterWebs$Guest" "EaterWebs$Eater" "gain" "I") ∈ lw_all := lw_g (lw_at lw_m2 190 rfl) rfl
theorem q514 : (Jvm.Cond.lays "EaterWebs$Guest" "EaterWebs$Being" "stock" "I") ∈ lw_all := lw_g (lw_at lw_m2 191 rfl) rfl
theorem q515 : (Jvm.Cond.lays "EaterWebs$Guest" "EaterWebs$Being" "taken" "I") ∈ lw_all := lw_g (lw_at lw_m2 192 rfl) rfl
theorem q516 : (Jvm.Cond.lays "EaterWebs$Guest" "EaterWebs$Being" "fell" "I") ∈ lw_all := lw_g (lw_at lw_m2 193 rfl) rfl
theorem q517 : (Jvm.Cond.superclass "EaterWebs$Guest" "EaterWebs$Eater") ∈ lw_all := lw_g (lw_at lw_m2 194 rfl) rfl
theorem q527 : (Jvm.Cond.selects "EaterWebs$Guest" ({ cls := "EaterWebs$Being", name := "is", desc := "(I)Z" } : Jvm.MethodName) ({ cls := "EaterWebs$Guest", name := "is", desc := "(I)Z" } : Jvm.MethodName)) ∈ lw_all := lw_g (lw_at lw_m2 204 rfl) rfl
theorem q528 : (Jvm.Cond.instanceMethod ({ cls := "EaterWebs$Guest", name := "is", desc := "(I)Z" } : Jvm.MethodName)) ∈ lw_all := lw_g (lw_at lw_m2 205 rfl) rfl
theorem q529 : (Jvm.Cond.code ({ cls := "EaterWebs$Guest", name := "is", desc := "(I)Z" } : Jvm.MethodName) prog_4_method_3_code (2 : Nat) (Option.some Jvm.ClassFile.FieldType.boolean)) ∈ lw_all := lw_g (lw_at lw_m2 206 rfl) rfl
theorem q530 : (Jvm.Cond.methodLink "EaterWebs$Guest" (15 : Nat) ({ cls := "EaterWebs$Eater", name := "is", desc := "(I)Z" } : Jvm.MethodName)) ∈ lw_all := lw_g (lw_at lw_m2 207 rfl) rfl
theorem q553 : (Jvm.Cond.selects "EaterWebs$Guest" ({ cls := "EaterWebs$Being", name := "kind", desc := "()I" } : Jvm.MethodName) ({ cls := "EaterWebs$Guest", name := "kind", desc := "()I" } : Jvm.MethodName)) ∈ lw_all := lw_g (lw_at lw_m2 230 rfl) rfl
theorem q554 : (Jvm.Cond.instanceMethod ({ cls := "EaterWebs$Guest", name := "kind", desc := "()I" } : Jvm.MethodName)) ∈ lw_all := lw_g (lw_at lw_m2 231 rfl) rfl
theorem q555 : (Jvm.Cond.code ({ cls := "EaterWebs$Guest", name := "kind", desc := "()I" } : Jvm.MethodName) prog_4_method_2_code (1 : Nat) (Option.some Jvm.ClassFile.FieldType.int)) ∈ lw_all := lw_g (lw_at lw_m2 232 rfl) rfl
theorem q675 : (Jvm.Cond.selects "EaterWebs$Guest" ({ cls := "EaterWebs$Eater", name := "stockNow", desc := "()I" } : Jvm.MethodName) ({ cls := "EaterWebs$Being", name := "stockNow", desc := "()I" } : Jvm.MethodName)) ∈ lw_all := lw_g (lw_at lw_m3 112 rfl) rfl
theorem q680 : (Jvm.Cond.selects "EaterWebs$Guest" ({ cls := "EaterWebs$Being", name := "spills", desc := "(J)J" } : Jvm.MethodName) ({ cls := "EaterWebs$Eater", name := "spills", desc := "(J)J" } : Jvm.MethodName)) ∈ lw_all := lw_g (lw_at lw_m3 117 rfl) rfl
theorem q692 : (Jvm.Cond.selects "EaterWebs$Guest" ({ cls := "EaterWebs$Being", name := "grows", desc := "(J)J" } : Jvm.MethodName) ({ cls := "EaterWebs$Eater", name := "grows", desc := "(J)J" } : Jvm.MethodName)) ∈ lw_all := lw_g (lw_at lw_m3 129 rfl) rfl
theorem q1449 : (Jvm.Cond.castable "EaterWebs$Guest" "EaterWebs$Eater") ∈ lw_tbl := lw_at lw_m6 166 rfl
theorem q1452 : (Jvm.Cond.castable "EaterWebs$Guest" "EaterWebs$Being") ∈ lw_tbl := lw_at lw_m6 169 rfl
theorem in_X6 : ∀ w ∈ wsX60, w ∈ lw_all := lw_in wsX60 [514, 515, 516, 512, 513, 510] (by decide +kernel) (by decide +kernel)
/-! java/lang/Object -/
set_option maxRecDepth 100000
def RJ11 : String := "java/lang/Object"
abbrev cJ11_init : ByteArray := object_method_1_code
def yJ11_init : MethodName := ⟨RJ11, "<init>", "()V"⟩
theorem dJ11_init_0 : decode cJ11_init 0 = .ok (.return_, 1) := by decide +kernel
theorem q109 : (Jvm.Cond.instanceMethod ({ cls := "java/lang/Object", name := "<init>", desc := "()V" } : Jvm.MethodName)) ∈ lw_all := lw_g (lw_at lw_m1 26 rfl) rfl
theorem q110 : (Jvm.Cond.code ({ cls := "java/lang/Object", name := "<init>", desc := "()V" } : Jvm.MethodName) object_method_1_code (1 : Nat) (Option.none : Option Jvm.ClassFile.FieldType)) ∈ lw_all := lw_g (lw_at lw_m1 27 rfl) rfl
theorem q112 : (Jvm.Cond.arrayOver (Jvm.ClassFile.FieldType.array Jvm.ClassFile.FieldType.byte)) ∈ lw_tbl := lw_at lw_m1 29 rfl
set_option maxRecDepth 100000
theorem q114 : (Jvm.Cond.arrayOver (Jvm.ClassFile.FieldType.object "EaterWebs$Being")) ∈ lw_tbl := lw_at lw_m1 31 rfl
theorem q203 : (Jvm.Cond.arrayClass Jvm.ClassFile.FieldType.int) ∈ lw_all := lw_g (lw_at lw_m1 120 rfl) rfl
theorem q204 : (Jvm.Cond.arrayClass Jvm.ClassFile.FieldType.long) ∈ lw_all := lw_g (lw_at lw_m1 121 rfl) rfl
theorem q290 : (Jvm.Cond.arrayClass Jvm.ClassFile.FieldType.byte) ∈ lw_all := lw_g (lw_at lw_m1 207 rfl) rfl
theorem q1076 : (Jvm.Cond.arrayClass Jvm.ClassFile.FieldType.boolean) ∈ lw_all := lw_g (lw_at lw_m5 33 rfl) rfl
