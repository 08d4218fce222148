/-! EaterWebsModel -/
set_option maxRecDepth 100000
def RX1 : String := "EaterWebsModel"
def TX1 : u_T := fun k => match k with
  | 0 => ("EaterWebsModel", "latest", "I", false)
  | 1 => ("EaterWebsModel", "came", "[I", true)
  | 2 => ("EaterWebsModel", "asked", "I", false)
  | 3 => ("EaterWebsModel", "upper", "J", false)
  | 4 => ("EaterWebsModel", "lower", "J", false)
  | 5 => ("EaterWebsModel", "sizes", "[I", true)
  | 6 => ("EaterWebsModel", "bytes", "[B", true)
  | 7 => ("EaterWebsModel", "copied", "[B", true)
  | 8 => ("EaterWebsModel", "itemWhat", "I", false)
  | 9 => ("EaterWebsModel", "itemBeing", "I", false)
  | 10 => ("EaterWebsModel", "itemOther", "I", false)
  | 11 => ("EaterWebsModel", "itemNumber", "I", false)
  | 12 => ("EaterWebsModel", "itemEnd", "I", false)
  | 13 => ("EaterWebsModel", "isThere", "[Z", true)
  | 14 => ("EaterWebsModel", "kindOf", "[I", true)
  | 15 => ("EaterWebsModel", "stocks", "[I", true)
  | 16 => ("EaterWebsModel", "taken", "[I", true)
  | 17 => ("EaterWebsModel", "rates", "[I", true)
  | 18 => ("EaterWebsModel", "caps", "[I", true)
  | 19 => ("EaterWebsModel", "losses", "[I", true)
  | 20 => ("EaterWebsModel", "gains", "[I", true)
  | 21 => ("EaterWebsModel", "fellIn", "[I", true)
  | 22 => ("EaterWebsModel", "weeksThere", "[I", true)
  | 23 => ("EaterWebsModel", "links", "[I", true)
  | 24 => ("EaterWebsModel", "leasts", "[I", true)
  | 25 => ("EaterWebsModel", "mosts", "[I", true)
  | 26 => ("EaterWebsModel", "doors", "[I", true)
  | 27 => ("EaterWebsModel", "effects", "[I", true)
  | 28 => ("EaterWebsModel", "now", "I", false)
  | 29 => ("EaterWebsModel", "caught", "J", false)
  | 30 => ("EaterWebsModel", "wants", "[J", true)
  | 31 => ("EaterWebsModel", "changes", "[J", true)
  | 32 => ("EaterWebsModel", "catches", "[I", true)
  | 33 => ("EaterWebsModel", "fellSet", "I", false)
  | 34 => ("EaterWebsModel", "trial", "[I", true)
  | 35 => ("EaterWebsModel", "past", "[I", true)
  | 36 => ("EaterWebsModel", "caughtBy", "J", false)
  | 37 => ("EaterWebsModel", "inLeast", "I", false)
  | 38 => ("EaterWebsModel", "inMost", "I", false)
  | 39 => ("EaterWebsModel", "outLeast", "I", false)
  | 40 => ("EaterWebsModel", "outMost", "I", false)
  | 41 => ("EaterWebsModel", "rangeLeast", "I", false)
  | 42 => ("EaterWebsModel", "rangeMost", "I", false)
  | 43 => ("EaterWebsModel", "wide", "I", false)
  | 44 => ("EaterWebsModel", "ones", "[I", true)
  | 45 => ("EaterWebsModel", "table", "[J", true)
  | 46 => ("EaterWebsModel", "sumOf", "J", false)
  | 47 => ("EaterWebsModel", "above", "I", false)
  | 48 => ("EaterWebsModel", "below", "I", false)
  | 49 => ("EaterWebsModel", "picks", "[I", true)
  | 50 => ("EaterWebsModel", "small", "[J", true)
  | _ => ("EaterWebsModel", "mix", "J", false)
def tyX1 : Nat → FieldType := fun k => match k with
  | 0 => .int
  | 1 => .array .int
  | 2 => .int
  | 3 => .long
  | 4 => .long
  | 5 => .array .int
  | 6 => .array .byte
  | 7 => .array .byte
  | 8 => .int
  | 9 => .int
  | 10 => .int
  | 11 => .int
  | 12 => .int
  | 13 => .array .boolean
  | 14 => .array .int
  | 15 => .array .int
  | 16 => .array .int
  | 17 => .array .int
  | 18 => .array .int
  | 19 => .array .int
  | 20 => .array .int
  | 21 => .array .int
  | 22 => .array .int
  | 23 => .array .int
  | 24 => .array .int
  | 25 => .array .int
  | 26 => .array .int
  | 27 => .array .int
  | 28 => .int
  | 29 => .long
  | 30 => .array .long
  | 31 => .array .long
  | 32 => .array .int
  | 33 => .int
  | 34 => .array .int
  | 35 => .array .int
  | 36 => .long
  | 37 => .int
  | 38 => .int
  | 39 => .int
  | 40 => .int
  | 41 => .int
  | 42 => .int
  | 43 => .int
  | 44 => .array .int
  | 45 => .array .long
  | 46 => .long
  | 47 => .int
  | 48 => .int
  | 49 => .array .int
  | 50 => .array .long
  | _ => .long
abbrev wsX10 : List Cond := u_ws RX1 TX1 52
set_option maxRecDepth 100000 in
theorem nmX1 : ∀ a, a < 52 → ∀ b, b < 52 → a ≠ b → (TX1 a).2.1 ≠ (TX1 b).2.1 := by decide +kernel
set_option maxRecDepth 100000 in
theorem tyX1_ok : ∀ k, k < 52 → parseFieldDescriptor (TX1 k).2.2.1 = some (tyX1 k) := by decide +kernel
abbrev cX1_init : ByteArray := prog_8_method_1_code
def yX1_init : MethodName := ⟨RX1, "<init>", "()V"⟩
def dkwX1_init_10 : List UInt8 := [162, 0, 16, 42, 180, 0, 13, 27, 2, 79, 132, 1, 1, 167, 255, 241, 177]
abbrev dktX1_init_10 : List UInt8 := dkwX1_init_10 ++ []
def dkwX1_init_9 : List UInt8 := [42, 7, 188, 10, 181, 0, 91, 42, 16, 16, 188, 11, 181, 0, 94, 42, 10, 181, 0, 97, 3, 60, 27, 7]
abbrev dktX1_init_9 : List UInt8 := dkwX1_init_9 ++ dktX1_init_10
def dkwX1_init_8 : List UInt8 := [17, 9, 104, 188, 10, 181, 0, 82, 42, 16, 8, 188, 10, 181, 0, 85, 42, 16, 64, 188, 11, 181, 0, 88]
abbrev dktX1_init_8 : List UInt8 := dkwX1_init_8 ++ dktX1_init_9
def dkwX1_init_7 : List UInt8 := [188, 11, 181, 0, 73, 42, 16, 8, 188, 10, 181, 0, 76, 42, 16, 8, 188, 10, 181, 0, 79, 42]
abbrev dktX1_init_7 : List UInt8 := dkwX1_init_7 ++ dktX1_init_8
def dkwX1_init_6 : List UInt8 := [188, 10, 181, 0, 63, 42, 16, 64, 188, 10, 181, 0, 66, 42, 16, 64, 188, 11, 181, 0, 69, 42, 16, 8]
abbrev dktX1_init_6 : List UInt8 := dkwX1_init_6 ++ dktX1_init_7
def dkwX1_init_5 : List UInt8 := [188, 10, 181, 0, 54, 42, 16, 64, 188, 10, 181, 0, 57, 42, 16, 64, 188, 10, 181, 0, 60, 42, 16, 32]
abbrev dktX1_init_5 : List UInt8 := dkwX1_init_5 ++ dktX1_init_6
def dkwX1_init_4 : List UInt8 := [188, 10, 181, 0, 45, 42, 16, 8, 188, 10, 181, 0, 48, 42, 16, 8, 188, 10, 181, 0, 51, 42, 16, 64]
abbrev dktX1_init_4 : List UInt8 := dkwX1_init_4 ++ dktX1_init_5
def dkwX1_init_3 : List UInt8 := [188, 10, 181, 0, 36, 42, 16, 8, 188, 10, 181, 0, 39, 42, 16, 8, 188, 10, 181, 0, 42, 42, 16, 8]
abbrev dktX1_init_3 : List UInt8 := dkwX1_init_3 ++ dktX1_init_4
def dkwX1_init_2 : List UInt8 := [188, 10, 181, 0, 27, 42, 16, 8, 188, 10, 181, 0, 30, 42, 16, 8, 188, 10, 181, 0, 33, 42, 16, 8]
abbrev dktX1_init_2 : List UInt8 := dkwX1_init_2 ++ dktX1_init_3
def dkwX1_init_1 : List UInt8 := [188, 8, 181, 0, 16, 42, 16, 60, 188, 8, 181, 0, 20, 42, 16, 8, 188, 4, 181, 0, 23, 42, 16, 8]
abbrev dktX1_init_1 : List UInt8 := dkwX1_init_1 ++ dktX1_init_2
def dkwX1_init_0 : List UInt8 := [42, 183, 0, 1, 42, 16, 6, 188, 10, 181, 0, 7, 42, 7, 188, 10, 181, 0, 13, 42, 17, 0, 240]
abbrev dktX1_init_0 : List UInt8 := dkwX1_init_0 ++ dktX1_init_1
theorem dksX1_init_0 : cX1_init.data.toList.drop 0 = dktX1_init_0 := by decide +kernel
theorem dksX1_init_1 : cX1_init.data.toList.drop 23 = dktX1_init_1 := dk_seg dksX1_init_0 23 rfl rfl
theorem dksX1_init_2 : cX1_init.data.toList.drop 47 = dktX1_init_2 := dk_seg dksX1_init_1 24 rfl rfl
theorem dksX1_init_3 : cX1_init.data.toList.drop 71 = dktX1_init_3 := dk_seg dksX1_init_2 24 rfl rfl
theorem dksX1_init_4 : cX1_init.data.toList.drop 95 = dktX1_init_4 := dk_seg dksX1_init_3 24 rfl rfl
theorem dksX1_init_5 : cX1_init.data.toList.drop 119 = dktX1_init_5 := dk_seg dksX1_init_4 24 rfl rfl
theorem dksX1_init_6 : cX1_init.data.toList.drop 143 = dktX1_init_6 := dk_seg dksX1_init_5 24 rfl rfl
theorem dksX1_init_7 : cX1_init.data.toList.drop 167 = dktX1_init_7 := dk_seg dksX1_init_6 24 rfl rfl
theorem dksX1_init_8 : cX1_init.data.toList.drop 189 = dktX1_init_8 := dk_seg dksX1_init_7 22 rfl rfl
theorem dksX1_init_9 : cX1_init.data.toList.drop 213 = dktX1_init_9 := dk_seg dksX1_init_8 24 rfl rfl
theorem dksX1_init_10 : cX1_init.data.toList.drop 237 = dktX1_init_10 := dk_seg dksX1_init_9 24 rfl rfl
theorem dX1_init_0 : decode cX1_init 0 = .ok (.aload_n 0, 1) := dk_42 (dk_at dksX1_init_0 0 rfl rfl)
theorem dX1_init_1 : decode cX1_init 1 = .ok (.invokespecial 1, 3) := dk_183 0 1 (dk_at dksX1_init_0 1 rfl rfl)
theorem dX1_init_4 : decode cX1_init 4 = .ok (.aload_n 0, 1) := dk_42 (dk_at dksX1_init_0 4 rfl rfl)
theorem dX1_init_5 : decode cX1_init 5 = .ok (.bipush 6, 2) := dk_16 6 (dk_at dksX1_init_0 5 rfl rfl)
theorem dX1_init_7 : decode cX1_init 7 = .ok (.newarray .int, 2) := dk_188_10 (dk_at dksX1_init_0 7 rfl rfl)
theorem dX1_init_9 : decode cX1_init 9 = .ok (.putfield 7, 3) := dk_181 0 7 (dk_at dksX1_init_0 9 rfl rfl)
theorem dX1_init_12 : decode cX1_init 12 = .ok (.aload_n 0, 1) := dk_42 (dk_at dksX1_init_0 12 rfl rfl)
theorem dX1_init_13 : decode cX1_init 13 = .ok (.iconst 4, 1) := dk_7 (dk_at dksX1_init_0 13 rfl rfl)
theorem dX1_init_14 : decode cX1_init 14 = .ok (.newarray .int, 2) := dk_188_10 (dk_at dksX1_init_0 14 rfl rfl)
theorem dX1_init_16 : decode cX1_init 16 = .ok (.putfield 13, 3) := dk_181 0 13 (dk_at dksX1_init_0 16 rfl rfl)
theorem dX1_init_19 : decode cX1_init 19 = .ok (.aload_n 0, 1) := dk_42 (dk_at dksX1_init_0 19 rfl rfl)
theorem dX1_init_20 : decode cX1_init 20 = .ok (.sipush 240, 3) := dk_17 0 240 (dk_at dksX1_init_0 20 rfl rfl)
theorem dX1_init_23 : decode cX1_init 23 = .ok (.newarray .byte, 2) := dk_188_8 (dk_at dksX1_init_1 0 rfl rfl)
theorem dX1_init_25 : decode cX1_init 25 = .ok (.putfield 16, 3) := dk_181 0 16 (dk_at dksX1_init_1 2 rfl rfl)
theorem dX1_init_28 : decode cX1_init 28 = .ok (.aload_n 0, 1) := dk_42 (dk_at dksX1_init_1 5 rfl rfl)
theorem dX1_init_29 : decode cX1_init 29 = .ok (.bipush 60, 2) := dk_16 60 (dk_at dksX1_init_1 6 rfl rfl)
theorem dX1_init_31 : decode cX1_init 31 = .ok (.newarray .byte, 2) := dk_188_8 (dk_at dksX1_init_1 8 rfl rfl)
theorem dX1_init_33 : decode cX1_init 33 = .ok (.putfield 20, 3) := dk_181 0 20 (dk_at dksX1_init_1 10 rfl rfl)
theorem dX1_init_36 : decode cX1_init 36 = .ok (.aload_n 0, 1) := dk_42 (dk_at dksX1_init_1 13 rfl rfl)
theorem dX1_init_37 : decode cX1_init 37 = .ok (.bipush 8, 2) := dk_16 8 (dk_at dksX1_init_1 14 rfl rfl)
theorem dX1_init_39 : decode cX1_init 39 = .ok (.newarray .boolean, 2) := dk_188_4 (dk_at dksX1_init_1 16 rfl rfl)
theorem dX1_init_41 : decode cX1_init 41 = .ok (.putfield 23, 3) := dk_181 0 23 (dk_at dksX1_init_1 18 rfl rfl)
theorem dX1_init_44 : decode cX1_init 44 = .ok (.aload_n 0, 1) := dk_42 (dk_at dksX1_init_1 21 rfl rfl)
theorem dX1_init_45 : decode cX1_init 45 = .ok (.bipush 8, 2) := dk_16 8 (dk_at dksX1_init_1 22 rfl rfl)
theorem dX1_init_47 : decode cX1_init 47 = .ok (.newarray .int, 2) := dk_188_10 (dk_at dksX1_init_2 0 rfl rfl)
theorem dX1_init_49 : decode cX1_init 49 = .ok (.putfield 27, 3) := dk_181 0 27 (dk_at dksX1_init_2 2 rfl rfl)
theorem dX1_init_52 : decode cX1_init 52 = .ok (.aload_n 0, 1) := dk_42 (dk_at dksX1_init_2 5 rfl rfl)
theorem dX1_init_53 : decode cX1_init 53 = .ok (.bipush 8, 2) := dk_16 8 (dk_at dksX1_init_2 6 rfl rfl)
theorem dX1_init_55 : decode cX1_init 55 = .ok (.newarray .int, 2) := dk_188_10 (dk_at dksX1_init_2 8 rfl rfl)
theorem dX1_init_57 : decode cX1_init 57 = .ok (.putfield 30, 3) := dk_181 0 30 (dk_at dksX1_init_2 10 rfl rfl)
theorem dX1_init_60 : decode cX1_init 60 = .ok (.aload_n 0, 1) := dk_42 (dk_at dksX1_init_2 13 rfl rfl)
theorem dX1_init_61 : decode cX1_init 61 = .ok (.bipush 8, 2) := dk_16 8 (dk_at dksX1_init_2 14 rfl rfl)
theorem dX1_init_63 : decode cX1_init 63 = .ok (.newarray .int, 2) := dk_188_10 (dk_at dksX1_init_2 16 rfl rfl)
theorem dX1_init_65 : decode cX1_init 65 = .ok (.putfield 33, 3) := dk_181 0 33 (dk_at dksX1_init_2 18 rfl rfl)
theorem dX1_init_68 : decode cX1_init 68 = .ok (.aload_n 0, 1) := dk_42 (dk_at dksX1_init_2 21 rfl rfl)
theorem dX1_init_69 : decode cX1_init 69 = .ok (.bipush 8, 2) := dk_16 8 (dk_at dksX1_init_2 22 rfl rfl)
theorem dX1_init_71 : decode cX1_init 71 = .ok (.newarray .int, 2) := dk_188_10 (dk_at dksX1_init_3 0 rfl rfl)
theorem dX1_init_73 : decode cX1_init 73 = .ok (.putfield 36, 3) := dk_181 0 36 (dk_at dksX1_init_3 2 rfl rfl)
theorem dX1_init_76 : decode cX1_init 76 = .ok (.aload_n 0, 1) := dk_42 (dk_at dksX1_init_3 5 rfl rfl)
theorem dX1_init_77 : decode cX1_init 77 = .ok (.bipush 8, 2) := dk_16 8 (dk_at dksX1_init_3 6 rfl rfl)
theorem dX1_init_79 : decode cX1_init 79 = .ok (.newarray .int, 2) := dk_188_10 (dk_at dksX1_init_3 8 rfl rfl)
theorem dX1_init_81 : decode cX1_init 81 = .ok (.putfield 39, 3) := dk_181 0 39 (dk_at dksX1_init_3 10 rfl rfl)
theorem dX1_init_84 : decode cX1_init 84 = .ok (.aload_n 0, 1) := dk_42 (dk_at dksX1_init_3 13 rfl rfl)
theorem dX1_init_85 : decode cX1_init 85 = .ok (.bipush 8, 2) := dk_16 8 (dk_at dksX1_init_3 14 rfl rfl)
theorem dX1_init_87 : decode cX1_init 87 = .ok (.newarray .int, 2) := dk_188_10 (dk_at dksX1_init_3 16 rfl rfl)
theorem dX1_init_89 : decode cX1_init 89 = .ok (.putfield 42, 3) := dk_181 0 42 (dk_at dksX1_init_3 18 rfl rfl)
theorem dX1_init_92 : decode cX1_init 92 = .ok (.aload_n 0, 1) := dk_42 (dk_at dksX1_init_3 21 rfl rfl)
theorem dX1_init_93 : decode cX1_init 93 = .ok (.bipush 8, 2) := dk_16 8 (dk_at dksX1_init_3 22 rfl rfl)
theorem dX1_init_95 : decode cX1_init 95 = .ok (.newarray .int, 2) := dk_188_10 (dk_at dksX1_init_4 0 rfl rfl)
theorem dX1_init_97 : decode cX1_init 97 = .ok (.putfield 45, 3) := dk_181 0 45 (dk_at dksX1_init_4 2 rfl rfl)
theorem dX1_init_100 : decode cX1_init 100 = .ok (.aload_n 0, 1) := dk_42 (dk_at dksX1_init_4 5 rfl rfl)
theorem dX1_init_101 : decode cX1_init 101 = .ok (.bipush 8, 2) := dk_16 8 (dk_at dksX1_init_4 6 rfl rfl)
theorem dX1_init_103 : decode cX1_init 103 = .ok (.newarray .int, 2) := dk_188_10 (dk_at dksX1_init_4 8 rfl rfl)
theorem dX1_init_105 : decode cX1_init 105 = .ok (.putfield 48, 3) := dk_181 0 48 (dk_at dksX1_init_4 10 rfl rfl)
theorem dX1_init_108 : decode cX1_init 108 = .ok (.aload_n 0, 1) := dk_42 (dk_at dksX1_init_4 13 rfl rfl)
theorem dX1_init_109 : decode cX1_init 109 = .ok (.bipush 8, 2) := dk_16 8 (dk_at dksX1_init_4 14 rfl rfl)
theorem dX1_init_111 : decode cX1_init 111 = .ok (.newarray .int, 2) := dk_188_10 (dk_at dksX1_init_4 16 rfl rfl)
theorem dX1_init_113 : decode cX1_init 113 = .ok (.putfield 51, 3) := dk_181 0 51 (dk_at dksX1_init_4 18 rfl rfl)
theorem dX1_init_116 : decode cX1_init 116 = .ok (.aload_n 0, 1) := dk_42 (dk_at dksX1_init_4 21 rfl rfl)
theorem dX1_init_117 : decode cX1_init 117 = .ok (.bipush 64, 2) := dk_16 64 (dk_at dksX1_init_4 22 rfl rfl)
theorem dX1_init_119 : decode cX1_init 119 = .ok (.newarray .int, 2) := dk_188_10 (dk_at dksX1_init_5 0 rfl rfl)
theorem dX1_init_121 : decode cX1_init 121 = .ok (.putfield 54, 3) := dk_181 0 54 (dk_at dksX1_init_5 2 rfl rfl)
theorem dX1_init_124 : decode cX1_init 124 = .ok (.aload_n 0, 1) := dk_42 (dk_at dksX1_init_5 5 rfl rfl)
theorem dX1_init_125 : decode cX1_init 125 = .ok (.bipush 64, 2) := dk_16 64 (dk_at dksX1_init_5 6 rfl rfl)
theorem dX1_init_127 : decode cX1_init 127 = .ok (.newarray .int, 2) := dk_188_10 (dk_at dksX1_init_5 8 rfl rfl)
theorem dX1_init_129 : decode cX1_init 129 = .ok (.putfield 57, 3) := dk_181 0 57 (dk_at dksX1_init_5 10 rfl rfl)
theorem dX1_init_132 : decode cX1_init 132 = .ok (.aload_n 0, 1) := dk_42 (dk_at dksX1_init_5 13 rfl rfl)
theorem dX1_init_133 : decode cX1_init 133 = .ok (.bipush 64, 2) := dk_16 64 (dk_at dksX1_init_5 14 rfl rfl)
theorem dX1_init_135 : decode cX1_init 135 = .ok (.newarray .int, 2) := dk_188_10 (dk_at dksX1_init_5 16 rfl rfl)
theorem dX1_init_137 : decode cX1_init 137 = .ok (.putfield 60, 3) := dk_181 0 60 (dk_at dksX1_init_5 18 rfl rfl)
theorem dX1_init_140 : decode cX1_init 140 = .ok (.aload_n 0, 1) := dk_42 (dk_at dksX1_init_5 21 rfl rfl)
theorem dX1_init_141 : decode cX1_init 141 = .ok (.bipush 32, 2) := dk_16 32 (dk_at dksX1_init_5 22 rfl rfl)
theorem dX1_init_143 : decode cX1_init 143 = .ok (.newarray .int, 2) := dk_188_10 (dk_at dksX1_init_6 0 rfl rfl)
theorem dX1_init_145 : decode cX1_init 145 = .ok (.putfield 63, 3) := dk_181 0 63 (dk_at dksX1_init_6 2 rfl rfl)
theorem dX1_init_148 : decode cX1_init 148 = .ok (.aload_n 0, 1) := dk_42 (dk_at dksX1_init_6 5 rfl rfl)
theorem dX1_init_149 : decode cX1_init 149 = .ok (.bipush 64, 2) := dk_16 64 (dk_at dksX1_init_6 6 rfl rfl)
theorem dX1_init_151 : decode cX1_init 151 = .ok (.newarray .int, 2) := dk_188_10 (dk_at dksX1_init_6 8 rfl rfl)
theorem dX1_init_153 : decode cX1_init 153 = .ok (.putfield 66, 3) := dk_181 0 66 (dk_at dksX1_init_6 10 rfl rfl)
theorem dX1_init_156 : decode cX1_init 156 = .ok (.aload_n 0, 1) := dk_42 (dk_at dksX1_init_6 13 rfl rfl)
theorem dX1_init_157 : decode cX1_init 157 = .ok (.bipush 64, 2) := dk_16 64 (dk_at dksX1_init_6 14 rfl rfl)
theorem dX1_init_159 : decode cX1_init 159 = .ok (.newarray .long, 2) := dk_188_11 (dk_at dksX1_init_6 16 rfl rfl)
theorem dX1_init_161 : decode cX1_init 161 = .ok (.putfield 69, 3) := dk_181 0 69 (dk_at dksX1_init_6 18 rfl rfl)
theorem dX1_init_164 : decode cX1_init 164 = .ok (.aload_n 0, 1) := dk_42 (dk_at dksX1_init_6 21 rfl rfl)
theorem dX1_init_165 : decode cX1_init 165 = .ok (.bipush 8, 2) := dk_16 8 (dk_at dksX1_init_6 22 rfl rfl)
theorem dX1_init_167 : decode cX1_init 167 = .ok (.newarray .long, 2) := dk_188_11 (dk_at dksX1_init_7 0 rfl rfl)
theorem dX1_init_169 : decode cX1_init 169 = .ok (.putfield 73, 3) := dk_181 0 73 (dk_at dksX1_init_7 2 rfl rfl)
theorem dX1_init_172 : decode cX1_init 172 = .ok (.aload_n 0, 1) := dk_42 (dk_at dksX1_init_7 5 rfl rfl)
theorem dX1_init_173 : decode cX1_init 173 = .ok (.bipush 8, 2) := dk_16 8 (dk_at dksX1_init_7 6 rfl rfl)
theorem dX1_init_175 : decode cX1_init 175 = .ok (.newarray .int, 2) := dk_188_10 (dk_at dksX1_init_7 8 rfl rfl)
theorem dX1_init_177 : decode cX1_init 177 = .ok (.putfield 76, 3) := dk_181 0 76 (dk_at dksX1_init_7 10 rfl rfl)
theorem dX1_init_180 : decode cX1_init 180 = .ok (.aload_n 0, 1) := dk_42 (dk_at dksX1_init_7 13 rfl rfl)
theorem dX1_init_181 : decode cX1_init 181 = .ok (.bipush 8, 2) := dk_16 8 (dk_at dksX1_init_7 14 rfl rfl)
theorem dX1_init_183 : decode cX1_init 183 = .ok (.newarray .int, 2) := dk_188_10 (dk_at dksX1_init_7 16 rfl rfl)
theorem dX1_init_185 : decode cX1_init 185 = .ok (.putfield 79, 3) := dk_181 0 79 (dk_at dksX1_init_7 18 rfl rfl)
theorem dX1_init_188 : decode cX1_init 188 = .ok (.aload_n 0, 1) := dk_42 (dk_at dksX1_init_7 21 rfl rfl)
theorem dX1_init_189 : decode cX1_init 189 = .ok (.sipush 2408, 3) := dk_17 9 104 (dk_at dksX1_init_8 0 rfl rfl)
theorem dX1_init_192 : decode cX1_init 192 = .ok (.newarray .int, 2) := dk_188_10 (dk_at dksX1_init_8 3 rfl rfl)
theorem dX1_init_194 : decode cX1_init 194 = .ok (.putfield 82, 3) := dk_181 0 82 (dk_at dksX1_init_8 5 rfl rfl)
theorem dX1_init_197 : decode cX1_init 197 = .ok (.aload_n 0, 1) := dk_42 (dk_at dksX1_init_8 8 rfl rfl)
theorem dX1_init_198 : decode cX1_init 198 = .ok (.bipush 8, 2) := dk_16 8 (dk_at dksX1_init_8 9 rfl rfl)
theorem dX1_init_200 : decode cX1_init 200 = .ok (.newarray .int, 2) := dk_188_10 (dk_at dksX1_init_8 11 rfl rfl)
theorem dX1_init_202 : decode cX1_init 202 = .ok (.putfield 85, 3) := dk_181 0 85 (dk_at dksX1_init_8 13 rfl rfl)
theorem dX1_init_205 : decode cX1_init 205 = .ok (.aload_n 0, 1) := dk_42 (dk_at dksX1_init_8 16 rfl rfl)
theorem dX1_init_206 : decode cX1_init 206 = .ok (.bipush 64, 2) := dk_16 64 (dk_at dksX1_init_8 17 rfl rfl)
theorem dX1_init_208 : decode cX1_init 208 = .ok (.newarray .long, 2) := dk_188_11 (dk_at dksX1_init_8 19 rfl rfl)
theorem dX1_init_210 : decode cX1_init 210 = .ok (.putfield 88, 3) := dk_181 0 88 (dk_at dksX1_init_8 21 rfl rfl)
theorem dX1_init_213 : decode cX1_init 213 = .ok (.aload_n 0, 1) := dk_42 (dk_at dksX1_init_9 0 rfl rfl)
theorem dX1_init_214 : decode cX1_init 214 = .ok (.iconst 4, 1) := dk_7 (dk_at dksX1_init_9 1 rfl rfl)
theorem dX1_init_215 : decode cX1_init 215 = .ok (.newarray .int, 2) := dk_188_10 (dk_at dksX1_init_9 2 rfl rfl)
theorem dX1_init_217 : decode cX1_init 217 = .ok (.putfield 91, 3) := dk_181 0 91 (dk_at dksX1_init_9 4 rfl rfl)
theorem dX1_init_220 : decode cX1_init 220 = .ok (.aload_n 0, 1) := dk_42 (dk_at dksX1_init_9 7 rfl rfl)
theorem dX1_init_221 : decode cX1_init 221 = .ok (.bipush 16, 2) := dk_16 16 (dk_at dksX1_init_9 8 rfl rfl)
theorem dX1_init_223 : decode cX1_init 223 = .ok (.newarray .long, 2) := dk_188_11 (dk_at dksX1_init_9 10 rfl rfl)
theorem dX1_init_225 : decode cX1_init 225 = .ok (.putfield 94, 3) := dk_181 0 94 (dk_at dksX1_init_9 12 rfl rfl)
theorem dX1_init_228 : decode cX1_init 228 = .ok (.aload_n 0, 1) := dk_42 (dk_at dksX1_init_9 15 rfl rfl)
theorem dX1_init_229 : decode cX1_init 229 = .ok (.lconst 1, 1) := dk_10 (dk_at dksX1_init_9 16 rfl rfl)
theorem dX1_init_230 : decode cX1_init 230 = .ok (.putfield 97, 3) := dk_181 0 97 (dk_at dksX1_init_9 17 rfl rfl)
theorem dX1_init_233 : decode cX1_init 233 = .ok (.iconst 0, 1) := dk_3 (dk_at dksX1_init_9 20 rfl rfl)
theorem dX1_init_234 : decode cX1_init 234 = .ok (.istore_n 1, 1) := dk_60 (dk_at dksX1_init_9 21 rfl rfl)
theorem dX1_init_235 : decode cX1_init 235 = .ok (.iload_n 1, 1) := dk_27 (dk_at dksX1_init_9 22 rfl rfl)
theorem dX1_init_236 : decode cX1_init 236 = .ok (.iconst 4, 1) := dk_7 (dk_at dksX1_init_9 23 rfl rfl)
theorem dX1_init_237 : decode cX1_init 237 = .ok (.if_icmp .ge 16, 3) := dk_162 0 16 (dk_at dksX1_init_10 0 rfl rfl)
theorem dX1_init_240 : decode cX1_init 240 = .ok (.aload_n 0, 1) := dk_42 (dk_at dksX1_init_10 3 rfl rfl)
theorem dX1_init_241 : decode cX1_init 241 = .ok (.getfield 13, 3) := dk_180 0 13 (dk_at dksX1_init_10 4 rfl rfl)
theorem dX1_init_244 : decode cX1_init 244 = .ok (.iload_n 1, 1) := dk_27 (dk_at dksX1_init_10 7 rfl rfl)
theorem dX1_init_245 : decode cX1_init 245 = .ok (.iconst (-1), 1) := dk_2 (dk_at dksX1_init_10 8 rfl rfl)
theorem dX1_init_246 : decode cX1_init 246 = .ok (.iastore, 1) := dk_79 (dk_at dksX1_init_10 9 rfl rfl)
theorem dX1_init_247 : decode cX1_init 247 = .ok (.iinc 1 1, 3) := dk_132 1 1 (dk_at dksX1_init_10 10 rfl rfl)
theorem dX1_init_250 : decode cX1_init 250 = .ok (.goto (-15), 3) := dk_167 255 241 (dk_at dksX1_init_10 13 rfl rfl)
theorem dX1_init_253 : decode cX1_init 253 = .ok (.return_, 1) := dk_177 (dk_at dksX1_init_10 16 rfl rfl)
abbrev cX1_finding : ByteArray := prog_8_method_5_code
def yX1_finding : MethodName := ⟨RX1, "finding", "()I"⟩
theorem dX1_finding_0 : decode cX1_finding 0 = .ok (.aload_n 0, 1) := by decide +kernel
theorem dX1_finding_1 : decode cX1_finding 1 = .ok (.getfield 101, 3) := by decide +kernel
theorem dX1_finding_4 : decode cX1_finding 4 = .ok (.ireturn, 1) := by decide +kernel
abbrev cX1_findings : ByteArray := prog_8_method_6_code
def yX1_findings : MethodName := ⟨RX1, "findings", "(I)I"⟩
def dkwX1_findings_0 : List UInt8 := [27, 4, 8, 184, 0, 105, 153, 0, 12, 42, 180, 0, 7, 27, 46, 167, 0, 4, 2, 172]
abbrev dktX1_findings_0 : List UInt8 := dkwX1_findings_0 ++ []
theorem dksX1_findings_0 : cX1_findings.data.toList.drop 0 = dktX1_findings_0 := by decide +kernel
theorem dX1_findings_0 : decode cX1_findings 0 = .ok (.iload_n 1, 1) := dk_27 (dk_at dksX1_findings_0 0 rfl rfl)
theorem dX1_findings_1 : decode cX1_findings 1 = .ok (.iconst 1, 1) := dk_4 (dk_at dksX1_findings_0 1 rfl rfl)
theorem dX1_findings_2 : decode cX1_findings 2 = .ok (.iconst 5, 1) := dk_8 (dk_at dksX1_findings_0 2 rfl rfl)
theorem dX1_findings_3 : decode cX1_findings 3 = .ok (.invokestatic 105, 3) := dk_184 0 105 (dk_at dksX1_findings_0 3 rfl rfl)
theorem dX1_findings_6 : decode cX1_findings 6 = .ok (.ifCond .eq 12, 3) := dk_153 0 12 (dk_at dksX1_findings_0 6 rfl rfl)
theorem dX1_findings_9 : decode cX1_findings 9 = .ok (.aload_n 0, 1) := dk_42 (dk_at dksX1_findings_0 9 rfl rfl)
theorem dX1_findings_10 : decode cX1_findings 10 = .ok (.getfield 7, 3) := dk_180 0 7 (dk_at dksX1_findings_0 10 rfl rfl)
theorem dX1_findings_13 : decode cX1_findings 13 = .ok (.iload_n 1, 1) := dk_27 (dk_at dksX1_findings_0 13 rfl rfl)
theorem dX1_findings_14 : decode cX1_findings 14 = .ok (.iaload, 1) := dk_46 (dk_at dksX1_findings_0 14 rfl rfl)
theorem dX1_findings_15 : decode cX1_findings 15 = .ok (.goto 4, 3) := dk_167 0 4 (dk_at dksX1_findings_0 15 rfl rfl)
theorem dX1_findings_18 : decode cX1_findings 18 = .ok (.iconst (-1), 1) := dk_2 (dk_at dksX1_findings_0 18 rfl rfl)
theorem dX1_findings_19 : decode cX1_findings 19 = .ok (.ireturn, 1) := dk_172 (dk_at dksX1_findings_0 19 rfl rfl)
abbrev cX1_in : ByteArray := prog_8_method_2_code
def yX1_in : MethodName := ⟨RX1, "in", "(III)Z"⟩
def dkwX1_in_0 : List UInt8 := [26, 27, 161, 0, 12, 26, 28, 163, 0, 7, 4, 167, 0, 4, 3, 172]
abbrev dktX1_in_0 : List UInt8 := dkwX1_in_0 ++ []
theorem dksX1_in_0 : cX1_in.data.toList.drop 0 = dktX1_in_0 := by decide +kernel
theorem dX1_in_0 : decode cX1_in 0 = .ok (.iload_n 0, 1) := dk_26 (dk_at dksX1_in_0 0 rfl rfl)
theorem dX1_in_1 : decode cX1_in 1 = .ok (.iload_n 1, 1) := dk_27 (dk_at dksX1_in_0 1 rfl rfl)
theorem dX1_in_2 : decode cX1_in 2 = .ok (.if_icmp .lt 12, 3) := dk_161 0 12 (dk_at dksX1_in_0 2 rfl rfl)
theorem dX1_in_5 : decode cX1_in 5 = .ok (.iload_n 0, 1) := dk_26 (dk_at dksX1_in_0 5 rfl rfl)
theorem dX1_in_6 : decode cX1_in 6 = .ok (.iload_n 2, 1) := dk_28 (dk_at dksX1_in_0 6 rfl rfl)
theorem dX1_in_7 : decode cX1_in 7 = .ok (.if_icmp .gt 7, 3) := dk_163 0 7 (dk_at dksX1_in_0 7 rfl rfl)
theorem dX1_in_10 : decode cX1_in 10 = .ok (.iconst 1, 1) := dk_4 (dk_at dksX1_in_0 10 rfl rfl)
theorem dX1_in_11 : decode cX1_in 11 = .ok (.goto 4, 3) := dk_167 0 4 (dk_at dksX1_in_0 11 rfl rfl)
theorem dX1_in_14 : decode cX1_in 14 = .ok (.iconst 0, 1) := dk_3 (dk_at dksX1_in_0 14 rfl rfl)
theorem dX1_in_15 : decode cX1_in 15 = .ok (.ireturn, 1) := dk_172 (dk_at dksX1_in_0 15 rfl rfl)
abbrev cX1_asked : ByteArray := prog_8_method_8_code
def yX1_asked : MethodName := ⟨RX1, "asked", "()I"⟩
theorem dX1_asked_0 : decode cX1_asked 0 = .ok (.aload_n 0, 1) := by decide +kernel
theorem dX1_asked_1 : decode cX1_asked 1 = .ok (.getfield 109, 3) := by decide +kernel
theorem dX1_asked_4 : decode cX1_asked 4 = .ok (.ireturn, 1) := by decide +kernel
abbrev cX1_upper : ByteArray := prog_8_method_10_code
def yX1_upper : MethodName := ⟨RX1, "upper", "()J"⟩
theorem dX1_upper_0 : decode cX1_upper 0 = .ok (.aload_n 0, 1) := by decide +kernel
theorem dX1_upper_1 : decode cX1_upper 1 = .ok (.getfield 112, 3) := by decide +kernel
theorem dX1_upper_4 : decode cX1_upper 4 = .ok (.lreturn, 1) := by decide +kernel
abbrev cX1_lower : ByteArray := prog_8_method_11_code
def yX1_lower : MethodName := ⟨RX1, "lower", "()J"⟩
theorem dX1_lower_0 : decode cX1_lower 0 = .ok (.aload_n 0, 1) := by decide +kernel
theorem dX1_lower_1 : decode cX1_lower 1 = .ok (.getfield 97, 3) := by decide +kernel
theorem dX1_lower_4 : decode cX1_lower 4 = .ok (.lreturn, 1) := by decide +kernel
abbrev cX1_text : ByteArray := prog_8_method_13_code
def yX1_text : MethodName := ⟨RX1, "text", "(II)I"⟩
def dkwX1_text_2 : List UInt8 := [29, 96, 16, 32, 84, 132, 3, 1, 167, 255, 234, 28, 172]
abbrev dktX1_text_2 : List UInt8 := dkwX1_text_2 ++ []
def dkwX1_text_1 : List UInt8 := [172, 42, 180, 0, 13, 27, 28, 79, 3, 62, 29, 16, 60, 162, 0, 22, 42, 180, 0, 16, 16, 60, 27, 104]
abbrev dktX1_text_1 : List UInt8 := dkwX1_text_1 ++ dktX1_text_2
def dkwX1_text_0 : List UInt8 := [27, 184, 0, 115, 153, 0, 9, 28, 16, 60, 164, 0, 5, 2, 172, 28, 156, 0, 9, 42, 8, 182, 0, 119]
abbrev dktX1_text_0 : List UInt8 := dkwX1_text_0 ++ dktX1_text_1
theorem dksX1_text_0 : cX1_text.data.toList.drop 0 = dktX1_text_0 := by decide +kernel
theorem dksX1_text_1 : cX1_text.data.toList.drop 24 = dktX1_text_1 := dk_seg dksX1_text_0 24 rfl rfl
theorem dksX1_text_2 : cX1_text.data.toList.drop 48 = dktX1_text_2 := dk_seg dksX1_text_1 24 rfl rfl
theorem dX1_text_0 : decode cX1_text 0 = .ok (.iload_n 1, 1) := dk_27 (dk_at dksX1_text_0 0 rfl rfl)
theorem dX1_text_1 : decode cX1_text 1 = .ok (.invokestatic 115, 3) := dk_184 0 115 (dk_at dksX1_text_0 1 rfl rfl)
theorem dX1_text_4 : decode cX1_text 4 = .ok (.ifCond .eq 9, 3) := dk_153 0 9 (dk_at dksX1_text_0 4 rfl rfl)
theorem dX1_text_7 : decode cX1_text 7 = .ok (.iload_n 2, 1) := dk_28 (dk_at dksX1_text_0 7 rfl rfl)
theorem dX1_text_8 : decode cX1_text 8 = .ok (.bipush 60, 2) := dk_16 60 (dk_at dksX1_text_0 8 rfl rfl)
theorem dX1_text_10 : decode cX1_text 10 = .ok (.if_icmp .le 5, 3) := dk_164 0 5 (dk_at dksX1_text_0 10 rfl rfl)
theorem dX1_text_13 : decode cX1_text 13 = .ok (.iconst (-1), 1) := dk_2 (dk_at dksX1_text_0 13 rfl rfl)
theorem dX1_text_14 : decode cX1_text 14 = .ok (.ireturn, 1) := dk_172 (dk_at dksX1_text_0 14 rfl rfl)
theorem dX1_text_15 : decode cX1_text 15 = .ok (.iload_n 2, 1) := dk_28 (dk_at dksX1_text_0 15 rfl rfl)
theorem dX1_text_16 : decode cX1_text 16 = .ok (.ifCond .ge 9, 3) := dk_156 0 9 (dk_at dksX1_text_0 16 rfl rfl)
theorem dX1_text_19 : decode cX1_text 19 = .ok (.aload_n 0, 1) := dk_42 (dk_at dksX1_text_0 19 rfl rfl)
theorem dX1_text_20 : decode cX1_text 20 = .ok (.iconst 5, 1) := dk_8 (dk_at dksX1_text_0 20 rfl rfl)
theorem dX1_text_21 : decode cX1_text 21 = .ok (.invokevirtual 119, 3) := dk_182 0 119 (dk_at dksX1_text_0 21 rfl rfl)
theorem dX1_text_24 : decode cX1_text 24 = .ok (.ireturn, 1) := dk_172 (dk_at dksX1_text_1 0 rfl rfl)
theorem dX1_text_25 : decode cX1_text 25 = .ok (.aload_n 0, 1) := dk_42 (dk_at dksX1_text_1 1 rfl rfl)
theorem dX1_text_26 : decode cX1_text 26 = .ok (.getfield 13, 3) := dk_180 0 13 (dk_at dksX1_text_1 2 rfl rfl)
theorem dX1_text_29 : decode cX1_text 29 = .ok (.iload_n 1, 1) := dk_27 (dk_at dksX1_text_1 5 rfl rfl)
theorem dX1_text_30 : decode cX1_text 30 = .ok (.iload_n 2, 1) := dk_28 (dk_at dksX1_text_1 6 rfl rfl)
theorem dX1_text_31 : decode cX1_text 31 = .ok (.iastore, 1) := dk_79 (dk_at dksX1_text_1 7 rfl rfl)
theorem dX1_text_32 : decode cX1_text 32 = .ok (.iconst 0, 1) := dk_3 (dk_at dksX1_text_1 8 rfl rfl)
theorem dX1_text_33 : decode cX1_text 33 = .ok (.istore_n 3, 1) := dk_62 (dk_at dksX1_text_1 9 rfl rfl)
theorem dX1_text_34 : decode cX1_text 34 = .ok (.iload_n 3, 1) := dk_29 (dk_at dksX1_text_1 10 rfl rfl)
theorem dX1_text_35 : decode cX1_text 35 = .ok (.bipush 60, 2) := dk_16 60 (dk_at dksX1_text_1 11 rfl rfl)
theorem dX1_text_37 : decode cX1_text 37 = .ok (.if_icmp .ge 22, 3) := dk_162 0 22 (dk_at dksX1_text_1 13 rfl rfl)
theorem dX1_text_40 : decode cX1_text 40 = .ok (.aload_n 0, 1) := dk_42 (dk_at dksX1_text_1 16 rfl rfl)
theorem dX1_text_41 : decode cX1_text 41 = .ok (.getfield 16, 3) := dk_180 0 16 (dk_at dksX1_text_1 17 rfl rfl)
theorem dX1_text_44 : decode cX1_text 44 = .ok (.bipush 60, 2) := dk_16 60 (dk_at dksX1_text_1 20 rfl rfl)
theorem dX1_text_46 : decode cX1_text 46 = .ok (.iload_n 1, 1) := dk_27 (dk_at dksX1_text_1 22 rfl rfl)
theorem dX1_text_47 : decode cX1_text 47 = .ok (.imul, 1) := dk_104 (dk_at dksX1_text_1 23 rfl rfl)
theorem dX1_text_48 : decode cX1_text 48 = .ok (.iload_n 3, 1) := dk_29 (dk_at dksX1_text_2 0 rfl rfl)
theorem dX1_text_49 : decode cX1_text 49 = .ok (.iadd, 1) := dk_96 (dk_at dksX1_text_2 1 rfl rfl)
theorem dX1_text_50 : decode cX1_text 50 = .ok (.bipush 32, 2) := dk_16 32 (dk_at dksX1_text_2 2 rfl rfl)
theorem dX1_text_52 : decode cX1_text 52 = .ok (.bastore, 1) := dk_84 (dk_at dksX1_text_2 4 rfl rfl)
theorem dX1_text_53 : decode cX1_text 53 = .ok (.iinc 3 1, 3) := dk_132 3 1 (dk_at dksX1_text_2 5 rfl rfl)
theorem dX1_text_56 : decode cX1_text 56 = .ok (.goto (-22), 3) := dk_167 255 234 (dk_at dksX1_text_2 8 rfl rfl)
theorem dX1_text_59 : decode cX1_text 59 = .ok (.iload_n 2, 1) := dk_28 (dk_at dksX1_text_2 11 rfl rfl)
theorem dX1_text_60 : decode cX1_text 60 = .ok (.ireturn, 1) := dk_172 (dk_at dksX1_text_2 12 rfl rfl)
abbrev cX1_isText : ByteArray := prog_8_method_12_code
def yX1_isText : MethodName := ⟨RX1, "isText", "(I)Z"⟩
def dkwX1_isText_0 : List UInt8 := [26, 3, 6, 184, 0, 105, 172]
abbrev dktX1_isText_0 : List UInt8 := dkwX1_isText_0 ++ []
theorem dksX1_isText_0 : cX1_isText.data.toList.drop 0 = dktX1_isText_0 := by decide +kernel
theorem dX1_isText_0 : decode cX1_isText 0 = .ok (.iload_n 0, 1) := dk_26 (dk_at dksX1_isText_0 0 rfl rfl)
theorem dX1_isText_1 : decode cX1_isText 1 = .ok (.iconst 0, 1) := dk_3 (dk_at dksX1_isText_0 1 rfl rfl)
theorem dX1_isText_2 : decode cX1_isText 2 = .ok (.iconst 3, 1) := dk_6 (dk_at dksX1_isText_0 2 rfl rfl)
theorem dX1_isText_3 : decode cX1_isText 3 = .ok (.invokestatic 105, 3) := dk_184 0 105 (dk_at dksX1_isText_0 3 rfl rfl)
theorem dX1_isText_6 : decode cX1_isText 6 = .ok (.ireturn, 1) := dk_172 (dk_at dksX1_isText_0 6 rfl rfl)
abbrev cX1_meets : ByteArray := prog_8_method_4_code
def yX1_meets : MethodName := ⟨RX1, "meets", "(I)I"⟩
def dkwX1_meets_0 : List UInt8 := [42, 27, 181, 0, 101, 42, 180, 0, 7, 27, 92, 46, 4, 96, 79, 16, 253, 172]
abbrev dktX1_meets_0 : List UInt8 := dkwX1_meets_0 ++ []
theorem dksX1_meets_0 : cX1_meets.data.toList.drop 0 = dktX1_meets_0 := by decide +kernel
theorem dX1_meets_0 : decode cX1_meets 0 = .ok (.aload_n 0, 1) := dk_42 (dk_at dksX1_meets_0 0 rfl rfl)
theorem dX1_meets_1 : decode cX1_meets 1 = .ok (.iload_n 1, 1) := dk_27 (dk_at dksX1_meets_0 1 rfl rfl)
theorem dX1_meets_2 : decode cX1_meets 2 = .ok (.putfield 101, 3) := dk_181 0 101 (dk_at dksX1_meets_0 2 rfl rfl)
theorem dX1_meets_5 : decode cX1_meets 5 = .ok (.aload_n 0, 1) := dk_42 (dk_at dksX1_meets_0 5 rfl rfl)
theorem dX1_meets_6 : decode cX1_meets 6 = .ok (.getfield 7, 3) := dk_180 0 7 (dk_at dksX1_meets_0 6 rfl rfl)
theorem dX1_meets_9 : decode cX1_meets 9 = .ok (.iload_n 1, 1) := dk_27 (dk_at dksX1_meets_0 9 rfl rfl)
theorem dX1_meets_10 : decode cX1_meets 10 = .ok (.dup2, 1) := dk_92 (dk_at dksX1_meets_0 10 rfl rfl)
theorem dX1_meets_11 : decode cX1_meets 11 = .ok (.iaload, 1) := dk_46 (dk_at dksX1_meets_0 11 rfl rfl)
theorem dX1_meets_12 : decode cX1_meets 12 = .ok (.iconst 1, 1) := dk_4 (dk_at dksX1_meets_0 12 rfl rfl)
theorem dX1_meets_13 : decode cX1_meets 13 = .ok (.iadd, 1) := dk_96 (dk_at dksX1_meets_0 13 rfl rfl)
theorem dX1_meets_14 : decode cX1_meets 14 = .ok (.iastore, 1) := dk_79 (dk_at dksX1_meets_0 14 rfl rfl)
theorem dX1_meets_15 : decode cX1_meets 15 = .ok (.bipush (-3), 2) := dk_16 253 (dk_at dksX1_meets_0 15 rfl rfl)
theorem dX1_meets_17 : decode cX1_meets 17 = .ok (.ireturn, 1) := dk_172 (dk_at dksX1_meets_0 17 rfl rfl)
abbrev cX1_lay : ByteArray := prog_8_method_14_code
def yX1_lay : MethodName := ⟨RX1, "lay", "(III)I"⟩
def dkwX1_lay_3 : List UInt8 := [84, 17, 3, 232, 21, 4, 96, 172]
abbrev dktX1_lay_3 : List UInt8 := dkwX1_lay_3 ++ []
def dkwX1_lay_2 : List UInt8 := [180, 0, 16, 16, 60, 27, 104, 28, 96, 51, 54, 4, 42, 180, 0, 16, 16, 60, 27, 104, 28, 96, 29, 145]
abbrev dktX1_lay_2 : List UInt8 := dkwX1_lay_2 ++ dktX1_lay_3
def dkwX1_lay_1 : List UInt8 := [28, 3, 42, 180, 0, 13, 27, 46, 4, 100, 184, 0, 105, 154, 0, 9, 42, 5, 182, 0, 119, 172, 42]
abbrev dktX1_lay_1 : List UInt8 := dkwX1_lay_1 ++ dktX1_lay_2
def dkwX1_lay_0 : List UInt8 := [27, 184, 0, 115, 154, 0, 5, 2, 172, 42, 180, 0, 13, 27, 46, 156, 0, 9, 42, 4, 182, 0, 119, 172]
abbrev dktX1_lay_0 : List UInt8 := dkwX1_lay_0 ++ dktX1_lay_1
theorem dksX1_lay_0 : cX1_lay.data.toList.drop 0 = dktX1_lay_0 := by decide +kernel
theorem dksX1_lay_1 : cX1_lay.data.toList.drop 24 = dktX1_lay_1 := dk_seg dksX1_lay_0 24 rfl rfl
theorem dksX1_lay_2 : cX1_lay.data.toList.drop 47 = dktX1_lay_2 := dk_seg dksX1_lay_1 23 rfl rfl
theorem dksX1_lay_3 : cX1_lay.data.toList.drop 71 = dktX1_lay_3 := dk_seg dksX1_lay_2 24 rfl rfl
theorem dX1_lay_0 : decode cX1_lay 0 = .ok (.iload_n 1, 1) := dk_27 (dk_at dksX1_lay_0 0 rfl rfl)
theorem dX1_lay_1 : decode cX1_lay 1 = .ok (.invokestatic 115, 3) := dk_184 0 115 (dk_at dksX1_lay_0 1 rfl rfl)
theorem dX1_lay_4 : decode cX1_lay 4 = .ok (.ifCond .ne 5, 3) := dk_154 0 5 (dk_at dksX1_lay_0 4 rfl rfl)
theorem dX1_lay_7 : decode cX1_lay 7 = .ok (.iconst (-1), 1) := dk_2 (dk_at dksX1_lay_0 7 rfl rfl)
theorem dX1_lay_8 : decode cX1_lay 8 = .ok (.ireturn, 1) := dk_172 (dk_at dksX1_lay_0 8 rfl rfl)
theorem dX1_lay_9 : decode cX1_lay 9 = .ok (.aload_n 0, 1) := dk_42 (dk_at dksX1_lay_0 9 rfl rfl)
theorem dX1_lay_10 : decode cX1_lay 10 = .ok (.getfield 13, 3) := dk_180 0 13 (dk_at dksX1_lay_0 10 rfl rfl)
theorem dX1_lay_13 : decode cX1_lay 13 = .ok (.iload_n 1, 1) := dk_27 (dk_at dksX1_lay_0 13 rfl rfl)
theorem dX1_lay_14 : decode cX1_lay 14 = .ok (.iaload, 1) := dk_46 (dk_at dksX1_lay_0 14 rfl rfl)
theorem dX1_lay_15 : decode cX1_lay 15 = .ok (.ifCond .ge 9, 3) := dk_156 0 9 (dk_at dksX1_lay_0 15 rfl rfl)
theorem dX1_lay_18 : decode cX1_lay 18 = .ok (.aload_n 0, 1) := dk_42 (dk_at dksX1_lay_0 18 rfl rfl)
theorem dX1_lay_19 : decode cX1_lay 19 = .ok (.iconst 1, 1) := dk_4 (dk_at dksX1_lay_0 19 rfl rfl)
theorem dX1_lay_20 : decode cX1_lay 20 = .ok (.invokevirtual 119, 3) := dk_182 0 119 (dk_at dksX1_lay_0 20 rfl rfl)
theorem dX1_lay_23 : decode cX1_lay 23 = .ok (.ireturn, 1) := dk_172 (dk_at dksX1_lay_0 23 rfl rfl)
theorem dX1_lay_24 : decode cX1_lay 24 = .ok (.iload_n 2, 1) := dk_28 (dk_at dksX1_lay_1 0 rfl rfl)
theorem dX1_lay_25 : decode cX1_lay 25 = .ok (.iconst 0, 1) := dk_3 (dk_at dksX1_lay_1 1 rfl rfl)
theorem dX1_lay_26 : decode cX1_lay 26 = .ok (.aload_n 0, 1) := dk_42 (dk_at dksX1_lay_1 2 rfl rfl)
theorem dX1_lay_27 : decode cX1_lay 27 = .ok (.getfield 13, 3) := dk_180 0 13 (dk_at dksX1_lay_1 3 rfl rfl)
theorem dX1_lay_30 : decode cX1_lay 30 = .ok (.iload_n 1, 1) := dk_27 (dk_at dksX1_lay_1 6 rfl rfl)
theorem dX1_lay_31 : decode cX1_lay 31 = .ok (.iaload, 1) := dk_46 (dk_at dksX1_lay_1 7 rfl rfl)
theorem dX1_lay_32 : decode cX1_lay 32 = .ok (.iconst 1, 1) := dk_4 (dk_at dksX1_lay_1 8 rfl rfl)
theorem dX1_lay_33 : decode cX1_lay 33 = .ok (.isub, 1) := dk_100 (dk_at dksX1_lay_1 9 rfl rfl)
theorem dX1_lay_34 : decode cX1_lay 34 = .ok (.invokestatic 105, 3) := dk_184 0 105 (dk_at dksX1_lay_1 10 rfl rfl)
theorem dX1_lay_37 : decode cX1_lay 37 = .ok (.ifCond .ne 9, 3) := dk_154 0 9 (dk_at dksX1_lay_1 13 rfl rfl)
theorem dX1_lay_40 : decode cX1_lay 40 = .ok (.aload_n 0, 1) := dk_42 (dk_at dksX1_lay_1 16 rfl rfl)
theorem dX1_lay_41 : decode cX1_lay 41 = .ok (.iconst 2, 1) := dk_5 (dk_at dksX1_lay_1 17 rfl rfl)
theorem dX1_lay_42 : decode cX1_lay 42 = .ok (.invokevirtual 119, 3) := dk_182 0 119 (dk_at dksX1_lay_1 18 rfl rfl)
theorem dX1_lay_45 : decode cX1_lay 45 = .ok (.ireturn, 1) := dk_172 (dk_at dksX1_lay_1 21 rfl rfl)
theorem dX1_lay_46 : decode cX1_lay 46 = .ok (.aload_n 0, 1) := dk_42 (dk_at dksX1_lay_1 22 rfl rfl)
theorem dX1_lay_47 : decode cX1_lay 47 = .ok (.getfield 16, 3) := dk_180 0 16 (dk_at dksX1_lay_2 0 rfl rfl)
theorem dX1_lay_50 : decode cX1_lay 50 = .ok (.bipush 60, 2) := dk_16 60 (dk_at dksX1_lay_2 3 rfl rfl)
theorem dX1_lay_52 : decode cX1_lay 52 = .ok (.iload_n 1, 1) := dk_27 (dk_at dksX1_lay_2 5 rfl rfl)
theorem dX1_lay_53 : decode cX1_lay 53 = .ok (.imul, 1) := dk_104 (dk_at dksX1_lay_2 6 rfl rfl)
theorem dX1_lay_54 : decode cX1_lay 54 = .ok (.iload_n 2, 1) := dk_28 (dk_at dksX1_lay_2 7 rfl rfl)
theorem dX1_lay_55 : decode cX1_lay 55 = .ok (.iadd, 1) := dk_96 (dk_at dksX1_lay_2 8 rfl rfl)
theorem dX1_lay_56 : decode cX1_lay 56 = .ok (.baload, 1) := dk_51 (dk_at dksX1_lay_2 9 rfl rfl)
theorem dX1_lay_57 : decode cX1_lay 57 = .ok (.istore 4, 2) := dk_54 4 (dk_at dksX1_lay_2 10 rfl rfl)
theorem dX1_lay_59 : decode cX1_lay 59 = .ok (.aload_n 0, 1) := dk_42 (dk_at dksX1_lay_2 12 rfl rfl)
theorem dX1_lay_60 : decode cX1_lay 60 = .ok (.getfield 16, 3) := dk_180 0 16 (dk_at dksX1_lay_2 13 rfl rfl)
theorem dX1_lay_63 : decode cX1_lay 63 = .ok (.bipush 60, 2) := dk_16 60 (dk_at dksX1_lay_2 16 rfl rfl)
theorem dX1_lay_65 : decode cX1_lay 65 = .ok (.iload_n 1, 1) := dk_27 (dk_at dksX1_lay_2 18 rfl rfl)
theorem dX1_lay_66 : decode cX1_lay 66 = .ok (.imul, 1) := dk_104 (dk_at dksX1_lay_2 19 rfl rfl)
theorem dX1_lay_67 : decode cX1_lay 67 = .ok (.iload_n 2, 1) := dk_28 (dk_at dksX1_lay_2 20 rfl rfl)
theorem dX1_lay_68 : decode cX1_lay 68 = .ok (.iadd, 1) := dk_96 (dk_at dksX1_lay_2 21 rfl rfl)
theorem dX1_lay_69 : decode cX1_lay 69 = .ok (.iload_n 3, 1) := dk_29 (dk_at dksX1_lay_2 22 rfl rfl)
theorem dX1_lay_70 : decode cX1_lay 70 = .ok (.i2b, 1) := dk_145 (dk_at dksX1_lay_2 23 rfl rfl)
theorem dX1_lay_71 : decode cX1_lay 71 = .ok (.bastore, 1) := dk_84 (dk_at dksX1_lay_3 0 rfl rfl)
theorem dX1_lay_72 : decode cX1_lay 72 = .ok (.sipush 1000, 3) := dk_17 3 232 (dk_at dksX1_lay_3 1 rfl rfl)
theorem dX1_lay_75 : decode cX1_lay 75 = .ok (.iload 4, 2) := dk_21 4 (dk_at dksX1_lay_3 4 rfl rfl)
theorem dX1_lay_77 : decode cX1_lay 77 = .ok (.iadd, 1) := dk_96 (dk_at dksX1_lay_3 6 rfl rfl)
theorem dX1_lay_78 : decode cX1_lay 78 = .ok (.ireturn, 1) := dk_172 (dk_at dksX1_lay_3 7 rfl rfl)
abbrev cX1_burn : ByteArray := prog_8_method_15_code
def yX1_burn : MethodName := ⟨RX1, "burn", "(I)I"⟩
def dkwX1_burn_1 : List UInt8 := [42, 180, 0, 13, 27, 2, 79, 4, 172]
abbrev dktX1_burn_1 : List UInt8 := dkwX1_burn_1 ++ []
def dkwX1_burn_0 : List UInt8 := [27, 184, 0, 115, 154, 0, 5, 2, 172, 42, 180, 0, 13, 27, 46, 156, 0, 9, 42, 4, 182, 0, 119, 172]
abbrev dktX1_burn_0 : List UInt8 := dkwX1_burn_0 ++ dktX1_burn_1
theorem dksX1_burn_0 : cX1_burn.data.toList.drop 0 = dktX1_burn_0 := by decide +kernel
theorem dksX1_burn_1 : cX1_burn.data.toList.drop 24 = dktX1_burn_1 := dk_seg dksX1_burn_0 24 rfl rfl
theorem dX1_burn_0 : decode cX1_burn 0 = .ok (.iload_n 1, 1) := dk_27 (dk_at dksX1_burn_0 0 rfl rfl)
theorem dX1_burn_1 : decode cX1_burn 1 = .ok (.invokestatic 115, 3) := dk_184 0 115 (dk_at dksX1_burn_0 1 rfl rfl)
theorem dX1_burn_4 : decode cX1_burn 4 = .ok (.ifCond .ne 5, 3) := dk_154 0 5 (dk_at dksX1_burn_0 4 rfl rfl)
theorem dX1_burn_7 : decode cX1_burn 7 = .ok (.iconst (-1), 1) := dk_2 (dk_at dksX1_burn_0 7 rfl rfl)
theorem dX1_burn_8 : decode cX1_burn 8 = .ok (.ireturn, 1) := dk_172 (dk_at dksX1_burn_0 8 rfl rfl)
theorem dX1_burn_9 : decode cX1_burn 9 = .ok (.aload_n 0, 1) := dk_42 (dk_at dksX1_burn_0 9 rfl rfl)
theorem dX1_burn_10 : decode cX1_burn 10 = .ok (.getfield 13, 3) := dk_180 0 13 (dk_at dksX1_burn_0 10 rfl rfl)
theorem dX1_burn_13 : decode cX1_burn 13 = .ok (.iload_n 1, 1) := dk_27 (dk_at dksX1_burn_0 13 rfl rfl)
theorem dX1_burn_14 : decode cX1_burn 14 = .ok (.iaload, 1) := dk_46 (dk_at dksX1_burn_0 14 rfl rfl)
theorem dX1_burn_15 : decode cX1_burn 15 = .ok (.ifCond .ge 9, 3) := dk_156 0 9 (dk_at dksX1_burn_0 15 rfl rfl)
theorem dX1_burn_18 : decode cX1_burn 18 = .ok (.aload_n 0, 1) := dk_42 (dk_at dksX1_burn_0 18 rfl rfl)
theorem dX1_burn_19 : decode cX1_burn 19 = .ok (.iconst 1, 1) := dk_4 (dk_at dksX1_burn_0 19 rfl rfl)
theorem dX1_burn_20 : decode cX1_burn 20 = .ok (.invokevirtual 119, 3) := dk_182 0 119 (dk_at dksX1_burn_0 20 rfl rfl)
theorem dX1_burn_23 : decode cX1_burn 23 = .ok (.ireturn, 1) := dk_172 (dk_at dksX1_burn_0 23 rfl rfl)
theorem dX1_burn_24 : decode cX1_burn 24 = .ok (.aload_n 0, 1) := dk_42 (dk_at dksX1_burn_1 0 rfl rfl)
theorem dX1_burn_25 : decode cX1_burn 25 = .ok (.getfield 13, 3) := dk_180 0 13 (dk_at dksX1_burn_1 1 rfl rfl)
theorem dX1_burn_28 : decode cX1_burn 28 = .ok (.iload_n 1, 1) := dk_27 (dk_at dksX1_burn_1 4 rfl rfl)
theorem dX1_burn_29 : decode cX1_burn 29 = .ok (.iconst (-1), 1) := dk_2 (dk_at dksX1_burn_1 5 rfl rfl)
theorem dX1_burn_30 : decode cX1_burn 30 = .ok (.iastore, 1) := dk_79 (dk_at dksX1_burn_1 6 rfl rfl)
theorem dX1_burn_31 : decode cX1_burn 31 = .ok (.iconst 1, 1) := dk_4 (dk_at dksX1_burn_1 7 rfl rfl)
theorem dX1_burn_32 : decode cX1_burn 32 = .ok (.ireturn, 1) := dk_172 (dk_at dksX1_burn_1 8 rfl rfl)
abbrev cX1_copy : ByteArray := prog_8_method_16_code
def yX1_copy : MethodName := ⟨RX1, "copy", "(IIIII)I"⟩
def dkwX1_copy_7 : List UInt8 := [84, 132, 6, 1, 167, 255, 224, 4, 172]
abbrev dktX1_copy_7 : List UInt8 := dkwX1_copy_7 ++ []
def dkwX1_copy_6 : List UInt8 := [162, 0, 31, 42, 180, 0, 16, 16, 60, 29, 104, 21, 4, 96, 21, 6, 96, 42, 180, 0, 20, 21, 6, 51]
abbrev dktX1_copy_6 : List UInt8 := dkwX1_copy_6 ++ dktX1_copy_7
def dkwX1_copy_5 : List UInt8 := [16, 60, 27, 104, 28, 96, 21, 6, 96, 51, 84, 132, 6, 1, 167, 255, 225, 3, 54, 6, 21, 6, 21, 5]
abbrev dktX1_copy_5 : List UInt8 := dkwX1_copy_5 ++ dktX1_copy_6
def dkwX1_copy_4 : List UInt8 := [182, 0, 119, 172, 3, 54, 6, 21, 6, 21, 5, 162, 0, 30, 42, 180, 0, 20, 21, 6, 42, 180, 0, 16]
abbrev dktX1_copy_4 : List UInt8 := dkwX1_copy_4 ++ dktX1_copy_5
def dkwX1_copy_3 : List UInt8 := [157, 0, 21, 21, 4, 133, 21, 5, 133, 97, 42, 180, 0, 13, 29, 46, 133, 148, 158, 0, 9, 42, 5]
abbrev dktX1_copy_3 : List UInt8 := dkwX1_copy_3 ++ dktX1_copy_4
def dkwX1_copy_2 : List UInt8 := [155, 0, 43, 21, 5, 155, 0, 38, 28, 133, 21, 5, 133, 97, 42, 180, 0, 13, 27, 46, 133, 148]
abbrev dktX1_copy_2 : List UInt8 := dkwX1_copy_2 ++ dktX1_copy_3
def dkwX1_copy_1 : List UInt8 := [155, 0, 12, 42, 180, 0, 13, 29, 46, 156, 0, 9, 42, 4, 182, 0, 119, 172, 28, 155, 0, 48, 21, 4]
abbrev dktX1_copy_1 : List UInt8 := dkwX1_copy_1 ++ dktX1_copy_2
def dkwX1_copy_0 : List UInt8 := [27, 184, 0, 115, 153, 0, 10, 29, 184, 0, 115, 154, 0, 5, 2, 172, 42, 180, 0, 13, 27, 46]
abbrev dktX1_copy_0 : List UInt8 := dkwX1_copy_0 ++ dktX1_copy_1
theorem dksX1_copy_0 : cX1_copy.data.toList.drop 0 = dktX1_copy_0 := by decide +kernel
theorem dksX1_copy_1 : cX1_copy.data.toList.drop 22 = dktX1_copy_1 := dk_seg dksX1_copy_0 22 rfl rfl
theorem dksX1_copy_2 : cX1_copy.data.toList.drop 46 = dktX1_copy_2 := dk_seg dksX1_copy_1 24 rfl rfl
theorem dksX1_copy_3 : cX1_copy.data.toList.drop 68 = dktX1_copy_3 := dk_seg dksX1_copy_2 22 rfl rfl
theorem dksX1_copy_4 : cX1_copy.data.toList.drop 91 = dktX1_copy_4 := dk_seg dksX1_copy_3 23 rfl rfl
theorem dksX1_copy_5 : cX1_copy.data.toList.drop 115 = dktX1_copy_5 := dk_seg dksX1_copy_4 24 rfl rfl
theorem dksX1_copy_6 : cX1_copy.data.toList.drop 139 = dktX1_copy_6 := dk_seg dksX1_copy_5 24 rfl rfl
theorem dksX1_copy_7 : cX1_copy.data.toList.drop 163 = dktX1_copy_7 := dk_seg dksX1_copy_6 24 rfl rfl
theorem dX1_copy_0 : decode cX1_copy 0 = .ok (.iload_n 1, 1) := dk_27 (dk_at dksX1_copy_0 0 rfl rfl)
theorem dX1_copy_1 : decode cX1_copy 1 = .ok (.invokestatic 115, 3) := dk_184 0 115 (dk_at dksX1_copy_0 1 rfl rfl)
theorem dX1_copy_4 : decode cX1_copy 4 = .ok (.ifCond .eq 10, 3) := dk_153 0 10 (dk_at dksX1_copy_0 4 rfl rfl)
theorem dX1_copy_7 : decode cX1_copy 7 = .ok (.iload_n 3, 1) := dk_29 (dk_at dksX1_copy_0 7 rfl rfl)
theorem dX1_copy_8 : decode cX1_copy 8 = .ok (.invokestatic 115, 3) := dk_184 0 115 (dk_at dksX1_copy_0 8 rfl rfl)
theorem dX1_copy_11 : decode cX1_copy 11 = .ok (.ifCond .ne 5, 3) := dk_154 0 5 (dk_at dksX1_copy_0 11 rfl rfl)
theorem dX1_copy_14 : decode cX1_copy 14 = .ok (.iconst (-1), 1) := dk_2 (dk_at dksX1_copy_0 14 rfl rfl)
theorem dX1_copy_15 : decode cX1_copy 15 = .ok (.ireturn, 1) := dk_172 (dk_at dksX1_copy_0 15 rfl rfl)
theorem dX1_copy_16 : decode cX1_copy 16 = .ok (.aload_n 0, 1) := dk_42 (dk_at dksX1_copy_0 16 rfl rfl)
theorem dX1_copy_17 : decode cX1_copy 17 = .ok (.getfield 13, 3) := dk_180 0 13 (dk_at dksX1_copy_0 17 rfl rfl)
theorem dX1_copy_20 : decode cX1_copy 20 = .ok (.iload_n 1, 1) := dk_27 (dk_at dksX1_copy_0 20 rfl rfl)
theorem dX1_copy_21 : decode cX1_copy 21 = .ok (.iaload, 1) := dk_46 (dk_at dksX1_copy_0 21 rfl rfl)
theorem dX1_copy_22 : decode cX1_copy 22 = .ok (.ifCond .lt 12, 3) := dk_155 0 12 (dk_at dksX1_copy_1 0 rfl rfl)
theorem dX1_copy_25 : decode cX1_copy 25 = .ok (.aload_n 0, 1) := dk_42 (dk_at dksX1_copy_1 3 rfl rfl)
theorem dX1_copy_26 : decode cX1_copy 26 = .ok (.getfield 13, 3) := dk_180 0 13 (dk_at dksX1_copy_1 4 rfl rfl)
theorem dX1_copy_29 : decode cX1_copy 29 = .ok (.iload_n 3, 1) := dk_29 (dk_at dksX1_copy_1 7 rfl rfl)
theorem dX1_copy_30 : decode cX1_copy 30 = .ok (.iaload, 1) := dk_46 (dk_at dksX1_copy_1 8 rfl rfl)
theorem dX1_copy_31 : decode cX1_copy 31 = .ok (.ifCond .ge 9, 3) := dk_156 0 9 (dk_at dksX1_copy_1 9 rfl rfl)
theorem dX1_copy_34 : decode cX1_copy 34 = .ok (.aload_n 0, 1) := dk_42 (dk_at dksX1_copy_1 12 rfl rfl)
theorem dX1_copy_35 : decode cX1_copy 35 = .ok (.iconst 1, 1) := dk_4 (dk_at dksX1_copy_1 13 rfl rfl)
theorem dX1_copy_36 : decode cX1_copy 36 = .ok (.invokevirtual 119, 3) := dk_182 0 119 (dk_at dksX1_copy_1 14 rfl rfl)
theorem dX1_copy_39 : decode cX1_copy 39 = .ok (.ireturn, 1) := dk_172 (dk_at dksX1_copy_1 17 rfl rfl)
theorem dX1_copy_40 : decode cX1_copy 40 = .ok (.iload_n 2, 1) := dk_28 (dk_at dksX1_copy_1 18 rfl rfl)
theorem dX1_copy_41 : decode cX1_copy 41 = .ok (.ifCond .lt 48, 3) := dk_155 0 48 (dk_at dksX1_copy_1 19 rfl rfl)
theorem dX1_copy_44 : decode cX1_copy 44 = .ok (.iload 4, 2) := dk_21 4 (dk_at dksX1_copy_1 22 rfl rfl)
theorem dX1_copy_46 : decode cX1_copy 46 = .ok (.ifCond .lt 43, 3) := dk_155 0 43 (dk_at dksX1_copy_2 0 rfl rfl)
theorem dX1_copy_49 : decode cX1_copy 49 = .ok (.iload 5, 2) := dk_21 5 (dk_at dksX1_copy_2 3 rfl rfl)
theorem dX1_copy_51 : decode cX1_copy 51 = .ok (.ifCond .lt 38, 3) := dk_155 0 38 (dk_at dksX1_copy_2 5 rfl rfl)
theorem dX1_copy_54 : decode cX1_copy 54 = .ok (.iload_n 2, 1) := dk_28 (dk_at dksX1_copy_2 8 rfl rfl)
theorem dX1_copy_55 : decode cX1_copy 55 = .ok (.i2l, 1) := dk_133 (dk_at dksX1_copy_2 9 rfl rfl)
theorem dX1_copy_56 : decode cX1_copy 56 = .ok (.iload 5, 2) := dk_21 5 (dk_at dksX1_copy_2 10 rfl rfl)
theorem dX1_copy_58 : decode cX1_copy 58 = .ok (.i2l, 1) := dk_133 (dk_at dksX1_copy_2 12 rfl rfl)
theorem dX1_copy_59 : decode cX1_copy 59 = .ok (.ladd, 1) := dk_97 (dk_at dksX1_copy_2 13 rfl rfl)
theorem dX1_copy_60 : decode cX1_copy 60 = .ok (.aload_n 0, 1) := dk_42 (dk_at dksX1_copy_2 14 rfl rfl)
theorem dX1_copy_61 : decode cX1_copy 61 = .ok (.getfield 13, 3) := dk_180 0 13 (dk_at dksX1_copy_2 15 rfl rfl)
theorem dX1_copy_64 : decode cX1_copy 64 = .ok (.iload_n 1, 1) := dk_27 (dk_at dksX1_copy_2 18 rfl rfl)
theorem dX1_copy_65 : decode cX1_copy 65 = .ok (.iaload, 1) := dk_46 (dk_at dksX1_copy_2 19 rfl rfl)
theorem dX1_copy_66 : decode cX1_copy 66 = .ok (.i2l, 1) := dk_133 (dk_at dksX1_copy_2 20 rfl rfl)
theorem dX1_copy_67 : decode cX1_copy 67 = .ok (.lcmp, 1) := dk_148 (dk_at dksX1_copy_2 21 rfl rfl)
theorem dX1_copy_68 : decode cX1_copy 68 = .ok (.ifCond .gt 21, 3) := dk_157 0 21 (dk_at dksX1_copy_3 0 rfl rfl)
theorem dX1_copy_71 : decode cX1_copy 71 = .ok (.iload 4, 2) := dk_21 4 (dk_at dksX1_copy_3 3 rfl rfl)
theorem dX1_copy_73 : decode cX1_copy 73 = .ok (.i2l, 1) := dk_133 (dk_at dksX1_copy_3 5 rfl rfl)
theorem dX1_copy_74 : decode cX1_copy 74 = .ok (.iload 5, 2) := dk_21 5 (dk_at dksX1_copy_3 6 rfl rfl)
theorem dX1_copy_76 : decode cX1_copy 76 = .ok (.i2l, 1) := dk_133 (dk_at dksX1_copy_3 8 rfl rfl)
theorem dX1_copy_77 : decode cX1_copy 77 = .ok (.ladd, 1) := dk_97 (dk_at dksX1_copy_3 9 rfl rfl)
theorem dX1_copy_78 : decode cX1_copy 78 = .ok (.aload_n 0, 1) := dk_42 (dk_at dksX1_copy_3 10 rfl rfl)
theorem dX1_copy_79 : decode cX1_copy 79 = .ok (.getfield 13, 3) := dk_180 0 13 (dk_at dksX1_copy_3 11 rfl rfl)
theorem dX1_copy_82 : decode cX1_copy 82 = .ok (.iload_n 3, 1) := dk_29 (dk_at dksX1_copy_3 14 rfl rfl)
theorem dX1_copy_83 : decode cX1_copy 83 = .ok (.iaload, 1) := dk_46 (dk_at dksX1_copy_3 15 rfl rfl)
theorem dX1_copy_84 : decode cX1_copy 84 = .ok (.i2l, 1) := dk_133 (dk_at dksX1_copy_3 16 rfl rfl)
theorem dX1_copy_85 : decode cX1_copy 85 = .ok (.lcmp, 1) := dk_148 (dk_at dksX1_copy_3 17 rfl rfl)
theorem dX1_copy_86 : decode cX1_copy 86 = .ok (.ifCond .le 9, 3) := dk_158 0 9 (dk_at dksX1_copy_3 18 rfl rfl)
theorem dX1_copy_89 : decode cX1_copy 89 = .ok (.aload_n 0, 1) := dk_42 (dk_at dksX1_copy_3 21 rfl rfl)
theorem dX1_copy_90 : decode cX1_copy 90 = .ok (.iconst 2, 1) := dk_5 (dk_at dksX1_copy_3 22 rfl rfl)
theorem dX1_copy_91 : decode cX1_copy 91 = .ok (.invokevirtual 119, 3) := dk_182 0 119 (dk_at dksX1_copy_4 0 rfl rfl)
theorem dX1_copy_94 : decode cX1_copy 94 = .ok (.ireturn, 1) := dk_172 (dk_at dksX1_copy_4 3 rfl rfl)
theorem dX1_copy_95 : decode cX1_copy 95 = .ok (.iconst 0, 1) := dk_3 (dk_at dksX1_copy_4 4 rfl rfl)
theorem dX1_copy_96 : decode cX1_copy 96 = .ok (.istore 6, 2) := dk_54 6 (dk_at dksX1_copy_4 5 rfl rfl)
theorem dX1_copy_98 : decode cX1_copy 98 = .ok (.iload 6, 2) := dk_21 6 (dk_at dksX1_copy_4 7 rfl rfl)
theorem dX1_copy_100 : decode cX1_copy 100 = .ok (.iload 5, 2) := dk_21 5 (dk_at dksX1_copy_4 9 rfl rfl)
theorem dX1_copy_102 : decode cX1_copy 102 = .ok (.if_icmp .ge 30, 3) := dk_162 0 30 (dk_at dksX1_copy_4 11 rfl rfl)
theorem dX1_copy_105 : decode cX1_copy 105 = .ok (.aload_n 0, 1) := dk_42 (dk_at dksX1_copy_4 14 rfl rfl)
theorem dX1_copy_106 : decode cX1_copy 106 = .ok (.getfield 20, 3) := dk_180 0 20 (dk_at dksX1_copy_4 15 rfl rfl)
theorem dX1_copy_109 : decode cX1_copy 109 = .ok (.iload 6, 2) := dk_21 6 (dk_at dksX1_copy_4 18 rfl rfl)
theorem dX1_copy_111 : decode cX1_copy 111 = .ok (.aload_n 0, 1) := dk_42 (dk_at dksX1_copy_4 20 rfl rfl)
theorem dX1_copy_112 : decode cX1_copy 112 = .ok (.getfield 16, 3) := dk_180 0 16 (dk_at dksX1_copy_4 21 rfl rfl)
theorem dX1_copy_115 : decode cX1_copy 115 = .ok (.bipush 60, 2) := dk_16 60 (dk_at dksX1_copy_5 0 rfl rfl)
theorem dX1_copy_117 : decode cX1_copy 117 = .ok (.iload_n 1, 1) := dk_27 (dk_at dksX1_copy_5 2 rfl rfl)
theorem dX1_copy_118 : decode cX1_copy 118 = .ok (.imul, 1) := dk_104 (dk_at dksX1_copy_5 3 rfl rfl)
theorem dX1_copy_119 : decode cX1_copy 119 = .ok (.iload_n 2, 1) := dk_28 (dk_at dksX1_copy_5 4 rfl rfl)
theorem dX1_copy_120 : decode cX1_copy 120 = .ok (.iadd, 1) := dk_96 (dk_at dksX1_copy_5 5 rfl rfl)
theorem dX1_copy_121 : decode cX1_copy 121 = .ok (.iload 6, 2) := dk_21 6 (dk_at dksX1_copy_5 6 rfl rfl)
theorem dX1_copy_123 : decode cX1_copy 123 = .ok (.iadd, 1) := dk_96 (dk_at dksX1_copy_5 8 rfl rfl)
theorem dX1_copy_124 : decode cX1_copy 124 = .ok (.baload, 1) := dk_51 (dk_at dksX1_copy_5 9 rfl rfl)
theorem dX1_copy_125 : decode cX1_copy 125 = .ok (.bastore, 1) := dk_84 (dk_at dksX1_copy_5 10 rfl rfl)
theorem dX1_copy_126 : decode cX1_copy 126 = .ok (.iinc 6 1, 3) := dk_132 6 1 (dk_at dksX1_copy_5 11 rfl rfl)
theorem dX1_copy_129 : decode cX1_copy 129 = .ok (.goto (-31), 3) := dk_167 255 225 (dk_at dksX1_copy_5 14 rfl rfl)
theorem dX1_copy_132 : decode cX1_copy 132 = .ok (.iconst 0, 1) := dk_3 (dk_at dksX1_copy_5 17 rfl rfl)
theorem dX1_copy_133 : decode cX1_copy 133 = .ok (.istore 6, 2) := dk_54 6 (dk_at dksX1_copy_5 18 rfl rfl)
theorem dX1_copy_135 : decode cX1_copy 135 = .ok (.iload 6, 2) := dk_21 6 (dk_at dksX1_copy_5 20 rfl rfl)
theorem dX1_copy_137 : decode cX1_copy 137 = .ok (.iload 5, 2) := dk_21 5 (dk_at dksX1_copy_5 22 rfl rfl)
theorem dX1_copy_139 : decode cX1_copy 139 = .ok (.if_icmp .ge 31, 3) := dk_162 0 31 (dk_at dksX1_copy_6 0 rfl rfl)
theorem dX1_copy_142 : decode cX1_copy 142 = .ok (.aload_n 0, 1) := dk_42 (dk_at dksX1_copy_6 3 rfl rfl)
theorem dX1_copy_143 : decode cX1_copy 143 = .ok (.getfield 16, 3) := dk_180 0 16 (dk_at dksX1_copy_6 4 rfl rfl)
theorem dX1_copy_146 : decode cX1_copy 146 = .ok (.bipush 60, 2) := dk_16 60 (dk_at dksX1_copy_6 7 rfl rfl)
theorem dX1_copy_148 : decode cX1_copy 148 = .ok (.iload_n 3, 1) := dk_29 (dk_at dksX1_copy_6 9 rfl rfl)
theorem dX1_copy_149 : decode cX1_copy 149 = .ok (.imul, 1) := dk_104 (dk_at dksX1_copy_6 10 rfl rfl)
theorem dX1_copy_150 : decode cX1_copy 150 = .ok (.iload 4, 2) := dk_21 4 (dk_at dksX1_copy_6 11 rfl rfl)
theorem dX1_copy_152 : decode cX1_copy 152 = .ok (.iadd, 1) := dk_96 (dk_at dksX1_copy_6 13 rfl rfl)
theorem dX1_copy_153 : decode cX1_copy 153 = .ok (.iload 6, 2) := dk_21 6 (dk_at dksX1_copy_6 14 rfl rfl)
theorem dX1_copy_155 : decode cX1_copy 155 = .ok (.iadd, 1) := dk_96 (dk_at dksX1_copy_6 16 rfl rfl)
theorem dX1_copy_156 : decode cX1_copy 156 = .ok (.aload_n 0, 1) := dk_42 (dk_at dksX1_copy_6 17 rfl rfl)
theorem dX1_copy_157 : decode cX1_copy 157 = .ok (.getfield 20, 3) := dk_180 0 20 (dk_at dksX1_copy_6 18 rfl rfl)
theorem dX1_copy_160 : decode cX1_copy 160 = .ok (.iload 6, 2) := dk_21 6 (dk_at dksX1_copy_6 21 rfl rfl)
theorem dX1_copy_162 : decode cX1_copy 162 = .ok (.baload, 1) := dk_51 (dk_at dksX1_copy_6 23 rfl rfl)
theorem dX1_copy_163 : decode cX1_copy 163 = .ok (.bastore, 1) := dk_84 (dk_at dksX1_copy_7 0 rfl rfl)
theorem dX1_copy_164 : decode cX1_copy 164 = .ok (.iinc 6 1, 3) := dk_132 6 1 (dk_at dksX1_copy_7 1 rfl rfl)
theorem dX1_copy_167 : decode cX1_copy 167 = .ok (.goto (-32), 3) := dk_167 255 224 (dk_at dksX1_copy_7 4 rfl rfl)
theorem dX1_copy_170 : decode cX1_copy 170 = .ok (.iconst 1, 1) := dk_4 (dk_at dksX1_copy_7 7 rfl rfl)
theorem dX1_copy_171 : decode cX1_copy 171 = .ok (.ireturn, 1) := dk_172 (dk_at dksX1_copy_7 8 rfl rfl)
abbrev cX1_fault : ByteArray := prog_8_method_23_code
def yX1_fault : MethodName := ⟨RX1, "fault", "(I)I"⟩
def dkwX1_fault_1 : List UInt8 := [167, 0, 8, 42, 27, 182, 0, 157, 172]
abbrev dktX1_fault_1 : List UInt8 := dkwX1_fault_1 ++ []
def dkwX1_fault_0 : List UInt8 := [27, 184, 0, 115, 154, 0, 5, 2, 172, 42, 180, 0, 13, 27, 46, 156, 0, 11, 42, 4, 182, 0, 119]
abbrev dktX1_fault_0 : List UInt8 := dkwX1_fault_0 ++ dktX1_fault_1
theorem dksX1_fault_0 : cX1_fault.data.toList.drop 0 = dktX1_fault_0 := by decide +kernel
theorem dksX1_fault_1 : cX1_fault.data.toList.drop 23 = dktX1_fault_1 := dk_seg dksX1_fault_0 23 rfl rfl
theorem dX1_fault_0 : decode cX1_fault 0 = .ok (.iload_n 1, 1) := dk_27 (dk_at dksX1_fault_0 0 rfl rfl)
theorem dX1_fault_1 : decode cX1_fault 1 = .ok (.invokestatic 115, 3) := dk_184 0 115 (dk_at dksX1_fault_0 1 rfl rfl)
theorem dX1_fault_4 : decode cX1_fault 4 = .ok (.ifCond .ne 5, 3) := dk_154 0 5 (dk_at dksX1_fault_0 4 rfl rfl)
theorem dX1_fault_7 : decode cX1_fault 7 = .ok (.iconst (-1), 1) := dk_2 (dk_at dksX1_fault_0 7 rfl rfl)
theorem dX1_fault_8 : decode cX1_fault 8 = .ok (.ireturn, 1) := dk_172 (dk_at dksX1_fault_0 8 rfl rfl)
theorem dX1_fault_9 : decode cX1_fault 9 = .ok (.aload_n 0, 1) := dk_42 (dk_at dksX1_fault_0 9 rfl rfl)
theorem dX1_fault_10 : decode cX1_fault 10 = .ok (.getfield 13, 3) := dk_180 0 13 (dk_at dksX1_fault_0 10 rfl rfl)
theorem dX1_fault_13 : decode cX1_fault 13 = .ok (.iload_n 1, 1) := dk_27 (dk_at dksX1_fault_0 13 rfl rfl)
theorem dX1_fault_14 : decode cX1_fault 14 = .ok (.iaload, 1) := dk_46 (dk_at dksX1_fault_0 14 rfl rfl)
theorem dX1_fault_15 : decode cX1_fault 15 = .ok (.ifCond .ge 11, 3) := dk_156 0 11 (dk_at dksX1_fault_0 15 rfl rfl)
theorem dX1_fault_18 : decode cX1_fault 18 = .ok (.aload_n 0, 1) := dk_42 (dk_at dksX1_fault_0 18 rfl rfl)
theorem dX1_fault_19 : decode cX1_fault 19 = .ok (.iconst 1, 1) := dk_4 (dk_at dksX1_fault_0 19 rfl rfl)
theorem dX1_fault_20 : decode cX1_fault 20 = .ok (.invokevirtual 119, 3) := dk_182 0 119 (dk_at dksX1_fault_0 20 rfl rfl)
theorem dX1_fault_23 : decode cX1_fault 23 = .ok (.goto 8, 3) := dk_167 0 8 (dk_at dksX1_fault_1 0 rfl rfl)
theorem dX1_fault_26 : decode cX1_fault 26 = .ok (.aload_n 0, 1) := dk_42 (dk_at dksX1_fault_1 3 rfl rfl)
theorem dX1_fault_27 : decode cX1_fault 27 = .ok (.iload_n 1, 1) := dk_27 (dk_at dksX1_fault_1 4 rfl rfl)
theorem dX1_fault_28 : decode cX1_fault 28 = .ok (.invokevirtual 157, 3) := dk_182 0 157 (dk_at dksX1_fault_1 5 rfl rfl)
theorem dX1_fault_31 : decode cX1_fault 31 = .ok (.ireturn, 1) := dk_172 (dk_at dksX1_fault_1 8 rfl rfl)
abbrev cX1_faultOf : ByteArray := prog_8_method_22_code
def yX1_faultOf : MethodName := ⟨RX1, "faultOf", "(I)I"⟩
def dkwX1_faultOf_3 : List UInt8 := [16, 247, 172]
abbrev dktX1_faultOf_3 : List UInt8 := dkwX1_faultOf_3 ++ []
def dkwX1_faultOf_2 : List UInt8 := [27, 46, 164, 0, 12, 42, 180, 0, 13, 27, 46, 167, 0, 4, 29, 172, 42, 180, 0, 127, 61, 167, 255, 190]
abbrev dktX1_faultOf_2 : List UInt8 := dkwX1_faultOf_2 ++ dktX1_faultOf_3
def dkwX1_faultOf_1 : List UInt8 := [132, 2, 1, 167, 255, 232, 42, 27, 28, 182, 0, 154, 62, 29, 16, 247, 159, 0, 24, 29, 42, 180, 0, 13]
abbrev dktX1_faultOf_1 : List UInt8 := dkwX1_faultOf_1 ++ dktX1_faultOf_2
def dkwX1_faultOf_0 : List UInt8 := [3, 61, 28, 42, 180, 0, 13, 27, 46, 162, 0, 62, 42, 27, 28, 182, 0, 123, 16, 32, 160, 0, 9]
abbrev dktX1_faultOf_0 : List UInt8 := dkwX1_faultOf_0 ++ dktX1_faultOf_1
theorem dksX1_faultOf_0 : cX1_faultOf.data.toList.drop 0 = dktX1_faultOf_0 := by decide +kernel
theorem dksX1_faultOf_1 : cX1_faultOf.data.toList.drop 23 = dktX1_faultOf_1 := dk_seg dksX1_faultOf_0 23 rfl rfl
theorem dksX1_faultOf_2 : cX1_faultOf.data.toList.drop 47 = dktX1_faultOf_2 := dk_seg dksX1_faultOf_1 24 rfl rfl
theorem dksX1_faultOf_3 : cX1_faultOf.data.toList.drop 71 = dktX1_faultOf_3 := dk_seg dksX1_faultOf_2 24 rfl rfl
theorem dX1_faultOf_0 : decode cX1_faultOf 0 = .ok (.iconst 0, 1) := dk_3 (dk_at dksX1_faultOf_0 0 rfl rfl)
theorem dX1_faultOf_1 : decode cX1_faultOf 1 = .ok (.istore_n 2, 1) := dk_61 (dk_at dksX1_faultOf_0 1 rfl rfl)
theorem dX1_faultOf_2 : decode cX1_faultOf 2 = .ok (.iload_n 2, 1) := dk_28 (dk_at dksX1_faultOf_0 2 rfl rfl)
theorem dX1_faultOf_3 : decode cX1_faultOf 3 = .ok (.aload_n 0, 1) := dk_42 (dk_at dksX1_faultOf_0 3 rfl rfl)
theorem dX1_faultOf_4 : decode cX1_faultOf 4 = .ok (.getfield 13, 3) := dk_180 0 13 (dk_at dksX1_faultOf_0 4 rfl rfl)
theorem dX1_faultOf_7 : decode cX1_faultOf 7 = .ok (.iload_n 1, 1) := dk_27 (dk_at dksX1_faultOf_0 7 rfl rfl)
theorem dX1_faultOf_8 : decode cX1_faultOf 8 = .ok (.iaload, 1) := dk_46 (dk_at dksX1_faultOf_0 8 rfl rfl)
theorem dX1_faultOf_9 : decode cX1_faultOf 9 = .ok (.if_icmp .ge 62, 3) := dk_162 0 62 (dk_at dksX1_faultOf_0 9 rfl rfl)
theorem dX1_faultOf_12 : decode cX1_faultOf 12 = .ok (.aload_n 0, 1) := dk_42 (dk_at dksX1_faultOf_0 12 rfl rfl)
theorem dX1_faultOf_13 : decode cX1_faultOf 13 = .ok (.iload_n 1, 1) := dk_27 (dk_at dksX1_faultOf_0 13 rfl rfl)
theorem dX1_faultOf_14 : decode cX1_faultOf 14 = .ok (.iload_n 2, 1) := dk_28 (dk_at dksX1_faultOf_0 14 rfl rfl)
theorem dX1_faultOf_15 : decode cX1_faultOf 15 = .ok (.invokevirtual 123, 3) := dk_182 0 123 (dk_at dksX1_faultOf_0 15 rfl rfl)
theorem dX1_faultOf_18 : decode cX1_faultOf 18 = .ok (.bipush 32, 2) := dk_16 32 (dk_at dksX1_faultOf_0 18 rfl rfl)
theorem dX1_faultOf_20 : decode cX1_faultOf 20 = .ok (.if_icmp .ne 9, 3) := dk_160 0 9 (dk_at dksX1_faultOf_0 20 rfl rfl)
theorem dX1_faultOf_23 : decode cX1_faultOf 23 = .ok (.iinc 2 1, 3) := dk_132 2 1 (dk_at dksX1_faultOf_1 0 rfl rfl)
theorem dX1_faultOf_26 : decode cX1_faultOf 26 = .ok (.goto (-24), 3) := dk_167 255 232 (dk_at dksX1_faultOf_1 3 rfl rfl)
theorem dX1_faultOf_29 : decode cX1_faultOf 29 = .ok (.aload_n 0, 1) := dk_42 (dk_at dksX1_faultOf_1 6 rfl rfl)
theorem dX1_faultOf_30 : decode cX1_faultOf 30 = .ok (.iload_n 1, 1) := dk_27 (dk_at dksX1_faultOf_1 7 rfl rfl)
theorem dX1_faultOf_31 : decode cX1_faultOf 31 = .ok (.iload_n 2, 1) := dk_28 (dk_at dksX1_faultOf_1 8 rfl rfl)
theorem dX1_faultOf_32 : decode cX1_faultOf 32 = .ok (.invokevirtual 154, 3) := dk_182 0 154 (dk_at dksX1_faultOf_1 9 rfl rfl)
theorem dX1_faultOf_35 : decode cX1_faultOf 35 = .ok (.istore_n 3, 1) := dk_62 (dk_at dksX1_faultOf_1 12 rfl rfl)
theorem dX1_faultOf_36 : decode cX1_faultOf 36 = .ok (.iload_n 3, 1) := dk_29 (dk_at dksX1_faultOf_1 13 rfl rfl)
theorem dX1_faultOf_37 : decode cX1_faultOf 37 = .ok (.bipush (-9), 2) := dk_16 247 (dk_at dksX1_faultOf_1 14 rfl rfl)
theorem dX1_faultOf_39 : decode cX1_faultOf 39 = .ok (.if_icmp .eq 24, 3) := dk_159 0 24 (dk_at dksX1_faultOf_1 16 rfl rfl)
theorem dX1_faultOf_42 : decode cX1_faultOf 42 = .ok (.iload_n 3, 1) := dk_29 (dk_at dksX1_faultOf_1 19 rfl rfl)
theorem dX1_faultOf_43 : decode cX1_faultOf 43 = .ok (.aload_n 0, 1) := dk_42 (dk_at dksX1_faultOf_1 20 rfl rfl)
theorem dX1_faultOf_44 : decode cX1_faultOf 44 = .ok (.getfield 13, 3) := dk_180 0 13 (dk_at dksX1_faultOf_1 21 rfl rfl)
theorem dX1_faultOf_47 : decode cX1_faultOf 47 = .ok (.iload_n 1, 1) := dk_27 (dk_at dksX1_faultOf_2 0 rfl rfl)
theorem dX1_faultOf_48 : decode cX1_faultOf 48 = .ok (.iaload, 1) := dk_46 (dk_at dksX1_faultOf_2 1 rfl rfl)
theorem dX1_faultOf_49 : decode cX1_faultOf 49 = .ok (.if_icmp .le 12, 3) := dk_164 0 12 (dk_at dksX1_faultOf_2 2 rfl rfl)
theorem dX1_faultOf_52 : decode cX1_faultOf 52 = .ok (.aload_n 0, 1) := dk_42 (dk_at dksX1_faultOf_2 5 rfl rfl)
theorem dX1_faultOf_53 : decode cX1_faultOf 53 = .ok (.getfield 13, 3) := dk_180 0 13 (dk_at dksX1_faultOf_2 6 rfl rfl)
theorem dX1_faultOf_56 : decode cX1_faultOf 56 = .ok (.iload_n 1, 1) := dk_27 (dk_at dksX1_faultOf_2 9 rfl rfl)
theorem dX1_faultOf_57 : decode cX1_faultOf 57 = .ok (.iaload, 1) := dk_46 (dk_at dksX1_faultOf_2 10 rfl rfl)
theorem dX1_faultOf_58 : decode cX1_faultOf 58 = .ok (.goto 4, 3) := dk_167 0 4 (dk_at dksX1_faultOf_2 11 rfl rfl)
theorem dX1_faultOf_61 : decode cX1_faultOf 61 = .ok (.iload_n 3, 1) := dk_29 (dk_at dksX1_faultOf_2 14 rfl rfl)
theorem dX1_faultOf_62 : decode cX1_faultOf 62 = .ok (.ireturn, 1) := dk_172 (dk_at dksX1_faultOf_2 15 rfl rfl)
theorem dX1_faultOf_63 : decode cX1_faultOf 63 = .ok (.aload_n 0, 1) := dk_42 (dk_at dksX1_faultOf_2 16 rfl rfl)
theorem dX1_faultOf_64 : decode cX1_faultOf 64 = .ok (.getfield 127, 3) := dk_180 0 127 (dk_at dksX1_faultOf_2 17 rfl rfl)
theorem dX1_faultOf_67 : decode cX1_faultOf 67 = .ok (.istore_n 2, 1) := dk_61 (dk_at dksX1_faultOf_2 20 rfl rfl)
theorem dX1_faultOf_68 : decode cX1_faultOf 68 = .ok (.goto (-66), 3) := dk_167 255 190 (dk_at dksX1_faultOf_2 21 rfl rfl)
theorem dX1_faultOf_71 : decode cX1_faultOf 71 = .ok (.bipush (-9), 2) := dk_16 247 (dk_at dksX1_faultOf_3 0 rfl rfl)
theorem dX1_faultOf_73 : decode cX1_faultOf 73 = .ok (.ireturn, 1) := dk_172 (dk_at dksX1_faultOf_3 2 rfl rfl)
abbrev cX1_at : ByteArray := prog_8_method_17_code
def yX1_at : MethodName := ⟨RX1, "at", "(II)I"⟩
def dkwX1_at_1 : List UInt8 := [3, 172]
abbrev dktX1_at_1 : List UInt8 := dkwX1_at_1 ++ []
def dkwX1_at_0 : List UInt8 := [28, 42, 180, 0, 13, 27, 46, 162, 0, 17, 42, 180, 0, 16, 16, 60, 27, 104, 28, 96, 51, 167, 0, 4]
abbrev dktX1_at_0 : List UInt8 := dkwX1_at_0 ++ dktX1_at_1
theorem dksX1_at_0 : cX1_at.data.toList.drop 0 = dktX1_at_0 := by decide +kernel
theorem dksX1_at_1 : cX1_at.data.toList.drop 24 = dktX1_at_1 := dk_seg dksX1_at_0 24 rfl rfl
theorem dX1_at_0 : decode cX1_at 0 = .ok (.iload_n 2, 1) := dk_28 (dk_at dksX1_at_0 0 rfl rfl)
theorem dX1_at_1 : decode cX1_at 1 = .ok (.aload_n 0, 1) := dk_42 (dk_at dksX1_at_0 1 rfl rfl)
theorem dX1_at_2 : decode cX1_at 2 = .ok (.getfield 13, 3) := dk_180 0 13 (dk_at dksX1_at_0 2 rfl rfl)
theorem dX1_at_5 : decode cX1_at 5 = .ok (.iload_n 1, 1) := dk_27 (dk_at dksX1_at_0 5 rfl rfl)
theorem dX1_at_6 : decode cX1_at 6 = .ok (.iaload, 1) := dk_46 (dk_at dksX1_at_0 6 rfl rfl)
theorem dX1_at_7 : decode cX1_at 7 = .ok (.if_icmp .ge 17, 3) := dk_162 0 17 (dk_at dksX1_at_0 7 rfl rfl)
theorem dX1_at_10 : decode cX1_at 10 = .ok (.aload_n 0, 1) := dk_42 (dk_at dksX1_at_0 10 rfl rfl)
theorem dX1_at_11 : decode cX1_at 11 = .ok (.getfield 16, 3) := dk_180 0 16 (dk_at dksX1_at_0 11 rfl rfl)
theorem dX1_at_14 : decode cX1_at 14 = .ok (.bipush 60, 2) := dk_16 60 (dk_at dksX1_at_0 14 rfl rfl)
theorem dX1_at_16 : decode cX1_at 16 = .ok (.iload_n 1, 1) := dk_27 (dk_at dksX1_at_0 16 rfl rfl)
theorem dX1_at_17 : decode cX1_at 17 = .ok (.imul, 1) := dk_104 (dk_at dksX1_at_0 17 rfl rfl)
theorem dX1_at_18 : decode cX1_at 18 = .ok (.iload_n 2, 1) := dk_28 (dk_at dksX1_at_0 18 rfl rfl)
theorem dX1_at_19 : decode cX1_at 19 = .ok (.iadd, 1) := dk_96 (dk_at dksX1_at_0 19 rfl rfl)
theorem dX1_at_20 : decode cX1_at 20 = .ok (.baload, 1) := dk_51 (dk_at dksX1_at_0 20 rfl rfl)
theorem dX1_at_21 : decode cX1_at 21 = .ok (.goto 4, 3) := dk_167 0 4 (dk_at dksX1_at_0 21 rfl rfl)
theorem dX1_at_24 : decode cX1_at 24 = .ok (.iconst 0, 1) := dk_3 (dk_at dksX1_at_1 0 rfl rfl)
theorem dX1_at_25 : decode cX1_at 25 = .ok (.ireturn, 1) := dk_172 (dk_at dksX1_at_1 1 rfl rfl)
abbrev cX1_item : ByteArray := prog_8_method_21_code
def yX1_item : MethodName := ⟨RX1, "item", "(II)I"⟩
def dkwX1_item_9 : List UInt8 := [42, 180, 0, 143, 18, 153, 164, 0, 8, 21, 4, 167, 0, 5, 16, 247, 172]
abbrev dktX1_item_9 : List UInt8 := dkwX1_item_9 ++ []
def dkwX1_item_8 : List UInt8 := [153, 0, 7, 5, 167, 0, 5, 16, 6, 182, 0, 149, 181, 0, 143, 42, 180, 0, 127, 21, 4, 159, 0, 12]
abbrev dktX1_item_8 : List UInt8 := dkwX1_item_8 ++ dktX1_item_9
def dkwX1_item_7 : List UInt8 := [181, 0, 146, 29, 153, 0, 9, 28, 6, 96, 167, 0, 6, 28, 5, 96, 54, 4, 42, 42, 27, 21, 4, 29]
abbrev dktX1_item_7 : List UInt8 := dkwX1_item_7 ++ dktX1_item_8
def dkwX1_item_6 : List UInt8 := [28, 5, 96, 172, 42, 29, 153, 0, 17, 42, 27, 28, 5, 96, 182, 0, 123, 16, 97, 100, 167, 0, 4, 3]
abbrev dktX1_item_6 : List UInt8 := dkwX1_item_6 ++ dktX1_item_7
def dkwX1_item_5 : List UInt8 := [160, 0, 7, 4, 167, 0, 4, 3, 62, 29, 153, 0, 18, 42, 27, 28, 5, 96, 182, 0, 134, 154, 0, 7]
abbrev dktX1_item_5 : List UInt8 := dkwX1_item_5 ++ dktX1_item_6
def dkwX1_item_4 : List UInt8 := [16, 42, 159, 0, 16, 42, 180, 0, 140, 16, 62, 159, 0, 7, 28, 4, 96, 172, 42, 180, 0, 140, 16, 62]
abbrev dktX1_item_4 : List UInt8 := dkwX1_item_4 ++ dktX1_item_5
def dkwX1_item_3 : List UInt8 := [96, 182, 0, 123, 16, 48, 100, 181, 0, 143, 42, 28, 6, 96, 181, 0, 127, 16, 247, 172, 42, 180, 0, 140]
abbrev dktX1_item_3 : List UInt8 := dkwX1_item_3 ++ dktX1_item_4
def dkwX1_item_2 : List UInt8 := [5, 96, 182, 0, 123, 16, 48, 16, 51, 184, 0, 105, 154, 0, 7, 28, 5, 96, 172, 42, 42, 27, 28, 5]
abbrev dktX1_item_2 : List UInt8 := dkwX1_item_2 ++ dktX1_item_3
def dkwX1_item_1 : List UInt8 := [42, 42, 27, 28, 4, 96, 182, 0, 123, 181, 0, 140, 42, 180, 0, 140, 16, 33, 160, 0, 50, 42, 27, 28]
abbrev dktX1_item_1 : List UInt8 := dkwX1_item_1 ++ dktX1_item_2
def dkwX1_item_0 : List UInt8 := [42, 27, 28, 182, 0, 134, 154, 0, 5, 28, 172, 42, 42, 27, 28, 182, 0, 123, 16, 97, 100, 181, 0, 137]
abbrev dktX1_item_0 : List UInt8 := dkwX1_item_0 ++ dktX1_item_1
theorem dksX1_item_0 : cX1_item.data.toList.drop 0 = dktX1_item_0 := by decide +kernel
theorem dksX1_item_1 : cX1_item.data.toList.drop 24 = dktX1_item_1 := dk_seg dksX1_item_0 24 rfl rfl
theorem dksX1_item_2 : cX1_item.data.toList.drop 48 = dktX1_item_2 := dk_seg dksX1_item_1 24 rfl rfl
theorem dksX1_item_3 : cX1_item.data.toList.drop 72 = dktX1_item_3 := dk_seg dksX1_item_2 24 rfl rfl
theorem dksX1_item_4 : cX1_item.data.toList.drop 96 = dktX1_item_4 := dk_seg dksX1_item_3 24 rfl rfl
theorem dksX1_item_5 : cX1_item.data.toList.drop 120 = dktX1_item_5 := dk_seg dksX1_item_4 24 rfl rfl
theorem dksX1_item_6 : cX1_item.data.toList.drop 144 = dktX1_item_6 := dk_seg dksX1_item_5 24 rfl rfl
theorem dksX1_item_7 : cX1_item.data.toList.drop 168 = dktX1_item_7 := dk_seg dksX1_item_6 24 rfl rfl
theorem dksX1_item_8 : cX1_item.data.toList.drop 192 = dktX1_item_8 := dk_seg dksX1_item_7 24 rfl rfl
theorem dksX1_item_9 : cX1_item.data.toList.drop 216 = dktX1_item_9 := dk_seg dksX1_item_8 24 rfl rfl
theorem dX1_item_0 : decode cX1_item 0 = .ok (.aload_n 0, 1) := dk_42 (dk_at dksX1_item_0 0 rfl rfl)
theorem dX1_item_1 : decode cX1_item 1 = .ok (.iload_n 1, 1) := dk_27 (dk_at dksX1_item_0 1 rfl rfl)
theorem dX1_item_2 : decode cX1_item 2 = .ok (.iload_n 2, 1) := dk_28 (dk_at dksX1_item_0 2 rfl rfl)
theorem dX1_item_3 : decode cX1_item 3 = .ok (.invokevirtual 134, 3) := dk_182 0 134 (dk_at dksX1_item_0 3 rfl rfl)
theorem dX1_item_6 : decode cX1_item 6 = .ok (.ifCond .ne 5, 3) := dk_154 0 5 (dk_at dksX1_item_0 6 rfl rfl)
theorem dX1_item_9 : decode cX1_item 9 = .ok (.iload_n 2, 1) := dk_28 (dk_at dksX1_item_0 9 rfl rfl)
theorem dX1_item_10 : decode cX1_item 10 = .ok (.ireturn, 1) := dk_172 (dk_at dksX1_item_0 10 rfl rfl)
theorem dX1_item_11 : decode cX1_item 11 = .ok (.aload_n 0, 1) := dk_42 (dk_at dksX1_item_0 11 rfl rfl)
theorem dX1_item_12 : decode cX1_item 12 = .ok (.aload_n 0, 1) := dk_42 (dk_at dksX1_item_0 12 rfl rfl)
theorem dX1_item_13 : decode cX1_item 13 = .ok (.iload_n 1, 1) := dk_27 (dk_at dksX1_item_0 13 rfl rfl)
theorem dX1_item_14 : decode cX1_item 14 = .ok (.iload_n 2, 1) := dk_28 (dk_at dksX1_item_0 14 rfl rfl)
theorem dX1_item_15 : decode cX1_item 15 = .ok (.invokevirtual 123, 3) := dk_182 0 123 (dk_at dksX1_item_0 15 rfl rfl)
theorem dX1_item_18 : decode cX1_item 18 = .ok (.bipush 97, 2) := dk_16 97 (dk_at dksX1_item_0 18 rfl rfl)
theorem dX1_item_20 : decode cX1_item 20 = .ok (.isub, 1) := dk_100 (dk_at dksX1_item_0 20 rfl rfl)
theorem dX1_item_21 : decode cX1_item 21 = .ok (.putfield 137, 3) := dk_181 0 137 (dk_at dksX1_item_0 21 rfl rfl)
theorem dX1_item_24 : decode cX1_item 24 = .ok (.aload_n 0, 1) := dk_42 (dk_at dksX1_item_1 0 rfl rfl)
theorem dX1_item_25 : decode cX1_item 25 = .ok (.aload_n 0, 1) := dk_42 (dk_at dksX1_item_1 1 rfl rfl)
theorem dX1_item_26 : decode cX1_item 26 = .ok (.iload_n 1, 1) := dk_27 (dk_at dksX1_item_1 2 rfl rfl)
theorem dX1_item_27 : decode cX1_item 27 = .ok (.iload_n 2, 1) := dk_28 (dk_at dksX1_item_1 3 rfl rfl)
theorem dX1_item_28 : decode cX1_item 28 = .ok (.iconst 1, 1) := dk_4 (dk_at dksX1_item_1 4 rfl rfl)
theorem dX1_item_29 : decode cX1_item 29 = .ok (.iadd, 1) := dk_96 (dk_at dksX1_item_1 5 rfl rfl)
theorem dX1_item_30 : decode cX1_item 30 = .ok (.invokevirtual 123, 3) := dk_182 0 123 (dk_at dksX1_item_1 6 rfl rfl)
theorem dX1_item_33 : decode cX1_item 33 = .ok (.putfield 140, 3) := dk_181 0 140 (dk_at dksX1_item_1 9 rfl rfl)
theorem dX1_item_36 : decode cX1_item 36 = .ok (.aload_n 0, 1) := dk_42 (dk_at dksX1_item_1 12 rfl rfl)
theorem dX1_item_37 : decode cX1_item 37 = .ok (.getfield 140, 3) := dk_180 0 140 (dk_at dksX1_item_1 13 rfl rfl)
theorem dX1_item_40 : decode cX1_item 40 = .ok (.bipush 33, 2) := dk_16 33 (dk_at dksX1_item_1 16 rfl rfl)
theorem dX1_item_42 : decode cX1_item 42 = .ok (.if_icmp .ne 50, 3) := dk_160 0 50 (dk_at dksX1_item_1 18 rfl rfl)
theorem dX1_item_45 : decode cX1_item 45 = .ok (.aload_n 0, 1) := dk_42 (dk_at dksX1_item_1 21 rfl rfl)
theorem dX1_item_46 : decode cX1_item 46 = .ok (.iload_n 1, 1) := dk_27 (dk_at dksX1_item_1 22 rfl rfl)
theorem dX1_item_47 : decode cX1_item 47 = .ok (.iload_n 2, 1) := dk_28 (dk_at dksX1_item_1 23 rfl rfl)
theorem dX1_item_48 : decode cX1_item 48 = .ok (.iconst 2, 1) := dk_5 (dk_at dksX1_item_2 0 rfl rfl)
theorem dX1_item_49 : decode cX1_item 49 = .ok (.iadd, 1) := dk_96 (dk_at dksX1_item_2 1 rfl rfl)
theorem dX1_item_50 : decode cX1_item 50 = .ok (.invokevirtual 123, 3) := dk_182 0 123 (dk_at dksX1_item_2 2 rfl rfl)
theorem dX1_item_53 : decode cX1_item 53 = .ok (.bipush 48, 2) := dk_16 48 (dk_at dksX1_item_2 5 rfl rfl)
theorem dX1_item_55 : decode cX1_item 55 = .ok (.bipush 51, 2) := dk_16 51 (dk_at dksX1_item_2 7 rfl rfl)
theorem dX1_item_57 : decode cX1_item 57 = .ok (.invokestatic 105, 3) := dk_184 0 105 (dk_at dksX1_item_2 9 rfl rfl)
theorem dX1_item_60 : decode cX1_item 60 = .ok (.ifCond .ne 7, 3) := dk_154 0 7 (dk_at dksX1_item_2 12 rfl rfl)
theorem dX1_item_63 : decode cX1_item 63 = .ok (.iload_n 2, 1) := dk_28 (dk_at dksX1_item_2 15 rfl rfl)
theorem dX1_item_64 : decode cX1_item 64 = .ok (.iconst 2, 1) := dk_5 (dk_at dksX1_item_2 16 rfl rfl)
theorem dX1_item_65 : decode cX1_item 65 = .ok (.iadd, 1) := dk_96 (dk_at dksX1_item_2 17 rfl rfl)
theorem dX1_item_66 : decode cX1_item 66 = .ok (.ireturn, 1) := dk_172 (dk_at dksX1_item_2 18 rfl rfl)
theorem dX1_item_67 : decode cX1_item 67 = .ok (.aload_n 0, 1) := dk_42 (dk_at dksX1_item_2 19 rfl rfl)
theorem dX1_item_68 : decode cX1_item 68 = .ok (.aload_n 0, 1) := dk_42 (dk_at dksX1_item_2 20 rfl rfl)
theorem dX1_item_69 : decode cX1_item 69 = .ok (.iload_n 1, 1) := dk_27 (dk_at dksX1_item_2 21 rfl rfl)
theorem dX1_item_70 : decode cX1_item 70 = .ok (.iload_n 2, 1) := dk_28 (dk_at dksX1_item_2 22 rfl rfl)
theorem dX1_item_71 : decode cX1_item 71 = .ok (.iconst 2, 1) := dk_5 (dk_at dksX1_item_2 23 rfl rfl)
theorem dX1_item_72 : decode cX1_item 72 = .ok (.iadd, 1) := dk_96 (dk_at dksX1_item_3 0 rfl rfl)
theorem dX1_item_73 : decode cX1_item 73 = .ok (.invokevirtual 123, 3) := dk_182 0 123 (dk_at dksX1_item_3 1 rfl rfl)
theorem dX1_item_76 : decode cX1_item 76 = .ok (.bipush 48, 2) := dk_16 48 (dk_at dksX1_item_3 4 rfl rfl)
theorem dX1_item_78 : decode cX1_item 78 = .ok (.isub, 1) := dk_100 (dk_at dksX1_item_3 6 rfl rfl)
theorem dX1_item_79 : decode cX1_item 79 = .ok (.putfield 143, 3) := dk_181 0 143 (dk_at dksX1_item_3 7 rfl rfl)
theorem dX1_item_82 : decode cX1_item 82 = .ok (.aload_n 0, 1) := dk_42 (dk_at dksX1_item_3 10 rfl rfl)
theorem dX1_item_83 : decode cX1_item 83 = .ok (.iload_n 2, 1) := dk_28 (dk_at dksX1_item_3 11 rfl rfl)
theorem dX1_item_84 : decode cX1_item 84 = .ok (.iconst 3, 1) := dk_6 (dk_at dksX1_item_3 12 rfl rfl)
theorem dX1_item_85 : decode cX1_item 85 = .ok (.iadd, 1) := dk_96 (dk_at dksX1_item_3 13 rfl rfl)
theorem dX1_item_86 : decode cX1_item 86 = .ok (.putfield 127, 3) := dk_181 0 127 (dk_at dksX1_item_3 14 rfl rfl)
theorem dX1_item_89 : decode cX1_item 89 = .ok (.bipush (-9), 2) := dk_16 247 (dk_at dksX1_item_3 17 rfl rfl)
theorem dX1_item_91 : decode cX1_item 91 = .ok (.ireturn, 1) := dk_172 (dk_at dksX1_item_3 19 rfl rfl)
theorem dX1_item_92 : decode cX1_item 92 = .ok (.aload_n 0, 1) := dk_42 (dk_at dksX1_item_3 20 rfl rfl)
theorem dX1_item_93 : decode cX1_item 93 = .ok (.getfield 140, 3) := dk_180 0 140 (dk_at dksX1_item_3 21 rfl rfl)
theorem dX1_item_96 : decode cX1_item 96 = .ok (.bipush 42, 2) := dk_16 42 (dk_at dksX1_item_4 0 rfl rfl)
theorem dX1_item_98 : decode cX1_item 98 = .ok (.if_icmp .eq 16, 3) := dk_159 0 16 (dk_at dksX1_item_4 2 rfl rfl)
theorem dX1_item_101 : decode cX1_item 101 = .ok (.aload_n 0, 1) := dk_42 (dk_at dksX1_item_4 5 rfl rfl)
theorem dX1_item_102 : decode cX1_item 102 = .ok (.getfield 140, 3) := dk_180 0 140 (dk_at dksX1_item_4 6 rfl rfl)
theorem dX1_item_105 : decode cX1_item 105 = .ok (.bipush 62, 2) := dk_16 62 (dk_at dksX1_item_4 9 rfl rfl)
theorem dX1_item_107 : decode cX1_item 107 = .ok (.if_icmp .eq 7, 3) := dk_159 0 7 (dk_at dksX1_item_4 11 rfl rfl)
theorem dX1_item_110 : decode cX1_item 110 = .ok (.iload_n 2, 1) := dk_28 (dk_at dksX1_item_4 14 rfl rfl)
theorem dX1_item_111 : decode cX1_item 111 = .ok (.iconst 1, 1) := dk_4 (dk_at dksX1_item_4 15 rfl rfl)
theorem dX1_item_112 : decode cX1_item 112 = .ok (.iadd, 1) := dk_96 (dk_at dksX1_item_4 16 rfl rfl)
theorem dX1_item_113 : decode cX1_item 113 = .ok (.ireturn, 1) := dk_172 (dk_at dksX1_item_4 17 rfl rfl)
theorem dX1_item_114 : decode cX1_item 114 = .ok (.aload_n 0, 1) := dk_42 (dk_at dksX1_item_4 18 rfl rfl)
theorem dX1_item_115 : decode cX1_item 115 = .ok (.getfield 140, 3) := dk_180 0 140 (dk_at dksX1_item_4 19 rfl rfl)
theorem dX1_item_118 : decode cX1_item 118 = .ok (.bipush 62, 2) := dk_16 62 (dk_at dksX1_item_4 22 rfl rfl)
theorem dX1_item_120 : decode cX1_item 120 = .ok (.if_icmp .ne 7, 3) := dk_160 0 7 (dk_at dksX1_item_5 0 rfl rfl)
theorem dX1_item_123 : decode cX1_item 123 = .ok (.iconst 1, 1) := dk_4 (dk_at dksX1_item_5 3 rfl rfl)
theorem dX1_item_124 : decode cX1_item 124 = .ok (.goto 4, 3) := dk_167 0 4 (dk_at dksX1_item_5 4 rfl rfl)
theorem dX1_item_127 : decode cX1_item 127 = .ok (.iconst 0, 1) := dk_3 (dk_at dksX1_item_5 7 rfl rfl)
theorem dX1_item_128 : decode cX1_item 128 = .ok (.istore_n 3, 1) := dk_62 (dk_at dksX1_item_5 8 rfl rfl)
theorem dX1_item_129 : decode cX1_item 129 = .ok (.iload_n 3, 1) := dk_29 (dk_at dksX1_item_5 9 rfl rfl)
theorem dX1_item_130 : decode cX1_item 130 = .ok (.ifCond .eq 18, 3) := dk_153 0 18 (dk_at dksX1_item_5 10 rfl rfl)
theorem dX1_item_133 : decode cX1_item 133 = .ok (.aload_n 0, 1) := dk_42 (dk_at dksX1_item_5 13 rfl rfl)
theorem dX1_item_134 : decode cX1_item 134 = .ok (.iload_n 1, 1) := dk_27 (dk_at dksX1_item_5 14 rfl rfl)
theorem dX1_item_135 : decode cX1_item 135 = .ok (.iload_n 2, 1) := dk_28 (dk_at dksX1_item_5 15 rfl rfl)
theorem dX1_item_136 : decode cX1_item 136 = .ok (.iconst 2, 1) := dk_5 (dk_at dksX1_item_5 16 rfl rfl)
theorem dX1_item_137 : decode cX1_item 137 = .ok (.iadd, 1) := dk_96 (dk_at dksX1_item_5 17 rfl rfl)
theorem dX1_item_138 : decode cX1_item 138 = .ok (.invokevirtual 134, 3) := dk_182 0 134 (dk_at dksX1_item_5 18 rfl rfl)
theorem dX1_item_141 : decode cX1_item 141 = .ok (.ifCond .ne 7, 3) := dk_154 0 7 (dk_at dksX1_item_5 21 rfl rfl)
theorem dX1_item_144 : decode cX1_item 144 = .ok (.iload_n 2, 1) := dk_28 (dk_at dksX1_item_6 0 rfl rfl)
theorem dX1_item_145 : decode cX1_item 145 = .ok (.iconst 2, 1) := dk_5 (dk_at dksX1_item_6 1 rfl rfl)
theorem dX1_item_146 : decode cX1_item 146 = .ok (.iadd, 1) := dk_96 (dk_at dksX1_item_6 2 rfl rfl)
theorem dX1_item_147 : decode cX1_item 147 = .ok (.ireturn, 1) := dk_172 (dk_at dksX1_item_6 3 rfl rfl)
theorem dX1_item_148 : decode cX1_item 148 = .ok (.aload_n 0, 1) := dk_42 (dk_at dksX1_item_6 4 rfl rfl)
theorem dX1_item_149 : decode cX1_item 149 = .ok (.iload_n 3, 1) := dk_29 (dk_at dksX1_item_6 5 rfl rfl)
theorem dX1_item_150 : decode cX1_item 150 = .ok (.ifCond .eq 17, 3) := dk_153 0 17 (dk_at dksX1_item_6 6 rfl rfl)
theorem dX1_item_153 : decode cX1_item 153 = .ok (.aload_n 0, 1) := dk_42 (dk_at dksX1_item_6 9 rfl rfl)
theorem dX1_item_154 : decode cX1_item 154 = .ok (.iload_n 1, 1) := dk_27 (dk_at dksX1_item_6 10 rfl rfl)
theorem dX1_item_155 : decode cX1_item 155 = .ok (.iload_n 2, 1) := dk_28 (dk_at dksX1_item_6 11 rfl rfl)
theorem dX1_item_156 : decode cX1_item 156 = .ok (.iconst 2, 1) := dk_5 (dk_at dksX1_item_6 12 rfl rfl)
theorem dX1_item_157 : decode cX1_item 157 = .ok (.iadd, 1) := dk_96 (dk_at dksX1_item_6 13 rfl rfl)
theorem dX1_item_158 : decode cX1_item 158 = .ok (.invokevirtual 123, 3) := dk_182 0 123 (dk_at dksX1_item_6 14 rfl rfl)
theorem dX1_item_161 : decode cX1_item 161 = .ok (.bipush 97, 2) := dk_16 97 (dk_at dksX1_item_6 17 rfl rfl)
theorem dX1_item_163 : decode cX1_item 163 = .ok (.isub, 1) := dk_100 (dk_at dksX1_item_6 19 rfl rfl)
theorem dX1_item_164 : decode cX1_item 164 = .ok (.goto 4, 3) := dk_167 0 4 (dk_at dksX1_item_6 20 rfl rfl)
theorem dX1_item_167 : decode cX1_item 167 = .ok (.iconst 0, 1) := dk_3 (dk_at dksX1_item_6 23 rfl rfl)
theorem dX1_item_168 : decode cX1_item 168 = .ok (.putfield 146, 3) := dk_181 0 146 (dk_at dksX1_item_7 0 rfl rfl)
theorem dX1_item_171 : decode cX1_item 171 = .ok (.iload_n 3, 1) := dk_29 (dk_at dksX1_item_7 3 rfl rfl)
theorem dX1_item_172 : decode cX1_item 172 = .ok (.ifCond .eq 9, 3) := dk_153 0 9 (dk_at dksX1_item_7 4 rfl rfl)
theorem dX1_item_175 : decode cX1_item 175 = .ok (.iload_n 2, 1) := dk_28 (dk_at dksX1_item_7 7 rfl rfl)
theorem dX1_item_176 : decode cX1_item 176 = .ok (.iconst 3, 1) := dk_6 (dk_at dksX1_item_7 8 rfl rfl)
theorem dX1_item_177 : decode cX1_item 177 = .ok (.iadd, 1) := dk_96 (dk_at dksX1_item_7 9 rfl rfl)
theorem dX1_item_178 : decode cX1_item 178 = .ok (.goto 6, 3) := dk_167 0 6 (dk_at dksX1_item_7 10 rfl rfl)
theorem dX1_item_181 : decode cX1_item 181 = .ok (.iload_n 2, 1) := dk_28 (dk_at dksX1_item_7 13 rfl rfl)
theorem dX1_item_182 : decode cX1_item 182 = .ok (.iconst 2, 1) := dk_5 (dk_at dksX1_item_7 14 rfl rfl)
theorem dX1_item_183 : decode cX1_item 183 = .ok (.iadd, 1) := dk_96 (dk_at dksX1_item_7 15 rfl rfl)
theorem dX1_item_184 : decode cX1_item 184 = .ok (.istore 4, 2) := dk_54 4 (dk_at dksX1_item_7 16 rfl rfl)
theorem dX1_item_186 : decode cX1_item 186 = .ok (.aload_n 0, 1) := dk_42 (dk_at dksX1_item_7 18 rfl rfl)
theorem dX1_item_187 : decode cX1_item 187 = .ok (.aload_n 0, 1) := dk_42 (dk_at dksX1_item_7 19 rfl rfl)
theorem dX1_item_188 : decode cX1_item 188 = .ok (.iload_n 1, 1) := dk_27 (dk_at dksX1_item_7 20 rfl rfl)
theorem dX1_item_189 : decode cX1_item 189 = .ok (.iload 4, 2) := dk_21 4 (dk_at dksX1_item_7 21 rfl rfl)
theorem dX1_item_191 : decode cX1_item 191 = .ok (.iload_n 3, 1) := dk_29 (dk_at dksX1_item_7 23 rfl rfl)
theorem dX1_item_192 : decode cX1_item 192 = .ok (.ifCond .eq 7, 3) := dk_153 0 7 (dk_at dksX1_item_8 0 rfl rfl)
theorem dX1_item_195 : decode cX1_item 195 = .ok (.iconst 2, 1) := dk_5 (dk_at dksX1_item_8 3 rfl rfl)
theorem dX1_item_196 : decode cX1_item 196 = .ok (.goto 5, 3) := dk_167 0 5 (dk_at dksX1_item_8 4 rfl rfl)
theorem dX1_item_199 : decode cX1_item 199 = .ok (.bipush 6, 2) := dk_16 6 (dk_at dksX1_item_8 7 rfl rfl)
theorem dX1_item_201 : decode cX1_item 201 = .ok (.invokevirtual 149, 3) := dk_182 0 149 (dk_at dksX1_item_8 9 rfl rfl)
theorem dX1_item_204 : decode cX1_item 204 = .ok (.putfield 143, 3) := dk_181 0 143 (dk_at dksX1_item_8 12 rfl rfl)
theorem dX1_item_207 : decode cX1_item 207 = .ok (.aload_n 0, 1) := dk_42 (dk_at dksX1_item_8 15 rfl rfl)
theorem dX1_item_208 : decode cX1_item 208 = .ok (.getfield 127, 3) := dk_180 0 127 (dk_at dksX1_item_8 16 rfl rfl)
theorem dX1_item_211 : decode cX1_item 211 = .ok (.iload 4, 2) := dk_21 4 (dk_at dksX1_item_8 19 rfl rfl)
theorem dX1_item_213 : decode cX1_item 213 = .ok (.if_icmp .eq 12, 3) := dk_159 0 12 (dk_at dksX1_item_8 21 rfl rfl)
theorem dX1_item_216 : decode cX1_item 216 = .ok (.aload_n 0, 1) := dk_42 (dk_at dksX1_item_9 0 rfl rfl)
theorem dX1_item_217 : decode cX1_item 217 = .ok (.getfield 143, 3) := dk_180 0 143 (dk_at dksX1_item_9 1 rfl rfl)
theorem dX1_item_220 : decode cX1_item 220 = .ok (.ldc 153, 2) := dk_18 153 (dk_at dksX1_item_9 4 rfl rfl)
theorem dX1_item_222 : decode cX1_item 222 = .ok (.if_icmp .le 8, 3) := dk_164 0 8 (dk_at dksX1_item_9 6 rfl rfl)
theorem dX1_item_225 : decode cX1_item 225 = .ok (.iload 4, 2) := dk_21 4 (dk_at dksX1_item_9 9 rfl rfl)
theorem dX1_item_227 : decode cX1_item 227 = .ok (.goto 5, 3) := dk_167 0 5 (dk_at dksX1_item_9 11 rfl rfl)
theorem dX1_item_230 : decode cX1_item 230 = .ok (.bipush (-9), 2) := dk_16 247 (dk_at dksX1_item_9 14 rfl rfl)
theorem dX1_item_232 : decode cX1_item 232 = .ok (.ireturn, 1) := dk_172 (dk_at dksX1_item_9 16 rfl rfl)
abbrev cX1_isLetter : ByteArray := prog_8_method_18_code
def yX1_isLetter : MethodName := ⟨RX1, "isLetter", "(II)Z"⟩
def dkwX1_isLetter_0 : List UInt8 := [42, 27, 28, 182, 0, 123, 16, 97, 16, 104, 184, 0, 105, 172]
abbrev dktX1_isLetter_0 : List UInt8 := dkwX1_isLetter_0 ++ []
theorem dksX1_isLetter_0 : cX1_isLetter.data.toList.drop 0 = dktX1_isLetter_0 := by decide +kernel
theorem dX1_isLetter_0 : decode cX1_isLetter 0 = .ok (.aload_n 0, 1) := dk_42 (dk_at dksX1_isLetter_0 0 rfl rfl)
theorem dX1_isLetter_1 : decode cX1_isLetter 1 = .ok (.iload_n 1, 1) := dk_27 (dk_at dksX1_isLetter_0 1 rfl rfl)
theorem dX1_isLetter_2 : decode cX1_isLetter 2 = .ok (.iload_n 2, 1) := dk_28 (dk_at dksX1_isLetter_0 2 rfl rfl)
theorem dX1_isLetter_3 : decode cX1_isLetter 3 = .ok (.invokevirtual 123, 3) := dk_182 0 123 (dk_at dksX1_isLetter_0 3 rfl rfl)
theorem dX1_isLetter_6 : decode cX1_isLetter 6 = .ok (.bipush 97, 2) := dk_16 97 (dk_at dksX1_isLetter_0 6 rfl rfl)
theorem dX1_isLetter_8 : decode cX1_isLetter 8 = .ok (.bipush 104, 2) := dk_16 104 (dk_at dksX1_isLetter_0 8 rfl rfl)
theorem dX1_isLetter_10 : decode cX1_isLetter 10 = .ok (.invokestatic 105, 3) := dk_184 0 105 (dk_at dksX1_isLetter_0 10 rfl rfl)
theorem dX1_isLetter_13 : decode cX1_isLetter 13 = .ok (.ireturn, 1) := dk_172 (dk_at dksX1_isLetter_0 13 rfl rfl)
abbrev cX1_digits : ByteArray := prog_8_method_20_code
def yX1_digits : MethodName := ⟨RX1, "digits", "(III)I"⟩
def dkwX1_digits_2 : List UInt8 := [54, 4, 42, 89, 180, 0, 127, 4, 96, 181, 0, 127, 167, 255, 204, 21, 4, 172]
abbrev dktX1_digits_2 : List UInt8 := dkwX1_digits_2 ++ []
def dkwX1_digits_1 : List UInt8 := [182, 0, 130, 153, 0, 36, 16, 10, 21, 4, 104, 42, 27, 42, 180, 0, 127, 182, 0, 123, 96, 16, 48, 100]
abbrev dktX1_digits_1 : List UInt8 := dkwX1_digits_1 ++ dktX1_digits_2
def dkwX1_digits_0 : List UInt8 := [3, 54, 4, 42, 28, 181, 0, 127, 42, 180, 0, 127, 28, 29, 96, 162, 0, 48, 42, 27, 42, 180, 0, 127]
abbrev dktX1_digits_0 : List UInt8 := dkwX1_digits_0 ++ dktX1_digits_1
theorem dksX1_digits_0 : cX1_digits.data.toList.drop 0 = dktX1_digits_0 := by decide +kernel
theorem dksX1_digits_1 : cX1_digits.data.toList.drop 24 = dktX1_digits_1 := dk_seg dksX1_digits_0 24 rfl rfl
theorem dksX1_digits_2 : cX1_digits.data.toList.drop 48 = dktX1_digits_2 := dk_seg dksX1_digits_1 24 rfl rfl
theorem dX1_digits_0 : decode cX1_digits 0 = .ok (.iconst 0, 1) := dk_3 (dk_at dksX1_digits_0 0 rfl rfl)
theorem dX1_digits_1 : decode cX1_digits 1 = .ok (.istore 4, 2) := dk_54 4 (dk_at dksX1_digits_0 1 rfl rfl)
theorem dX1_digits_3 : decode cX1_digits 3 = .ok (.aload_n 0, 1) := dk_42 (dk_at dksX1_digits_0 3 rfl rfl)
theorem dX1_digits_4 : decode cX1_digits 4 = .ok (.iload_n 2, 1) := dk_28 (dk_at dksX1_digits_0 4 rfl rfl)
theorem dX1_digits_5 : decode cX1_digits 5 = .ok (.putfield 127, 3) := dk_181 0 127 (dk_at dksX1_digits_0 5 rfl rfl)
theorem dX1_digits_8 : decode cX1_digits 8 = .ok (.aload_n 0, 1) := dk_42 (dk_at dksX1_digits_0 8 rfl rfl)
theorem dX1_digits_9 : decode cX1_digits 9 = .ok (.getfield 127, 3) := dk_180 0 127 (dk_at dksX1_digits_0 9 rfl rfl)
theorem dX1_digits_12 : decode cX1_digits 12 = .ok (.iload_n 2, 1) := dk_28 (dk_at dksX1_digits_0 12 rfl rfl)
theorem dX1_digits_13 : decode cX1_digits 13 = .ok (.iload_n 3, 1) := dk_29 (dk_at dksX1_digits_0 13 rfl rfl)
theorem dX1_digits_14 : decode cX1_digits 14 = .ok (.iadd, 1) := dk_96 (dk_at dksX1_digits_0 14 rfl rfl)
theorem dX1_digits_15 : decode cX1_digits 15 = .ok (.if_icmp .ge 48, 3) := dk_162 0 48 (dk_at dksX1_digits_0 15 rfl rfl)
theorem dX1_digits_18 : decode cX1_digits 18 = .ok (.aload_n 0, 1) := dk_42 (dk_at dksX1_digits_0 18 rfl rfl)
theorem dX1_digits_19 : decode cX1_digits 19 = .ok (.iload_n 1, 1) := dk_27 (dk_at dksX1_digits_0 19 rfl rfl)
theorem dX1_digits_20 : decode cX1_digits 20 = .ok (.aload_n 0, 1) := dk_42 (dk_at dksX1_digits_0 20 rfl rfl)
theorem dX1_digits_21 : decode cX1_digits 21 = .ok (.getfield 127, 3) := dk_180 0 127 (dk_at dksX1_digits_0 21 rfl rfl)
theorem dX1_digits_24 : decode cX1_digits 24 = .ok (.invokevirtual 130, 3) := dk_182 0 130 (dk_at dksX1_digits_1 0 rfl rfl)
theorem dX1_digits_27 : decode cX1_digits 27 = .ok (.ifCond .eq 36, 3) := dk_153 0 36 (dk_at dksX1_digits_1 3 rfl rfl)
theorem dX1_digits_30 : decode cX1_digits 30 = .ok (.bipush 10, 2) := dk_16 10 (dk_at dksX1_digits_1 6 rfl rfl)
theorem dX1_digits_32 : decode cX1_digits 32 = .ok (.iload 4, 2) := dk_21 4 (dk_at dksX1_digits_1 8 rfl rfl)
theorem dX1_digits_34 : decode cX1_digits 34 = .ok (.imul, 1) := dk_104 (dk_at dksX1_digits_1 10 rfl rfl)
theorem dX1_digits_35 : decode cX1_digits 35 = .ok (.aload_n 0, 1) := dk_42 (dk_at dksX1_digits_1 11 rfl rfl)
theorem dX1_digits_36 : decode cX1_digits 36 = .ok (.iload_n 1, 1) := dk_27 (dk_at dksX1_digits_1 12 rfl rfl)
theorem dX1_digits_37 : decode cX1_digits 37 = .ok (.aload_n 0, 1) := dk_42 (dk_at dksX1_digits_1 13 rfl rfl)
theorem dX1_digits_38 : decode cX1_digits 38 = .ok (.getfield 127, 3) := dk_180 0 127 (dk_at dksX1_digits_1 14 rfl rfl)
theorem dX1_digits_41 : decode cX1_digits 41 = .ok (.invokevirtual 123, 3) := dk_182 0 123 (dk_at dksX1_digits_1 17 rfl rfl)
theorem dX1_digits_44 : decode cX1_digits 44 = .ok (.iadd, 1) := dk_96 (dk_at dksX1_digits_1 20 rfl rfl)
theorem dX1_digits_45 : decode cX1_digits 45 = .ok (.bipush 48, 2) := dk_16 48 (dk_at dksX1_digits_1 21 rfl rfl)
theorem dX1_digits_47 : decode cX1_digits 47 = .ok (.isub, 1) := dk_100 (dk_at dksX1_digits_1 23 rfl rfl)
theorem dX1_digits_48 : decode cX1_digits 48 = .ok (.istore 4, 2) := dk_54 4 (dk_at dksX1_digits_2 0 rfl rfl)
theorem dX1_digits_50 : decode cX1_digits 50 = .ok (.aload_n 0, 1) := dk_42 (dk_at dksX1_digits_2 2 rfl rfl)
theorem dX1_digits_51 : decode cX1_digits 51 = .ok (.dup, 1) := dk_89 (dk_at dksX1_digits_2 3 rfl rfl)
theorem dX1_digits_52 : decode cX1_digits 52 = .ok (.getfield 127, 3) := dk_180 0 127 (dk_at dksX1_digits_2 4 rfl rfl)
theorem dX1_digits_55 : decode cX1_digits 55 = .ok (.iconst 1, 1) := dk_4 (dk_at dksX1_digits_2 7 rfl rfl)
theorem dX1_digits_56 : decode cX1_digits 56 = .ok (.iadd, 1) := dk_96 (dk_at dksX1_digits_2 8 rfl rfl)
theorem dX1_digits_57 : decode cX1_digits 57 = .ok (.putfield 127, 3) := dk_181 0 127 (dk_at dksX1_digits_2 9 rfl rfl)
theorem dX1_digits_60 : decode cX1_digits 60 = .ok (.goto (-52), 3) := dk_167 255 204 (dk_at dksX1_digits_2 12 rfl rfl)
theorem dX1_digits_63 : decode cX1_digits 63 = .ok (.iload 4, 2) := dk_21 4 (dk_at dksX1_digits_2 15 rfl rfl)
theorem dX1_digits_65 : decode cX1_digits 65 = .ok (.ireturn, 1) := dk_172 (dk_at dksX1_digits_2 17 rfl rfl)
abbrev cX1_isDigit : ByteArray := prog_8_method_19_code
def yX1_isDigit : MethodName := ⟨RX1, "isDigit", "(II)Z"⟩
def dkwX1_isDigit_0 : List UInt8 := [42, 27, 28, 182, 0, 123, 16, 48, 16, 57, 184, 0, 105, 172]
abbrev dktX1_isDigit_0 : List UInt8 := dkwX1_isDigit_0 ++ []
theorem dksX1_isDigit_0 : cX1_isDigit.data.toList.drop 0 = dktX1_isDigit_0 := by decide +kernel
theorem dX1_isDigit_0 : decode cX1_isDigit 0 = .ok (.aload_n 0, 1) := dk_42 (dk_at dksX1_isDigit_0 0 rfl rfl)
theorem dX1_isDigit_1 : decode cX1_isDigit 1 = .ok (.iload_n 1, 1) := dk_27 (dk_at dksX1_isDigit_0 1 rfl rfl)
theorem dX1_isDigit_2 : decode cX1_isDigit 2 = .ok (.iload_n 2, 1) := dk_28 (dk_at dksX1_isDigit_0 2 rfl rfl)
theorem dX1_isDigit_3 : decode cX1_isDigit 3 = .ok (.invokevirtual 123, 3) := dk_182 0 123 (dk_at dksX1_isDigit_0 3 rfl rfl)
theorem dX1_isDigit_6 : decode cX1_isDigit 6 = .ok (.bipush 48, 2) := dk_16 48 (dk_at dksX1_isDigit_0 6 rfl rfl)
theorem dX1_isDigit_8 : decode cX1_isDigit 8 = .ok (.bipush 57, 2) := dk_16 57 (dk_at dksX1_isDigit_0 8 rfl rfl)
theorem dX1_isDigit_10 : decode cX1_isDigit 10 = .ok (.invokestatic 105, 3) := dk_184 0 105 (dk_at dksX1_isDigit_0 10 rfl rfl)
theorem dX1_isDigit_13 : decode cX1_isDigit 13 = .ok (.ireturn, 1) := dk_172 (dk_at dksX1_isDigit_0 13 rfl rfl)
abbrev cX1_read : ByteArray := prog_8_method_24_code
def yX1_read : MethodName := ⟨RX1, "read", "(I)I"⟩
def dkwX1_read_4 : List UInt8 := [167, 255, 202, 28, 172]
abbrev dktX1_read_4 : List UInt8 := dkwX1_read_4 ++ []
def dkwX1_read_3 : List UInt8 := [182, 0, 154, 87, 42, 180, 0, 127, 62, 28, 42, 182, 0, 160, 153, 0, 7, 4, 167, 0, 4, 3, 96, 61]
abbrev dktX1_read_3 : List UInt8 := dkwX1_read_3 ++ dktX1_read_4
def dkwX1_read_2 : List UInt8 := [162, 0, 50, 42, 27, 29, 182, 0, 123, 16, 32, 160, 0, 9, 132, 3, 1, 167, 255, 232, 42, 27, 29]
abbrev dktX1_read_2 : List UInt8 := dkwX1_read_2 ++ dktX1_read_3
def dkwX1_read_1 : List UInt8 := [42, 27, 182, 0, 157, 16, 247, 159, 0, 6, 16, 252, 172, 3, 61, 3, 62, 29, 42, 180, 0, 13, 27, 46]
abbrev dktX1_read_1 : List UInt8 := dkwX1_read_1 ++ dktX1_read_2
def dkwX1_read_0 : List UInt8 := [27, 184, 0, 115, 154, 0, 5, 2, 172, 42, 180, 0, 13, 27, 46, 156, 0, 9, 42, 4, 182, 0, 119, 172]
abbrev dktX1_read_0 : List UInt8 := dkwX1_read_0 ++ dktX1_read_1
theorem dksX1_read_0 : cX1_read.data.toList.drop 0 = dktX1_read_0 := by decide +kernel
theorem dksX1_read_1 : cX1_read.data.toList.drop 24 = dktX1_read_1 := dk_seg dksX1_read_0 24 rfl rfl
theorem dksX1_read_2 : cX1_read.data.toList.drop 48 = dktX1_read_2 := dk_seg dksX1_read_1 24 rfl rfl
theorem dksX1_read_3 : cX1_read.data.toList.drop 71 = dktX1_read_3 := dk_seg dksX1_read_2 23 rfl rfl
theorem dksX1_read_4 : cX1_read.data.toList.drop 95 = dktX1_read_4 := dk_seg dksX1_read_3 24 rfl rfl
theorem dX1_read_0 : decode cX1_read 0 = .ok (.iload_n 1, 1) := dk_27 (dk_at dksX1_read_0 0 rfl rfl)
theorem dX1_read_1 : decode cX1_read 1 = .ok (.invokestatic 115, 3) := dk_184 0 115 (dk_at dksX1_read_0 1 rfl rfl)
theorem dX1_read_4 : decode cX1_read 4 = .ok (.ifCond .ne 5, 3) := dk_154 0 5 (dk_at dksX1_read_0 4 rfl rfl)
theorem dX1_read_7 : decode cX1_read 7 = .ok (.iconst (-1), 1) := dk_2 (dk_at dksX1_read_0 7 rfl rfl)
theorem dX1_read_8 : decode cX1_read 8 = .ok (.ireturn, 1) := dk_172 (dk_at dksX1_read_0 8 rfl rfl)
theorem dX1_read_9 : decode cX1_read 9 = .ok (.aload_n 0, 1) := dk_42 (dk_at dksX1_read_0 9 rfl rfl)
theorem dX1_read_10 : decode cX1_read 10 = .ok (.getfield 13, 3) := dk_180 0 13 (dk_at dksX1_read_0 10 rfl rfl)
theorem dX1_read_13 : decode cX1_read 13 = .ok (.iload_n 1, 1) := dk_27 (dk_at dksX1_read_0 13 rfl rfl)
theorem dX1_read_14 : decode cX1_read 14 = .ok (.iaload, 1) := dk_46 (dk_at dksX1_read_0 14 rfl rfl)
theorem dX1_read_15 : decode cX1_read 15 = .ok (.ifCond .ge 9, 3) := dk_156 0 9 (dk_at dksX1_read_0 15 rfl rfl)
theorem dX1_read_18 : decode cX1_read 18 = .ok (.aload_n 0, 1) := dk_42 (dk_at dksX1_read_0 18 rfl rfl)
theorem dX1_read_19 : decode cX1_read 19 = .ok (.iconst 1, 1) := dk_4 (dk_at dksX1_read_0 19 rfl rfl)
theorem dX1_read_20 : decode cX1_read 20 = .ok (.invokevirtual 119, 3) := dk_182 0 119 (dk_at dksX1_read_0 20 rfl rfl)
theorem dX1_read_23 : decode cX1_read 23 = .ok (.ireturn, 1) := dk_172 (dk_at dksX1_read_0 23 rfl rfl)
theorem dX1_read_24 : decode cX1_read 24 = .ok (.aload_n 0, 1) := dk_42 (dk_at dksX1_read_1 0 rfl rfl)
theorem dX1_read_25 : decode cX1_read 25 = .ok (.iload_n 1, 1) := dk_27 (dk_at dksX1_read_1 1 rfl rfl)
theorem dX1_read_26 : decode cX1_read 26 = .ok (.invokevirtual 157, 3) := dk_182 0 157 (dk_at dksX1_read_1 2 rfl rfl)
theorem dX1_read_29 : decode cX1_read 29 = .ok (.bipush (-9), 2) := dk_16 247 (dk_at dksX1_read_1 5 rfl rfl)
theorem dX1_read_31 : decode cX1_read 31 = .ok (.if_icmp .eq 6, 3) := dk_159 0 6 (dk_at dksX1_read_1 7 rfl rfl)
theorem dX1_read_34 : decode cX1_read 34 = .ok (.bipush (-4), 2) := dk_16 252 (dk_at dksX1_read_1 10 rfl rfl)
theorem dX1_read_36 : decode cX1_read 36 = .ok (.ireturn, 1) := dk_172 (dk_at dksX1_read_1 12 rfl rfl)
theorem dX1_read_37 : decode cX1_read 37 = .ok (.iconst 0, 1) := dk_3 (dk_at dksX1_read_1 13 rfl rfl)
theorem dX1_read_38 : decode cX1_read 38 = .ok (.istore_n 2, 1) := dk_61 (dk_at dksX1_read_1 14 rfl rfl)
theorem dX1_read_39 : decode cX1_read 39 = .ok (.iconst 0, 1) := dk_3 (dk_at dksX1_read_1 15 rfl rfl)
theorem dX1_read_40 : decode cX1_read 40 = .ok (.istore_n 3, 1) := dk_62 (dk_at dksX1_read_1 16 rfl rfl)
theorem dX1_read_41 : decode cX1_read 41 = .ok (.iload_n 3, 1) := dk_29 (dk_at dksX1_read_1 17 rfl rfl)
theorem dX1_read_42 : decode cX1_read 42 = .ok (.aload_n 0, 1) := dk_42 (dk_at dksX1_read_1 18 rfl rfl)
theorem dX1_read_43 : decode cX1_read 43 = .ok (.getfield 13, 3) := dk_180 0 13 (dk_at dksX1_read_1 19 rfl rfl)
theorem dX1_read_46 : decode cX1_read 46 = .ok (.iload_n 1, 1) := dk_27 (dk_at dksX1_read_1 22 rfl rfl)
theorem dX1_read_47 : decode cX1_read 47 = .ok (.iaload, 1) := dk_46 (dk_at dksX1_read_1 23 rfl rfl)
theorem dX1_read_48 : decode cX1_read 48 = .ok (.if_icmp .ge 50, 3) := dk_162 0 50 (dk_at dksX1_read_2 0 rfl rfl)
theorem dX1_read_51 : decode cX1_read 51 = .ok (.aload_n 0, 1) := dk_42 (dk_at dksX1_read_2 3 rfl rfl)
theorem dX1_read_52 : decode cX1_read 52 = .ok (.iload_n 1, 1) := dk_27 (dk_at dksX1_read_2 4 rfl rfl)
theorem dX1_read_53 : decode cX1_read 53 = .ok (.iload_n 3, 1) := dk_29 (dk_at dksX1_read_2 5 rfl rfl)
theorem dX1_read_54 : decode cX1_read 54 = .ok (.invokevirtual 123, 3) := dk_182 0 123 (dk_at dksX1_read_2 6 rfl rfl)
theorem dX1_read_57 : decode cX1_read 57 = .ok (.bipush 32, 2) := dk_16 32 (dk_at dksX1_read_2 9 rfl rfl)
theorem dX1_read_59 : decode cX1_read 59 = .ok (.if_icmp .ne 9, 3) := dk_160 0 9 (dk_at dksX1_read_2 11 rfl rfl)
theorem dX1_read_62 : decode cX1_read 62 = .ok (.iinc 3 1, 3) := dk_132 3 1 (dk_at dksX1_read_2 14 rfl rfl)
theorem dX1_read_65 : decode cX1_read 65 = .ok (.goto (-24), 3) := dk_167 255 232 (dk_at dksX1_read_2 17 rfl rfl)
theorem dX1_read_68 : decode cX1_read 68 = .ok (.aload_n 0, 1) := dk_42 (dk_at dksX1_read_2 20 rfl rfl)
theorem dX1_read_69 : decode cX1_read 69 = .ok (.iload_n 1, 1) := dk_27 (dk_at dksX1_read_2 21 rfl rfl)
theorem dX1_read_70 : decode cX1_read 70 = .ok (.iload_n 3, 1) := dk_29 (dk_at dksX1_read_2 22 rfl rfl)
theorem dX1_read_71 : decode cX1_read 71 = .ok (.invokevirtual 154, 3) := dk_182 0 154 (dk_at dksX1_read_3 0 rfl rfl)
theorem dX1_read_74 : decode cX1_read 74 = .ok (.pop, 1) := dk_87 (dk_at dksX1_read_3 3 rfl rfl)
theorem dX1_read_75 : decode cX1_read 75 = .ok (.aload_n 0, 1) := dk_42 (dk_at dksX1_read_3 4 rfl rfl)
theorem dX1_read_76 : decode cX1_read 76 = .ok (.getfield 127, 3) := dk_180 0 127 (dk_at dksX1_read_3 5 rfl rfl)
theorem dX1_read_79 : decode cX1_read 79 = .ok (.istore_n 3, 1) := dk_62 (dk_at dksX1_read_3 8 rfl rfl)
theorem dX1_read_80 : decode cX1_read 80 = .ok (.iload_n 2, 1) := dk_28 (dk_at dksX1_read_3 9 rfl rfl)
theorem dX1_read_81 : decode cX1_read 81 = .ok (.aload_n 0, 1) := dk_42 (dk_at dksX1_read_3 10 rfl rfl)
theorem dX1_read_82 : decode cX1_read 82 = .ok (.invokevirtual 160, 3) := dk_182 0 160 (dk_at dksX1_read_3 11 rfl rfl)
theorem dX1_read_85 : decode cX1_read 85 = .ok (.ifCond .eq 7, 3) := dk_153 0 7 (dk_at dksX1_read_3 14 rfl rfl)
theorem dX1_read_88 : decode cX1_read 88 = .ok (.iconst 1, 1) := dk_4 (dk_at dksX1_read_3 17 rfl rfl)
theorem dX1_read_89 : decode cX1_read 89 = .ok (.goto 4, 3) := dk_167 0 4 (dk_at dksX1_read_3 18 rfl rfl)
theorem dX1_read_92 : decode cX1_read 92 = .ok (.iconst 0, 1) := dk_3 (dk_at dksX1_read_3 21 rfl rfl)
theorem dX1_read_93 : decode cX1_read 93 = .ok (.iadd, 1) := dk_96 (dk_at dksX1_read_3 22 rfl rfl)
theorem dX1_read_94 : decode cX1_read 94 = .ok (.istore_n 2, 1) := dk_61 (dk_at dksX1_read_3 23 rfl rfl)
theorem dX1_read_95 : decode cX1_read 95 = .ok (.goto (-54), 3) := dk_167 255 202 (dk_at dksX1_read_4 0 rfl rfl)
theorem dX1_read_98 : decode cX1_read 98 = .ok (.iload_n 2, 1) := dk_28 (dk_at dksX1_read_4 3 rfl rfl)
theorem dX1_read_99 : decode cX1_read 99 = .ok (.ireturn, 1) := dk_172 (dk_at dksX1_read_4 4 rfl rfl)
abbrev cX1_doItem : ByteArray := prog_8_method_25_code
def yX1_doItem : MethodName := ⟨RX1, "doItem", "()Z"⟩
def dkwX1_doItem_4 : List UInt8 := [160, 0, 5, 3, 172, 42, 42, 180, 0, 137, 42, 180, 0, 146, 42, 180, 0, 143, 182, 0, 171, 4, 172]
abbrev dktX1_doItem_4 : List UInt8 := dkwX1_doItem_4 ++ []
def dkwX1_doItem_3 : List UInt8 := [153, 0, 27, 42, 42, 180, 0, 137, 182, 0, 168, 153, 0, 16, 42, 180, 0, 27, 42, 180, 0, 146, 46, 6]
abbrev dktX1_doItem_3 : List UInt8 := dkwX1_doItem_3 ++ dktX1_doItem_4
def dkwX1_doItem_2 : List UInt8 := [180, 0, 30, 42, 180, 0, 137, 42, 180, 0, 143, 79, 4, 172, 42, 180, 0, 23, 42, 180, 0, 146, 51]
abbrev dktX1_doItem_2 : List UInt8 := dkwX1_doItem_2 ++ dktX1_doItem_3
def dkwX1_doItem_1 : List UInt8 := [180, 0, 23, 42, 180, 0, 137, 51, 154, 0, 5, 3, 172, 42, 180, 0, 140, 16, 42, 160, 0, 18, 42]
abbrev dktX1_doItem_1 : List UInt8 := dkwX1_doItem_1 ++ dktX1_doItem_2
def dkwX1_doItem_0 : List UInt8 := [42, 180, 0, 140, 16, 33, 160, 0, 17, 42, 42, 180, 0, 137, 42, 180, 0, 143, 182, 0, 164, 4, 172, 42]
abbrev dktX1_doItem_0 : List UInt8 := dkwX1_doItem_0 ++ dktX1_doItem_1
theorem dksX1_doItem_0 : cX1_doItem.data.toList.drop 0 = dktX1_doItem_0 := by decide +kernel
theorem dksX1_doItem_1 : cX1_doItem.data.toList.drop 24 = dktX1_doItem_1 := dk_seg dksX1_doItem_0 24 rfl rfl
theorem dksX1_doItem_2 : cX1_doItem.data.toList.drop 47 = dktX1_doItem_2 := dk_seg dksX1_doItem_1 23 rfl rfl
theorem dksX1_doItem_3 : cX1_doItem.data.toList.drop 70 = dktX1_doItem_3 := dk_seg dksX1_doItem_2 23 rfl rfl
theorem dksX1_doItem_4 : cX1_doItem.data.toList.drop 94 = dktX1_doItem_4 := dk_seg dksX1_doItem_3 24 rfl rfl
theorem dX1_doItem_0 : decode cX1_doItem 0 = .ok (.aload_n 0, 1) := dk_42 (dk_at dksX1_doItem_0 0 rfl rfl)
theorem dX1_doItem_1 : decode cX1_doItem 1 = .ok (.getfield 140, 3) := dk_180 0 140 (dk_at dksX1_doItem_0 1 rfl rfl)
theorem dX1_doItem_4 : decode cX1_doItem 4 = .ok (.bipush 33, 2) := dk_16 33 (dk_at dksX1_doItem_0 4 rfl rfl)
theorem dX1_doItem_6 : decode cX1_doItem 6 = .ok (.if_icmp .ne 17, 3) := dk_160 0 17 (dk_at dksX1_doItem_0 6 rfl rfl)
theorem dX1_doItem_9 : decode cX1_doItem 9 = .ok (.aload_n 0, 1) := dk_42 (dk_at dksX1_doItem_0 9 rfl rfl)
theorem dX1_doItem_10 : decode cX1_doItem 10 = .ok (.aload_n 0, 1) := dk_42 (dk_at dksX1_doItem_0 10 rfl rfl)
theorem dX1_doItem_11 : decode cX1_doItem 11 = .ok (.getfield 137, 3) := dk_180 0 137 (dk_at dksX1_doItem_0 11 rfl rfl)
theorem dX1_doItem_14 : decode cX1_doItem 14 = .ok (.aload_n 0, 1) := dk_42 (dk_at dksX1_doItem_0 14 rfl rfl)
theorem dX1_doItem_15 : decode cX1_doItem 15 = .ok (.getfield 143, 3) := dk_180 0 143 (dk_at dksX1_doItem_0 15 rfl rfl)
theorem dX1_doItem_18 : decode cX1_doItem 18 = .ok (.invokevirtual 164, 3) := dk_182 0 164 (dk_at dksX1_doItem_0 18 rfl rfl)
theorem dX1_doItem_21 : decode cX1_doItem 21 = .ok (.iconst 1, 1) := dk_4 (dk_at dksX1_doItem_0 21 rfl rfl)
theorem dX1_doItem_22 : decode cX1_doItem 22 = .ok (.ireturn, 1) := dk_172 (dk_at dksX1_doItem_0 22 rfl rfl)
theorem dX1_doItem_23 : decode cX1_doItem 23 = .ok (.aload_n 0, 1) := dk_42 (dk_at dksX1_doItem_0 23 rfl rfl)
theorem dX1_doItem_24 : decode cX1_doItem 24 = .ok (.getfield 23, 3) := dk_180 0 23 (dk_at dksX1_doItem_1 0 rfl rfl)
theorem dX1_doItem_27 : decode cX1_doItem 27 = .ok (.aload_n 0, 1) := dk_42 (dk_at dksX1_doItem_1 3 rfl rfl)
theorem dX1_doItem_28 : decode cX1_doItem 28 = .ok (.getfield 137, 3) := dk_180 0 137 (dk_at dksX1_doItem_1 4 rfl rfl)
theorem dX1_doItem_31 : decode cX1_doItem 31 = .ok (.baload, 1) := dk_51 (dk_at dksX1_doItem_1 7 rfl rfl)
theorem dX1_doItem_32 : decode cX1_doItem 32 = .ok (.ifCond .ne 5, 3) := dk_154 0 5 (dk_at dksX1_doItem_1 8 rfl rfl)
theorem dX1_doItem_35 : decode cX1_doItem 35 = .ok (.iconst 0, 1) := dk_3 (dk_at dksX1_doItem_1 11 rfl rfl)
theorem dX1_doItem_36 : decode cX1_doItem 36 = .ok (.ireturn, 1) := dk_172 (dk_at dksX1_doItem_1 12 rfl rfl)
theorem dX1_doItem_37 : decode cX1_doItem 37 = .ok (.aload_n 0, 1) := dk_42 (dk_at dksX1_doItem_1 13 rfl rfl)
theorem dX1_doItem_38 : decode cX1_doItem 38 = .ok (.getfield 140, 3) := dk_180 0 140 (dk_at dksX1_doItem_1 14 rfl rfl)
theorem dX1_doItem_41 : decode cX1_doItem 41 = .ok (.bipush 42, 2) := dk_16 42 (dk_at dksX1_doItem_1 17 rfl rfl)
theorem dX1_doItem_43 : decode cX1_doItem 43 = .ok (.if_icmp .ne 18, 3) := dk_160 0 18 (dk_at dksX1_doItem_1 19 rfl rfl)
theorem dX1_doItem_46 : decode cX1_doItem 46 = .ok (.aload_n 0, 1) := dk_42 (dk_at dksX1_doItem_1 22 rfl rfl)
theorem dX1_doItem_47 : decode cX1_doItem 47 = .ok (.getfield 30, 3) := dk_180 0 30 (dk_at dksX1_doItem_2 0 rfl rfl)
theorem dX1_doItem_50 : decode cX1_doItem 50 = .ok (.aload_n 0, 1) := dk_42 (dk_at dksX1_doItem_2 3 rfl rfl)
theorem dX1_doItem_51 : decode cX1_doItem 51 = .ok (.getfield 137, 3) := dk_180 0 137 (dk_at dksX1_doItem_2 4 rfl rfl)
theorem dX1_doItem_54 : decode cX1_doItem 54 = .ok (.aload_n 0, 1) := dk_42 (dk_at dksX1_doItem_2 7 rfl rfl)
theorem dX1_doItem_55 : decode cX1_doItem 55 = .ok (.getfield 143, 3) := dk_180 0 143 (dk_at dksX1_doItem_2 8 rfl rfl)
theorem dX1_doItem_58 : decode cX1_doItem 58 = .ok (.iastore, 1) := dk_79 (dk_at dksX1_doItem_2 11 rfl rfl)
theorem dX1_doItem_59 : decode cX1_doItem 59 = .ok (.iconst 1, 1) := dk_4 (dk_at dksX1_doItem_2 12 rfl rfl)
theorem dX1_doItem_60 : decode cX1_doItem 60 = .ok (.ireturn, 1) := dk_172 (dk_at dksX1_doItem_2 13 rfl rfl)
theorem dX1_doItem_61 : decode cX1_doItem 61 = .ok (.aload_n 0, 1) := dk_42 (dk_at dksX1_doItem_2 14 rfl rfl)
theorem dX1_doItem_62 : decode cX1_doItem 62 = .ok (.getfield 23, 3) := dk_180 0 23 (dk_at dksX1_doItem_2 15 rfl rfl)
theorem dX1_doItem_65 : decode cX1_doItem 65 = .ok (.aload_n 0, 1) := dk_42 (dk_at dksX1_doItem_2 18 rfl rfl)
theorem dX1_doItem_66 : decode cX1_doItem 66 = .ok (.getfield 146, 3) := dk_180 0 146 (dk_at dksX1_doItem_2 19 rfl rfl)
theorem dX1_doItem_69 : decode cX1_doItem 69 = .ok (.baload, 1) := dk_51 (dk_at dksX1_doItem_2 22 rfl rfl)
theorem dX1_doItem_70 : decode cX1_doItem 70 = .ok (.ifCond .eq 27, 3) := dk_153 0 27 (dk_at dksX1_doItem_3 0 rfl rfl)
theorem dX1_doItem_73 : decode cX1_doItem 73 = .ok (.aload_n 0, 1) := dk_42 (dk_at dksX1_doItem_3 3 rfl rfl)
theorem dX1_doItem_74 : decode cX1_doItem 74 = .ok (.aload_n 0, 1) := dk_42 (dk_at dksX1_doItem_3 4 rfl rfl)
theorem dX1_doItem_75 : decode cX1_doItem 75 = .ok (.getfield 137, 3) := dk_180 0 137 (dk_at dksX1_doItem_3 5 rfl rfl)
theorem dX1_doItem_78 : decode cX1_doItem 78 = .ok (.invokevirtual 168, 3) := dk_182 0 168 (dk_at dksX1_doItem_3 8 rfl rfl)
theorem dX1_doItem_81 : decode cX1_doItem 81 = .ok (.ifCond .eq 16, 3) := dk_153 0 16 (dk_at dksX1_doItem_3 11 rfl rfl)
theorem dX1_doItem_84 : decode cX1_doItem 84 = .ok (.aload_n 0, 1) := dk_42 (dk_at dksX1_doItem_3 14 rfl rfl)
theorem dX1_doItem_85 : decode cX1_doItem 85 = .ok (.getfield 27, 3) := dk_180 0 27 (dk_at dksX1_doItem_3 15 rfl rfl)
theorem dX1_doItem_88 : decode cX1_doItem 88 = .ok (.aload_n 0, 1) := dk_42 (dk_at dksX1_doItem_3 18 rfl rfl)
theorem dX1_doItem_89 : decode cX1_doItem 89 = .ok (.getfield 146, 3) := dk_180 0 146 (dk_at dksX1_doItem_3 19 rfl rfl)
theorem dX1_doItem_92 : decode cX1_doItem 92 = .ok (.iaload, 1) := dk_46 (dk_at dksX1_doItem_3 22 rfl rfl)
theorem dX1_doItem_93 : decode cX1_doItem 93 = .ok (.iconst 3, 1) := dk_6 (dk_at dksX1_doItem_3 23 rfl rfl)
theorem dX1_doItem_94 : decode cX1_doItem 94 = .ok (.if_icmp .ne 5, 3) := dk_160 0 5 (dk_at dksX1_doItem_4 0 rfl rfl)
theorem dX1_doItem_97 : decode cX1_doItem 97 = .ok (.iconst 0, 1) := dk_3 (dk_at dksX1_doItem_4 3 rfl rfl)
theorem dX1_doItem_98 : decode cX1_doItem 98 = .ok (.ireturn, 1) := dk_172 (dk_at dksX1_doItem_4 4 rfl rfl)
theorem dX1_doItem_99 : decode cX1_doItem 99 = .ok (.aload_n 0, 1) := dk_42 (dk_at dksX1_doItem_4 5 rfl rfl)
theorem dX1_doItem_100 : decode cX1_doItem 100 = .ok (.aload_n 0, 1) := dk_42 (dk_at dksX1_doItem_4 6 rfl rfl)
theorem dX1_doItem_101 : decode cX1_doItem 101 = .ok (.getfield 137, 3) := dk_180 0 137 (dk_at dksX1_doItem_4 7 rfl rfl)
theorem dX1_doItem_104 : decode cX1_doItem 104 = .ok (.aload_n 0, 1) := dk_42 (dk_at dksX1_doItem_4 10 rfl rfl)
theorem dX1_doItem_105 : decode cX1_doItem 105 = .ok (.getfield 146, 3) := dk_180 0 146 (dk_at dksX1_doItem_4 11 rfl rfl)
theorem dX1_doItem_108 : decode cX1_doItem 108 = .ok (.aload_n 0, 1) := dk_42 (dk_at dksX1_doItem_4 14 rfl rfl)
theorem dX1_doItem_109 : decode cX1_doItem 109 = .ok (.getfield 143, 3) := dk_180 0 143 (dk_at dksX1_doItem_4 15 rfl rfl)
theorem dX1_doItem_112 : decode cX1_doItem 112 = .ok (.invokevirtual 171, 3) := dk_182 0 171 (dk_at dksX1_doItem_4 18 rfl rfl)
theorem dX1_doItem_115 : decode cX1_doItem 115 = .ok (.iconst 1, 1) := dk_4 (dk_at dksX1_doItem_4 21 rfl rfl)
theorem dX1_doItem_116 : decode cX1_doItem 116 = .ok (.ireturn, 1) := dk_172 (dk_at dksX1_doItem_4 22 rfl rfl)
abbrev cX1_begin : ByteArray := prog_8_method_30_code
def yX1_begin : MethodName := ⟨RX1, "begin", "(II)V"⟩
def dkwX1_begin_7 : List UInt8 := [17, 3, 232, 79, 132, 3, 1, 167, 255, 225, 177]
abbrev dktX1_begin_7 : List UInt8 := dkwX1_begin_7 ++ []
def dkwX1_begin_6 : List UInt8 := [162, 0, 32, 42, 180, 0, 63, 7, 27, 104, 29, 96, 29, 5, 112, 154, 0, 7, 3, 167, 0, 6]
abbrev dktX1_begin_6 : List UInt8 := dkwX1_begin_6 ++ dktX1_begin_7
def dkwX1_begin_5 : List UInt8 := [104, 27, 96, 29, 27, 160, 0, 7, 2, 167, 0, 4, 3, 79, 132, 3, 1, 167, 255, 205, 3, 62, 29, 7]
abbrev dktX1_begin_5 : List UInt8 := dkwX1_begin_5 ++ dktX1_begin_6
def dkwX1_begin_4 : List UInt8 := [16, 8, 27, 104, 29, 96, 29, 27, 160, 0, 7, 2, 167, 0, 4, 3, 79, 42, 180, 0, 66, 16, 8, 29]
abbrev dktX1_begin_4 : List UInt8 := dkwX1_begin_4 ++ dktX1_begin_5
def dkwX1_begin_3 : List UInt8 := [27, 16, 247, 79, 42, 180, 0, 51, 27, 3, 79, 3, 62, 29, 16, 8, 162, 0, 51, 42, 180, 0, 66]
abbrev dktX1_begin_3 : List UInt8 := dkwX1_begin_3 ++ dktX1_begin_4
def dkwX1_begin_2 : List UInt8 := [17, 3, 232, 79, 42, 180, 0, 42, 27, 16, 50, 79, 42, 180, 0, 45, 27, 16, 20, 79, 42, 180, 0, 48]
abbrev dktX1_begin_2 : List UInt8 := dkwX1_begin_2 ++ dktX1_begin_3
def dkwX1_begin_1 : List UInt8 := [3, 79, 42, 180, 0, 33, 27, 3, 79, 42, 180, 0, 36, 27, 16, 100, 79, 42, 180, 0, 39, 27]
abbrev dktX1_begin_1 : List UInt8 := dkwX1_begin_1 ++ dktX1_begin_2
def dkwX1_begin_0 : List UInt8 := [42, 27, 182, 0, 175, 42, 180, 0, 23, 27, 4, 84, 42, 180, 0, 27, 27, 28, 79, 42, 180, 0, 30, 27]
abbrev dktX1_begin_0 : List UInt8 := dkwX1_begin_0 ++ dktX1_begin_1
theorem dksX1_begin_0 : cX1_begin.data.toList.drop 0 = dktX1_begin_0 := by decide +kernel
theorem dksX1_begin_1 : cX1_begin.data.toList.drop 24 = dktX1_begin_1 := dk_seg dksX1_begin_0 24 rfl rfl
theorem dksX1_begin_2 : cX1_begin.data.toList.drop 46 = dktX1_begin_2 := dk_seg dksX1_begin_1 22 rfl rfl
theorem dksX1_begin_3 : cX1_begin.data.toList.drop 70 = dktX1_begin_3 := dk_seg dksX1_begin_2 24 rfl rfl
theorem dksX1_begin_4 : cX1_begin.data.toList.drop 93 = dktX1_begin_4 := dk_seg dksX1_begin_3 23 rfl rfl
theorem dksX1_begin_5 : cX1_begin.data.toList.drop 117 = dktX1_begin_5 := dk_seg dksX1_begin_4 24 rfl rfl
theorem dksX1_begin_6 : cX1_begin.data.toList.drop 141 = dktX1_begin_6 := dk_seg dksX1_begin_5 24 rfl rfl
theorem dksX1_begin_7 : cX1_begin.data.toList.drop 163 = dktX1_begin_7 := dk_seg dksX1_begin_6 22 rfl rfl
theorem dX1_begin_0 : decode cX1_begin 0 = .ok (.aload_n 0, 1) := dk_42 (dk_at dksX1_begin_0 0 rfl rfl)
theorem dX1_begin_1 : decode cX1_begin 1 = .ok (.iload_n 1, 1) := dk_27 (dk_at dksX1_begin_0 1 rfl rfl)
theorem dX1_begin_2 : decode cX1_begin 2 = .ok (.invokevirtual 175, 3) := dk_182 0 175 (dk_at dksX1_begin_0 2 rfl rfl)
theorem dX1_begin_5 : decode cX1_begin 5 = .ok (.aload_n 0, 1) := dk_42 (dk_at dksX1_begin_0 5 rfl rfl)
theorem dX1_begin_6 : decode cX1_begin 6 = .ok (.getfield 23, 3) := dk_180 0 23 (dk_at dksX1_begin_0 6 rfl rfl)
theorem dX1_begin_9 : decode cX1_begin 9 = .ok (.iload_n 1, 1) := dk_27 (dk_at dksX1_begin_0 9 rfl rfl)
theorem dX1_begin_10 : decode cX1_begin 10 = .ok (.iconst 1, 1) := dk_4 (dk_at dksX1_begin_0 10 rfl rfl)
theorem dX1_begin_11 : decode cX1_begin 11 = .ok (.bastore, 1) := dk_84 (dk_at dksX1_begin_0 11 rfl rfl)
theorem dX1_begin_12 : decode cX1_begin 12 = .ok (.aload_n 0, 1) := dk_42 (dk_at dksX1_begin_0 12 rfl rfl)
theorem dX1_begin_13 : decode cX1_begin 13 = .ok (.getfield 27, 3) := dk_180 0 27 (dk_at dksX1_begin_0 13 rfl rfl)
theorem dX1_begin_16 : decode cX1_begin 16 = .ok (.iload_n 1, 1) := dk_27 (dk_at dksX1_begin_0 16 rfl rfl)
theorem dX1_begin_17 : decode cX1_begin 17 = .ok (.iload_n 2, 1) := dk_28 (dk_at dksX1_begin_0 17 rfl rfl)
theorem dX1_begin_18 : decode cX1_begin 18 = .ok (.iastore, 1) := dk_79 (dk_at dksX1_begin_0 18 rfl rfl)
theorem dX1_begin_19 : decode cX1_begin 19 = .ok (.aload_n 0, 1) := dk_42 (dk_at dksX1_begin_0 19 rfl rfl)
theorem dX1_begin_20 : decode cX1_begin 20 = .ok (.getfield 30, 3) := dk_180 0 30 (dk_at dksX1_begin_0 20 rfl rfl)
theorem dX1_begin_23 : decode cX1_begin 23 = .ok (.iload_n 1, 1) := dk_27 (dk_at dksX1_begin_0 23 rfl rfl)
theorem dX1_begin_24 : decode cX1_begin 24 = .ok (.iconst 0, 1) := dk_3 (dk_at dksX1_begin_1 0 rfl rfl)
theorem dX1_begin_25 : decode cX1_begin 25 = .ok (.iastore, 1) := dk_79 (dk_at dksX1_begin_1 1 rfl rfl)
theorem dX1_begin_26 : decode cX1_begin 26 = .ok (.aload_n 0, 1) := dk_42 (dk_at dksX1_begin_1 2 rfl rfl)
theorem dX1_begin_27 : decode cX1_begin 27 = .ok (.getfield 33, 3) := dk_180 0 33 (dk_at dksX1_begin_1 3 rfl rfl)
theorem dX1_begin_30 : decode cX1_begin 30 = .ok (.iload_n 1, 1) := dk_27 (dk_at dksX1_begin_1 6 rfl rfl)
theorem dX1_begin_31 : decode cX1_begin 31 = .ok (.iconst 0, 1) := dk_3 (dk_at dksX1_begin_1 7 rfl rfl)
theorem dX1_begin_32 : decode cX1_begin 32 = .ok (.iastore, 1) := dk_79 (dk_at dksX1_begin_1 8 rfl rfl)
theorem dX1_begin_33 : decode cX1_begin 33 = .ok (.aload_n 0, 1) := dk_42 (dk_at dksX1_begin_1 9 rfl rfl)
theorem dX1_begin_34 : decode cX1_begin 34 = .ok (.getfield 36, 3) := dk_180 0 36 (dk_at dksX1_begin_1 10 rfl rfl)
theorem dX1_begin_37 : decode cX1_begin 37 = .ok (.iload_n 1, 1) := dk_27 (dk_at dksX1_begin_1 13 rfl rfl)
theorem dX1_begin_38 : decode cX1_begin 38 = .ok (.bipush 100, 2) := dk_16 100 (dk_at dksX1_begin_1 14 rfl rfl)
theorem dX1_begin_40 : decode cX1_begin 40 = .ok (.iastore, 1) := dk_79 (dk_at dksX1_begin_1 16 rfl rfl)
theorem dX1_begin_41 : decode cX1_begin 41 = .ok (.aload_n 0, 1) := dk_42 (dk_at dksX1_begin_1 17 rfl rfl)
theorem dX1_begin_42 : decode cX1_begin 42 = .ok (.getfield 39, 3) := dk_180 0 39 (dk_at dksX1_begin_1 18 rfl rfl)
theorem dX1_begin_45 : decode cX1_begin 45 = .ok (.iload_n 1, 1) := dk_27 (dk_at dksX1_begin_1 21 rfl rfl)
theorem dX1_begin_46 : decode cX1_begin 46 = .ok (.sipush 1000, 3) := dk_17 3 232 (dk_at dksX1_begin_2 0 rfl rfl)
theorem dX1_begin_49 : decode cX1_begin 49 = .ok (.iastore, 1) := dk_79 (dk_at dksX1_begin_2 3 rfl rfl)
theorem dX1_begin_50 : decode cX1_begin 50 = .ok (.aload_n 0, 1) := dk_42 (dk_at dksX1_begin_2 4 rfl rfl)
theorem dX1_begin_51 : decode cX1_begin 51 = .ok (.getfield 42, 3) := dk_180 0 42 (dk_at dksX1_begin_2 5 rfl rfl)
theorem dX1_begin_54 : decode cX1_begin 54 = .ok (.iload_n 1, 1) := dk_27 (dk_at dksX1_begin_2 8 rfl rfl)
theorem dX1_begin_55 : decode cX1_begin 55 = .ok (.bipush 50, 2) := dk_16 50 (dk_at dksX1_begin_2 9 rfl rfl)
theorem dX1_begin_57 : decode cX1_begin 57 = .ok (.iastore, 1) := dk_79 (dk_at dksX1_begin_2 11 rfl rfl)
theorem dX1_begin_58 : decode cX1_begin 58 = .ok (.aload_n 0, 1) := dk_42 (dk_at dksX1_begin_2 12 rfl rfl)
theorem dX1_begin_59 : decode cX1_begin 59 = .ok (.getfield 45, 3) := dk_180 0 45 (dk_at dksX1_begin_2 13 rfl rfl)
theorem dX1_begin_62 : decode cX1_begin 62 = .ok (.iload_n 1, 1) := dk_27 (dk_at dksX1_begin_2 16 rfl rfl)
theorem dX1_begin_63 : decode cX1_begin 63 = .ok (.bipush 20, 2) := dk_16 20 (dk_at dksX1_begin_2 17 rfl rfl)
theorem dX1_begin_65 : decode cX1_begin 65 = .ok (.iastore, 1) := dk_79 (dk_at dksX1_begin_2 19 rfl rfl)
theorem dX1_begin_66 : decode cX1_begin 66 = .ok (.aload_n 0, 1) := dk_42 (dk_at dksX1_begin_2 20 rfl rfl)
theorem dX1_begin_67 : decode cX1_begin 67 = .ok (.getfield 48, 3) := dk_180 0 48 (dk_at dksX1_begin_2 21 rfl rfl)
theorem dX1_begin_70 : decode cX1_begin 70 = .ok (.iload_n 1, 1) := dk_27 (dk_at dksX1_begin_3 0 rfl rfl)
theorem dX1_begin_71 : decode cX1_begin 71 = .ok (.bipush (-9), 2) := dk_16 247 (dk_at dksX1_begin_3 1 rfl rfl)
theorem dX1_begin_73 : decode cX1_begin 73 = .ok (.iastore, 1) := dk_79 (dk_at dksX1_begin_3 3 rfl rfl)
theorem dX1_begin_74 : decode cX1_begin 74 = .ok (.aload_n 0, 1) := dk_42 (dk_at dksX1_begin_3 4 rfl rfl)
theorem dX1_begin_75 : decode cX1_begin 75 = .ok (.getfield 51, 3) := dk_180 0 51 (dk_at dksX1_begin_3 5 rfl rfl)
theorem dX1_begin_78 : decode cX1_begin 78 = .ok (.iload_n 1, 1) := dk_27 (dk_at dksX1_begin_3 8 rfl rfl)
theorem dX1_begin_79 : decode cX1_begin 79 = .ok (.iconst 0, 1) := dk_3 (dk_at dksX1_begin_3 9 rfl rfl)
theorem dX1_begin_80 : decode cX1_begin 80 = .ok (.iastore, 1) := dk_79 (dk_at dksX1_begin_3 10 rfl rfl)
theorem dX1_begin_81 : decode cX1_begin 81 = .ok (.iconst 0, 1) := dk_3 (dk_at dksX1_begin_3 11 rfl rfl)
theorem dX1_begin_82 : decode cX1_begin 82 = .ok (.istore_n 3, 1) := dk_62 (dk_at dksX1_begin_3 12 rfl rfl)
theorem dX1_begin_83 : decode cX1_begin 83 = .ok (.iload_n 3, 1) := dk_29 (dk_at dksX1_begin_3 13 rfl rfl)
theorem dX1_begin_84 : decode cX1_begin 84 = .ok (.bipush 8, 2) := dk_16 8 (dk_at dksX1_begin_3 14 rfl rfl)
theorem dX1_begin_86 : decode cX1_begin 86 = .ok (.if_icmp .ge 51, 3) := dk_162 0 51 (dk_at dksX1_begin_3 16 rfl rfl)
theorem dX1_begin_89 : decode cX1_begin 89 = .ok (.aload_n 0, 1) := dk_42 (dk_at dksX1_begin_3 19 rfl rfl)
theorem dX1_begin_90 : decode cX1_begin 90 = .ok (.getfield 66, 3) := dk_180 0 66 (dk_at dksX1_begin_3 20 rfl rfl)
theorem dX1_begin_93 : decode cX1_begin 93 = .ok (.bipush 8, 2) := dk_16 8 (dk_at dksX1_begin_4 0 rfl rfl)
theorem dX1_begin_95 : decode cX1_begin 95 = .ok (.iload_n 1, 1) := dk_27 (dk_at dksX1_begin_4 2 rfl rfl)
theorem dX1_begin_96 : decode cX1_begin 96 = .ok (.imul, 1) := dk_104 (dk_at dksX1_begin_4 3 rfl rfl)
theorem dX1_begin_97 : decode cX1_begin 97 = .ok (.iload_n 3, 1) := dk_29 (dk_at dksX1_begin_4 4 rfl rfl)
theorem dX1_begin_98 : decode cX1_begin 98 = .ok (.iadd, 1) := dk_96 (dk_at dksX1_begin_4 5 rfl rfl)
theorem dX1_begin_99 : decode cX1_begin 99 = .ok (.iload_n 3, 1) := dk_29 (dk_at dksX1_begin_4 6 rfl rfl)
theorem dX1_begin_100 : decode cX1_begin 100 = .ok (.iload_n 1, 1) := dk_27 (dk_at dksX1_begin_4 7 rfl rfl)
theorem dX1_begin_101 : decode cX1_begin 101 = .ok (.if_icmp .ne 7, 3) := dk_160 0 7 (dk_at dksX1_begin_4 8 rfl rfl)
theorem dX1_begin_104 : decode cX1_begin 104 = .ok (.iconst (-1), 1) := dk_2 (dk_at dksX1_begin_4 11 rfl rfl)
theorem dX1_begin_105 : decode cX1_begin 105 = .ok (.goto 4, 3) := dk_167 0 4 (dk_at dksX1_begin_4 12 rfl rfl)
theorem dX1_begin_108 : decode cX1_begin 108 = .ok (.iconst 0, 1) := dk_3 (dk_at dksX1_begin_4 15 rfl rfl)
theorem dX1_begin_109 : decode cX1_begin 109 = .ok (.iastore, 1) := dk_79 (dk_at dksX1_begin_4 16 rfl rfl)
theorem dX1_begin_110 : decode cX1_begin 110 = .ok (.aload_n 0, 1) := dk_42 (dk_at dksX1_begin_4 17 rfl rfl)
theorem dX1_begin_111 : decode cX1_begin 111 = .ok (.getfield 66, 3) := dk_180 0 66 (dk_at dksX1_begin_4 18 rfl rfl)
theorem dX1_begin_114 : decode cX1_begin 114 = .ok (.bipush 8, 2) := dk_16 8 (dk_at dksX1_begin_4 21 rfl rfl)
theorem dX1_begin_116 : decode cX1_begin 116 = .ok (.iload_n 3, 1) := dk_29 (dk_at dksX1_begin_4 23 rfl rfl)
theorem dX1_begin_117 : decode cX1_begin 117 = .ok (.imul, 1) := dk_104 (dk_at dksX1_begin_5 0 rfl rfl)
theorem dX1_begin_118 : decode cX1_begin 118 = .ok (.iload_n 1, 1) := dk_27 (dk_at dksX1_begin_5 1 rfl rfl)
theorem dX1_begin_119 : decode cX1_begin 119 = .ok (.iadd, 1) := dk_96 (dk_at dksX1_begin_5 2 rfl rfl)
theorem dX1_begin_120 : decode cX1_begin 120 = .ok (.iload_n 3, 1) := dk_29 (dk_at dksX1_begin_5 3 rfl rfl)
theorem dX1_begin_121 : decode cX1_begin 121 = .ok (.iload_n 1, 1) := dk_27 (dk_at dksX1_begin_5 4 rfl rfl)
theorem dX1_begin_122 : decode cX1_begin 122 = .ok (.if_icmp .ne 7, 3) := dk_160 0 7 (dk_at dksX1_begin_5 5 rfl rfl)
theorem dX1_begin_125 : decode cX1_begin 125 = .ok (.iconst (-1), 1) := dk_2 (dk_at dksX1_begin_5 8 rfl rfl)
theorem dX1_begin_126 : decode cX1_begin 126 = .ok (.goto 4, 3) := dk_167 0 4 (dk_at dksX1_begin_5 9 rfl rfl)
theorem dX1_begin_129 : decode cX1_begin 129 = .ok (.iconst 0, 1) := dk_3 (dk_at dksX1_begin_5 12 rfl rfl)
theorem dX1_begin_130 : decode cX1_begin 130 = .ok (.iastore, 1) := dk_79 (dk_at dksX1_begin_5 13 rfl rfl)
theorem dX1_begin_131 : decode cX1_begin 131 = .ok (.iinc 3 1, 3) := dk_132 3 1 (dk_at dksX1_begin_5 14 rfl rfl)
theorem dX1_begin_134 : decode cX1_begin 134 = .ok (.goto (-51), 3) := dk_167 255 205 (dk_at dksX1_begin_5 17 rfl rfl)
theorem dX1_begin_137 : decode cX1_begin 137 = .ok (.iconst 0, 1) := dk_3 (dk_at dksX1_begin_5 20 rfl rfl)
theorem dX1_begin_138 : decode cX1_begin 138 = .ok (.istore_n 3, 1) := dk_62 (dk_at dksX1_begin_5 21 rfl rfl)
theorem dX1_begin_139 : decode cX1_begin 139 = .ok (.iload_n 3, 1) := dk_29 (dk_at dksX1_begin_5 22 rfl rfl)
theorem dX1_begin_140 : decode cX1_begin 140 = .ok (.iconst 4, 1) := dk_7 (dk_at dksX1_begin_5 23 rfl rfl)
theorem dX1_begin_141 : decode cX1_begin 141 = .ok (.if_icmp .ge 32, 3) := dk_162 0 32 (dk_at dksX1_begin_6 0 rfl rfl)
theorem dX1_begin_144 : decode cX1_begin 144 = .ok (.aload_n 0, 1) := dk_42 (dk_at dksX1_begin_6 3 rfl rfl)
theorem dX1_begin_145 : decode cX1_begin 145 = .ok (.getfield 63, 3) := dk_180 0 63 (dk_at dksX1_begin_6 4 rfl rfl)
theorem dX1_begin_148 : decode cX1_begin 148 = .ok (.iconst 4, 1) := dk_7 (dk_at dksX1_begin_6 7 rfl rfl)
theorem dX1_begin_149 : decode cX1_begin 149 = .ok (.iload_n 1, 1) := dk_27 (dk_at dksX1_begin_6 8 rfl rfl)
theorem dX1_begin_150 : decode cX1_begin 150 = .ok (.imul, 1) := dk_104 (dk_at dksX1_begin_6 9 rfl rfl)
theorem dX1_begin_151 : decode cX1_begin 151 = .ok (.iload_n 3, 1) := dk_29 (dk_at dksX1_begin_6 10 rfl rfl)
theorem dX1_begin_152 : decode cX1_begin 152 = .ok (.iadd, 1) := dk_96 (dk_at dksX1_begin_6 11 rfl rfl)
theorem dX1_begin_153 : decode cX1_begin 153 = .ok (.iload_n 3, 1) := dk_29 (dk_at dksX1_begin_6 12 rfl rfl)
theorem dX1_begin_154 : decode cX1_begin 154 = .ok (.iconst 2, 1) := dk_5 (dk_at dksX1_begin_6 13 rfl rfl)
theorem dX1_begin_155 : decode cX1_begin 155 = .ok (.irem, 1) := dk_112 (dk_at dksX1_begin_6 14 rfl rfl)
theorem dX1_begin_156 : decode cX1_begin 156 = .ok (.ifCond .ne 7, 3) := dk_154 0 7 (dk_at dksX1_begin_6 15 rfl rfl)
theorem dX1_begin_159 : decode cX1_begin 159 = .ok (.iconst 0, 1) := dk_3 (dk_at dksX1_begin_6 18 rfl rfl)
theorem dX1_begin_160 : decode cX1_begin 160 = .ok (.goto 6, 3) := dk_167 0 6 (dk_at dksX1_begin_6 19 rfl rfl)
theorem dX1_begin_163 : decode cX1_begin 163 = .ok (.sipush 1000, 3) := dk_17 3 232 (dk_at dksX1_begin_7 0 rfl rfl)
theorem dX1_begin_166 : decode cX1_begin 166 = .ok (.iastore, 1) := dk_79 (dk_at dksX1_begin_7 3 rfl rfl)
theorem dX1_begin_167 : decode cX1_begin 167 = .ok (.iinc 3 1, 3) := dk_132 3 1 (dk_at dksX1_begin_7 4 rfl rfl)
theorem dX1_begin_170 : decode cX1_begin 170 = .ok (.goto (-31), 3) := dk_167 255 225 (dk_at dksX1_begin_7 7 rfl rfl)
theorem dX1_begin_173 : decode cX1_begin 173 = .ok (.return_, 1) := dk_177 (dk_at dksX1_begin_7 10 rfl rfl)
abbrev cX1_unlink : ByteArray := prog_8_method_29_code
def yX1_unlink : MethodName := ⟨RX1, "unlink", "(I)V"⟩
def dkwX1_unlink_1 : List UInt8 := [132, 2, 1, 167, 255, 233, 177]
abbrev dktX1_unlink_1 : List UInt8 := dkwX1_unlink_1 ++ []
def dkwX1_unlink_0 : List UInt8 := [3, 61, 28, 16, 8, 162, 0, 23, 42, 27, 28, 3, 182, 0, 171, 42, 28, 27, 3, 182, 0, 171]
abbrev dktX1_unlink_0 : List UInt8 := dkwX1_unlink_0 ++ dktX1_unlink_1
theorem dksX1_unlink_0 : cX1_unlink.data.toList.drop 0 = dktX1_unlink_0 := by decide +kernel
theorem dksX1_unlink_1 : cX1_unlink.data.toList.drop 22 = dktX1_unlink_1 := dk_seg dksX1_unlink_0 22 rfl rfl
theorem dX1_unlink_0 : decode cX1_unlink 0 = .ok (.iconst 0, 1) := dk_3 (dk_at dksX1_unlink_0 0 rfl rfl)
theorem dX1_unlink_1 : decode cX1_unlink 1 = .ok (.istore_n 2, 1) := dk_61 (dk_at dksX1_unlink_0 1 rfl rfl)
theorem dX1_unlink_2 : decode cX1_unlink 2 = .ok (.iload_n 2, 1) := dk_28 (dk_at dksX1_unlink_0 2 rfl rfl)
theorem dX1_unlink_3 : decode cX1_unlink 3 = .ok (.bipush 8, 2) := dk_16 8 (dk_at dksX1_unlink_0 3 rfl rfl)
theorem dX1_unlink_5 : decode cX1_unlink 5 = .ok (.if_icmp .ge 23, 3) := dk_162 0 23 (dk_at dksX1_unlink_0 5 rfl rfl)
theorem dX1_unlink_8 : decode cX1_unlink 8 = .ok (.aload_n 0, 1) := dk_42 (dk_at dksX1_unlink_0 8 rfl rfl)
theorem dX1_unlink_9 : decode cX1_unlink 9 = .ok (.iload_n 1, 1) := dk_27 (dk_at dksX1_unlink_0 9 rfl rfl)
theorem dX1_unlink_10 : decode cX1_unlink 10 = .ok (.iload_n 2, 1) := dk_28 (dk_at dksX1_unlink_0 10 rfl rfl)
theorem dX1_unlink_11 : decode cX1_unlink 11 = .ok (.iconst 0, 1) := dk_3 (dk_at dksX1_unlink_0 11 rfl rfl)
theorem dX1_unlink_12 : decode cX1_unlink 12 = .ok (.invokevirtual 171, 3) := dk_182 0 171 (dk_at dksX1_unlink_0 12 rfl rfl)
theorem dX1_unlink_15 : decode cX1_unlink 15 = .ok (.aload_n 0, 1) := dk_42 (dk_at dksX1_unlink_0 15 rfl rfl)
theorem dX1_unlink_16 : decode cX1_unlink 16 = .ok (.iload_n 2, 1) := dk_28 (dk_at dksX1_unlink_0 16 rfl rfl)
theorem dX1_unlink_17 : decode cX1_unlink 17 = .ok (.iload_n 1, 1) := dk_27 (dk_at dksX1_unlink_0 17 rfl rfl)
theorem dX1_unlink_18 : decode cX1_unlink 18 = .ok (.iconst 0, 1) := dk_3 (dk_at dksX1_unlink_0 18 rfl rfl)
theorem dX1_unlink_19 : decode cX1_unlink 19 = .ok (.invokevirtual 171, 3) := dk_182 0 171 (dk_at dksX1_unlink_0 19 rfl rfl)
theorem dX1_unlink_22 : decode cX1_unlink 22 = .ok (.iinc 2 1, 3) := dk_132 2 1 (dk_at dksX1_unlink_1 0 rfl rfl)
theorem dX1_unlink_25 : decode cX1_unlink 25 = .ok (.goto (-23), 3) := dk_167 255 233 (dk_at dksX1_unlink_1 3 rfl rfl)
theorem dX1_unlink_28 : decode cX1_unlink 28 = .ok (.return_, 1) := dk_177 (dk_at dksX1_unlink_1 6 rfl rfl)
abbrev cX1_layLink : ByteArray := prog_8_method_28_code
def yX1_layLink : MethodName := ⟨RX1, "layLink", "(III)V"⟩
def dkwX1_layLink_3 : List UInt8 := [153, 0, 9, 17, 3, 232, 167, 0, 10, 42, 180, 0, 60, 21, 4, 46, 79, 177]
abbrev dktX1_layLink_3 : List UInt8 := dkwX1_layLink_3 ++ []
def dkwX1_layLink_2 : List UInt8 := [153, 0, 7, 3, 167, 0, 10, 42, 180, 0, 57, 21, 4, 46, 79, 42, 180, 0, 60, 21, 4, 21, 5]
abbrev dktX1_layLink_2 : List UInt8 := dkwX1_layLink_2 ++ dktX1_layLink_3
def dkwX1_layLink_1 : List UInt8 := [167, 0, 4, 3, 54, 5, 42, 180, 0, 54, 21, 4, 29, 79, 42, 180, 0, 57, 21, 4, 21, 5]
abbrev dktX1_layLink_1 : List UInt8 := dkwX1_layLink_1 ++ dktX1_layLink_2
def dkwX1_layLink_0 : List UInt8 := [16, 8, 27, 104, 28, 96, 54, 4, 42, 180, 0, 54, 21, 4, 46, 153, 0, 7, 29, 154, 0, 7, 4]
abbrev dktX1_layLink_0 : List UInt8 := dkwX1_layLink_0 ++ dktX1_layLink_1
theorem dksX1_layLink_0 : cX1_layLink.data.toList.drop 0 = dktX1_layLink_0 := by decide +kernel
theorem dksX1_layLink_1 : cX1_layLink.data.toList.drop 23 = dktX1_layLink_1 := dk_seg dksX1_layLink_0 23 rfl rfl
theorem dksX1_layLink_2 : cX1_layLink.data.toList.drop 45 = dktX1_layLink_2 := dk_seg dksX1_layLink_1 22 rfl rfl
theorem dksX1_layLink_3 : cX1_layLink.data.toList.drop 68 = dktX1_layLink_3 := dk_seg dksX1_layLink_2 23 rfl rfl
theorem dX1_layLink_0 : decode cX1_layLink 0 = .ok (.bipush 8, 2) := dk_16 8 (dk_at dksX1_layLink_0 0 rfl rfl)
theorem dX1_layLink_2 : decode cX1_layLink 2 = .ok (.iload_n 1, 1) := dk_27 (dk_at dksX1_layLink_0 2 rfl rfl)
theorem dX1_layLink_3 : decode cX1_layLink 3 = .ok (.imul, 1) := dk_104 (dk_at dksX1_layLink_0 3 rfl rfl)
theorem dX1_layLink_4 : decode cX1_layLink 4 = .ok (.iload_n 2, 1) := dk_28 (dk_at dksX1_layLink_0 4 rfl rfl)
theorem dX1_layLink_5 : decode cX1_layLink 5 = .ok (.iadd, 1) := dk_96 (dk_at dksX1_layLink_0 5 rfl rfl)
theorem dX1_layLink_6 : decode cX1_layLink 6 = .ok (.istore 4, 2) := dk_54 4 (dk_at dksX1_layLink_0 6 rfl rfl)
theorem dX1_layLink_8 : decode cX1_layLink 8 = .ok (.aload_n 0, 1) := dk_42 (dk_at dksX1_layLink_0 8 rfl rfl)
theorem dX1_layLink_9 : decode cX1_layLink 9 = .ok (.getfield 54, 3) := dk_180 0 54 (dk_at dksX1_layLink_0 9 rfl rfl)
theorem dX1_layLink_12 : decode cX1_layLink 12 = .ok (.iload 4, 2) := dk_21 4 (dk_at dksX1_layLink_0 12 rfl rfl)
theorem dX1_layLink_14 : decode cX1_layLink 14 = .ok (.iaload, 1) := dk_46 (dk_at dksX1_layLink_0 14 rfl rfl)
theorem dX1_layLink_15 : decode cX1_layLink 15 = .ok (.ifCond .eq 7, 3) := dk_153 0 7 (dk_at dksX1_layLink_0 15 rfl rfl)
theorem dX1_layLink_18 : decode cX1_layLink 18 = .ok (.iload_n 3, 1) := dk_29 (dk_at dksX1_layLink_0 18 rfl rfl)
theorem dX1_layLink_19 : decode cX1_layLink 19 = .ok (.ifCond .ne 7, 3) := dk_154 0 7 (dk_at dksX1_layLink_0 19 rfl rfl)
theorem dX1_layLink_22 : decode cX1_layLink 22 = .ok (.iconst 1, 1) := dk_4 (dk_at dksX1_layLink_0 22 rfl rfl)
theorem dX1_layLink_23 : decode cX1_layLink 23 = .ok (.goto 4, 3) := dk_167 0 4 (dk_at dksX1_layLink_1 0 rfl rfl)
theorem dX1_layLink_26 : decode cX1_layLink 26 = .ok (.iconst 0, 1) := dk_3 (dk_at dksX1_layLink_1 3 rfl rfl)
theorem dX1_layLink_27 : decode cX1_layLink 27 = .ok (.istore 5, 2) := dk_54 5 (dk_at dksX1_layLink_1 4 rfl rfl)
theorem dX1_layLink_29 : decode cX1_layLink 29 = .ok (.aload_n 0, 1) := dk_42 (dk_at dksX1_layLink_1 6 rfl rfl)
theorem dX1_layLink_30 : decode cX1_layLink 30 = .ok (.getfield 54, 3) := dk_180 0 54 (dk_at dksX1_layLink_1 7 rfl rfl)
theorem dX1_layLink_33 : decode cX1_layLink 33 = .ok (.iload 4, 2) := dk_21 4 (dk_at dksX1_layLink_1 10 rfl rfl)
theorem dX1_layLink_35 : decode cX1_layLink 35 = .ok (.iload_n 3, 1) := dk_29 (dk_at dksX1_layLink_1 12 rfl rfl)
theorem dX1_layLink_36 : decode cX1_layLink 36 = .ok (.iastore, 1) := dk_79 (dk_at dksX1_layLink_1 13 rfl rfl)
theorem dX1_layLink_37 : decode cX1_layLink 37 = .ok (.aload_n 0, 1) := dk_42 (dk_at dksX1_layLink_1 14 rfl rfl)
theorem dX1_layLink_38 : decode cX1_layLink 38 = .ok (.getfield 57, 3) := dk_180 0 57 (dk_at dksX1_layLink_1 15 rfl rfl)
theorem dX1_layLink_41 : decode cX1_layLink 41 = .ok (.iload 4, 2) := dk_21 4 (dk_at dksX1_layLink_1 18 rfl rfl)
theorem dX1_layLink_43 : decode cX1_layLink 43 = .ok (.iload 5, 2) := dk_21 5 (dk_at dksX1_layLink_1 20 rfl rfl)
theorem dX1_layLink_45 : decode cX1_layLink 45 = .ok (.ifCond .eq 7, 3) := dk_153 0 7 (dk_at dksX1_layLink_2 0 rfl rfl)
theorem dX1_layLink_48 : decode cX1_layLink 48 = .ok (.iconst 0, 1) := dk_3 (dk_at dksX1_layLink_2 3 rfl rfl)
theorem dX1_layLink_49 : decode cX1_layLink 49 = .ok (.goto 10, 3) := dk_167 0 10 (dk_at dksX1_layLink_2 4 rfl rfl)
theorem dX1_layLink_52 : decode cX1_layLink 52 = .ok (.aload_n 0, 1) := dk_42 (dk_at dksX1_layLink_2 7 rfl rfl)
theorem dX1_layLink_53 : decode cX1_layLink 53 = .ok (.getfield 57, 3) := dk_180 0 57 (dk_at dksX1_layLink_2 8 rfl rfl)
theorem dX1_layLink_56 : decode cX1_layLink 56 = .ok (.iload 4, 2) := dk_21 4 (dk_at dksX1_layLink_2 11 rfl rfl)
theorem dX1_layLink_58 : decode cX1_layLink 58 = .ok (.iaload, 1) := dk_46 (dk_at dksX1_layLink_2 13 rfl rfl)
theorem dX1_layLink_59 : decode cX1_layLink 59 = .ok (.iastore, 1) := dk_79 (dk_at dksX1_layLink_2 14 rfl rfl)
theorem dX1_layLink_60 : decode cX1_layLink 60 = .ok (.aload_n 0, 1) := dk_42 (dk_at dksX1_layLink_2 15 rfl rfl)
theorem dX1_layLink_61 : decode cX1_layLink 61 = .ok (.getfield 60, 3) := dk_180 0 60 (dk_at dksX1_layLink_2 16 rfl rfl)
theorem dX1_layLink_64 : decode cX1_layLink 64 = .ok (.iload 4, 2) := dk_21 4 (dk_at dksX1_layLink_2 19 rfl rfl)
theorem dX1_layLink_66 : decode cX1_layLink 66 = .ok (.iload 5, 2) := dk_21 5 (dk_at dksX1_layLink_2 21 rfl rfl)
theorem dX1_layLink_68 : decode cX1_layLink 68 = .ok (.ifCond .eq 9, 3) := dk_153 0 9 (dk_at dksX1_layLink_3 0 rfl rfl)
theorem dX1_layLink_71 : decode cX1_layLink 71 = .ok (.sipush 1000, 3) := dk_17 3 232 (dk_at dksX1_layLink_3 3 rfl rfl)
theorem dX1_layLink_74 : decode cX1_layLink 74 = .ok (.goto 10, 3) := dk_167 0 10 (dk_at dksX1_layLink_3 6 rfl rfl)
theorem dX1_layLink_77 : decode cX1_layLink 77 = .ok (.aload_n 0, 1) := dk_42 (dk_at dksX1_layLink_3 9 rfl rfl)
theorem dX1_layLink_78 : decode cX1_layLink 78 = .ok (.getfield 60, 3) := dk_180 0 60 (dk_at dksX1_layLink_3 10 rfl rfl)
theorem dX1_layLink_81 : decode cX1_layLink 81 = .ok (.iload 4, 2) := dk_21 4 (dk_at dksX1_layLink_3 13 rfl rfl)
theorem dX1_layLink_83 : decode cX1_layLink 83 = .ok (.iaload, 1) := dk_46 (dk_at dksX1_layLink_3 15 rfl rfl)
theorem dX1_layLink_84 : decode cX1_layLink 84 = .ok (.iastore, 1) := dk_79 (dk_at dksX1_layLink_3 16 rfl rfl)
theorem dX1_layLink_85 : decode cX1_layLink 85 = .ok (.return_, 1) := dk_177 (dk_at dksX1_layLink_3 17 rfl rfl)
abbrev cX1_eats : ByteArray := prog_8_method_27_code
def yX1_eats : MethodName := ⟨RX1, "eats", "(I)Z"⟩
def dkwX1_eats_0 : List UInt8 := [42, 180, 0, 27, 27, 46, 5, 161, 0, 7, 4, 167, 0, 4, 3, 172]
abbrev dktX1_eats_0 : List UInt8 := dkwX1_eats_0 ++ []
theorem dksX1_eats_0 : cX1_eats.data.toList.drop 0 = dktX1_eats_0 := by decide +kernel
theorem dX1_eats_0 : decode cX1_eats 0 = .ok (.aload_n 0, 1) := dk_42 (dk_at dksX1_eats_0 0 rfl rfl)
theorem dX1_eats_1 : decode cX1_eats 1 = .ok (.getfield 27, 3) := dk_180 0 27 (dk_at dksX1_eats_0 1 rfl rfl)
theorem dX1_eats_4 : decode cX1_eats 4 = .ok (.iload_n 1, 1) := dk_27 (dk_at dksX1_eats_0 4 rfl rfl)
theorem dX1_eats_5 : decode cX1_eats 5 = .ok (.iaload, 1) := dk_46 (dk_at dksX1_eats_0 5 rfl rfl)
theorem dX1_eats_6 : decode cX1_eats 6 = .ok (.iconst 2, 1) := dk_5 (dk_at dksX1_eats_0 6 rfl rfl)
theorem dX1_eats_7 : decode cX1_eats 7 = .ok (.if_icmp .lt 7, 3) := dk_161 0 7 (dk_at dksX1_eats_0 7 rfl rfl)
theorem dX1_eats_10 : decode cX1_eats 10 = .ok (.iconst 1, 1) := dk_4 (dk_at dksX1_eats_0 10 rfl rfl)
theorem dX1_eats_11 : decode cX1_eats 11 = .ok (.goto 4, 3) := dk_167 0 4 (dk_at dksX1_eats_0 11 rfl rfl)
theorem dX1_eats_14 : decode cX1_eats 14 = .ok (.iconst 0, 1) := dk_3 (dk_at dksX1_eats_0 14 rfl rfl)
theorem dX1_eats_15 : decode cX1_eats 15 = .ok (.ireturn, 1) := dk_172 (dk_at dksX1_eats_0 15 rfl rfl)
abbrev cX1_being : ByteArray := prog_8_method_31_code
def yX1_being : MethodName := ⟨RX1, "being", "(II)I"⟩
def dkwX1_being_1 : List UInt8 := [153, 0, 7, 4, 167, 0, 4, 3, 62, 42, 27, 28, 182, 0, 164, 29, 172]
abbrev dktX1_being_1 : List UInt8 := dkwX1_being_1 ++ []
def dkwX1_being_0 : List UInt8 := [27, 184, 0, 179, 153, 0, 12, 28, 3, 6, 184, 0, 105, 154, 0, 5, 2, 172, 42, 180, 0, 23, 27, 51]
abbrev dktX1_being_0 : List UInt8 := dkwX1_being_0 ++ dktX1_being_1
theorem dksX1_being_0 : cX1_being.data.toList.drop 0 = dktX1_being_0 := by decide +kernel
theorem dksX1_being_1 : cX1_being.data.toList.drop 24 = dktX1_being_1 := dk_seg dksX1_being_0 24 rfl rfl
theorem dX1_being_0 : decode cX1_being 0 = .ok (.iload_n 1, 1) := dk_27 (dk_at dksX1_being_0 0 rfl rfl)
theorem dX1_being_1 : decode cX1_being 1 = .ok (.invokestatic 179, 3) := dk_184 0 179 (dk_at dksX1_being_0 1 rfl rfl)
theorem dX1_being_4 : decode cX1_being 4 = .ok (.ifCond .eq 12, 3) := dk_153 0 12 (dk_at dksX1_being_0 4 rfl rfl)
theorem dX1_being_7 : decode cX1_being 7 = .ok (.iload_n 2, 1) := dk_28 (dk_at dksX1_being_0 7 rfl rfl)
theorem dX1_being_8 : decode cX1_being 8 = .ok (.iconst 0, 1) := dk_3 (dk_at dksX1_being_0 8 rfl rfl)
theorem dX1_being_9 : decode cX1_being 9 = .ok (.iconst 3, 1) := dk_6 (dk_at dksX1_being_0 9 rfl rfl)
theorem dX1_being_10 : decode cX1_being 10 = .ok (.invokestatic 105, 3) := dk_184 0 105 (dk_at dksX1_being_0 10 rfl rfl)
theorem dX1_being_13 : decode cX1_being 13 = .ok (.ifCond .ne 5, 3) := dk_154 0 5 (dk_at dksX1_being_0 13 rfl rfl)
theorem dX1_being_16 : decode cX1_being 16 = .ok (.iconst (-1), 1) := dk_2 (dk_at dksX1_being_0 16 rfl rfl)
theorem dX1_being_17 : decode cX1_being 17 = .ok (.ireturn, 1) := dk_172 (dk_at dksX1_being_0 17 rfl rfl)
theorem dX1_being_18 : decode cX1_being 18 = .ok (.aload_n 0, 1) := dk_42 (dk_at dksX1_being_0 18 rfl rfl)
theorem dX1_being_19 : decode cX1_being 19 = .ok (.getfield 23, 3) := dk_180 0 23 (dk_at dksX1_being_0 19 rfl rfl)
theorem dX1_being_22 : decode cX1_being 22 = .ok (.iload_n 1, 1) := dk_27 (dk_at dksX1_being_0 22 rfl rfl)
theorem dX1_being_23 : decode cX1_being 23 = .ok (.baload, 1) := dk_51 (dk_at dksX1_being_0 23 rfl rfl)
theorem dX1_being_24 : decode cX1_being 24 = .ok (.ifCond .eq 7, 3) := dk_153 0 7 (dk_at dksX1_being_1 0 rfl rfl)
theorem dX1_being_27 : decode cX1_being 27 = .ok (.iconst 1, 1) := dk_4 (dk_at dksX1_being_1 3 rfl rfl)
theorem dX1_being_28 : decode cX1_being 28 = .ok (.goto 4, 3) := dk_167 0 4 (dk_at dksX1_being_1 4 rfl rfl)
theorem dX1_being_31 : decode cX1_being 31 = .ok (.iconst 0, 1) := dk_3 (dk_at dksX1_being_1 7 rfl rfl)
theorem dX1_being_32 : decode cX1_being 32 = .ok (.istore_n 3, 1) := dk_62 (dk_at dksX1_being_1 8 rfl rfl)
theorem dX1_being_33 : decode cX1_being 33 = .ok (.aload_n 0, 1) := dk_42 (dk_at dksX1_being_1 9 rfl rfl)
theorem dX1_being_34 : decode cX1_being 34 = .ok (.iload_n 1, 1) := dk_27 (dk_at dksX1_being_1 10 rfl rfl)
theorem dX1_being_35 : decode cX1_being 35 = .ok (.iload_n 2, 1) := dk_28 (dk_at dksX1_being_1 11 rfl rfl)
theorem dX1_being_36 : decode cX1_being 36 = .ok (.invokevirtual 164, 3) := dk_182 0 164 (dk_at dksX1_being_1 12 rfl rfl)
theorem dX1_being_39 : decode cX1_being 39 = .ok (.iload_n 3, 1) := dk_29 (dk_at dksX1_being_1 15 rfl rfl)
theorem dX1_being_40 : decode cX1_being 40 = .ok (.ireturn, 1) := dk_172 (dk_at dksX1_being_1 16 rfl rfl)
abbrev cX1_isPlace : ByteArray := prog_8_method_26_code
def yX1_isPlace : MethodName := ⟨RX1, "isPlace", "(I)Z"⟩
def dkwX1_isPlace_0 : List UInt8 := [26, 3, 16, 7, 184, 0, 105, 172]
abbrev dktX1_isPlace_0 : List UInt8 := dkwX1_isPlace_0 ++ []
theorem dksX1_isPlace_0 : cX1_isPlace.data.toList.drop 0 = dktX1_isPlace_0 := by decide +kernel
theorem dX1_isPlace_0 : decode cX1_isPlace 0 = .ok (.iload_n 0, 1) := dk_26 (dk_at dksX1_isPlace_0 0 rfl rfl)
theorem dX1_isPlace_1 : decode cX1_isPlace 1 = .ok (.iconst 0, 1) := dk_3 (dk_at dksX1_isPlace_0 1 rfl rfl)
theorem dX1_isPlace_2 : decode cX1_isPlace 2 = .ok (.bipush 7, 2) := dk_16 7 (dk_at dksX1_isPlace_0 2 rfl rfl)
theorem dX1_isPlace_4 : decode cX1_isPlace 4 = .ok (.invokestatic 105, 3) := dk_184 0 105 (dk_at dksX1_isPlace_0 4 rfl rfl)
theorem dX1_isPlace_7 : decode cX1_isPlace 7 = .ok (.ireturn, 1) := dk_172 (dk_at dksX1_isPlace_0 7 rfl rfl)
abbrev cX1_drop : ByteArray := prog_8_method_34_code
def yX1_drop : MethodName := ⟨RX1, "drop", "(I)I"⟩
def dkwX1_drop_1 : List UInt8 := [84, 4, 172]
abbrev dktX1_drop_1 : List UInt8 := dkwX1_drop_1 ++ []
def dkwX1_drop_0 : List UInt8 := [42, 4, 27, 182, 0, 182, 61, 28, 156, 0, 5, 28, 172, 42, 27, 182, 0, 175, 42, 180, 0, 23, 27, 3]
abbrev dktX1_drop_0 : List UInt8 := dkwX1_drop_0 ++ dktX1_drop_1
theorem dksX1_drop_0 : cX1_drop.data.toList.drop 0 = dktX1_drop_0 := by decide +kernel
theorem dksX1_drop_1 : cX1_drop.data.toList.drop 24 = dktX1_drop_1 := dk_seg dksX1_drop_0 24 rfl rfl
theorem dX1_drop_0 : decode cX1_drop 0 = .ok (.aload_n 0, 1) := dk_42 (dk_at dksX1_drop_0 0 rfl rfl)
theorem dX1_drop_1 : decode cX1_drop 1 = .ok (.iconst 1, 1) := dk_4 (dk_at dksX1_drop_0 1 rfl rfl)
theorem dX1_drop_2 : decode cX1_drop 2 = .ok (.iload_n 1, 1) := dk_27 (dk_at dksX1_drop_0 2 rfl rfl)
theorem dX1_drop_3 : decode cX1_drop 3 = .ok (.invokevirtual 182, 3) := dk_182 0 182 (dk_at dksX1_drop_0 3 rfl rfl)
theorem dX1_drop_6 : decode cX1_drop 6 = .ok (.istore_n 2, 1) := dk_61 (dk_at dksX1_drop_0 6 rfl rfl)
theorem dX1_drop_7 : decode cX1_drop 7 = .ok (.iload_n 2, 1) := dk_28 (dk_at dksX1_drop_0 7 rfl rfl)
theorem dX1_drop_8 : decode cX1_drop 8 = .ok (.ifCond .ge 5, 3) := dk_156 0 5 (dk_at dksX1_drop_0 8 rfl rfl)
theorem dX1_drop_11 : decode cX1_drop 11 = .ok (.iload_n 2, 1) := dk_28 (dk_at dksX1_drop_0 11 rfl rfl)
theorem dX1_drop_12 : decode cX1_drop 12 = .ok (.ireturn, 1) := dk_172 (dk_at dksX1_drop_0 12 rfl rfl)
theorem dX1_drop_13 : decode cX1_drop 13 = .ok (.aload_n 0, 1) := dk_42 (dk_at dksX1_drop_0 13 rfl rfl)
theorem dX1_drop_14 : decode cX1_drop 14 = .ok (.iload_n 1, 1) := dk_27 (dk_at dksX1_drop_0 14 rfl rfl)
theorem dX1_drop_15 : decode cX1_drop 15 = .ok (.invokevirtual 175, 3) := dk_182 0 175 (dk_at dksX1_drop_0 15 rfl rfl)
theorem dX1_drop_18 : decode cX1_drop 18 = .ok (.aload_n 0, 1) := dk_42 (dk_at dksX1_drop_0 18 rfl rfl)
theorem dX1_drop_19 : decode cX1_drop 19 = .ok (.getfield 23, 3) := dk_180 0 23 (dk_at dksX1_drop_0 19 rfl rfl)
theorem dX1_drop_22 : decode cX1_drop 22 = .ok (.iload_n 1, 1) := dk_27 (dk_at dksX1_drop_0 22 rfl rfl)
theorem dX1_drop_23 : decode cX1_drop 23 = .ok (.iconst 0, 1) := dk_3 (dk_at dksX1_drop_0 23 rfl rfl)
theorem dX1_drop_24 : decode cX1_drop 24 = .ok (.bastore, 1) := dk_84 (dk_at dksX1_drop_1 0 rfl rfl)
theorem dX1_drop_25 : decode cX1_drop 25 = .ok (.iconst 1, 1) := dk_4 (dk_at dksX1_drop_1 1 rfl rfl)
theorem dX1_drop_26 : decode cX1_drop 26 = .ok (.ireturn, 1) := dk_172 (dk_at dksX1_drop_1 2 rfl rfl)
abbrev cX1_need : ByteArray := prog_8_method_32_code
def yX1_need : MethodName := ⟨RX1, "need", "(ZI)I"⟩
def dkwX1_need_1 : List UInt8 := [3, 167, 0, 8, 42, 4, 182, 0, 119, 172]
abbrev dktX1_need_1 : List UInt8 := dkwX1_need_1 ++ []
def dkwX1_need_0 : List UInt8 := [28, 184, 0, 179, 153, 0, 7, 27, 154, 0, 7, 2, 167, 0, 21, 42, 180, 0, 23, 28, 51, 153, 0, 7]
abbrev dktX1_need_0 : List UInt8 := dkwX1_need_0 ++ dktX1_need_1
theorem dksX1_need_0 : cX1_need.data.toList.drop 0 = dktX1_need_0 := by decide +kernel
theorem dksX1_need_1 : cX1_need.data.toList.drop 24 = dktX1_need_1 := dk_seg dksX1_need_0 24 rfl rfl
theorem dX1_need_0 : decode cX1_need 0 = .ok (.iload_n 2, 1) := dk_28 (dk_at dksX1_need_0 0 rfl rfl)
theorem dX1_need_1 : decode cX1_need 1 = .ok (.invokestatic 179, 3) := dk_184 0 179 (dk_at dksX1_need_0 1 rfl rfl)
theorem dX1_need_4 : decode cX1_need 4 = .ok (.ifCond .eq 7, 3) := dk_153 0 7 (dk_at dksX1_need_0 4 rfl rfl)
theorem dX1_need_7 : decode cX1_need 7 = .ok (.iload_n 1, 1) := dk_27 (dk_at dksX1_need_0 7 rfl rfl)
theorem dX1_need_8 : decode cX1_need 8 = .ok (.ifCond .ne 7, 3) := dk_154 0 7 (dk_at dksX1_need_0 8 rfl rfl)
theorem dX1_need_11 : decode cX1_need 11 = .ok (.iconst (-1), 1) := dk_2 (dk_at dksX1_need_0 11 rfl rfl)
theorem dX1_need_12 : decode cX1_need 12 = .ok (.goto 21, 3) := dk_167 0 21 (dk_at dksX1_need_0 12 rfl rfl)
theorem dX1_need_15 : decode cX1_need 15 = .ok (.aload_n 0, 1) := dk_42 (dk_at dksX1_need_0 15 rfl rfl)
theorem dX1_need_16 : decode cX1_need 16 = .ok (.getfield 23, 3) := dk_180 0 23 (dk_at dksX1_need_0 16 rfl rfl)
theorem dX1_need_19 : decode cX1_need 19 = .ok (.iload_n 2, 1) := dk_28 (dk_at dksX1_need_0 19 rfl rfl)
theorem dX1_need_20 : decode cX1_need 20 = .ok (.baload, 1) := dk_51 (dk_at dksX1_need_0 20 rfl rfl)
theorem dX1_need_21 : decode cX1_need 21 = .ok (.ifCond .eq 7, 3) := dk_153 0 7 (dk_at dksX1_need_0 21 rfl rfl)
theorem dX1_need_24 : decode cX1_need 24 = .ok (.iconst 0, 1) := dk_3 (dk_at dksX1_need_1 0 rfl rfl)
theorem dX1_need_25 : decode cX1_need 25 = .ok (.goto 8, 3) := dk_167 0 8 (dk_at dksX1_need_1 1 rfl rfl)
theorem dX1_need_28 : decode cX1_need 28 = .ok (.aload_n 0, 1) := dk_42 (dk_at dksX1_need_1 4 rfl rfl)
theorem dX1_need_29 : decode cX1_need 29 = .ok (.iconst 1, 1) := dk_4 (dk_at dksX1_need_1 5 rfl rfl)
theorem dX1_need_30 : decode cX1_need 30 = .ok (.invokevirtual 119, 3) := dk_182 0 119 (dk_at dksX1_need_1 6 rfl rfl)
theorem dX1_need_33 : decode cX1_need 33 = .ok (.ireturn, 1) := dk_172 (dk_at dksX1_need_1 9 rfl rfl)
abbrev cX1_stock : ByteArray := prog_8_method_35_code
def yX1_stock : MethodName := ⟨RX1, "stock", "(II)I"⟩
def dkwX1_stock_1 : List UInt8 := [46, 54, 4, 42, 180, 0, 30, 27, 28, 79, 21, 4, 172]
abbrev dktX1_stock_1 : List UInt8 := dkwX1_stock_1 ++ []
def dkwX1_stock_0 : List UInt8 := [42, 28, 3, 18, 153, 184, 0, 105, 27, 182, 0, 182, 62, 29, 156, 0, 5, 29, 172, 42, 180, 0, 30, 27]
abbrev dktX1_stock_0 : List UInt8 := dkwX1_stock_0 ++ dktX1_stock_1
theorem dksX1_stock_0 : cX1_stock.data.toList.drop 0 = dktX1_stock_0 := by decide +kernel
theorem dksX1_stock_1 : cX1_stock.data.toList.drop 24 = dktX1_stock_1 := dk_seg dksX1_stock_0 24 rfl rfl
theorem dX1_stock_0 : decode cX1_stock 0 = .ok (.aload_n 0, 1) := dk_42 (dk_at dksX1_stock_0 0 rfl rfl)
theorem dX1_stock_1 : decode cX1_stock 1 = .ok (.iload_n 2, 1) := dk_28 (dk_at dksX1_stock_0 1 rfl rfl)
theorem dX1_stock_2 : decode cX1_stock 2 = .ok (.iconst 0, 1) := dk_3 (dk_at dksX1_stock_0 2 rfl rfl)
theorem dX1_stock_3 : decode cX1_stock 3 = .ok (.ldc 153, 2) := dk_18 153 (dk_at dksX1_stock_0 3 rfl rfl)
theorem dX1_stock_5 : decode cX1_stock 5 = .ok (.invokestatic 105, 3) := dk_184 0 105 (dk_at dksX1_stock_0 5 rfl rfl)
theorem dX1_stock_8 : decode cX1_stock 8 = .ok (.iload_n 1, 1) := dk_27 (dk_at dksX1_stock_0 8 rfl rfl)
theorem dX1_stock_9 : decode cX1_stock 9 = .ok (.invokevirtual 182, 3) := dk_182 0 182 (dk_at dksX1_stock_0 9 rfl rfl)
theorem dX1_stock_12 : decode cX1_stock 12 = .ok (.istore_n 3, 1) := dk_62 (dk_at dksX1_stock_0 12 rfl rfl)
theorem dX1_stock_13 : decode cX1_stock 13 = .ok (.iload_n 3, 1) := dk_29 (dk_at dksX1_stock_0 13 rfl rfl)
theorem dX1_stock_14 : decode cX1_stock 14 = .ok (.ifCond .ge 5, 3) := dk_156 0 5 (dk_at dksX1_stock_0 14 rfl rfl)
theorem dX1_stock_17 : decode cX1_stock 17 = .ok (.iload_n 3, 1) := dk_29 (dk_at dksX1_stock_0 17 rfl rfl)
theorem dX1_stock_18 : decode cX1_stock 18 = .ok (.ireturn, 1) := dk_172 (dk_at dksX1_stock_0 18 rfl rfl)
theorem dX1_stock_19 : decode cX1_stock 19 = .ok (.aload_n 0, 1) := dk_42 (dk_at dksX1_stock_0 19 rfl rfl)
theorem dX1_stock_20 : decode cX1_stock 20 = .ok (.getfield 30, 3) := dk_180 0 30 (dk_at dksX1_stock_0 20 rfl rfl)
theorem dX1_stock_23 : decode cX1_stock 23 = .ok (.iload_n 1, 1) := dk_27 (dk_at dksX1_stock_0 23 rfl rfl)
theorem dX1_stock_24 : decode cX1_stock 24 = .ok (.iaload, 1) := dk_46 (dk_at dksX1_stock_1 0 rfl rfl)
theorem dX1_stock_25 : decode cX1_stock 25 = .ok (.istore 4, 2) := dk_54 4 (dk_at dksX1_stock_1 1 rfl rfl)
theorem dX1_stock_27 : decode cX1_stock 27 = .ok (.aload_n 0, 1) := dk_42 (dk_at dksX1_stock_1 3 rfl rfl)
theorem dX1_stock_28 : decode cX1_stock 28 = .ok (.getfield 30, 3) := dk_180 0 30 (dk_at dksX1_stock_1 4 rfl rfl)
theorem dX1_stock_31 : decode cX1_stock 31 = .ok (.iload_n 1, 1) := dk_27 (dk_at dksX1_stock_1 7 rfl rfl)
theorem dX1_stock_32 : decode cX1_stock 32 = .ok (.iload_n 2, 1) := dk_28 (dk_at dksX1_stock_1 8 rfl rfl)
theorem dX1_stock_33 : decode cX1_stock 33 = .ok (.iastore, 1) := dk_79 (dk_at dksX1_stock_1 9 rfl rfl)
theorem dX1_stock_34 : decode cX1_stock 34 = .ok (.iload 4, 2) := dk_21 4 (dk_at dksX1_stock_1 10 rfl rfl)
theorem dX1_stock_36 : decode cX1_stock 36 = .ok (.ireturn, 1) := dk_172 (dk_at dksX1_stock_1 12 rfl rfl)
abbrev cX1_plant : ByteArray := prog_8_method_36_code
def yX1_plant : MethodName := ⟨RX1, "plant", "(III)I"⟩
def dkwX1_plant_3 : List UInt8 := [4, 172]
abbrev dktX1_plant_3 : List UInt8 := dkwX1_plant_3 ++ []
def dkwX1_plant_2 : List UInt8 := [4, 159, 0, 9, 42, 6, 182, 0, 119, 172, 42, 180, 0, 36, 27, 28, 79, 42, 180, 0, 39, 27, 29, 79]
abbrev dktX1_plant_2 : List UInt8 := dkwX1_plant_2 ++ dktX1_plant_3
def dkwX1_plant_1 : List UInt8 := [167, 0, 4, 3, 27, 182, 0, 182, 54, 4, 21, 4, 156, 0, 6, 21, 4, 172, 42, 180, 0, 27, 27, 46]
abbrev dktX1_plant_1 : List UInt8 := dkwX1_plant_1 ++ dktX1_plant_2
def dkwX1_plant_0 : List UInt8 := [42, 28, 3, 17, 3, 232, 184, 0, 105, 153, 0, 17, 29, 4, 18, 153, 184, 0, 105, 153, 0, 7, 4]
abbrev dktX1_plant_0 : List UInt8 := dkwX1_plant_0 ++ dktX1_plant_1
theorem dksX1_plant_0 : cX1_plant.data.toList.drop 0 = dktX1_plant_0 := by decide +kernel
theorem dksX1_plant_1 : cX1_plant.data.toList.drop 23 = dktX1_plant_1 := dk_seg dksX1_plant_0 23 rfl rfl
theorem dksX1_plant_2 : cX1_plant.data.toList.drop 47 = dktX1_plant_2 := dk_seg dksX1_plant_1 24 rfl rfl
theorem dksX1_plant_3 : cX1_plant.data.toList.drop 71 = dktX1_plant_3 := dk_seg dksX1_plant_2 24 rfl rfl
theorem dX1_plant_0 : decode cX1_plant 0 = .ok (.aload_n 0, 1) := dk_42 (dk_at dksX1_plant_0 0 rfl rfl)
theorem dX1_plant_1 : decode cX1_plant 1 = .ok (.iload_n 2, 1) := dk_28 (dk_at dksX1_plant_0 1 rfl rfl)
theorem dX1_plant_2 : decode cX1_plant 2 = .ok (.iconst 0, 1) := dk_3 (dk_at dksX1_plant_0 2 rfl rfl)
theorem dX1_plant_3 : decode cX1_plant 3 = .ok (.sipush 1000, 3) := dk_17 3 232 (dk_at dksX1_plant_0 3 rfl rfl)
theorem dX1_plant_6 : decode cX1_plant 6 = .ok (.invokestatic 105, 3) := dk_184 0 105 (dk_at dksX1_plant_0 6 rfl rfl)
theorem dX1_plant_9 : decode cX1_plant 9 = .ok (.ifCond .eq 17, 3) := dk_153 0 17 (dk_at dksX1_plant_0 9 rfl rfl)
theorem dX1_plant_12 : decode cX1_plant 12 = .ok (.iload_n 3, 1) := dk_29 (dk_at dksX1_plant_0 12 rfl rfl)
theorem dX1_plant_13 : decode cX1_plant 13 = .ok (.iconst 1, 1) := dk_4 (dk_at dksX1_plant_0 13 rfl rfl)
theorem dX1_plant_14 : decode cX1_plant 14 = .ok (.ldc 153, 2) := dk_18 153 (dk_at dksX1_plant_0 14 rfl rfl)
theorem dX1_plant_16 : decode cX1_plant 16 = .ok (.invokestatic 105, 3) := dk_184 0 105 (dk_at dksX1_plant_0 16 rfl rfl)
theorem dX1_plant_19 : decode cX1_plant 19 = .ok (.ifCond .eq 7, 3) := dk_153 0 7 (dk_at dksX1_plant_0 19 rfl rfl)
theorem dX1_plant_22 : decode cX1_plant 22 = .ok (.iconst 1, 1) := dk_4 (dk_at dksX1_plant_0 22 rfl rfl)
theorem dX1_plant_23 : decode cX1_plant 23 = .ok (.goto 4, 3) := dk_167 0 4 (dk_at dksX1_plant_1 0 rfl rfl)
theorem dX1_plant_26 : decode cX1_plant 26 = .ok (.iconst 0, 1) := dk_3 (dk_at dksX1_plant_1 3 rfl rfl)
theorem dX1_plant_27 : decode cX1_plant 27 = .ok (.iload_n 1, 1) := dk_27 (dk_at dksX1_plant_1 4 rfl rfl)
theorem dX1_plant_28 : decode cX1_plant 28 = .ok (.invokevirtual 182, 3) := dk_182 0 182 (dk_at dksX1_plant_1 5 rfl rfl)
theorem dX1_plant_31 : decode cX1_plant 31 = .ok (.istore 4, 2) := dk_54 4 (dk_at dksX1_plant_1 8 rfl rfl)
theorem dX1_plant_33 : decode cX1_plant 33 = .ok (.iload 4, 2) := dk_21 4 (dk_at dksX1_plant_1 10 rfl rfl)
theorem dX1_plant_35 : decode cX1_plant 35 = .ok (.ifCond .ge 6, 3) := dk_156 0 6 (dk_at dksX1_plant_1 12 rfl rfl)
theorem dX1_plant_38 : decode cX1_plant 38 = .ok (.iload 4, 2) := dk_21 4 (dk_at dksX1_plant_1 15 rfl rfl)
theorem dX1_plant_40 : decode cX1_plant 40 = .ok (.ireturn, 1) := dk_172 (dk_at dksX1_plant_1 17 rfl rfl)
theorem dX1_plant_41 : decode cX1_plant 41 = .ok (.aload_n 0, 1) := dk_42 (dk_at dksX1_plant_1 18 rfl rfl)
theorem dX1_plant_42 : decode cX1_plant 42 = .ok (.getfield 27, 3) := dk_180 0 27 (dk_at dksX1_plant_1 19 rfl rfl)
theorem dX1_plant_45 : decode cX1_plant 45 = .ok (.iload_n 1, 1) := dk_27 (dk_at dksX1_plant_1 22 rfl rfl)
theorem dX1_plant_46 : decode cX1_plant 46 = .ok (.iaload, 1) := dk_46 (dk_at dksX1_plant_1 23 rfl rfl)
theorem dX1_plant_47 : decode cX1_plant 47 = .ok (.iconst 1, 1) := dk_4 (dk_at dksX1_plant_2 0 rfl rfl)
theorem dX1_plant_48 : decode cX1_plant 48 = .ok (.if_icmp .eq 9, 3) := dk_159 0 9 (dk_at dksX1_plant_2 1 rfl rfl)
theorem dX1_plant_51 : decode cX1_plant 51 = .ok (.aload_n 0, 1) := dk_42 (dk_at dksX1_plant_2 4 rfl rfl)
theorem dX1_plant_52 : decode cX1_plant 52 = .ok (.iconst 3, 1) := dk_6 (dk_at dksX1_plant_2 5 rfl rfl)
theorem dX1_plant_53 : decode cX1_plant 53 = .ok (.invokevirtual 119, 3) := dk_182 0 119 (dk_at dksX1_plant_2 6 rfl rfl)
theorem dX1_plant_56 : decode cX1_plant 56 = .ok (.ireturn, 1) := dk_172 (dk_at dksX1_plant_2 9 rfl rfl)
theorem dX1_plant_57 : decode cX1_plant 57 = .ok (.aload_n 0, 1) := dk_42 (dk_at dksX1_plant_2 10 rfl rfl)
theorem dX1_plant_58 : decode cX1_plant 58 = .ok (.getfield 36, 3) := dk_180 0 36 (dk_at dksX1_plant_2 11 rfl rfl)
theorem dX1_plant_61 : decode cX1_plant 61 = .ok (.iload_n 1, 1) := dk_27 (dk_at dksX1_plant_2 14 rfl rfl)
theorem dX1_plant_62 : decode cX1_plant 62 = .ok (.iload_n 2, 1) := dk_28 (dk_at dksX1_plant_2 15 rfl rfl)
theorem dX1_plant_63 : decode cX1_plant 63 = .ok (.iastore, 1) := dk_79 (dk_at dksX1_plant_2 16 rfl rfl)
theorem dX1_plant_64 : decode cX1_plant 64 = .ok (.aload_n 0, 1) := dk_42 (dk_at dksX1_plant_2 17 rfl rfl)
theorem dX1_plant_65 : decode cX1_plant 65 = .ok (.getfield 39, 3) := dk_180 0 39 (dk_at dksX1_plant_2 18 rfl rfl)
theorem dX1_plant_68 : decode cX1_plant 68 = .ok (.iload_n 1, 1) := dk_27 (dk_at dksX1_plant_2 21 rfl rfl)
theorem dX1_plant_69 : decode cX1_plant 69 = .ok (.iload_n 3, 1) := dk_29 (dk_at dksX1_plant_2 22 rfl rfl)
theorem dX1_plant_70 : decode cX1_plant 70 = .ok (.iastore, 1) := dk_79 (dk_at dksX1_plant_2 23 rfl rfl)
theorem dX1_plant_71 : decode cX1_plant 71 = .ok (.iconst 1, 1) := dk_4 (dk_at dksX1_plant_3 0 rfl rfl)
theorem dX1_plant_72 : decode cX1_plant 72 = .ok (.ireturn, 1) := dk_172 (dk_at dksX1_plant_3 1 rfl rfl)
abbrev cX1_eater : ByteArray := prog_8_method_37_code
def yX1_eater : MethodName := ⟨RX1, "eater", "(III)I"⟩
def dkwX1_eater_3 : List UInt8 := [172]
abbrev dktX1_eater_3 : List UInt8 := dkwX1_eater_3 ++ []
def dkwX1_eater_2 : List UInt8 := [154, 0, 9, 42, 6, 182, 0, 119, 172, 42, 180, 0, 42, 27, 28, 79, 42, 180, 0, 45, 27, 29, 79, 4]
abbrev dktX1_eater_2 : List UInt8 := dkwX1_eater_2 ++ dktX1_eater_3
def dkwX1_eater_1 : List UInt8 := [167, 0, 4, 3, 27, 182, 0, 182, 54, 4, 21, 4, 156, 0, 6, 21, 4, 172, 42, 27, 182, 0, 168]
abbrev dktX1_eater_1 : List UInt8 := dkwX1_eater_1 ++ dktX1_eater_2
def dkwX1_eater_0 : List UInt8 := [42, 28, 3, 17, 3, 232, 184, 0, 105, 153, 0, 17, 29, 3, 16, 100, 184, 0, 105, 153, 0, 7, 4]
abbrev dktX1_eater_0 : List UInt8 := dkwX1_eater_0 ++ dktX1_eater_1
theorem dksX1_eater_0 : cX1_eater.data.toList.drop 0 = dktX1_eater_0 := by decide +kernel
theorem dksX1_eater_1 : cX1_eater.data.toList.drop 23 = dktX1_eater_1 := dk_seg dksX1_eater_0 23 rfl rfl
theorem dksX1_eater_2 : cX1_eater.data.toList.drop 46 = dktX1_eater_2 := dk_seg dksX1_eater_1 23 rfl rfl
theorem dksX1_eater_3 : cX1_eater.data.toList.drop 70 = dktX1_eater_3 := dk_seg dksX1_eater_2 24 rfl rfl
theorem dX1_eater_0 : decode cX1_eater 0 = .ok (.aload_n 0, 1) := dk_42 (dk_at dksX1_eater_0 0 rfl rfl)
theorem dX1_eater_1 : decode cX1_eater 1 = .ok (.iload_n 2, 1) := dk_28 (dk_at dksX1_eater_0 1 rfl rfl)
theorem dX1_eater_2 : decode cX1_eater 2 = .ok (.iconst 0, 1) := dk_3 (dk_at dksX1_eater_0 2 rfl rfl)
theorem dX1_eater_3 : decode cX1_eater 3 = .ok (.sipush 1000, 3) := dk_17 3 232 (dk_at dksX1_eater_0 3 rfl rfl)
theorem dX1_eater_6 : decode cX1_eater 6 = .ok (.invokestatic 105, 3) := dk_184 0 105 (dk_at dksX1_eater_0 6 rfl rfl)
theorem dX1_eater_9 : decode cX1_eater 9 = .ok (.ifCond .eq 17, 3) := dk_153 0 17 (dk_at dksX1_eater_0 9 rfl rfl)
theorem dX1_eater_12 : decode cX1_eater 12 = .ok (.iload_n 3, 1) := dk_29 (dk_at dksX1_eater_0 12 rfl rfl)
theorem dX1_eater_13 : decode cX1_eater 13 = .ok (.iconst 0, 1) := dk_3 (dk_at dksX1_eater_0 13 rfl rfl)
theorem dX1_eater_14 : decode cX1_eater 14 = .ok (.bipush 100, 2) := dk_16 100 (dk_at dksX1_eater_0 14 rfl rfl)
theorem dX1_eater_16 : decode cX1_eater 16 = .ok (.invokestatic 105, 3) := dk_184 0 105 (dk_at dksX1_eater_0 16 rfl rfl)
theorem dX1_eater_19 : decode cX1_eater 19 = .ok (.ifCond .eq 7, 3) := dk_153 0 7 (dk_at dksX1_eater_0 19 rfl rfl)
theorem dX1_eater_22 : decode cX1_eater 22 = .ok (.iconst 1, 1) := dk_4 (dk_at dksX1_eater_0 22 rfl rfl)
theorem dX1_eater_23 : decode cX1_eater 23 = .ok (.goto 4, 3) := dk_167 0 4 (dk_at dksX1_eater_1 0 rfl rfl)
theorem dX1_eater_26 : decode cX1_eater 26 = .ok (.iconst 0, 1) := dk_3 (dk_at dksX1_eater_1 3 rfl rfl)
theorem dX1_eater_27 : decode cX1_eater 27 = .ok (.iload_n 1, 1) := dk_27 (dk_at dksX1_eater_1 4 rfl rfl)
theorem dX1_eater_28 : decode cX1_eater 28 = .ok (.invokevirtual 182, 3) := dk_182 0 182 (dk_at dksX1_eater_1 5 rfl rfl)
theorem dX1_eater_31 : decode cX1_eater 31 = .ok (.istore 4, 2) := dk_54 4 (dk_at dksX1_eater_1 8 rfl rfl)
theorem dX1_eater_33 : decode cX1_eater 33 = .ok (.iload 4, 2) := dk_21 4 (dk_at dksX1_eater_1 10 rfl rfl)
theorem dX1_eater_35 : decode cX1_eater 35 = .ok (.ifCond .ge 6, 3) := dk_156 0 6 (dk_at dksX1_eater_1 12 rfl rfl)
theorem dX1_eater_38 : decode cX1_eater 38 = .ok (.iload 4, 2) := dk_21 4 (dk_at dksX1_eater_1 15 rfl rfl)
theorem dX1_eater_40 : decode cX1_eater 40 = .ok (.ireturn, 1) := dk_172 (dk_at dksX1_eater_1 17 rfl rfl)
theorem dX1_eater_41 : decode cX1_eater 41 = .ok (.aload_n 0, 1) := dk_42 (dk_at dksX1_eater_1 18 rfl rfl)
theorem dX1_eater_42 : decode cX1_eater 42 = .ok (.iload_n 1, 1) := dk_27 (dk_at dksX1_eater_1 19 rfl rfl)
theorem dX1_eater_43 : decode cX1_eater 43 = .ok (.invokevirtual 168, 3) := dk_182 0 168 (dk_at dksX1_eater_1 20 rfl rfl)
theorem dX1_eater_46 : decode cX1_eater 46 = .ok (.ifCond .ne 9, 3) := dk_154 0 9 (dk_at dksX1_eater_2 0 rfl rfl)
theorem dX1_eater_49 : decode cX1_eater 49 = .ok (.aload_n 0, 1) := dk_42 (dk_at dksX1_eater_2 3 rfl rfl)
theorem dX1_eater_50 : decode cX1_eater 50 = .ok (.iconst 3, 1) := dk_6 (dk_at dksX1_eater_2 4 rfl rfl)
theorem dX1_eater_51 : decode cX1_eater 51 = .ok (.invokevirtual 119, 3) := dk_182 0 119 (dk_at dksX1_eater_2 5 rfl rfl)
theorem dX1_eater_54 : decode cX1_eater 54 = .ok (.ireturn, 1) := dk_172 (dk_at dksX1_eater_2 8 rfl rfl)
theorem dX1_eater_55 : decode cX1_eater 55 = .ok (.aload_n 0, 1) := dk_42 (dk_at dksX1_eater_2 9 rfl rfl)
theorem dX1_eater_56 : decode cX1_eater 56 = .ok (.getfield 42, 3) := dk_180 0 42 (dk_at dksX1_eater_2 10 rfl rfl)
theorem dX1_eater_59 : decode cX1_eater 59 = .ok (.iload_n 1, 1) := dk_27 (dk_at dksX1_eater_2 13 rfl rfl)
theorem dX1_eater_60 : decode cX1_eater 60 = .ok (.iload_n 2, 1) := dk_28 (dk_at dksX1_eater_2 14 rfl rfl)
theorem dX1_eater_61 : decode cX1_eater 61 = .ok (.iastore, 1) := dk_79 (dk_at dksX1_eater_2 15 rfl rfl)
theorem dX1_eater_62 : decode cX1_eater 62 = .ok (.aload_n 0, 1) := dk_42 (dk_at dksX1_eater_2 16 rfl rfl)
theorem dX1_eater_63 : decode cX1_eater 63 = .ok (.getfield 45, 3) := dk_180 0 45 (dk_at dksX1_eater_2 17 rfl rfl)
theorem dX1_eater_66 : decode cX1_eater 66 = .ok (.iload_n 1, 1) := dk_27 (dk_at dksX1_eater_2 20 rfl rfl)
theorem dX1_eater_67 : decode cX1_eater 67 = .ok (.iload_n 3, 1) := dk_29 (dk_at dksX1_eater_2 21 rfl rfl)
theorem dX1_eater_68 : decode cX1_eater 68 = .ok (.iastore, 1) := dk_79 (dk_at dksX1_eater_2 22 rfl rfl)
theorem dX1_eater_69 : decode cX1_eater 69 = .ok (.iconst 1, 1) := dk_4 (dk_at dksX1_eater_2 23 rfl rfl)
theorem dX1_eater_70 : decode cX1_eater 70 = .ok (.ireturn, 1) := dk_172 (dk_at dksX1_eater_3 0 rfl rfl)
abbrev cX1_link : ByteArray := prog_8_method_38_code
def yX1_link : MethodName := ⟨RX1, "link", "(III)I"⟩
def dkwX1_link_2 : List UInt8 := [180, 0, 54, 16, 8, 27, 104, 28, 96, 46, 54, 5, 42, 27, 28, 29, 182, 0, 171, 21, 5, 172]
abbrev dktX1_link_2 : List UInt8 := dkwX1_link_2 ++ []
def dkwX1_link_1 : List UInt8 := [27, 182, 0, 168, 153, 0, 13, 42, 180, 0, 27, 28, 46, 6, 160, 0, 9, 42, 6, 182, 0, 119, 172, 42]
abbrev dktX1_link_1 : List UInt8 := dkwX1_link_1 ++ dktX1_link_2
def dkwX1_link_0 : List UInt8 := [42, 29, 3, 16, 99, 184, 0, 105, 27, 28, 182, 0, 186, 54, 4, 21, 4, 156, 0, 6, 21, 4, 172, 42]
abbrev dktX1_link_0 : List UInt8 := dkwX1_link_0 ++ dktX1_link_1
theorem dksX1_link_0 : cX1_link.data.toList.drop 0 = dktX1_link_0 := by decide +kernel
theorem dksX1_link_1 : cX1_link.data.toList.drop 24 = dktX1_link_1 := dk_seg dksX1_link_0 24 rfl rfl
theorem dksX1_link_2 : cX1_link.data.toList.drop 48 = dktX1_link_2 := dk_seg dksX1_link_1 24 rfl rfl
theorem dX1_link_0 : decode cX1_link 0 = .ok (.aload_n 0, 1) := dk_42 (dk_at dksX1_link_0 0 rfl rfl)
theorem dX1_link_1 : decode cX1_link 1 = .ok (.iload_n 3, 1) := dk_29 (dk_at dksX1_link_0 1 rfl rfl)
theorem dX1_link_2 : decode cX1_link 2 = .ok (.iconst 0, 1) := dk_3 (dk_at dksX1_link_0 2 rfl rfl)
theorem dX1_link_3 : decode cX1_link 3 = .ok (.bipush 99, 2) := dk_16 99 (dk_at dksX1_link_0 3 rfl rfl)
theorem dX1_link_5 : decode cX1_link 5 = .ok (.invokestatic 105, 3) := dk_184 0 105 (dk_at dksX1_link_0 5 rfl rfl)
theorem dX1_link_8 : decode cX1_link 8 = .ok (.iload_n 1, 1) := dk_27 (dk_at dksX1_link_0 8 rfl rfl)
theorem dX1_link_9 : decode cX1_link 9 = .ok (.iload_n 2, 1) := dk_28 (dk_at dksX1_link_0 9 rfl rfl)
theorem dX1_link_10 : decode cX1_link 10 = .ok (.invokevirtual 186, 3) := dk_182 0 186 (dk_at dksX1_link_0 10 rfl rfl)
theorem dX1_link_13 : decode cX1_link 13 = .ok (.istore 4, 2) := dk_54 4 (dk_at dksX1_link_0 13 rfl rfl)
theorem dX1_link_15 : decode cX1_link 15 = .ok (.iload 4, 2) := dk_21 4 (dk_at dksX1_link_0 15 rfl rfl)
theorem dX1_link_17 : decode cX1_link 17 = .ok (.ifCond .ge 6, 3) := dk_156 0 6 (dk_at dksX1_link_0 17 rfl rfl)
theorem dX1_link_20 : decode cX1_link 20 = .ok (.iload 4, 2) := dk_21 4 (dk_at dksX1_link_0 20 rfl rfl)
theorem dX1_link_22 : decode cX1_link 22 = .ok (.ireturn, 1) := dk_172 (dk_at dksX1_link_0 22 rfl rfl)
theorem dX1_link_23 : decode cX1_link 23 = .ok (.aload_n 0, 1) := dk_42 (dk_at dksX1_link_0 23 rfl rfl)
theorem dX1_link_24 : decode cX1_link 24 = .ok (.iload_n 1, 1) := dk_27 (dk_at dksX1_link_1 0 rfl rfl)
theorem dX1_link_25 : decode cX1_link 25 = .ok (.invokevirtual 168, 3) := dk_182 0 168 (dk_at dksX1_link_1 1 rfl rfl)
theorem dX1_link_28 : decode cX1_link 28 = .ok (.ifCond .eq 13, 3) := dk_153 0 13 (dk_at dksX1_link_1 4 rfl rfl)
theorem dX1_link_31 : decode cX1_link 31 = .ok (.aload_n 0, 1) := dk_42 (dk_at dksX1_link_1 7 rfl rfl)
theorem dX1_link_32 : decode cX1_link 32 = .ok (.getfield 27, 3) := dk_180 0 27 (dk_at dksX1_link_1 8 rfl rfl)
theorem dX1_link_35 : decode cX1_link 35 = .ok (.iload_n 2, 1) := dk_28 (dk_at dksX1_link_1 11 rfl rfl)
theorem dX1_link_36 : decode cX1_link 36 = .ok (.iaload, 1) := dk_46 (dk_at dksX1_link_1 12 rfl rfl)
theorem dX1_link_37 : decode cX1_link 37 = .ok (.iconst 3, 1) := dk_6 (dk_at dksX1_link_1 13 rfl rfl)
theorem dX1_link_38 : decode cX1_link 38 = .ok (.if_icmp .ne 9, 3) := dk_160 0 9 (dk_at dksX1_link_1 14 rfl rfl)
theorem dX1_link_41 : decode cX1_link 41 = .ok (.aload_n 0, 1) := dk_42 (dk_at dksX1_link_1 17 rfl rfl)
theorem dX1_link_42 : decode cX1_link 42 = .ok (.iconst 3, 1) := dk_6 (dk_at dksX1_link_1 18 rfl rfl)
theorem dX1_link_43 : decode cX1_link 43 = .ok (.invokevirtual 119, 3) := dk_182 0 119 (dk_at dksX1_link_1 19 rfl rfl)
theorem dX1_link_46 : decode cX1_link 46 = .ok (.ireturn, 1) := dk_172 (dk_at dksX1_link_1 22 rfl rfl)
theorem dX1_link_47 : decode cX1_link 47 = .ok (.aload_n 0, 1) := dk_42 (dk_at dksX1_link_1 23 rfl rfl)
theorem dX1_link_48 : decode cX1_link 48 = .ok (.getfield 54, 3) := dk_180 0 54 (dk_at dksX1_link_2 0 rfl rfl)
theorem dX1_link_51 : decode cX1_link 51 = .ok (.bipush 8, 2) := dk_16 8 (dk_at dksX1_link_2 3 rfl rfl)
theorem dX1_link_53 : decode cX1_link 53 = .ok (.iload_n 1, 1) := dk_27 (dk_at dksX1_link_2 5 rfl rfl)
theorem dX1_link_54 : decode cX1_link 54 = .ok (.imul, 1) := dk_104 (dk_at dksX1_link_2 6 rfl rfl)
theorem dX1_link_55 : decode cX1_link 55 = .ok (.iload_n 2, 1) := dk_28 (dk_at dksX1_link_2 7 rfl rfl)
theorem dX1_link_56 : decode cX1_link 56 = .ok (.iadd, 1) := dk_96 (dk_at dksX1_link_2 8 rfl rfl)
theorem dX1_link_57 : decode cX1_link 57 = .ok (.iaload, 1) := dk_46 (dk_at dksX1_link_2 9 rfl rfl)
theorem dX1_link_58 : decode cX1_link 58 = .ok (.istore 5, 2) := dk_54 5 (dk_at dksX1_link_2 10 rfl rfl)
theorem dX1_link_60 : decode cX1_link 60 = .ok (.aload_n 0, 1) := dk_42 (dk_at dksX1_link_2 12 rfl rfl)
theorem dX1_link_61 : decode cX1_link 61 = .ok (.iload_n 1, 1) := dk_27 (dk_at dksX1_link_2 13 rfl rfl)
theorem dX1_link_62 : decode cX1_link 62 = .ok (.iload_n 2, 1) := dk_28 (dk_at dksX1_link_2 14 rfl rfl)
theorem dX1_link_63 : decode cX1_link 63 = .ok (.iload_n 3, 1) := dk_29 (dk_at dksX1_link_2 15 rfl rfl)
theorem dX1_link_64 : decode cX1_link 64 = .ok (.invokevirtual 171, 3) := dk_182 0 171 (dk_at dksX1_link_2 16 rfl rfl)
theorem dX1_link_67 : decode cX1_link 67 = .ok (.iload 5, 2) := dk_21 5 (dk_at dksX1_link_2 19 rfl rfl)
theorem dX1_link_69 : decode cX1_link 69 = .ok (.ireturn, 1) := dk_172 (dk_at dksX1_link_2 21 rfl rfl)
abbrev cX1_needTwo : ByteArray := prog_8_method_33_code
def yX1_needTwo : MethodName := ⟨RX1, "needTwo", "(ZII)I"⟩
def dkwX1_needTwo_2 : List UInt8 := [182, 0, 119, 172]
abbrev dktX1_needTwo_2 : List UInt8 := dkwX1_needTwo_2 ++ []
def dkwX1_needTwo_1 : List UInt8 := [180, 0, 23, 28, 51, 153, 0, 16, 42, 180, 0, 23, 29, 51, 153, 0, 7, 3, 167, 0, 8, 42, 4]
abbrev dktX1_needTwo_1 : List UInt8 := dkwX1_needTwo_1 ++ dktX1_needTwo_2
def dkwX1_needTwo_0 : List UInt8 := [28, 184, 0, 179, 153, 0, 14, 29, 184, 0, 179, 153, 0, 7, 27, 154, 0, 7, 2, 167, 0, 30, 42]
abbrev dktX1_needTwo_0 : List UInt8 := dkwX1_needTwo_0 ++ dktX1_needTwo_1
theorem dksX1_needTwo_0 : cX1_needTwo.data.toList.drop 0 = dktX1_needTwo_0 := by decide +kernel
theorem dksX1_needTwo_1 : cX1_needTwo.data.toList.drop 23 = dktX1_needTwo_1 := dk_seg dksX1_needTwo_0 23 rfl rfl
theorem dksX1_needTwo_2 : cX1_needTwo.data.toList.drop 46 = dktX1_needTwo_2 := dk_seg dksX1_needTwo_1 23 rfl rfl
theorem dX1_needTwo_0 : decode cX1_needTwo 0 = .ok (.iload_n 2, 1) := dk_28 (dk_at dksX1_needTwo_0 0 rfl rfl)
theorem dX1_needTwo_1 : decode cX1_needTwo 1 = .ok (.invokestatic 179, 3) := dk_184 0 179 (dk_at dksX1_needTwo_0 1 rfl rfl)
theorem dX1_needTwo_4 : decode cX1_needTwo 4 = .ok (.ifCond .eq 14, 3) := dk_153 0 14 (dk_at dksX1_needTwo_0 4 rfl rfl)
theorem dX1_needTwo_7 : decode cX1_needTwo 7 = .ok (.iload_n 3, 1) := dk_29 (dk_at dksX1_needTwo_0 7 rfl rfl)
theorem dX1_needTwo_8 : decode cX1_needTwo 8 = .ok (.invokestatic 179, 3) := dk_184 0 179 (dk_at dksX1_needTwo_0 8 rfl rfl)
theorem dX1_needTwo_11 : decode cX1_needTwo 11 = .ok (.ifCond .eq 7, 3) := dk_153 0 7 (dk_at dksX1_needTwo_0 11 rfl rfl)
theorem dX1_needTwo_14 : decode cX1_needTwo 14 = .ok (.iload_n 1, 1) := dk_27 (dk_at dksX1_needTwo_0 14 rfl rfl)
theorem dX1_needTwo_15 : decode cX1_needTwo 15 = .ok (.ifCond .ne 7, 3) := dk_154 0 7 (dk_at dksX1_needTwo_0 15 rfl rfl)
theorem dX1_needTwo_18 : decode cX1_needTwo 18 = .ok (.iconst (-1), 1) := dk_2 (dk_at dksX1_needTwo_0 18 rfl rfl)
theorem dX1_needTwo_19 : decode cX1_needTwo 19 = .ok (.goto 30, 3) := dk_167 0 30 (dk_at dksX1_needTwo_0 19 rfl rfl)
theorem dX1_needTwo_22 : decode cX1_needTwo 22 = .ok (.aload_n 0, 1) := dk_42 (dk_at dksX1_needTwo_0 22 rfl rfl)
theorem dX1_needTwo_23 : decode cX1_needTwo 23 = .ok (.getfield 23, 3) := dk_180 0 23 (dk_at dksX1_needTwo_1 0 rfl rfl)
theorem dX1_needTwo_26 : decode cX1_needTwo 26 = .ok (.iload_n 2, 1) := dk_28 (dk_at dksX1_needTwo_1 3 rfl rfl)
theorem dX1_needTwo_27 : decode cX1_needTwo 27 = .ok (.baload, 1) := dk_51 (dk_at dksX1_needTwo_1 4 rfl rfl)
theorem dX1_needTwo_28 : decode cX1_needTwo 28 = .ok (.ifCond .eq 16, 3) := dk_153 0 16 (dk_at dksX1_needTwo_1 5 rfl rfl)
theorem dX1_needTwo_31 : decode cX1_needTwo 31 = .ok (.aload_n 0, 1) := dk_42 (dk_at dksX1_needTwo_1 8 rfl rfl)
theorem dX1_needTwo_32 : decode cX1_needTwo 32 = .ok (.getfield 23, 3) := dk_180 0 23 (dk_at dksX1_needTwo_1 9 rfl rfl)
theorem dX1_needTwo_35 : decode cX1_needTwo 35 = .ok (.iload_n 3, 1) := dk_29 (dk_at dksX1_needTwo_1 12 rfl rfl)
theorem dX1_needTwo_36 : decode cX1_needTwo 36 = .ok (.baload, 1) := dk_51 (dk_at dksX1_needTwo_1 13 rfl rfl)
theorem dX1_needTwo_37 : decode cX1_needTwo 37 = .ok (.ifCond .eq 7, 3) := dk_153 0 7 (dk_at dksX1_needTwo_1 14 rfl rfl)
theorem dX1_needTwo_40 : decode cX1_needTwo 40 = .ok (.iconst 0, 1) := dk_3 (dk_at dksX1_needTwo_1 17 rfl rfl)
theorem dX1_needTwo_41 : decode cX1_needTwo 41 = .ok (.goto 8, 3) := dk_167 0 8 (dk_at dksX1_needTwo_1 18 rfl rfl)
theorem dX1_needTwo_44 : decode cX1_needTwo 44 = .ok (.aload_n 0, 1) := dk_42 (dk_at dksX1_needTwo_1 21 rfl rfl)
theorem dX1_needTwo_45 : decode cX1_needTwo 45 = .ok (.iconst 1, 1) := dk_4 (dk_at dksX1_needTwo_1 22 rfl rfl)
theorem dX1_needTwo_46 : decode cX1_needTwo 46 = .ok (.invokevirtual 119, 3) := dk_182 0 119 (dk_at dksX1_needTwo_2 0 rfl rfl)
theorem dX1_needTwo_49 : decode cX1_needTwo 49 = .ok (.ireturn, 1) := dk_172 (dk_at dksX1_needTwo_2 3 rfl rfl)
abbrev cX1_take : ByteArray := prog_8_method_39_code
def yX1_take : MethodName := ⟨RX1, "take", "(II)I"⟩
def dkwX1_take_1 : List UInt8 := [46, 54, 4, 42, 180, 0, 33, 27, 28, 79, 21, 4, 172]
abbrev dktX1_take_1 : List UInt8 := dkwX1_take_1 ++ []
def dkwX1_take_0 : List UInt8 := [42, 28, 3, 18, 153, 184, 0, 105, 27, 182, 0, 182, 62, 29, 156, 0, 5, 29, 172, 42, 180, 0, 33, 27]
abbrev dktX1_take_0 : List UInt8 := dkwX1_take_0 ++ dktX1_take_1
theorem dksX1_take_0 : cX1_take.data.toList.drop 0 = dktX1_take_0 := by decide +kernel
theorem dksX1_take_1 : cX1_take.data.toList.drop 24 = dktX1_take_1 := dk_seg dksX1_take_0 24 rfl rfl
theorem dX1_take_0 : decode cX1_take 0 = .ok (.aload_n 0, 1) := dk_42 (dk_at dksX1_take_0 0 rfl rfl)
theorem dX1_take_1 : decode cX1_take 1 = .ok (.iload_n 2, 1) := dk_28 (dk_at dksX1_take_0 1 rfl rfl)
theorem dX1_take_2 : decode cX1_take 2 = .ok (.iconst 0, 1) := dk_3 (dk_at dksX1_take_0 2 rfl rfl)
theorem dX1_take_3 : decode cX1_take 3 = .ok (.ldc 153, 2) := dk_18 153 (dk_at dksX1_take_0 3 rfl rfl)
theorem dX1_take_5 : decode cX1_take 5 = .ok (.invokestatic 105, 3) := dk_184 0 105 (dk_at dksX1_take_0 5 rfl rfl)
theorem dX1_take_8 : decode cX1_take 8 = .ok (.iload_n 1, 1) := dk_27 (dk_at dksX1_take_0 8 rfl rfl)
theorem dX1_take_9 : decode cX1_take 9 = .ok (.invokevirtual 182, 3) := dk_182 0 182 (dk_at dksX1_take_0 9 rfl rfl)
theorem dX1_take_12 : decode cX1_take 12 = .ok (.istore_n 3, 1) := dk_62 (dk_at dksX1_take_0 12 rfl rfl)
theorem dX1_take_13 : decode cX1_take 13 = .ok (.iload_n 3, 1) := dk_29 (dk_at dksX1_take_0 13 rfl rfl)
theorem dX1_take_14 : decode cX1_take 14 = .ok (.ifCond .ge 5, 3) := dk_156 0 5 (dk_at dksX1_take_0 14 rfl rfl)
theorem dX1_take_17 : decode cX1_take 17 = .ok (.iload_n 3, 1) := dk_29 (dk_at dksX1_take_0 17 rfl rfl)
theorem dX1_take_18 : decode cX1_take 18 = .ok (.ireturn, 1) := dk_172 (dk_at dksX1_take_0 18 rfl rfl)
theorem dX1_take_19 : decode cX1_take 19 = .ok (.aload_n 0, 1) := dk_42 (dk_at dksX1_take_0 19 rfl rfl)
theorem dX1_take_20 : decode cX1_take 20 = .ok (.getfield 33, 3) := dk_180 0 33 (dk_at dksX1_take_0 20 rfl rfl)
theorem dX1_take_23 : decode cX1_take 23 = .ok (.iload_n 1, 1) := dk_27 (dk_at dksX1_take_0 23 rfl rfl)
theorem dX1_take_24 : decode cX1_take 24 = .ok (.iaload, 1) := dk_46 (dk_at dksX1_take_1 0 rfl rfl)
theorem dX1_take_25 : decode cX1_take 25 = .ok (.istore 4, 2) := dk_54 4 (dk_at dksX1_take_1 1 rfl rfl)
theorem dX1_take_27 : decode cX1_take 27 = .ok (.aload_n 0, 1) := dk_42 (dk_at dksX1_take_1 3 rfl rfl)
theorem dX1_take_28 : decode cX1_take 28 = .ok (.getfield 33, 3) := dk_180 0 33 (dk_at dksX1_take_1 4 rfl rfl)
theorem dX1_take_31 : decode cX1_take 31 = .ok (.iload_n 1, 1) := dk_27 (dk_at dksX1_take_1 7 rfl rfl)
theorem dX1_take_32 : decode cX1_take 32 = .ok (.iload_n 2, 1) := dk_28 (dk_at dksX1_take_1 8 rfl rfl)
theorem dX1_take_33 : decode cX1_take 33 = .ok (.iastore, 1) := dk_79 (dk_at dksX1_take_1 9 rfl rfl)
theorem dX1_take_34 : decode cX1_take 34 = .ok (.iload 4, 2) := dk_21 4 (dk_at dksX1_take_1 10 rfl rfl)
theorem dX1_take_36 : decode cX1_take 36 = .ok (.ireturn, 1) := dk_172 (dk_at dksX1_take_1 12 rfl rfl)
abbrev cX1_told : ByteArray := prog_8_method_43_code
def yX1_told : MethodName := ⟨RX1, "told", "(II)I"⟩
def dkwX1_told_1 : List UInt8 := [182, 0, 197, 172]
abbrev dktX1_told_1 : List UInt8 := dkwX1_told_1 ++ []
def dkwX1_told_0 : List UInt8 := [42, 28, 3, 8, 184, 0, 105, 27, 182, 0, 182, 62, 29, 156, 0, 7, 29, 167, 0, 9, 42, 27, 28]
abbrev dktX1_told_0 : List UInt8 := dkwX1_told_0 ++ dktX1_told_1
theorem dksX1_told_0 : cX1_told.data.toList.drop 0 = dktX1_told_0 := by decide +kernel
theorem dksX1_told_1 : cX1_told.data.toList.drop 23 = dktX1_told_1 := dk_seg dksX1_told_0 23 rfl rfl
theorem dX1_told_0 : decode cX1_told 0 = .ok (.aload_n 0, 1) := dk_42 (dk_at dksX1_told_0 0 rfl rfl)
theorem dX1_told_1 : decode cX1_told 1 = .ok (.iload_n 2, 1) := dk_28 (dk_at dksX1_told_0 1 rfl rfl)
theorem dX1_told_2 : decode cX1_told 2 = .ok (.iconst 0, 1) := dk_3 (dk_at dksX1_told_0 2 rfl rfl)
theorem dX1_told_3 : decode cX1_told 3 = .ok (.iconst 5, 1) := dk_8 (dk_at dksX1_told_0 3 rfl rfl)
theorem dX1_told_4 : decode cX1_told 4 = .ok (.invokestatic 105, 3) := dk_184 0 105 (dk_at dksX1_told_0 4 rfl rfl)
theorem dX1_told_7 : decode cX1_told 7 = .ok (.iload_n 1, 1) := dk_27 (dk_at dksX1_told_0 7 rfl rfl)
theorem dX1_told_8 : decode cX1_told 8 = .ok (.invokevirtual 182, 3) := dk_182 0 182 (dk_at dksX1_told_0 8 rfl rfl)
theorem dX1_told_11 : decode cX1_told 11 = .ok (.istore_n 3, 1) := dk_62 (dk_at dksX1_told_0 11 rfl rfl)
theorem dX1_told_12 : decode cX1_told 12 = .ok (.iload_n 3, 1) := dk_29 (dk_at dksX1_told_0 12 rfl rfl)
theorem dX1_told_13 : decode cX1_told 13 = .ok (.ifCond .ge 7, 3) := dk_156 0 7 (dk_at dksX1_told_0 13 rfl rfl)
theorem dX1_told_16 : decode cX1_told 16 = .ok (.iload_n 3, 1) := dk_29 (dk_at dksX1_told_0 16 rfl rfl)
theorem dX1_told_17 : decode cX1_told 17 = .ok (.goto 9, 3) := dk_167 0 9 (dk_at dksX1_told_0 17 rfl rfl)
theorem dX1_told_20 : decode cX1_told 20 = .ok (.aload_n 0, 1) := dk_42 (dk_at dksX1_told_0 20 rfl rfl)
theorem dX1_told_21 : decode cX1_told 21 = .ok (.iload_n 1, 1) := dk_27 (dk_at dksX1_told_0 21 rfl rfl)
theorem dX1_told_22 : decode cX1_told 22 = .ok (.iload_n 2, 1) := dk_28 (dk_at dksX1_told_0 22 rfl rfl)
theorem dX1_told_23 : decode cX1_told 23 = .ok (.invokevirtual 197, 3) := dk_182 0 197 (dk_at dksX1_told_1 0 rfl rfl)
theorem dX1_told_26 : decode cX1_told 26 = .ok (.ireturn, 1) := dk_172 (dk_at dksX1_told_1 3 rfl rfl)
abbrev cX1_toldOf : ByteArray := prog_8_method_42_code
def yX1_toldOf : MethodName := ⟨RX1, "toldOf", "(II)I"⟩
def dkwX1_toldOf_3 : List UInt8 := [182, 0, 193, 172, 42, 27, 3, 182, 0, 193, 172, 42, 180, 0, 48, 27, 46, 172]
abbrev dktX1_toldOf_3 : List UInt8 := dkwX1_toldOf_3 ++ []
def dkwX1_toldOf_2 : List UInt8 := [42, 180, 0, 27, 27, 46, 172, 42, 180, 0, 30, 27, 46, 172, 42, 180, 0, 33, 27, 46, 172, 42, 27, 4]
abbrev dktX1_toldOf_2 : List UInt8 := dkwX1_toldOf_2 ++ dktX1_toldOf_3
def dkwX1_toldOf_1 : List UInt8 := [170, 0, 0, 0, 0, 0, 70, 0, 0, 0, 0, 0, 0, 0, 4, 0, 0, 0, 35, 0, 0, 0, 42, 0, 0, 0, 49, 0, 0, 0, 56, 0, 0, 0, 63]
abbrev dktX1_toldOf_1 : List UInt8 := dkwX1_toldOf_1 ++ dktX1_toldOf_2
def dkwX1_toldOf_0 : List UInt8 := [28]
abbrev dktX1_toldOf_0 : List UInt8 := dkwX1_toldOf_0 ++ dktX1_toldOf_1
theorem dksX1_toldOf_0 : cX1_toldOf.data.toList.drop 0 = dktX1_toldOf_0 := by decide +kernel
theorem dksX1_toldOf_1 : cX1_toldOf.data.toList.drop 1 = dktX1_toldOf_1 := dk_seg dksX1_toldOf_0 1 rfl rfl
theorem dksX1_toldOf_2 : cX1_toldOf.data.toList.drop 36 = dktX1_toldOf_2 := dk_seg dksX1_toldOf_1 35 rfl rfl
theorem dksX1_toldOf_3 : cX1_toldOf.data.toList.drop 60 = dktX1_toldOf_3 := dk_seg dksX1_toldOf_2 24 rfl rfl
theorem dX1_toldOf_0 : decode cX1_toldOf 0 = .ok (.iload_n 2, 1) := dk_28 (dk_at dksX1_toldOf_0 0 rfl rfl)
theorem dX1_toldOf_1 : decode cX1_toldOf 1 = .ok (.tableswitch 70 0 4 #[35, 42, 49, 56, 63], 35) := by decide +kernel
theorem dX1_toldOf_36 : decode cX1_toldOf 36 = .ok (.aload_n 0, 1) := dk_42 (dk_at dksX1_toldOf_2 0 rfl rfl)
theorem dX1_toldOf_37 : decode cX1_toldOf 37 = .ok (.getfield 27, 3) := dk_180 0 27 (dk_at dksX1_toldOf_2 1 rfl rfl)
theorem dX1_toldOf_40 : decode cX1_toldOf 40 = .ok (.iload_n 1, 1) := dk_27 (dk_at dksX1_toldOf_2 4 rfl rfl)
theorem dX1_toldOf_41 : decode cX1_toldOf 41 = .ok (.iaload, 1) := dk_46 (dk_at dksX1_toldOf_2 5 rfl rfl)
theorem dX1_toldOf_42 : decode cX1_toldOf 42 = .ok (.ireturn, 1) := dk_172 (dk_at dksX1_toldOf_2 6 rfl rfl)
theorem dX1_toldOf_43 : decode cX1_toldOf 43 = .ok (.aload_n 0, 1) := dk_42 (dk_at dksX1_toldOf_2 7 rfl rfl)
theorem dX1_toldOf_44 : decode cX1_toldOf 44 = .ok (.getfield 30, 3) := dk_180 0 30 (dk_at dksX1_toldOf_2 8 rfl rfl)
theorem dX1_toldOf_47 : decode cX1_toldOf 47 = .ok (.iload_n 1, 1) := dk_27 (dk_at dksX1_toldOf_2 11 rfl rfl)
theorem dX1_toldOf_48 : decode cX1_toldOf 48 = .ok (.iaload, 1) := dk_46 (dk_at dksX1_toldOf_2 12 rfl rfl)
theorem dX1_toldOf_49 : decode cX1_toldOf 49 = .ok (.ireturn, 1) := dk_172 (dk_at dksX1_toldOf_2 13 rfl rfl)
theorem dX1_toldOf_50 : decode cX1_toldOf 50 = .ok (.aload_n 0, 1) := dk_42 (dk_at dksX1_toldOf_2 14 rfl rfl)
theorem dX1_toldOf_51 : decode cX1_toldOf 51 = .ok (.getfield 33, 3) := dk_180 0 33 (dk_at dksX1_toldOf_2 15 rfl rfl)
theorem dX1_toldOf_54 : decode cX1_toldOf 54 = .ok (.iload_n 1, 1) := dk_27 (dk_at dksX1_toldOf_2 18 rfl rfl)
theorem dX1_toldOf_55 : decode cX1_toldOf 55 = .ok (.iaload, 1) := dk_46 (dk_at dksX1_toldOf_2 19 rfl rfl)
theorem dX1_toldOf_56 : decode cX1_toldOf 56 = .ok (.ireturn, 1) := dk_172 (dk_at dksX1_toldOf_2 20 rfl rfl)
theorem dX1_toldOf_57 : decode cX1_toldOf 57 = .ok (.aload_n 0, 1) := dk_42 (dk_at dksX1_toldOf_2 21 rfl rfl)
theorem dX1_toldOf_58 : decode cX1_toldOf 58 = .ok (.iload_n 1, 1) := dk_27 (dk_at dksX1_toldOf_2 22 rfl rfl)
theorem dX1_toldOf_59 : decode cX1_toldOf 59 = .ok (.iconst 1, 1) := dk_4 (dk_at dksX1_toldOf_2 23 rfl rfl)
theorem dX1_toldOf_60 : decode cX1_toldOf 60 = .ok (.invokevirtual 193, 3) := dk_182 0 193 (dk_at dksX1_toldOf_3 0 rfl rfl)
theorem dX1_toldOf_63 : decode cX1_toldOf 63 = .ok (.ireturn, 1) := dk_172 (dk_at dksX1_toldOf_3 3 rfl rfl)
theorem dX1_toldOf_64 : decode cX1_toldOf 64 = .ok (.aload_n 0, 1) := dk_42 (dk_at dksX1_toldOf_3 4 rfl rfl)
theorem dX1_toldOf_65 : decode cX1_toldOf 65 = .ok (.iload_n 1, 1) := dk_27 (dk_at dksX1_toldOf_3 5 rfl rfl)
theorem dX1_toldOf_66 : decode cX1_toldOf 66 = .ok (.iconst 0, 1) := dk_3 (dk_at dksX1_toldOf_3 6 rfl rfl)
theorem dX1_toldOf_67 : decode cX1_toldOf 67 = .ok (.invokevirtual 193, 3) := dk_182 0 193 (dk_at dksX1_toldOf_3 7 rfl rfl)
theorem dX1_toldOf_70 : decode cX1_toldOf 70 = .ok (.ireturn, 1) := dk_172 (dk_at dksX1_toldOf_3 10 rfl rfl)
theorem dX1_toldOf_71 : decode cX1_toldOf 71 = .ok (.aload_n 0, 1) := dk_42 (dk_at dksX1_toldOf_3 11 rfl rfl)
theorem dX1_toldOf_72 : decode cX1_toldOf 72 = .ok (.getfield 48, 3) := dk_180 0 48 (dk_at dksX1_toldOf_3 12 rfl rfl)
theorem dX1_toldOf_75 : decode cX1_toldOf 75 = .ok (.iload_n 1, 1) := dk_27 (dk_at dksX1_toldOf_3 15 rfl rfl)
theorem dX1_toldOf_76 : decode cX1_toldOf 76 = .ok (.iaload, 1) := dk_46 (dk_at dksX1_toldOf_3 16 rfl rfl)
theorem dX1_toldOf_77 : decode cX1_toldOf 77 = .ok (.ireturn, 1) := dk_172 (dk_at dksX1_toldOf_3 17 rfl rfl)
abbrev cX1_linksOf : ByteArray := prog_8_method_41_code
def yX1_linksOf : MethodName := ⟨RX1, "linksOf", "(IZ)I"⟩
def dkwX1_linksOf_2 : List UInt8 := [132, 4, 1, 167, 255, 211, 29, 172]
abbrev dktX1_linksOf_2 : List UInt8 := dkwX1_linksOf_2 ++ []
def dkwX1_linksOf_1 : List UInt8 := [153, 0, 20, 167, 0, 13, 42, 21, 4, 27, 182, 0, 190, 153, 0, 7, 4, 167, 0, 4, 3, 96, 62]
abbrev dktX1_linksOf_1 : List UInt8 := dkwX1_linksOf_1 ++ dktX1_linksOf_2
def dkwX1_linksOf_0 : List UInt8 := [3, 62, 3, 54, 4, 21, 4, 16, 8, 162, 0, 44, 29, 28, 153, 0, 16, 42, 27, 21, 4, 182, 0, 190]
abbrev dktX1_linksOf_0 : List UInt8 := dkwX1_linksOf_0 ++ dktX1_linksOf_1
theorem dksX1_linksOf_0 : cX1_linksOf.data.toList.drop 0 = dktX1_linksOf_0 := by decide +kernel
theorem dksX1_linksOf_1 : cX1_linksOf.data.toList.drop 24 = dktX1_linksOf_1 := dk_seg dksX1_linksOf_0 24 rfl rfl
theorem dksX1_linksOf_2 : cX1_linksOf.data.toList.drop 47 = dktX1_linksOf_2 := dk_seg dksX1_linksOf_1 23 rfl rfl
theorem dX1_linksOf_0 : decode cX1_linksOf 0 = .ok (.iconst 0, 1) := dk_3 (dk_at dksX1_linksOf_0 0 rfl rfl)
theorem dX1_linksOf_1 : decode cX1_linksOf 1 = .ok (.istore_n 3, 1) := dk_62 (dk_at dksX1_linksOf_0 1 rfl rfl)
theorem dX1_linksOf_2 : decode cX1_linksOf 2 = .ok (.iconst 0, 1) := dk_3 (dk_at dksX1_linksOf_0 2 rfl rfl)
theorem dX1_linksOf_3 : decode cX1_linksOf 3 = .ok (.istore 4, 2) := dk_54 4 (dk_at dksX1_linksOf_0 3 rfl rfl)
theorem dX1_linksOf_5 : decode cX1_linksOf 5 = .ok (.iload 4, 2) := dk_21 4 (dk_at dksX1_linksOf_0 5 rfl rfl)
theorem dX1_linksOf_7 : decode cX1_linksOf 7 = .ok (.bipush 8, 2) := dk_16 8 (dk_at dksX1_linksOf_0 7 rfl rfl)
theorem dX1_linksOf_9 : decode cX1_linksOf 9 = .ok (.if_icmp .ge 44, 3) := dk_162 0 44 (dk_at dksX1_linksOf_0 9 rfl rfl)
theorem dX1_linksOf_12 : decode cX1_linksOf 12 = .ok (.iload_n 3, 1) := dk_29 (dk_at dksX1_linksOf_0 12 rfl rfl)
theorem dX1_linksOf_13 : decode cX1_linksOf 13 = .ok (.iload_n 2, 1) := dk_28 (dk_at dksX1_linksOf_0 13 rfl rfl)
theorem dX1_linksOf_14 : decode cX1_linksOf 14 = .ok (.ifCond .eq 16, 3) := dk_153 0 16 (dk_at dksX1_linksOf_0 14 rfl rfl)
theorem dX1_linksOf_17 : decode cX1_linksOf 17 = .ok (.aload_n 0, 1) := dk_42 (dk_at dksX1_linksOf_0 17 rfl rfl)
theorem dX1_linksOf_18 : decode cX1_linksOf 18 = .ok (.iload_n 1, 1) := dk_27 (dk_at dksX1_linksOf_0 18 rfl rfl)
theorem dX1_linksOf_19 : decode cX1_linksOf 19 = .ok (.iload 4, 2) := dk_21 4 (dk_at dksX1_linksOf_0 19 rfl rfl)
theorem dX1_linksOf_21 : decode cX1_linksOf 21 = .ok (.invokevirtual 190, 3) := dk_182 0 190 (dk_at dksX1_linksOf_0 21 rfl rfl)
theorem dX1_linksOf_24 : decode cX1_linksOf 24 = .ok (.ifCond .eq 20, 3) := dk_153 0 20 (dk_at dksX1_linksOf_1 0 rfl rfl)
theorem dX1_linksOf_27 : decode cX1_linksOf 27 = .ok (.goto 13, 3) := dk_167 0 13 (dk_at dksX1_linksOf_1 3 rfl rfl)
theorem dX1_linksOf_30 : decode cX1_linksOf 30 = .ok (.aload_n 0, 1) := dk_42 (dk_at dksX1_linksOf_1 6 rfl rfl)
theorem dX1_linksOf_31 : decode cX1_linksOf 31 = .ok (.iload 4, 2) := dk_21 4 (dk_at dksX1_linksOf_1 7 rfl rfl)
theorem dX1_linksOf_33 : decode cX1_linksOf 33 = .ok (.iload_n 1, 1) := dk_27 (dk_at dksX1_linksOf_1 9 rfl rfl)
theorem dX1_linksOf_34 : decode cX1_linksOf 34 = .ok (.invokevirtual 190, 3) := dk_182 0 190 (dk_at dksX1_linksOf_1 10 rfl rfl)
theorem dX1_linksOf_37 : decode cX1_linksOf 37 = .ok (.ifCond .eq 7, 3) := dk_153 0 7 (dk_at dksX1_linksOf_1 13 rfl rfl)
theorem dX1_linksOf_40 : decode cX1_linksOf 40 = .ok (.iconst 1, 1) := dk_4 (dk_at dksX1_linksOf_1 16 rfl rfl)
theorem dX1_linksOf_41 : decode cX1_linksOf 41 = .ok (.goto 4, 3) := dk_167 0 4 (dk_at dksX1_linksOf_1 17 rfl rfl)
theorem dX1_linksOf_44 : decode cX1_linksOf 44 = .ok (.iconst 0, 1) := dk_3 (dk_at dksX1_linksOf_1 20 rfl rfl)
theorem dX1_linksOf_45 : decode cX1_linksOf 45 = .ok (.iadd, 1) := dk_96 (dk_at dksX1_linksOf_1 21 rfl rfl)
theorem dX1_linksOf_46 : decode cX1_linksOf 46 = .ok (.istore_n 3, 1) := dk_62 (dk_at dksX1_linksOf_1 22 rfl rfl)
theorem dX1_linksOf_47 : decode cX1_linksOf 47 = .ok (.iinc 4 1, 3) := dk_132 4 1 (dk_at dksX1_linksOf_2 0 rfl rfl)
theorem dX1_linksOf_50 : decode cX1_linksOf 50 = .ok (.goto (-45), 3) := dk_167 255 211 (dk_at dksX1_linksOf_2 3 rfl rfl)
theorem dX1_linksOf_53 : decode cX1_linksOf 53 = .ok (.iload_n 3, 1) := dk_29 (dk_at dksX1_linksOf_2 6 rfl rfl)
theorem dX1_linksOf_54 : decode cX1_linksOf 54 = .ok (.ireturn, 1) := dk_172 (dk_at dksX1_linksOf_2 7 rfl rfl)
abbrev cX1_isLink : ByteArray := prog_8_method_40_code
def yX1_isLink : MethodName := ⟨RX1, "isLink", "(II)Z"⟩
def dkwX1_isLink_0 : List UInt8 := [42, 180, 0, 54, 16, 8, 27, 104, 28, 96, 46, 158, 0, 7, 4, 167, 0, 4, 3, 172]
abbrev dktX1_isLink_0 : List UInt8 := dkwX1_isLink_0 ++ []
theorem dksX1_isLink_0 : cX1_isLink.data.toList.drop 0 = dktX1_isLink_0 := by decide +kernel
theorem dX1_isLink_0 : decode cX1_isLink 0 = .ok (.aload_n 0, 1) := dk_42 (dk_at dksX1_isLink_0 0 rfl rfl)
theorem dX1_isLink_1 : decode cX1_isLink 1 = .ok (.getfield 54, 3) := dk_180 0 54 (dk_at dksX1_isLink_0 1 rfl rfl)
theorem dX1_isLink_4 : decode cX1_isLink 4 = .ok (.bipush 8, 2) := dk_16 8 (dk_at dksX1_isLink_0 4 rfl rfl)
theorem dX1_isLink_6 : decode cX1_isLink 6 = .ok (.iload_n 1, 1) := dk_27 (dk_at dksX1_isLink_0 6 rfl rfl)
theorem dX1_isLink_7 : decode cX1_isLink 7 = .ok (.imul, 1) := dk_104 (dk_at dksX1_isLink_0 7 rfl rfl)
theorem dX1_isLink_8 : decode cX1_isLink 8 = .ok (.iload_n 2, 1) := dk_28 (dk_at dksX1_isLink_0 8 rfl rfl)
theorem dX1_isLink_9 : decode cX1_isLink 9 = .ok (.iadd, 1) := dk_96 (dk_at dksX1_isLink_0 9 rfl rfl)
theorem dX1_isLink_10 : decode cX1_isLink 10 = .ok (.iaload, 1) := dk_46 (dk_at dksX1_isLink_0 10 rfl rfl)
theorem dX1_isLink_11 : decode cX1_isLink 11 = .ok (.ifCond .le 7, 3) := dk_158 0 7 (dk_at dksX1_isLink_0 11 rfl rfl)
theorem dX1_isLink_14 : decode cX1_isLink 14 = .ok (.iconst 1, 1) := dk_4 (dk_at dksX1_isLink_0 14 rfl rfl)
theorem dX1_isLink_15 : decode cX1_isLink 15 = .ok (.goto 4, 3) := dk_167 0 4 (dk_at dksX1_isLink_0 15 rfl rfl)
theorem dX1_isLink_18 : decode cX1_isLink 18 = .ok (.iconst 0, 1) := dk_3 (dk_at dksX1_isLink_0 18 rfl rfl)
theorem dX1_isLink_19 : decode cX1_isLink 19 = .ok (.ireturn, 1) := dk_172 (dk_at dksX1_isLink_0 19 rfl rfl)
abbrev cX1_mark : ByteArray := prog_8_method_44_code
def yX1_mark : MethodName := ⟨RX1, "mark", "(II)I"⟩
def dkwX1_mark_4 : List UInt8 := [160, 0, 12, 42, 180, 0, 45, 27, 46, 167, 0, 9, 42, 180, 0, 51, 27, 46, 172]
abbrev dktX1_mark_4 : List UInt8 := dkwX1_mark_4 ++ []
def dkwX1_mark_3 : List UInt8 := [180, 0, 30, 27, 46, 167, 0, 37, 28, 4, 160, 0, 12, 42, 180, 0, 39, 27, 46, 167, 0, 23, 28, 5]
abbrev dktX1_mark_3 : List UInt8 := dkwX1_mark_3 ++ dktX1_mark_4
def dkwX1_mark_2 : List UInt8 := [4, 167, 0, 4, 3, 54, 4, 21, 4, 154, 0, 9, 42, 6, 182, 0, 119, 172, 28, 154, 0, 12, 42]
abbrev dktX1_mark_2 : List UInt8 := dkwX1_mark_2 ++ dktX1_mark_3
def dkwX1_mark_1 : List UInt8 := [180, 0, 27, 27, 46, 28, 159, 0, 18, 28, 5, 160, 0, 17, 42, 180, 0, 27, 27, 46, 6, 160, 0, 7]
abbrev dktX1_mark_1 : List UInt8 := dkwX1_mark_1 ++ dktX1_mark_2
def dkwX1_mark_0 : List UInt8 := [42, 28, 3, 6, 184, 0, 105, 27, 182, 0, 182, 62, 29, 156, 0, 5, 29, 172, 28, 153, 0, 28, 42]
abbrev dktX1_mark_0 : List UInt8 := dkwX1_mark_0 ++ dktX1_mark_1
theorem dksX1_mark_0 : cX1_mark.data.toList.drop 0 = dktX1_mark_0 := by decide +kernel
theorem dksX1_mark_1 : cX1_mark.data.toList.drop 23 = dktX1_mark_1 := dk_seg dksX1_mark_0 23 rfl rfl
theorem dksX1_mark_2 : cX1_mark.data.toList.drop 47 = dktX1_mark_2 := dk_seg dksX1_mark_1 24 rfl rfl
theorem dksX1_mark_3 : cX1_mark.data.toList.drop 70 = dktX1_mark_3 := dk_seg dksX1_mark_2 23 rfl rfl
theorem dksX1_mark_4 : cX1_mark.data.toList.drop 94 = dktX1_mark_4 := dk_seg dksX1_mark_3 24 rfl rfl
theorem dX1_mark_0 : decode cX1_mark 0 = .ok (.aload_n 0, 1) := dk_42 (dk_at dksX1_mark_0 0 rfl rfl)
theorem dX1_mark_1 : decode cX1_mark 1 = .ok (.iload_n 2, 1) := dk_28 (dk_at dksX1_mark_0 1 rfl rfl)
theorem dX1_mark_2 : decode cX1_mark 2 = .ok (.iconst 0, 1) := dk_3 (dk_at dksX1_mark_0 2 rfl rfl)
theorem dX1_mark_3 : decode cX1_mark 3 = .ok (.iconst 3, 1) := dk_6 (dk_at dksX1_mark_0 3 rfl rfl)
theorem dX1_mark_4 : decode cX1_mark 4 = .ok (.invokestatic 105, 3) := dk_184 0 105 (dk_at dksX1_mark_0 4 rfl rfl)
theorem dX1_mark_7 : decode cX1_mark 7 = .ok (.iload_n 1, 1) := dk_27 (dk_at dksX1_mark_0 7 rfl rfl)
theorem dX1_mark_8 : decode cX1_mark 8 = .ok (.invokevirtual 182, 3) := dk_182 0 182 (dk_at dksX1_mark_0 8 rfl rfl)
theorem dX1_mark_11 : decode cX1_mark 11 = .ok (.istore_n 3, 1) := dk_62 (dk_at dksX1_mark_0 11 rfl rfl)
theorem dX1_mark_12 : decode cX1_mark 12 = .ok (.iload_n 3, 1) := dk_29 (dk_at dksX1_mark_0 12 rfl rfl)
theorem dX1_mark_13 : decode cX1_mark 13 = .ok (.ifCond .ge 5, 3) := dk_156 0 5 (dk_at dksX1_mark_0 13 rfl rfl)
theorem dX1_mark_16 : decode cX1_mark 16 = .ok (.iload_n 3, 1) := dk_29 (dk_at dksX1_mark_0 16 rfl rfl)
theorem dX1_mark_17 : decode cX1_mark 17 = .ok (.ireturn, 1) := dk_172 (dk_at dksX1_mark_0 17 rfl rfl)
theorem dX1_mark_18 : decode cX1_mark 18 = .ok (.iload_n 2, 1) := dk_28 (dk_at dksX1_mark_0 18 rfl rfl)
theorem dX1_mark_19 : decode cX1_mark 19 = .ok (.ifCond .eq 28, 3) := dk_153 0 28 (dk_at dksX1_mark_0 19 rfl rfl)
theorem dX1_mark_22 : decode cX1_mark 22 = .ok (.aload_n 0, 1) := dk_42 (dk_at dksX1_mark_0 22 rfl rfl)
theorem dX1_mark_23 : decode cX1_mark 23 = .ok (.getfield 27, 3) := dk_180 0 27 (dk_at dksX1_mark_1 0 rfl rfl)
theorem dX1_mark_26 : decode cX1_mark 26 = .ok (.iload_n 1, 1) := dk_27 (dk_at dksX1_mark_1 3 rfl rfl)
theorem dX1_mark_27 : decode cX1_mark 27 = .ok (.iaload, 1) := dk_46 (dk_at dksX1_mark_1 4 rfl rfl)
theorem dX1_mark_28 : decode cX1_mark 28 = .ok (.iload_n 2, 1) := dk_28 (dk_at dksX1_mark_1 5 rfl rfl)
theorem dX1_mark_29 : decode cX1_mark 29 = .ok (.if_icmp .eq 18, 3) := dk_159 0 18 (dk_at dksX1_mark_1 6 rfl rfl)
theorem dX1_mark_32 : decode cX1_mark 32 = .ok (.iload_n 2, 1) := dk_28 (dk_at dksX1_mark_1 9 rfl rfl)
theorem dX1_mark_33 : decode cX1_mark 33 = .ok (.iconst 2, 1) := dk_5 (dk_at dksX1_mark_1 10 rfl rfl)
theorem dX1_mark_34 : decode cX1_mark 34 = .ok (.if_icmp .ne 17, 3) := dk_160 0 17 (dk_at dksX1_mark_1 11 rfl rfl)
theorem dX1_mark_37 : decode cX1_mark 37 = .ok (.aload_n 0, 1) := dk_42 (dk_at dksX1_mark_1 14 rfl rfl)
theorem dX1_mark_38 : decode cX1_mark 38 = .ok (.getfield 27, 3) := dk_180 0 27 (dk_at dksX1_mark_1 15 rfl rfl)
theorem dX1_mark_41 : decode cX1_mark 41 = .ok (.iload_n 1, 1) := dk_27 (dk_at dksX1_mark_1 18 rfl rfl)
theorem dX1_mark_42 : decode cX1_mark 42 = .ok (.iaload, 1) := dk_46 (dk_at dksX1_mark_1 19 rfl rfl)
theorem dX1_mark_43 : decode cX1_mark 43 = .ok (.iconst 3, 1) := dk_6 (dk_at dksX1_mark_1 20 rfl rfl)
theorem dX1_mark_44 : decode cX1_mark 44 = .ok (.if_icmp .ne 7, 3) := dk_160 0 7 (dk_at dksX1_mark_1 21 rfl rfl)
theorem dX1_mark_47 : decode cX1_mark 47 = .ok (.iconst 1, 1) := dk_4 (dk_at dksX1_mark_2 0 rfl rfl)
theorem dX1_mark_48 : decode cX1_mark 48 = .ok (.goto 4, 3) := dk_167 0 4 (dk_at dksX1_mark_2 1 rfl rfl)
theorem dX1_mark_51 : decode cX1_mark 51 = .ok (.iconst 0, 1) := dk_3 (dk_at dksX1_mark_2 4 rfl rfl)
theorem dX1_mark_52 : decode cX1_mark 52 = .ok (.istore 4, 2) := dk_54 4 (dk_at dksX1_mark_2 5 rfl rfl)
theorem dX1_mark_54 : decode cX1_mark 54 = .ok (.iload 4, 2) := dk_21 4 (dk_at dksX1_mark_2 7 rfl rfl)
theorem dX1_mark_56 : decode cX1_mark 56 = .ok (.ifCond .ne 9, 3) := dk_154 0 9 (dk_at dksX1_mark_2 9 rfl rfl)
theorem dX1_mark_59 : decode cX1_mark 59 = .ok (.aload_n 0, 1) := dk_42 (dk_at dksX1_mark_2 12 rfl rfl)
theorem dX1_mark_60 : decode cX1_mark 60 = .ok (.iconst 3, 1) := dk_6 (dk_at dksX1_mark_2 13 rfl rfl)
theorem dX1_mark_61 : decode cX1_mark 61 = .ok (.invokevirtual 119, 3) := dk_182 0 119 (dk_at dksX1_mark_2 14 rfl rfl)
theorem dX1_mark_64 : decode cX1_mark 64 = .ok (.ireturn, 1) := dk_172 (dk_at dksX1_mark_2 17 rfl rfl)
theorem dX1_mark_65 : decode cX1_mark 65 = .ok (.iload_n 2, 1) := dk_28 (dk_at dksX1_mark_2 18 rfl rfl)
theorem dX1_mark_66 : decode cX1_mark 66 = .ok (.ifCond .ne 12, 3) := dk_154 0 12 (dk_at dksX1_mark_2 19 rfl rfl)
theorem dX1_mark_69 : decode cX1_mark 69 = .ok (.aload_n 0, 1) := dk_42 (dk_at dksX1_mark_2 22 rfl rfl)
theorem dX1_mark_70 : decode cX1_mark 70 = .ok (.getfield 30, 3) := dk_180 0 30 (dk_at dksX1_mark_3 0 rfl rfl)
theorem dX1_mark_73 : decode cX1_mark 73 = .ok (.iload_n 1, 1) := dk_27 (dk_at dksX1_mark_3 3 rfl rfl)
theorem dX1_mark_74 : decode cX1_mark 74 = .ok (.iaload, 1) := dk_46 (dk_at dksX1_mark_3 4 rfl rfl)
theorem dX1_mark_75 : decode cX1_mark 75 = .ok (.goto 37, 3) := dk_167 0 37 (dk_at dksX1_mark_3 5 rfl rfl)
theorem dX1_mark_78 : decode cX1_mark 78 = .ok (.iload_n 2, 1) := dk_28 (dk_at dksX1_mark_3 8 rfl rfl)
theorem dX1_mark_79 : decode cX1_mark 79 = .ok (.iconst 1, 1) := dk_4 (dk_at dksX1_mark_3 9 rfl rfl)
theorem dX1_mark_80 : decode cX1_mark 80 = .ok (.if_icmp .ne 12, 3) := dk_160 0 12 (dk_at dksX1_mark_3 10 rfl rfl)
theorem dX1_mark_83 : decode cX1_mark 83 = .ok (.aload_n 0, 1) := dk_42 (dk_at dksX1_mark_3 13 rfl rfl)
theorem dX1_mark_84 : decode cX1_mark 84 = .ok (.getfield 39, 3) := dk_180 0 39 (dk_at dksX1_mark_3 14 rfl rfl)
theorem dX1_mark_87 : decode cX1_mark 87 = .ok (.iload_n 1, 1) := dk_27 (dk_at dksX1_mark_3 17 rfl rfl)
theorem dX1_mark_88 : decode cX1_mark 88 = .ok (.iaload, 1) := dk_46 (dk_at dksX1_mark_3 18 rfl rfl)
theorem dX1_mark_89 : decode cX1_mark 89 = .ok (.goto 23, 3) := dk_167 0 23 (dk_at dksX1_mark_3 19 rfl rfl)
theorem dX1_mark_92 : decode cX1_mark 92 = .ok (.iload_n 2, 1) := dk_28 (dk_at dksX1_mark_3 22 rfl rfl)
theorem dX1_mark_93 : decode cX1_mark 93 = .ok (.iconst 2, 1) := dk_5 (dk_at dksX1_mark_3 23 rfl rfl)
theorem dX1_mark_94 : decode cX1_mark 94 = .ok (.if_icmp .ne 12, 3) := dk_160 0 12 (dk_at dksX1_mark_4 0 rfl rfl)
theorem dX1_mark_97 : decode cX1_mark 97 = .ok (.aload_n 0, 1) := dk_42 (dk_at dksX1_mark_4 3 rfl rfl)
theorem dX1_mark_98 : decode cX1_mark 98 = .ok (.getfield 45, 3) := dk_180 0 45 (dk_at dksX1_mark_4 4 rfl rfl)
theorem dX1_mark_101 : decode cX1_mark 101 = .ok (.iload_n 1, 1) := dk_27 (dk_at dksX1_mark_4 7 rfl rfl)
theorem dX1_mark_102 : decode cX1_mark 102 = .ok (.iaload, 1) := dk_46 (dk_at dksX1_mark_4 8 rfl rfl)
theorem dX1_mark_103 : decode cX1_mark 103 = .ok (.goto 9, 3) := dk_167 0 9 (dk_at dksX1_mark_4 9 rfl rfl)
theorem dX1_mark_106 : decode cX1_mark 106 = .ok (.aload_n 0, 1) := dk_42 (dk_at dksX1_mark_4 12 rfl rfl)
theorem dX1_mark_107 : decode cX1_mark 107 = .ok (.getfield 51, 3) := dk_180 0 51 (dk_at dksX1_mark_4 13 rfl rfl)
theorem dX1_mark_110 : decode cX1_mark 110 = .ok (.iload_n 1, 1) := dk_27 (dk_at dksX1_mark_4 16 rfl rfl)
theorem dX1_mark_111 : decode cX1_mark 111 = .ok (.iaload, 1) := dk_46 (dk_at dksX1_mark_4 17 rfl rfl)
theorem dX1_mark_112 : decode cX1_mark 112 = .ok (.ireturn, 1) := dk_172 (dk_at dksX1_mark_4 18 rfl rfl)
abbrev cX1_mean : ByteArray := prog_8_method_47_code
def yX1_mean : MethodName := ⟨RX1, "mean", "()I"⟩
def dkwX1_mean_1 : List UInt8 := [172]
abbrev dktX1_mean_1 : List UInt8 := dkwX1_mean_1 ++ []
def dkwX1_mean_0 : List UInt8 := [42, 182, 0, 200, 154, 0, 11, 42, 7, 182, 0, 119, 167, 0, 12, 42, 182, 0, 204, 42, 182, 0, 200, 108]
abbrev dktX1_mean_0 : List UInt8 := dkwX1_mean_0 ++ dktX1_mean_1
theorem dksX1_mean_0 : cX1_mean.data.toList.drop 0 = dktX1_mean_0 := by decide +kernel
theorem dksX1_mean_1 : cX1_mean.data.toList.drop 24 = dktX1_mean_1 := dk_seg dksX1_mean_0 24 rfl rfl
theorem dX1_mean_0 : decode cX1_mean 0 = .ok (.aload_n 0, 1) := dk_42 (dk_at dksX1_mean_0 0 rfl rfl)
theorem dX1_mean_1 : decode cX1_mean 1 = .ok (.invokevirtual 200, 3) := dk_182 0 200 (dk_at dksX1_mean_0 1 rfl rfl)
theorem dX1_mean_4 : decode cX1_mean 4 = .ok (.ifCond .ne 11, 3) := dk_154 0 11 (dk_at dksX1_mean_0 4 rfl rfl)
theorem dX1_mean_7 : decode cX1_mean 7 = .ok (.aload_n 0, 1) := dk_42 (dk_at dksX1_mean_0 7 rfl rfl)
theorem dX1_mean_8 : decode cX1_mean 8 = .ok (.iconst 4, 1) := dk_7 (dk_at dksX1_mean_0 8 rfl rfl)
theorem dX1_mean_9 : decode cX1_mean 9 = .ok (.invokevirtual 119, 3) := dk_182 0 119 (dk_at dksX1_mean_0 9 rfl rfl)
theorem dX1_mean_12 : decode cX1_mean 12 = .ok (.goto 12, 3) := dk_167 0 12 (dk_at dksX1_mean_0 12 rfl rfl)
theorem dX1_mean_15 : decode cX1_mean 15 = .ok (.aload_n 0, 1) := dk_42 (dk_at dksX1_mean_0 15 rfl rfl)
theorem dX1_mean_16 : decode cX1_mean 16 = .ok (.invokevirtual 204, 3) := dk_182 0 204 (dk_at dksX1_mean_0 16 rfl rfl)
theorem dX1_mean_19 : decode cX1_mean 19 = .ok (.aload_n 0, 1) := dk_42 (dk_at dksX1_mean_0 19 rfl rfl)
theorem dX1_mean_20 : decode cX1_mean 20 = .ok (.invokevirtual 200, 3) := dk_182 0 200 (dk_at dksX1_mean_0 20 rfl rfl)
theorem dX1_mean_23 : decode cX1_mean 23 = .ok (.idiv, 1) := dk_108 (dk_at dksX1_mean_0 23 rfl rfl)
theorem dX1_mean_24 : decode cX1_mean 24 = .ok (.ireturn, 1) := dk_172 (dk_at dksX1_mean_1 0 rfl rfl)
abbrev cX1_there : ByteArray := prog_8_method_45_code
def yX1_there : MethodName := ⟨RX1, "there", "()I"⟩
def dkwX1_there_1 : List UInt8 := [3, 96, 60, 132, 2, 1, 167, 255, 230, 27, 172]
abbrev dktX1_there_1 : List UInt8 := dkwX1_there_1 ++ []
def dkwX1_there_0 : List UInt8 := [3, 60, 3, 61, 28, 16, 8, 162, 0, 26, 27, 42, 180, 0, 23, 28, 51, 153, 0, 7, 4, 167, 0, 4]
abbrev dktX1_there_0 : List UInt8 := dkwX1_there_0 ++ dktX1_there_1
theorem dksX1_there_0 : cX1_there.data.toList.drop 0 = dktX1_there_0 := by decide +kernel
theorem dksX1_there_1 : cX1_there.data.toList.drop 24 = dktX1_there_1 := dk_seg dksX1_there_0 24 rfl rfl
theorem dX1_there_0 : decode cX1_there 0 = .ok (.iconst 0, 1) := dk_3 (dk_at dksX1_there_0 0 rfl rfl)
theorem dX1_there_1 : decode cX1_there 1 = .ok (.istore_n 1, 1) := dk_60 (dk_at dksX1_there_0 1 rfl rfl)
theorem dX1_there_2 : decode cX1_there 2 = .ok (.iconst 0, 1) := dk_3 (dk_at dksX1_there_0 2 rfl rfl)
theorem dX1_there_3 : decode cX1_there 3 = .ok (.istore_n 2, 1) := dk_61 (dk_at dksX1_there_0 3 rfl rfl)
theorem dX1_there_4 : decode cX1_there 4 = .ok (.iload_n 2, 1) := dk_28 (dk_at dksX1_there_0 4 rfl rfl)
theorem dX1_there_5 : decode cX1_there 5 = .ok (.bipush 8, 2) := dk_16 8 (dk_at dksX1_there_0 5 rfl rfl)
theorem dX1_there_7 : decode cX1_there 7 = .ok (.if_icmp .ge 26, 3) := dk_162 0 26 (dk_at dksX1_there_0 7 rfl rfl)
theorem dX1_there_10 : decode cX1_there 10 = .ok (.iload_n 1, 1) := dk_27 (dk_at dksX1_there_0 10 rfl rfl)
theorem dX1_there_11 : decode cX1_there 11 = .ok (.aload_n 0, 1) := dk_42 (dk_at dksX1_there_0 11 rfl rfl)
theorem dX1_there_12 : decode cX1_there 12 = .ok (.getfield 23, 3) := dk_180 0 23 (dk_at dksX1_there_0 12 rfl rfl)
theorem dX1_there_15 : decode cX1_there 15 = .ok (.iload_n 2, 1) := dk_28 (dk_at dksX1_there_0 15 rfl rfl)
theorem dX1_there_16 : decode cX1_there 16 = .ok (.baload, 1) := dk_51 (dk_at dksX1_there_0 16 rfl rfl)
theorem dX1_there_17 : decode cX1_there 17 = .ok (.ifCond .eq 7, 3) := dk_153 0 7 (dk_at dksX1_there_0 17 rfl rfl)
theorem dX1_there_20 : decode cX1_there 20 = .ok (.iconst 1, 1) := dk_4 (dk_at dksX1_there_0 20 rfl rfl)
theorem dX1_there_21 : decode cX1_there 21 = .ok (.goto 4, 3) := dk_167 0 4 (dk_at dksX1_there_0 21 rfl rfl)
theorem dX1_there_24 : decode cX1_there 24 = .ok (.iconst 0, 1) := dk_3 (dk_at dksX1_there_1 0 rfl rfl)
theorem dX1_there_25 : decode cX1_there 25 = .ok (.iadd, 1) := dk_96 (dk_at dksX1_there_1 1 rfl rfl)
theorem dX1_there_26 : decode cX1_there 26 = .ok (.istore_n 1, 1) := dk_60 (dk_at dksX1_there_1 2 rfl rfl)
theorem dX1_there_27 : decode cX1_there 27 = .ok (.iinc 2 1, 3) := dk_132 2 1 (dk_at dksX1_there_1 3 rfl rfl)
theorem dX1_there_30 : decode cX1_there 30 = .ok (.goto (-26), 3) := dk_167 255 230 (dk_at dksX1_there_1 6 rfl rfl)
theorem dX1_there_33 : decode cX1_there 33 = .ok (.iload_n 1, 1) := dk_27 (dk_at dksX1_there_1 9 rfl rfl)
theorem dX1_there_34 : decode cX1_there 34 = .ok (.ireturn, 1) := dk_172 (dk_at dksX1_there_1 10 rfl rfl)
abbrev cX1_allStocks : ByteArray := prog_8_method_46_code
def yX1_allStocks : MethodName := ⟨RX1, "allStocks", "()I"⟩
def dkwX1_allStocks_1 : List UInt8 := [28, 46, 167, 0, 4, 3, 96, 60, 132, 2, 1, 167, 255, 225, 27, 172]
abbrev dktX1_allStocks_1 : List UInt8 := dkwX1_allStocks_1 ++ []
def dkwX1_allStocks_0 : List UInt8 := [3, 60, 3, 61, 28, 16, 8, 162, 0, 31, 27, 42, 180, 0, 23, 28, 51, 153, 0, 12, 42, 180, 0, 30]
abbrev dktX1_allStocks_0 : List UInt8 := dkwX1_allStocks_0 ++ dktX1_allStocks_1
theorem dksX1_allStocks_0 : cX1_allStocks.data.toList.drop 0 = dktX1_allStocks_0 := by decide +kernel
theorem dksX1_allStocks_1 : cX1_allStocks.data.toList.drop 24 = dktX1_allStocks_1 := dk_seg dksX1_allStocks_0 24 rfl rfl
theorem dX1_allStocks_0 : decode cX1_allStocks 0 = .ok (.iconst 0, 1) := dk_3 (dk_at dksX1_allStocks_0 0 rfl rfl)
theorem dX1_allStocks_1 : decode cX1_allStocks 1 = .ok (.istore_n 1, 1) := dk_60 (dk_at dksX1_allStocks_0 1 rfl rfl)
theorem dX1_allStocks_2 : decode cX1_allStocks 2 = .ok (.iconst 0, 1) := dk_3 (dk_at dksX1_allStocks_0 2 rfl rfl)
theorem dX1_allStocks_3 : decode cX1_allStocks 3 = .ok (.istore_n 2, 1) := dk_61 (dk_at dksX1_allStocks_0 3 rfl rfl)
theorem dX1_allStocks_4 : decode cX1_allStocks 4 = .ok (.iload_n 2, 1) := dk_28 (dk_at dksX1_allStocks_0 4 rfl rfl)
theorem dX1_allStocks_5 : decode cX1_allStocks 5 = .ok (.bipush 8, 2) := dk_16 8 (dk_at dksX1_allStocks_0 5 rfl rfl)
theorem dX1_allStocks_7 : decode cX1_allStocks 7 = .ok (.if_icmp .ge 31, 3) := dk_162 0 31 (dk_at dksX1_allStocks_0 7 rfl rfl)
theorem dX1_allStocks_10 : decode cX1_allStocks 10 = .ok (.iload_n 1, 1) := dk_27 (dk_at dksX1_allStocks_0 10 rfl rfl)
theorem dX1_allStocks_11 : decode cX1_allStocks 11 = .ok (.aload_n 0, 1) := dk_42 (dk_at dksX1_allStocks_0 11 rfl rfl)
theorem dX1_allStocks_12 : decode cX1_allStocks 12 = .ok (.getfield 23, 3) := dk_180 0 23 (dk_at dksX1_allStocks_0 12 rfl rfl)
theorem dX1_allStocks_15 : decode cX1_allStocks 15 = .ok (.iload_n 2, 1) := dk_28 (dk_at dksX1_allStocks_0 15 rfl rfl)
theorem dX1_allStocks_16 : decode cX1_allStocks 16 = .ok (.baload, 1) := dk_51 (dk_at dksX1_allStocks_0 16 rfl rfl)
theorem dX1_allStocks_17 : decode cX1_allStocks 17 = .ok (.ifCond .eq 12, 3) := dk_153 0 12 (dk_at dksX1_allStocks_0 17 rfl rfl)
theorem dX1_allStocks_20 : decode cX1_allStocks 20 = .ok (.aload_n 0, 1) := dk_42 (dk_at dksX1_allStocks_0 20 rfl rfl)
theorem dX1_allStocks_21 : decode cX1_allStocks 21 = .ok (.getfield 30, 3) := dk_180 0 30 (dk_at dksX1_allStocks_0 21 rfl rfl)
theorem dX1_allStocks_24 : decode cX1_allStocks 24 = .ok (.iload_n 2, 1) := dk_28 (dk_at dksX1_allStocks_1 0 rfl rfl)
theorem dX1_allStocks_25 : decode cX1_allStocks 25 = .ok (.iaload, 1) := dk_46 (dk_at dksX1_allStocks_1 1 rfl rfl)
theorem dX1_allStocks_26 : decode cX1_allStocks 26 = .ok (.goto 4, 3) := dk_167 0 4 (dk_at dksX1_allStocks_1 2 rfl rfl)
theorem dX1_allStocks_29 : decode cX1_allStocks 29 = .ok (.iconst 0, 1) := dk_3 (dk_at dksX1_allStocks_1 5 rfl rfl)
theorem dX1_allStocks_30 : decode cX1_allStocks 30 = .ok (.iadd, 1) := dk_96 (dk_at dksX1_allStocks_1 6 rfl rfl)
theorem dX1_allStocks_31 : decode cX1_allStocks 31 = .ok (.istore_n 1, 1) := dk_60 (dk_at dksX1_allStocks_1 7 rfl rfl)
theorem dX1_allStocks_32 : decode cX1_allStocks 32 = .ok (.iinc 2 1, 3) := dk_132 2 1 (dk_at dksX1_allStocks_1 8 rfl rfl)
theorem dX1_allStocks_35 : decode cX1_allStocks 35 = .ok (.goto (-31), 3) := dk_167 255 225 (dk_at dksX1_allStocks_1 11 rfl rfl)
theorem dX1_allStocks_38 : decode cX1_allStocks 38 = .ok (.iload_n 1, 1) := dk_27 (dk_at dksX1_allStocks_1 14 rfl rfl)
theorem dX1_allStocks_39 : decode cX1_allStocks 39 = .ok (.ireturn, 1) := dk_172 (dk_at dksX1_allStocks_1 15 rfl rfl)
abbrev cX1_pass : ByteArray := prog_8_method_52_code
def yX1_pass : MethodName := ⟨RX1, "pass", "(I)I"⟩
def dkwX1_pass_5 : List UInt8 := [180, 0, 229, 4, 96, 181, 0, 229, 132, 2, 1, 167, 255, 157, 42, 180, 0, 229, 172]
abbrev dktX1_pass_5 : List UInt8 := dkwX1_pass_5 ++ []
def dkwX1_pass_4 : List UInt8 := [180, 0, 48, 29, 46, 79, 42, 180, 0, 51, 29, 92, 46, 4, 96, 79, 132, 3, 1, 167, 255, 191, 42, 89]
abbrev dktX1_pass_4 : List UInt8 := dkwX1_pass_4 ++ dktX1_pass_5
def dkwX1_pass_3 : List UInt8 := [180, 0, 48, 29, 42, 180, 0, 226, 29, 184, 0, 240, 153, 0, 10, 42, 180, 0, 229, 167, 0, 9, 42]
abbrev dktX1_pass_3 : List UInt8 := dkwX1_pass_3 ++ dktX1_pass_4
def dkwX1_pass_2 : List UInt8 := [16, 8, 162, 0, 65, 42, 89, 180, 0, 237, 42, 180, 0, 76, 29, 46, 133, 97, 181, 0, 237, 42]
abbrev dktX1_pass_2 : List UInt8 := dkwX1_pass_2 ++ dktX1_pass_3
def dkwX1_pass_1 : List UInt8 := [16, 254, 172, 3, 61, 28, 27, 162, 0, 100, 42, 42, 180, 0, 30, 16, 247, 3, 182, 0, 233, 3, 62, 29]
abbrev dktX1_pass_1 : List UInt8 := dkwX1_pass_1 ++ dktX1_pass_2
def dkwX1_pass_0 : List UInt8 := [27, 3, 17, 1, 244, 184, 0, 105, 154, 0, 5, 2, 172, 42, 180, 0, 229, 27, 96, 18, 232, 164, 0, 6]
abbrev dktX1_pass_0 : List UInt8 := dkwX1_pass_0 ++ dktX1_pass_1
theorem dksX1_pass_0 : cX1_pass.data.toList.drop 0 = dktX1_pass_0 := by decide +kernel
theorem dksX1_pass_1 : cX1_pass.data.toList.drop 24 = dktX1_pass_1 := dk_seg dksX1_pass_0 24 rfl rfl
theorem dksX1_pass_2 : cX1_pass.data.toList.drop 48 = dktX1_pass_2 := dk_seg dksX1_pass_1 24 rfl rfl
theorem dksX1_pass_3 : cX1_pass.data.toList.drop 70 = dktX1_pass_3 := dk_seg dksX1_pass_2 22 rfl rfl
theorem dksX1_pass_4 : cX1_pass.data.toList.drop 93 = dktX1_pass_4 := dk_seg dksX1_pass_3 23 rfl rfl
theorem dksX1_pass_5 : cX1_pass.data.toList.drop 117 = dktX1_pass_5 := dk_seg dksX1_pass_4 24 rfl rfl
theorem dX1_pass_0 : decode cX1_pass 0 = .ok (.iload_n 1, 1) := dk_27 (dk_at dksX1_pass_0 0 rfl rfl)
theorem dX1_pass_1 : decode cX1_pass 1 = .ok (.iconst 0, 1) := dk_3 (dk_at dksX1_pass_0 1 rfl rfl)
theorem dX1_pass_2 : decode cX1_pass 2 = .ok (.sipush 500, 3) := dk_17 1 244 (dk_at dksX1_pass_0 2 rfl rfl)
theorem dX1_pass_5 : decode cX1_pass 5 = .ok (.invokestatic 105, 3) := dk_184 0 105 (dk_at dksX1_pass_0 5 rfl rfl)
theorem dX1_pass_8 : decode cX1_pass 8 = .ok (.ifCond .ne 5, 3) := dk_154 0 5 (dk_at dksX1_pass_0 8 rfl rfl)
theorem dX1_pass_11 : decode cX1_pass 11 = .ok (.iconst (-1), 1) := dk_2 (dk_at dksX1_pass_0 11 rfl rfl)
theorem dX1_pass_12 : decode cX1_pass 12 = .ok (.ireturn, 1) := dk_172 (dk_at dksX1_pass_0 12 rfl rfl)
theorem dX1_pass_13 : decode cX1_pass 13 = .ok (.aload_n 0, 1) := dk_42 (dk_at dksX1_pass_0 13 rfl rfl)
theorem dX1_pass_14 : decode cX1_pass 14 = .ok (.getfield 229, 3) := dk_180 0 229 (dk_at dksX1_pass_0 14 rfl rfl)
theorem dX1_pass_17 : decode cX1_pass 17 = .ok (.iload_n 1, 1) := dk_27 (dk_at dksX1_pass_0 17 rfl rfl)
theorem dX1_pass_18 : decode cX1_pass 18 = .ok (.iadd, 1) := dk_96 (dk_at dksX1_pass_0 18 rfl rfl)
theorem dX1_pass_19 : decode cX1_pass 19 = .ok (.ldc 232, 2) := dk_18 232 (dk_at dksX1_pass_0 19 rfl rfl)
theorem dX1_pass_21 : decode cX1_pass 21 = .ok (.if_icmp .le 6, 3) := dk_164 0 6 (dk_at dksX1_pass_0 21 rfl rfl)
theorem dX1_pass_24 : decode cX1_pass 24 = .ok (.bipush (-2), 2) := dk_16 254 (dk_at dksX1_pass_1 0 rfl rfl)
theorem dX1_pass_26 : decode cX1_pass 26 = .ok (.ireturn, 1) := dk_172 (dk_at dksX1_pass_1 2 rfl rfl)
theorem dX1_pass_27 : decode cX1_pass 27 = .ok (.iconst 0, 1) := dk_3 (dk_at dksX1_pass_1 3 rfl rfl)
theorem dX1_pass_28 : decode cX1_pass 28 = .ok (.istore_n 2, 1) := dk_61 (dk_at dksX1_pass_1 4 rfl rfl)
theorem dX1_pass_29 : decode cX1_pass 29 = .ok (.iload_n 2, 1) := dk_28 (dk_at dksX1_pass_1 5 rfl rfl)
theorem dX1_pass_30 : decode cX1_pass 30 = .ok (.iload_n 1, 1) := dk_27 (dk_at dksX1_pass_1 6 rfl rfl)
theorem dX1_pass_31 : decode cX1_pass 31 = .ok (.if_icmp .ge 100, 3) := dk_162 0 100 (dk_at dksX1_pass_1 7 rfl rfl)
theorem dX1_pass_34 : decode cX1_pass 34 = .ok (.aload_n 0, 1) := dk_42 (dk_at dksX1_pass_1 10 rfl rfl)
theorem dX1_pass_35 : decode cX1_pass 35 = .ok (.aload_n 0, 1) := dk_42 (dk_at dksX1_pass_1 11 rfl rfl)
theorem dX1_pass_36 : decode cX1_pass 36 = .ok (.getfield 30, 3) := dk_180 0 30 (dk_at dksX1_pass_1 12 rfl rfl)
theorem dX1_pass_39 : decode cX1_pass 39 = .ok (.bipush (-9), 2) := dk_16 247 (dk_at dksX1_pass_1 15 rfl rfl)
theorem dX1_pass_41 : decode cX1_pass 41 = .ok (.iconst 0, 1) := dk_3 (dk_at dksX1_pass_1 17 rfl rfl)
theorem dX1_pass_42 : decode cX1_pass 42 = .ok (.invokevirtual 233, 3) := dk_182 0 233 (dk_at dksX1_pass_1 18 rfl rfl)
theorem dX1_pass_45 : decode cX1_pass 45 = .ok (.iconst 0, 1) := dk_3 (dk_at dksX1_pass_1 21 rfl rfl)
theorem dX1_pass_46 : decode cX1_pass 46 = .ok (.istore_n 3, 1) := dk_62 (dk_at dksX1_pass_1 22 rfl rfl)
theorem dX1_pass_47 : decode cX1_pass 47 = .ok (.iload_n 3, 1) := dk_29 (dk_at dksX1_pass_1 23 rfl rfl)
theorem dX1_pass_48 : decode cX1_pass 48 = .ok (.bipush 8, 2) := dk_16 8 (dk_at dksX1_pass_2 0 rfl rfl)
theorem dX1_pass_50 : decode cX1_pass 50 = .ok (.if_icmp .ge 65, 3) := dk_162 0 65 (dk_at dksX1_pass_2 2 rfl rfl)
theorem dX1_pass_53 : decode cX1_pass 53 = .ok (.aload_n 0, 1) := dk_42 (dk_at dksX1_pass_2 5 rfl rfl)
theorem dX1_pass_54 : decode cX1_pass 54 = .ok (.dup, 1) := dk_89 (dk_at dksX1_pass_2 6 rfl rfl)
theorem dX1_pass_55 : decode cX1_pass 55 = .ok (.getfield 237, 3) := dk_180 0 237 (dk_at dksX1_pass_2 7 rfl rfl)
theorem dX1_pass_58 : decode cX1_pass 58 = .ok (.aload_n 0, 1) := dk_42 (dk_at dksX1_pass_2 10 rfl rfl)
theorem dX1_pass_59 : decode cX1_pass 59 = .ok (.getfield 76, 3) := dk_180 0 76 (dk_at dksX1_pass_2 11 rfl rfl)
theorem dX1_pass_62 : decode cX1_pass 62 = .ok (.iload_n 3, 1) := dk_29 (dk_at dksX1_pass_2 14 rfl rfl)
theorem dX1_pass_63 : decode cX1_pass 63 = .ok (.iaload, 1) := dk_46 (dk_at dksX1_pass_2 15 rfl rfl)
theorem dX1_pass_64 : decode cX1_pass 64 = .ok (.i2l, 1) := dk_133 (dk_at dksX1_pass_2 16 rfl rfl)
theorem dX1_pass_65 : decode cX1_pass 65 = .ok (.ladd, 1) := dk_97 (dk_at dksX1_pass_2 17 rfl rfl)
theorem dX1_pass_66 : decode cX1_pass 66 = .ok (.putfield 237, 3) := dk_181 0 237 (dk_at dksX1_pass_2 18 rfl rfl)
theorem dX1_pass_69 : decode cX1_pass 69 = .ok (.aload_n 0, 1) := dk_42 (dk_at dksX1_pass_2 21 rfl rfl)
theorem dX1_pass_70 : decode cX1_pass 70 = .ok (.getfield 48, 3) := dk_180 0 48 (dk_at dksX1_pass_3 0 rfl rfl)
theorem dX1_pass_73 : decode cX1_pass 73 = .ok (.iload_n 3, 1) := dk_29 (dk_at dksX1_pass_3 3 rfl rfl)
theorem dX1_pass_74 : decode cX1_pass 74 = .ok (.aload_n 0, 1) := dk_42 (dk_at dksX1_pass_3 4 rfl rfl)
theorem dX1_pass_75 : decode cX1_pass 75 = .ok (.getfield 226, 3) := dk_180 0 226 (dk_at dksX1_pass_3 5 rfl rfl)
theorem dX1_pass_78 : decode cX1_pass 78 = .ok (.iload_n 3, 1) := dk_29 (dk_at dksX1_pass_3 8 rfl rfl)
theorem dX1_pass_79 : decode cX1_pass 79 = .ok (.invokestatic 240, 3) := dk_184 0 240 (dk_at dksX1_pass_3 9 rfl rfl)
theorem dX1_pass_82 : decode cX1_pass 82 = .ok (.ifCond .eq 10, 3) := dk_153 0 10 (dk_at dksX1_pass_3 12 rfl rfl)
theorem dX1_pass_85 : decode cX1_pass 85 = .ok (.aload_n 0, 1) := dk_42 (dk_at dksX1_pass_3 15 rfl rfl)
theorem dX1_pass_86 : decode cX1_pass 86 = .ok (.getfield 229, 3) := dk_180 0 229 (dk_at dksX1_pass_3 16 rfl rfl)
theorem dX1_pass_89 : decode cX1_pass 89 = .ok (.goto 9, 3) := dk_167 0 9 (dk_at dksX1_pass_3 19 rfl rfl)
theorem dX1_pass_92 : decode cX1_pass 92 = .ok (.aload_n 0, 1) := dk_42 (dk_at dksX1_pass_3 22 rfl rfl)
theorem dX1_pass_93 : decode cX1_pass 93 = .ok (.getfield 48, 3) := dk_180 0 48 (dk_at dksX1_pass_4 0 rfl rfl)
theorem dX1_pass_96 : decode cX1_pass 96 = .ok (.iload_n 3, 1) := dk_29 (dk_at dksX1_pass_4 3 rfl rfl)
theorem dX1_pass_97 : decode cX1_pass 97 = .ok (.iaload, 1) := dk_46 (dk_at dksX1_pass_4 4 rfl rfl)
theorem dX1_pass_98 : decode cX1_pass 98 = .ok (.iastore, 1) := dk_79 (dk_at dksX1_pass_4 5 rfl rfl)
theorem dX1_pass_99 : decode cX1_pass 99 = .ok (.aload_n 0, 1) := dk_42 (dk_at dksX1_pass_4 6 rfl rfl)
theorem dX1_pass_100 : decode cX1_pass 100 = .ok (.getfield 51, 3) := dk_180 0 51 (dk_at dksX1_pass_4 7 rfl rfl)
theorem dX1_pass_103 : decode cX1_pass 103 = .ok (.iload_n 3, 1) := dk_29 (dk_at dksX1_pass_4 10 rfl rfl)
theorem dX1_pass_104 : decode cX1_pass 104 = .ok (.dup2, 1) := dk_92 (dk_at dksX1_pass_4 11 rfl rfl)
theorem dX1_pass_105 : decode cX1_pass 105 = .ok (.iaload, 1) := dk_46 (dk_at dksX1_pass_4 12 rfl rfl)
theorem dX1_pass_106 : decode cX1_pass 106 = .ok (.iconst 1, 1) := dk_4 (dk_at dksX1_pass_4 13 rfl rfl)
theorem dX1_pass_107 : decode cX1_pass 107 = .ok (.iadd, 1) := dk_96 (dk_at dksX1_pass_4 14 rfl rfl)
theorem dX1_pass_108 : decode cX1_pass 108 = .ok (.iastore, 1) := dk_79 (dk_at dksX1_pass_4 15 rfl rfl)
theorem dX1_pass_109 : decode cX1_pass 109 = .ok (.iinc 3 1, 3) := dk_132 3 1 (dk_at dksX1_pass_4 16 rfl rfl)
theorem dX1_pass_112 : decode cX1_pass 112 = .ok (.goto (-65), 3) := dk_167 255 191 (dk_at dksX1_pass_4 19 rfl rfl)
theorem dX1_pass_115 : decode cX1_pass 115 = .ok (.aload_n 0, 1) := dk_42 (dk_at dksX1_pass_4 22 rfl rfl)
theorem dX1_pass_116 : decode cX1_pass 116 = .ok (.dup, 1) := dk_89 (dk_at dksX1_pass_4 23 rfl rfl)
theorem dX1_pass_117 : decode cX1_pass 117 = .ok (.getfield 229, 3) := dk_180 0 229 (dk_at dksX1_pass_5 0 rfl rfl)
theorem dX1_pass_120 : decode cX1_pass 120 = .ok (.iconst 1, 1) := dk_4 (dk_at dksX1_pass_5 3 rfl rfl)
theorem dX1_pass_121 : decode cX1_pass 121 = .ok (.iadd, 1) := dk_96 (dk_at dksX1_pass_5 4 rfl rfl)
theorem dX1_pass_122 : decode cX1_pass 122 = .ok (.putfield 229, 3) := dk_181 0 229 (dk_at dksX1_pass_5 5 rfl rfl)
theorem dX1_pass_125 : decode cX1_pass 125 = .ok (.iinc 2 1, 3) := dk_132 2 1 (dk_at dksX1_pass_5 8 rfl rfl)
theorem dX1_pass_128 : decode cX1_pass 128 = .ok (.goto (-99), 3) := dk_167 255 157 (dk_at dksX1_pass_5 11 rfl rfl)
theorem dX1_pass_131 : decode cX1_pass 131 = .ok (.aload_n 0, 1) := dk_42 (dk_at dksX1_pass_5 14 rfl rfl)
theorem dX1_pass_132 : decode cX1_pass 132 = .ok (.getfield 229, 3) := dk_180 0 229 (dk_at dksX1_pass_5 15 rfl rfl)
theorem dX1_pass_135 : decode cX1_pass 135 = .ok (.ireturn, 1) := dk_172 (dk_at dksX1_pass_5 18 rfl rfl)
abbrev cX1_week : ByteArray := prog_8_method_51_code
def yX1_week : MethodName := ⟨RX1, "week", "([III)V"⟩
def dkwX1_week_8 : List UInt8 := [167, 255, 90, 177]
abbrev dktX1_week_8 : List UInt8 := dkwX1_week_8 ++ []
def dkwX1_week_7 : List UInt8 := [43, 21, 4, 46, 154, 0, 10, 4, 21, 4, 120, 167, 0, 4, 3, 128, 181, 0, 226, 132, 4, 1]
abbrev dktX1_week_7 : List UInt8 := dkwX1_week_7 ++ dktX1_week_8
def dkwX1_week_6 : List UInt8 := [21, 4, 22, 6, 136, 42, 180, 0, 76, 21, 4, 46, 100, 79, 42, 89, 180, 0, 226, 21, 5, 158, 0, 17]
abbrev dktX1_week_6 : List UInt8 := dkwX1_week_6 ++ dktX1_week_7
def dkwX1_week_5 : List UInt8 := [180, 0, 76, 21, 4, 21, 8, 133, 22, 6, 148, 156, 0, 8, 21, 8, 167, 0, 6, 22, 6, 136, 79, 43]
abbrev dktX1_week_5 : List UInt8 := dkwX1_week_5 ++ dktX1_week_6
def dkwX1_week_4 : List UInt8 := [55, 6, 21, 4, 28, 160, 0, 7, 29, 167, 0, 10, 42, 180, 0, 33, 21, 4, 46, 54, 8, 42]
abbrev dktX1_week_4 : List UInt8 := dkwX1_week_4 ++ dktX1_week_5
def dkwX1_week_3 : List UInt8 := [156, 0, 7, 9, 167, 0, 20, 22, 6, 20, 0, 207, 148, 158, 0, 9, 20, 0, 207, 167, 0, 5, 22, 6]
abbrev dktX1_week_3 : List UInt8 := dkwX1_week_3 ++ dktX1_week_4
def dkwX1_week_2 : List UInt8 := [46, 54, 5, 43, 21, 4, 46, 133, 42, 180, 0, 73, 21, 4, 47, 97, 55, 6, 22, 6, 9, 148]
abbrev dktX1_week_2 : List UInt8 := dkwX1_week_2 ++ dktX1_week_3
def dkwX1_week_1 : List UInt8 := [162, 0, 165, 42, 180, 0, 76, 21, 4, 3, 79, 42, 180, 0, 23, 21, 4, 51, 153, 0, 141, 43, 21, 4]
abbrev dktX1_week_1 : List UInt8 := dkwX1_week_1 ++ dktX1_week_2
def dkwX1_week_0 : List UInt8 := [42, 43, 182, 0, 219, 42, 43, 182, 0, 223, 42, 3, 181, 0, 226, 3, 54, 4, 21, 4, 16, 8]
abbrev dktX1_week_0 : List UInt8 := dkwX1_week_0 ++ dktX1_week_1
theorem dksX1_week_0 : cX1_week.data.toList.drop 0 = dktX1_week_0 := by decide +kernel
theorem dksX1_week_1 : cX1_week.data.toList.drop 22 = dktX1_week_1 := dk_seg dksX1_week_0 22 rfl rfl
theorem dksX1_week_2 : cX1_week.data.toList.drop 46 = dktX1_week_2 := dk_seg dksX1_week_1 24 rfl rfl
theorem dksX1_week_3 : cX1_week.data.toList.drop 68 = dktX1_week_3 := dk_seg dksX1_week_2 22 rfl rfl
theorem dksX1_week_4 : cX1_week.data.toList.drop 92 = dktX1_week_4 := dk_seg dksX1_week_3 24 rfl rfl
theorem dksX1_week_5 : cX1_week.data.toList.drop 114 = dktX1_week_5 := dk_seg dksX1_week_4 22 rfl rfl
theorem dksX1_week_6 : cX1_week.data.toList.drop 138 = dktX1_week_6 := dk_seg dksX1_week_5 24 rfl rfl
theorem dksX1_week_7 : cX1_week.data.toList.drop 162 = dktX1_week_7 := dk_seg dksX1_week_6 24 rfl rfl
theorem dksX1_week_8 : cX1_week.data.toList.drop 184 = dktX1_week_8 := dk_seg dksX1_week_7 22 rfl rfl
theorem dX1_week_0 : decode cX1_week 0 = .ok (.aload_n 0, 1) := dk_42 (dk_at dksX1_week_0 0 rfl rfl)
theorem dX1_week_1 : decode cX1_week 1 = .ok (.aload_n 1, 1) := dk_43 (dk_at dksX1_week_0 1 rfl rfl)
theorem dX1_week_2 : decode cX1_week 2 = .ok (.invokevirtual 219, 3) := dk_182 0 219 (dk_at dksX1_week_0 2 rfl rfl)
theorem dX1_week_5 : decode cX1_week 5 = .ok (.aload_n 0, 1) := dk_42 (dk_at dksX1_week_0 5 rfl rfl)
theorem dX1_week_6 : decode cX1_week 6 = .ok (.aload_n 1, 1) := dk_43 (dk_at dksX1_week_0 6 rfl rfl)
theorem dX1_week_7 : decode cX1_week 7 = .ok (.invokevirtual 223, 3) := dk_182 0 223 (dk_at dksX1_week_0 7 rfl rfl)
theorem dX1_week_10 : decode cX1_week 10 = .ok (.aload_n 0, 1) := dk_42 (dk_at dksX1_week_0 10 rfl rfl)
theorem dX1_week_11 : decode cX1_week 11 = .ok (.iconst 0, 1) := dk_3 (dk_at dksX1_week_0 11 rfl rfl)
theorem dX1_week_12 : decode cX1_week 12 = .ok (.putfield 226, 3) := dk_181 0 226 (dk_at dksX1_week_0 12 rfl rfl)
theorem dX1_week_15 : decode cX1_week 15 = .ok (.iconst 0, 1) := dk_3 (dk_at dksX1_week_0 15 rfl rfl)
theorem dX1_week_16 : decode cX1_week 16 = .ok (.istore 4, 2) := dk_54 4 (dk_at dksX1_week_0 16 rfl rfl)
theorem dX1_week_18 : decode cX1_week 18 = .ok (.iload 4, 2) := dk_21 4 (dk_at dksX1_week_0 18 rfl rfl)
theorem dX1_week_20 : decode cX1_week 20 = .ok (.bipush 8, 2) := dk_16 8 (dk_at dksX1_week_0 20 rfl rfl)
theorem dX1_week_22 : decode cX1_week 22 = .ok (.if_icmp .ge 165, 3) := dk_162 0 165 (dk_at dksX1_week_1 0 rfl rfl)
theorem dX1_week_25 : decode cX1_week 25 = .ok (.aload_n 0, 1) := dk_42 (dk_at dksX1_week_1 3 rfl rfl)
theorem dX1_week_26 : decode cX1_week 26 = .ok (.getfield 76, 3) := dk_180 0 76 (dk_at dksX1_week_1 4 rfl rfl)
theorem dX1_week_29 : decode cX1_week 29 = .ok (.iload 4, 2) := dk_21 4 (dk_at dksX1_week_1 7 rfl rfl)
theorem dX1_week_31 : decode cX1_week 31 = .ok (.iconst 0, 1) := dk_3 (dk_at dksX1_week_1 9 rfl rfl)
theorem dX1_week_32 : decode cX1_week 32 = .ok (.iastore, 1) := dk_79 (dk_at dksX1_week_1 10 rfl rfl)
theorem dX1_week_33 : decode cX1_week 33 = .ok (.aload_n 0, 1) := dk_42 (dk_at dksX1_week_1 11 rfl rfl)
theorem dX1_week_34 : decode cX1_week 34 = .ok (.getfield 23, 3) := dk_180 0 23 (dk_at dksX1_week_1 12 rfl rfl)
theorem dX1_week_37 : decode cX1_week 37 = .ok (.iload 4, 2) := dk_21 4 (dk_at dksX1_week_1 15 rfl rfl)
theorem dX1_week_39 : decode cX1_week 39 = .ok (.baload, 1) := dk_51 (dk_at dksX1_week_1 17 rfl rfl)
theorem dX1_week_40 : decode cX1_week 40 = .ok (.ifCond .eq 141, 3) := dk_153 0 141 (dk_at dksX1_week_1 18 rfl rfl)
theorem dX1_week_43 : decode cX1_week 43 = .ok (.aload_n 1, 1) := dk_43 (dk_at dksX1_week_1 21 rfl rfl)
theorem dX1_week_44 : decode cX1_week 44 = .ok (.iload 4, 2) := dk_21 4 (dk_at dksX1_week_1 22 rfl rfl)
theorem dX1_week_46 : decode cX1_week 46 = .ok (.iaload, 1) := dk_46 (dk_at dksX1_week_2 0 rfl rfl)
theorem dX1_week_47 : decode cX1_week 47 = .ok (.istore 5, 2) := dk_54 5 (dk_at dksX1_week_2 1 rfl rfl)
theorem dX1_week_49 : decode cX1_week 49 = .ok (.aload_n 1, 1) := dk_43 (dk_at dksX1_week_2 3 rfl rfl)
theorem dX1_week_50 : decode cX1_week 50 = .ok (.iload 4, 2) := dk_21 4 (dk_at dksX1_week_2 4 rfl rfl)
theorem dX1_week_52 : decode cX1_week 52 = .ok (.iaload, 1) := dk_46 (dk_at dksX1_week_2 6 rfl rfl)
theorem dX1_week_53 : decode cX1_week 53 = .ok (.i2l, 1) := dk_133 (dk_at dksX1_week_2 7 rfl rfl)
theorem dX1_week_54 : decode cX1_week 54 = .ok (.aload_n 0, 1) := dk_42 (dk_at dksX1_week_2 8 rfl rfl)
theorem dX1_week_55 : decode cX1_week 55 = .ok (.getfield 73, 3) := dk_180 0 73 (dk_at dksX1_week_2 9 rfl rfl)
theorem dX1_week_58 : decode cX1_week 58 = .ok (.iload 4, 2) := dk_21 4 (dk_at dksX1_week_2 12 rfl rfl)
theorem dX1_week_60 : decode cX1_week 60 = .ok (.laload, 1) := dk_47 (dk_at dksX1_week_2 14 rfl rfl)
theorem dX1_week_61 : decode cX1_week 61 = .ok (.ladd, 1) := dk_97 (dk_at dksX1_week_2 15 rfl rfl)
theorem dX1_week_62 : decode cX1_week 62 = .ok (.lstore 6, 2) := dk_55 6 (dk_at dksX1_week_2 16 rfl rfl)
theorem dX1_week_64 : decode cX1_week 64 = .ok (.lload 6, 2) := dk_22 6 (dk_at dksX1_week_2 18 rfl rfl)
theorem dX1_week_66 : decode cX1_week 66 = .ok (.lconst 0, 1) := dk_9 (dk_at dksX1_week_2 20 rfl rfl)
theorem dX1_week_67 : decode cX1_week 67 = .ok (.lcmp, 1) := dk_148 (dk_at dksX1_week_2 21 rfl rfl)
theorem dX1_week_68 : decode cX1_week 68 = .ok (.ifCond .ge 7, 3) := dk_156 0 7 (dk_at dksX1_week_3 0 rfl rfl)
theorem dX1_week_71 : decode cX1_week 71 = .ok (.lconst 0, 1) := dk_9 (dk_at dksX1_week_3 3 rfl rfl)
theorem dX1_week_72 : decode cX1_week 72 = .ok (.goto 20, 3) := dk_167 0 20 (dk_at dksX1_week_3 4 rfl rfl)
theorem dX1_week_75 : decode cX1_week 75 = .ok (.lload 6, 2) := dk_22 6 (dk_at dksX1_week_3 7 rfl rfl)
theorem dX1_week_77 : decode cX1_week 77 = .ok (.ldc2_w 207, 3) := dk_20 0 207 (dk_at dksX1_week_3 9 rfl rfl)
theorem dX1_week_80 : decode cX1_week 80 = .ok (.lcmp, 1) := dk_148 (dk_at dksX1_week_3 12 rfl rfl)
theorem dX1_week_81 : decode cX1_week 81 = .ok (.ifCond .le 9, 3) := dk_158 0 9 (dk_at dksX1_week_3 13 rfl rfl)
theorem dX1_week_84 : decode cX1_week 84 = .ok (.ldc2_w 207, 3) := dk_20 0 207 (dk_at dksX1_week_3 16 rfl rfl)
theorem dX1_week_87 : decode cX1_week 87 = .ok (.goto 5, 3) := dk_167 0 5 (dk_at dksX1_week_3 19 rfl rfl)
theorem dX1_week_90 : decode cX1_week 90 = .ok (.lload 6, 2) := dk_22 6 (dk_at dksX1_week_3 22 rfl rfl)
theorem dX1_week_92 : decode cX1_week 92 = .ok (.lstore 6, 2) := dk_55 6 (dk_at dksX1_week_4 0 rfl rfl)
theorem dX1_week_94 : decode cX1_week 94 = .ok (.iload 4, 2) := dk_21 4 (dk_at dksX1_week_4 2 rfl rfl)
theorem dX1_week_96 : decode cX1_week 96 = .ok (.iload_n 2, 1) := dk_28 (dk_at dksX1_week_4 4 rfl rfl)
theorem dX1_week_97 : decode cX1_week 97 = .ok (.if_icmp .ne 7, 3) := dk_160 0 7 (dk_at dksX1_week_4 5 rfl rfl)
theorem dX1_week_100 : decode cX1_week 100 = .ok (.iload_n 3, 1) := dk_29 (dk_at dksX1_week_4 8 rfl rfl)
theorem dX1_week_101 : decode cX1_week 101 = .ok (.goto 10, 3) := dk_167 0 10 (dk_at dksX1_week_4 9 rfl rfl)
theorem dX1_week_104 : decode cX1_week 104 = .ok (.aload_n 0, 1) := dk_42 (dk_at dksX1_week_4 12 rfl rfl)
theorem dX1_week_105 : decode cX1_week 105 = .ok (.getfield 33, 3) := dk_180 0 33 (dk_at dksX1_week_4 13 rfl rfl)
theorem dX1_week_108 : decode cX1_week 108 = .ok (.iload 4, 2) := dk_21 4 (dk_at dksX1_week_4 16 rfl rfl)
theorem dX1_week_110 : decode cX1_week 110 = .ok (.iaload, 1) := dk_46 (dk_at dksX1_week_4 18 rfl rfl)
theorem dX1_week_111 : decode cX1_week 111 = .ok (.istore 8, 2) := dk_54 8 (dk_at dksX1_week_4 19 rfl rfl)
theorem dX1_week_113 : decode cX1_week 113 = .ok (.aload_n 0, 1) := dk_42 (dk_at dksX1_week_4 21 rfl rfl)
theorem dX1_week_114 : decode cX1_week 114 = .ok (.getfield 76, 3) := dk_180 0 76 (dk_at dksX1_week_5 0 rfl rfl)
theorem dX1_week_117 : decode cX1_week 117 = .ok (.iload 4, 2) := dk_21 4 (dk_at dksX1_week_5 3 rfl rfl)
theorem dX1_week_119 : decode cX1_week 119 = .ok (.iload 8, 2) := dk_21 8 (dk_at dksX1_week_5 5 rfl rfl)
theorem dX1_week_121 : decode cX1_week 121 = .ok (.i2l, 1) := dk_133 (dk_at dksX1_week_5 7 rfl rfl)
theorem dX1_week_122 : decode cX1_week 122 = .ok (.lload 6, 2) := dk_22 6 (dk_at dksX1_week_5 8 rfl rfl)
theorem dX1_week_124 : decode cX1_week 124 = .ok (.lcmp, 1) := dk_148 (dk_at dksX1_week_5 10 rfl rfl)
theorem dX1_week_125 : decode cX1_week 125 = .ok (.ifCond .ge 8, 3) := dk_156 0 8 (dk_at dksX1_week_5 11 rfl rfl)
theorem dX1_week_128 : decode cX1_week 128 = .ok (.iload 8, 2) := dk_21 8 (dk_at dksX1_week_5 14 rfl rfl)
theorem dX1_week_130 : decode cX1_week 130 = .ok (.goto 6, 3) := dk_167 0 6 (dk_at dksX1_week_5 16 rfl rfl)
theorem dX1_week_133 : decode cX1_week 133 = .ok (.lload 6, 2) := dk_22 6 (dk_at dksX1_week_5 19 rfl rfl)
theorem dX1_week_135 : decode cX1_week 135 = .ok (.l2i, 1) := dk_136 (dk_at dksX1_week_5 21 rfl rfl)
theorem dX1_week_136 : decode cX1_week 136 = .ok (.iastore, 1) := dk_79 (dk_at dksX1_week_5 22 rfl rfl)
theorem dX1_week_137 : decode cX1_week 137 = .ok (.aload_n 1, 1) := dk_43 (dk_at dksX1_week_5 23 rfl rfl)
theorem dX1_week_138 : decode cX1_week 138 = .ok (.iload 4, 2) := dk_21 4 (dk_at dksX1_week_6 0 rfl rfl)
theorem dX1_week_140 : decode cX1_week 140 = .ok (.lload 6, 2) := dk_22 6 (dk_at dksX1_week_6 2 rfl rfl)
theorem dX1_week_142 : decode cX1_week 142 = .ok (.l2i, 1) := dk_136 (dk_at dksX1_week_6 4 rfl rfl)
theorem dX1_week_143 : decode cX1_week 143 = .ok (.aload_n 0, 1) := dk_42 (dk_at dksX1_week_6 5 rfl rfl)
theorem dX1_week_144 : decode cX1_week 144 = .ok (.getfield 76, 3) := dk_180 0 76 (dk_at dksX1_week_6 6 rfl rfl)
theorem dX1_week_147 : decode cX1_week 147 = .ok (.iload 4, 2) := dk_21 4 (dk_at dksX1_week_6 9 rfl rfl)
theorem dX1_week_149 : decode cX1_week 149 = .ok (.iaload, 1) := dk_46 (dk_at dksX1_week_6 11 rfl rfl)
theorem dX1_week_150 : decode cX1_week 150 = .ok (.isub, 1) := dk_100 (dk_at dksX1_week_6 12 rfl rfl)
theorem dX1_week_151 : decode cX1_week 151 = .ok (.iastore, 1) := dk_79 (dk_at dksX1_week_6 13 rfl rfl)
theorem dX1_week_152 : decode cX1_week 152 = .ok (.aload_n 0, 1) := dk_42 (dk_at dksX1_week_6 14 rfl rfl)
theorem dX1_week_153 : decode cX1_week 153 = .ok (.dup, 1) := dk_89 (dk_at dksX1_week_6 15 rfl rfl)
theorem dX1_week_154 : decode cX1_week 154 = .ok (.getfield 226, 3) := dk_180 0 226 (dk_at dksX1_week_6 16 rfl rfl)
theorem dX1_week_157 : decode cX1_week 157 = .ok (.iload 5, 2) := dk_21 5 (dk_at dksX1_week_6 19 rfl rfl)
theorem dX1_week_159 : decode cX1_week 159 = .ok (.ifCond .le 17, 3) := dk_158 0 17 (dk_at dksX1_week_6 21 rfl rfl)
theorem dX1_week_162 : decode cX1_week 162 = .ok (.aload_n 1, 1) := dk_43 (dk_at dksX1_week_7 0 rfl rfl)
theorem dX1_week_163 : decode cX1_week 163 = .ok (.iload 4, 2) := dk_21 4 (dk_at dksX1_week_7 1 rfl rfl)
theorem dX1_week_165 : decode cX1_week 165 = .ok (.iaload, 1) := dk_46 (dk_at dksX1_week_7 3 rfl rfl)
theorem dX1_week_166 : decode cX1_week 166 = .ok (.ifCond .ne 10, 3) := dk_154 0 10 (dk_at dksX1_week_7 4 rfl rfl)
theorem dX1_week_169 : decode cX1_week 169 = .ok (.iconst 1, 1) := dk_4 (dk_at dksX1_week_7 7 rfl rfl)
theorem dX1_week_170 : decode cX1_week 170 = .ok (.iload 4, 2) := dk_21 4 (dk_at dksX1_week_7 8 rfl rfl)
theorem dX1_week_172 : decode cX1_week 172 = .ok (.ishl, 1) := dk_120 (dk_at dksX1_week_7 10 rfl rfl)
theorem dX1_week_173 : decode cX1_week 173 = .ok (.goto 4, 3) := dk_167 0 4 (dk_at dksX1_week_7 11 rfl rfl)
theorem dX1_week_176 : decode cX1_week 176 = .ok (.iconst 0, 1) := dk_3 (dk_at dksX1_week_7 14 rfl rfl)
theorem dX1_week_177 : decode cX1_week 177 = .ok (.ior, 1) := dk_128 (dk_at dksX1_week_7 15 rfl rfl)
theorem dX1_week_178 : decode cX1_week 178 = .ok (.putfield 226, 3) := dk_181 0 226 (dk_at dksX1_week_7 16 rfl rfl)
theorem dX1_week_181 : decode cX1_week 181 = .ok (.iinc 4 1, 3) := dk_132 4 1 (dk_at dksX1_week_7 19 rfl rfl)
theorem dX1_week_184 : decode cX1_week 184 = .ok (.goto (-166), 3) := dk_167 255 90 (dk_at dksX1_week_8 0 rfl rfl)
theorem dX1_week_187 : decode cX1_week 187 = .ok (.return_, 1) := dk_177 (dk_at dksX1_week_8 3 rfl rfl)
abbrev cX1_layWants : ByteArray := prog_8_method_49_code
def yX1_layWants : MethodName := ⟨RX1, "layWants", "([I)V"⟩
def dkwX1_layWants_5 : List UInt8 := [132, 2, 1, 167, 255, 138, 177]
abbrev dktX1_layWants_5 : List UInt8 := dkwX1_layWants_5 ++ []
def dkwX1_layWants_4 : List UInt8 := [16, 8, 21, 5, 104, 28, 96, 47, 43, 28, 46, 133, 105, 33, 109, 80, 132, 5, 1, 167, 255, 215]
abbrev dktX1_layWants_4 : List UInt8 := dkwX1_layWants_4 ++ dktX1_layWants_5
def dkwX1_layWants_3 : List UInt8 := [54, 5, 21, 5, 16, 8, 162, 0, 40, 42, 180, 0, 69, 16, 8, 21, 5, 104, 28, 96, 42, 180, 0, 69]
abbrev dktX1_layWants_3 : List UInt8 := dkwX1_layWants_3 ++ dktX1_layWants_4
def dkwX1_layWants_2 : List UInt8 := [21, 5, 104, 28, 96, 47, 97, 66, 132, 5, 1, 167, 255, 211, 33, 43, 28, 46, 133, 148, 158, 0, 50, 3]
abbrev dktX1_layWants_2 : List UInt8 := dkwX1_layWants_2 ++ dktX1_layWants_3
def dkwX1_layWants_1 : List UInt8 := [16, 8, 21, 5, 104, 28, 96, 42, 21, 5, 28, 43, 182, 0, 209, 80, 33, 42, 180, 0, 69, 16, 8]
abbrev dktX1_layWants_1 : List UInt8 := dkwX1_layWants_1 ++ dktX1_layWants_2
def dkwX1_layWants_0 : List UInt8 := [3, 61, 28, 16, 8, 162, 0, 118, 9, 66, 3, 54, 5, 21, 5, 16, 8, 162, 0, 44, 42, 180, 0, 69]
abbrev dktX1_layWants_0 : List UInt8 := dkwX1_layWants_0 ++ dktX1_layWants_1
theorem dksX1_layWants_0 : cX1_layWants.data.toList.drop 0 = dktX1_layWants_0 := by decide +kernel
theorem dksX1_layWants_1 : cX1_layWants.data.toList.drop 24 = dktX1_layWants_1 := dk_seg dksX1_layWants_0 24 rfl rfl
theorem dksX1_layWants_2 : cX1_layWants.data.toList.drop 47 = dktX1_layWants_2 := dk_seg dksX1_layWants_1 23 rfl rfl
theorem dksX1_layWants_3 : cX1_layWants.data.toList.drop 71 = dktX1_layWants_3 := dk_seg dksX1_layWants_2 24 rfl rfl
theorem dksX1_layWants_4 : cX1_layWants.data.toList.drop 95 = dktX1_layWants_4 := dk_seg dksX1_layWants_3 24 rfl rfl
theorem dksX1_layWants_5 : cX1_layWants.data.toList.drop 117 = dktX1_layWants_5 := dk_seg dksX1_layWants_4 22 rfl rfl
theorem dX1_layWants_0 : decode cX1_layWants 0 = .ok (.iconst 0, 1) := dk_3 (dk_at dksX1_layWants_0 0 rfl rfl)
theorem dX1_layWants_1 : decode cX1_layWants 1 = .ok (.istore_n 2, 1) := dk_61 (dk_at dksX1_layWants_0 1 rfl rfl)
theorem dX1_layWants_2 : decode cX1_layWants 2 = .ok (.iload_n 2, 1) := dk_28 (dk_at dksX1_layWants_0 2 rfl rfl)
theorem dX1_layWants_3 : decode cX1_layWants 3 = .ok (.bipush 8, 2) := dk_16 8 (dk_at dksX1_layWants_0 3 rfl rfl)
theorem dX1_layWants_5 : decode cX1_layWants 5 = .ok (.if_icmp .ge 118, 3) := dk_162 0 118 (dk_at dksX1_layWants_0 5 rfl rfl)
theorem dX1_layWants_8 : decode cX1_layWants 8 = .ok (.lconst 0, 1) := dk_9 (dk_at dksX1_layWants_0 8 rfl rfl)
theorem dX1_layWants_9 : decode cX1_layWants 9 = .ok (.lstore_n 3, 1) := dk_66 (dk_at dksX1_layWants_0 9 rfl rfl)
theorem dX1_layWants_10 : decode cX1_layWants 10 = .ok (.iconst 0, 1) := dk_3 (dk_at dksX1_layWants_0 10 rfl rfl)
theorem dX1_layWants_11 : decode cX1_layWants 11 = .ok (.istore 5, 2) := dk_54 5 (dk_at dksX1_layWants_0 11 rfl rfl)
theorem dX1_layWants_13 : decode cX1_layWants 13 = .ok (.iload 5, 2) := dk_21 5 (dk_at dksX1_layWants_0 13 rfl rfl)
theorem dX1_layWants_15 : decode cX1_layWants 15 = .ok (.bipush 8, 2) := dk_16 8 (dk_at dksX1_layWants_0 15 rfl rfl)
theorem dX1_layWants_17 : decode cX1_layWants 17 = .ok (.if_icmp .ge 44, 3) := dk_162 0 44 (dk_at dksX1_layWants_0 17 rfl rfl)
theorem dX1_layWants_20 : decode cX1_layWants 20 = .ok (.aload_n 0, 1) := dk_42 (dk_at dksX1_layWants_0 20 rfl rfl)
theorem dX1_layWants_21 : decode cX1_layWants 21 = .ok (.getfield 69, 3) := dk_180 0 69 (dk_at dksX1_layWants_0 21 rfl rfl)
theorem dX1_layWants_24 : decode cX1_layWants 24 = .ok (.bipush 8, 2) := dk_16 8 (dk_at dksX1_layWants_1 0 rfl rfl)
theorem dX1_layWants_26 : decode cX1_layWants 26 = .ok (.iload 5, 2) := dk_21 5 (dk_at dksX1_layWants_1 2 rfl rfl)
theorem dX1_layWants_28 : decode cX1_layWants 28 = .ok (.imul, 1) := dk_104 (dk_at dksX1_layWants_1 4 rfl rfl)
theorem dX1_layWants_29 : decode cX1_layWants 29 = .ok (.iload_n 2, 1) := dk_28 (dk_at dksX1_layWants_1 5 rfl rfl)
theorem dX1_layWants_30 : decode cX1_layWants 30 = .ok (.iadd, 1) := dk_96 (dk_at dksX1_layWants_1 6 rfl rfl)
theorem dX1_layWants_31 : decode cX1_layWants 31 = .ok (.aload_n 0, 1) := dk_42 (dk_at dksX1_layWants_1 7 rfl rfl)
theorem dX1_layWants_32 : decode cX1_layWants 32 = .ok (.iload 5, 2) := dk_21 5 (dk_at dksX1_layWants_1 8 rfl rfl)
theorem dX1_layWants_34 : decode cX1_layWants 34 = .ok (.iload_n 2, 1) := dk_28 (dk_at dksX1_layWants_1 10 rfl rfl)
theorem dX1_layWants_35 : decode cX1_layWants 35 = .ok (.aload_n 1, 1) := dk_43 (dk_at dksX1_layWants_1 11 rfl rfl)
theorem dX1_layWants_36 : decode cX1_layWants 36 = .ok (.invokevirtual 209, 3) := dk_182 0 209 (dk_at dksX1_layWants_1 12 rfl rfl)
theorem dX1_layWants_39 : decode cX1_layWants 39 = .ok (.lastore, 1) := dk_80 (dk_at dksX1_layWants_1 15 rfl rfl)
theorem dX1_layWants_40 : decode cX1_layWants 40 = .ok (.lload_n 3, 1) := dk_33 (dk_at dksX1_layWants_1 16 rfl rfl)
theorem dX1_layWants_41 : decode cX1_layWants 41 = .ok (.aload_n 0, 1) := dk_42 (dk_at dksX1_layWants_1 17 rfl rfl)
theorem dX1_layWants_42 : decode cX1_layWants 42 = .ok (.getfield 69, 3) := dk_180 0 69 (dk_at dksX1_layWants_1 18 rfl rfl)
theorem dX1_layWants_45 : decode cX1_layWants 45 = .ok (.bipush 8, 2) := dk_16 8 (dk_at dksX1_layWants_1 21 rfl rfl)
theorem dX1_layWants_47 : decode cX1_layWants 47 = .ok (.iload 5, 2) := dk_21 5 (dk_at dksX1_layWants_2 0 rfl rfl)
theorem dX1_layWants_49 : decode cX1_layWants 49 = .ok (.imul, 1) := dk_104 (dk_at dksX1_layWants_2 2 rfl rfl)
theorem dX1_layWants_50 : decode cX1_layWants 50 = .ok (.iload_n 2, 1) := dk_28 (dk_at dksX1_layWants_2 3 rfl rfl)
theorem dX1_layWants_51 : decode cX1_layWants 51 = .ok (.iadd, 1) := dk_96 (dk_at dksX1_layWants_2 4 rfl rfl)
theorem dX1_layWants_52 : decode cX1_layWants 52 = .ok (.laload, 1) := dk_47 (dk_at dksX1_layWants_2 5 rfl rfl)
theorem dX1_layWants_53 : decode cX1_layWants 53 = .ok (.ladd, 1) := dk_97 (dk_at dksX1_layWants_2 6 rfl rfl)
theorem dX1_layWants_54 : decode cX1_layWants 54 = .ok (.lstore_n 3, 1) := dk_66 (dk_at dksX1_layWants_2 7 rfl rfl)
theorem dX1_layWants_55 : decode cX1_layWants 55 = .ok (.iinc 5 1, 3) := dk_132 5 1 (dk_at dksX1_layWants_2 8 rfl rfl)
theorem dX1_layWants_58 : decode cX1_layWants 58 = .ok (.goto (-45), 3) := dk_167 255 211 (dk_at dksX1_layWants_2 11 rfl rfl)
theorem dX1_layWants_61 : decode cX1_layWants 61 = .ok (.lload_n 3, 1) := dk_33 (dk_at dksX1_layWants_2 14 rfl rfl)
theorem dX1_layWants_62 : decode cX1_layWants 62 = .ok (.aload_n 1, 1) := dk_43 (dk_at dksX1_layWants_2 15 rfl rfl)
theorem dX1_layWants_63 : decode cX1_layWants 63 = .ok (.iload_n 2, 1) := dk_28 (dk_at dksX1_layWants_2 16 rfl rfl)
theorem dX1_layWants_64 : decode cX1_layWants 64 = .ok (.iaload, 1) := dk_46 (dk_at dksX1_layWants_2 17 rfl rfl)
theorem dX1_layWants_65 : decode cX1_layWants 65 = .ok (.i2l, 1) := dk_133 (dk_at dksX1_layWants_2 18 rfl rfl)
theorem dX1_layWants_66 : decode cX1_layWants 66 = .ok (.lcmp, 1) := dk_148 (dk_at dksX1_layWants_2 19 rfl rfl)
theorem dX1_layWants_67 : decode cX1_layWants 67 = .ok (.ifCond .le 50, 3) := dk_158 0 50 (dk_at dksX1_layWants_2 20 rfl rfl)
theorem dX1_layWants_70 : decode cX1_layWants 70 = .ok (.iconst 0, 1) := dk_3 (dk_at dksX1_layWants_2 23 rfl rfl)
theorem dX1_layWants_71 : decode cX1_layWants 71 = .ok (.istore 5, 2) := dk_54 5 (dk_at dksX1_layWants_3 0 rfl rfl)
theorem dX1_layWants_73 : decode cX1_layWants 73 = .ok (.iload 5, 2) := dk_21 5 (dk_at dksX1_layWants_3 2 rfl rfl)
theorem dX1_layWants_75 : decode cX1_layWants 75 = .ok (.bipush 8, 2) := dk_16 8 (dk_at dksX1_layWants_3 4 rfl rfl)
theorem dX1_layWants_77 : decode cX1_layWants 77 = .ok (.if_icmp .ge 40, 3) := dk_162 0 40 (dk_at dksX1_layWants_3 6 rfl rfl)
theorem dX1_layWants_80 : decode cX1_layWants 80 = .ok (.aload_n 0, 1) := dk_42 (dk_at dksX1_layWants_3 9 rfl rfl)
theorem dX1_layWants_81 : decode cX1_layWants 81 = .ok (.getfield 69, 3) := dk_180 0 69 (dk_at dksX1_layWants_3 10 rfl rfl)
theorem dX1_layWants_84 : decode cX1_layWants 84 = .ok (.bipush 8, 2) := dk_16 8 (dk_at dksX1_layWants_3 13 rfl rfl)
theorem dX1_layWants_86 : decode cX1_layWants 86 = .ok (.iload 5, 2) := dk_21 5 (dk_at dksX1_layWants_3 15 rfl rfl)
theorem dX1_layWants_88 : decode cX1_layWants 88 = .ok (.imul, 1) := dk_104 (dk_at dksX1_layWants_3 17 rfl rfl)
theorem dX1_layWants_89 : decode cX1_layWants 89 = .ok (.iload_n 2, 1) := dk_28 (dk_at dksX1_layWants_3 18 rfl rfl)
theorem dX1_layWants_90 : decode cX1_layWants 90 = .ok (.iadd, 1) := dk_96 (dk_at dksX1_layWants_3 19 rfl rfl)
theorem dX1_layWants_91 : decode cX1_layWants 91 = .ok (.aload_n 0, 1) := dk_42 (dk_at dksX1_layWants_3 20 rfl rfl)
theorem dX1_layWants_92 : decode cX1_layWants 92 = .ok (.getfield 69, 3) := dk_180 0 69 (dk_at dksX1_layWants_3 21 rfl rfl)
theorem dX1_layWants_95 : decode cX1_layWants 95 = .ok (.bipush 8, 2) := dk_16 8 (dk_at dksX1_layWants_4 0 rfl rfl)
theorem dX1_layWants_97 : decode cX1_layWants 97 = .ok (.iload 5, 2) := dk_21 5 (dk_at dksX1_layWants_4 2 rfl rfl)
theorem dX1_layWants_99 : decode cX1_layWants 99 = .ok (.imul, 1) := dk_104 (dk_at dksX1_layWants_4 4 rfl rfl)
theorem dX1_layWants_100 : decode cX1_layWants 100 = .ok (.iload_n 2, 1) := dk_28 (dk_at dksX1_layWants_4 5 rfl rfl)
theorem dX1_layWants_101 : decode cX1_layWants 101 = .ok (.iadd, 1) := dk_96 (dk_at dksX1_layWants_4 6 rfl rfl)
theorem dX1_layWants_102 : decode cX1_layWants 102 = .ok (.laload, 1) := dk_47 (dk_at dksX1_layWants_4 7 rfl rfl)
theorem dX1_layWants_103 : decode cX1_layWants 103 = .ok (.aload_n 1, 1) := dk_43 (dk_at dksX1_layWants_4 8 rfl rfl)
theorem dX1_layWants_104 : decode cX1_layWants 104 = .ok (.iload_n 2, 1) := dk_28 (dk_at dksX1_layWants_4 9 rfl rfl)
theorem dX1_layWants_105 : decode cX1_layWants 105 = .ok (.iaload, 1) := dk_46 (dk_at dksX1_layWants_4 10 rfl rfl)
theorem dX1_layWants_106 : decode cX1_layWants 106 = .ok (.i2l, 1) := dk_133 (dk_at dksX1_layWants_4 11 rfl rfl)
theorem dX1_layWants_107 : decode cX1_layWants 107 = .ok (.lmul, 1) := dk_105 (dk_at dksX1_layWants_4 12 rfl rfl)
theorem dX1_layWants_108 : decode cX1_layWants 108 = .ok (.lload_n 3, 1) := dk_33 (dk_at dksX1_layWants_4 13 rfl rfl)
theorem dX1_layWants_109 : decode cX1_layWants 109 = .ok (.ldiv, 1) := dk_109 (dk_at dksX1_layWants_4 14 rfl rfl)
theorem dX1_layWants_110 : decode cX1_layWants 110 = .ok (.lastore, 1) := dk_80 (dk_at dksX1_layWants_4 15 rfl rfl)
theorem dX1_layWants_111 : decode cX1_layWants 111 = .ok (.iinc 5 1, 3) := dk_132 5 1 (dk_at dksX1_layWants_4 16 rfl rfl)
theorem dX1_layWants_114 : decode cX1_layWants 114 = .ok (.goto (-41), 3) := dk_167 255 215 (dk_at dksX1_layWants_4 19 rfl rfl)
theorem dX1_layWants_117 : decode cX1_layWants 117 = .ok (.iinc 2 1, 3) := dk_132 2 1 (dk_at dksX1_layWants_5 0 rfl rfl)
theorem dX1_layWants_120 : decode cX1_layWants 120 = .ok (.goto (-118), 3) := dk_167 255 138 (dk_at dksX1_layWants_5 3 rfl rfl)
theorem dX1_layWants_123 : decode cX1_layWants 123 = .ok (.return_, 1) := dk_177 (dk_at dksX1_layWants_5 6 rfl rfl)
abbrev cX1_wantOf : ByteArray := prog_8_method_48_code
def yX1_wantOf : MethodName := ⟨RX1, "wantOf", "(II[I)J"⟩
def dkwX1_wantOf_2 : List UInt8 := [105, 20, 0, 207, 109, 167, 0, 4, 9, 173]
abbrev dktX1_wantOf_2 : List UInt8 := dkwX1_wantOf_2 ++ []
def dkwX1_wantOf_1 : List UInt8 := [153, 0, 32, 42, 180, 0, 54, 16, 8, 27, 104, 28, 96, 46, 133, 45, 27, 46, 133, 105, 45, 28, 46, 133]
abbrev dktX1_wantOf_1 : List UInt8 := dkwX1_wantOf_1 ++ dktX1_wantOf_2
def dkwX1_wantOf_0 : List UInt8 := [42, 180, 0, 23, 27, 51, 153, 0, 50, 42, 180, 0, 23, 28, 51, 153, 0, 41, 42, 27, 28, 182, 0, 190]
abbrev dktX1_wantOf_0 : List UInt8 := dkwX1_wantOf_0 ++ dktX1_wantOf_1
theorem dksX1_wantOf_0 : cX1_wantOf.data.toList.drop 0 = dktX1_wantOf_0 := by decide +kernel
theorem dksX1_wantOf_1 : cX1_wantOf.data.toList.drop 24 = dktX1_wantOf_1 := dk_seg dksX1_wantOf_0 24 rfl rfl
theorem dksX1_wantOf_2 : cX1_wantOf.data.toList.drop 48 = dktX1_wantOf_2 := dk_seg dksX1_wantOf_1 24 rfl rfl
theorem dX1_wantOf_0 : decode cX1_wantOf 0 = .ok (.aload_n 0, 1) := dk_42 (dk_at dksX1_wantOf_0 0 rfl rfl)
theorem dX1_wantOf_1 : decode cX1_wantOf 1 = .ok (.getfield 23, 3) := dk_180 0 23 (dk_at dksX1_wantOf_0 1 rfl rfl)
theorem dX1_wantOf_4 : decode cX1_wantOf 4 = .ok (.iload_n 1, 1) := dk_27 (dk_at dksX1_wantOf_0 4 rfl rfl)
theorem dX1_wantOf_5 : decode cX1_wantOf 5 = .ok (.baload, 1) := dk_51 (dk_at dksX1_wantOf_0 5 rfl rfl)
theorem dX1_wantOf_6 : decode cX1_wantOf 6 = .ok (.ifCond .eq 50, 3) := dk_153 0 50 (dk_at dksX1_wantOf_0 6 rfl rfl)
theorem dX1_wantOf_9 : decode cX1_wantOf 9 = .ok (.aload_n 0, 1) := dk_42 (dk_at dksX1_wantOf_0 9 rfl rfl)
theorem dX1_wantOf_10 : decode cX1_wantOf 10 = .ok (.getfield 23, 3) := dk_180 0 23 (dk_at dksX1_wantOf_0 10 rfl rfl)
theorem dX1_wantOf_13 : decode cX1_wantOf 13 = .ok (.iload_n 2, 1) := dk_28 (dk_at dksX1_wantOf_0 13 rfl rfl)
theorem dX1_wantOf_14 : decode cX1_wantOf 14 = .ok (.baload, 1) := dk_51 (dk_at dksX1_wantOf_0 14 rfl rfl)
theorem dX1_wantOf_15 : decode cX1_wantOf 15 = .ok (.ifCond .eq 41, 3) := dk_153 0 41 (dk_at dksX1_wantOf_0 15 rfl rfl)
theorem dX1_wantOf_18 : decode cX1_wantOf 18 = .ok (.aload_n 0, 1) := dk_42 (dk_at dksX1_wantOf_0 18 rfl rfl)
theorem dX1_wantOf_19 : decode cX1_wantOf 19 = .ok (.iload_n 1, 1) := dk_27 (dk_at dksX1_wantOf_0 19 rfl rfl)
theorem dX1_wantOf_20 : decode cX1_wantOf 20 = .ok (.iload_n 2, 1) := dk_28 (dk_at dksX1_wantOf_0 20 rfl rfl)
theorem dX1_wantOf_21 : decode cX1_wantOf 21 = .ok (.invokevirtual 190, 3) := dk_182 0 190 (dk_at dksX1_wantOf_0 21 rfl rfl)
theorem dX1_wantOf_24 : decode cX1_wantOf 24 = .ok (.ifCond .eq 32, 3) := dk_153 0 32 (dk_at dksX1_wantOf_1 0 rfl rfl)
theorem dX1_wantOf_27 : decode cX1_wantOf 27 = .ok (.aload_n 0, 1) := dk_42 (dk_at dksX1_wantOf_1 3 rfl rfl)
theorem dX1_wantOf_28 : decode cX1_wantOf 28 = .ok (.getfield 54, 3) := dk_180 0 54 (dk_at dksX1_wantOf_1 4 rfl rfl)
theorem dX1_wantOf_31 : decode cX1_wantOf 31 = .ok (.bipush 8, 2) := dk_16 8 (dk_at dksX1_wantOf_1 7 rfl rfl)
theorem dX1_wantOf_33 : decode cX1_wantOf 33 = .ok (.iload_n 1, 1) := dk_27 (dk_at dksX1_wantOf_1 9 rfl rfl)
theorem dX1_wantOf_34 : decode cX1_wantOf 34 = .ok (.imul, 1) := dk_104 (dk_at dksX1_wantOf_1 10 rfl rfl)
theorem dX1_wantOf_35 : decode cX1_wantOf 35 = .ok (.iload_n 2, 1) := dk_28 (dk_at dksX1_wantOf_1 11 rfl rfl)
theorem dX1_wantOf_36 : decode cX1_wantOf 36 = .ok (.iadd, 1) := dk_96 (dk_at dksX1_wantOf_1 12 rfl rfl)
theorem dX1_wantOf_37 : decode cX1_wantOf 37 = .ok (.iaload, 1) := dk_46 (dk_at dksX1_wantOf_1 13 rfl rfl)
theorem dX1_wantOf_38 : decode cX1_wantOf 38 = .ok (.i2l, 1) := dk_133 (dk_at dksX1_wantOf_1 14 rfl rfl)
theorem dX1_wantOf_39 : decode cX1_wantOf 39 = .ok (.aload_n 3, 1) := dk_45 (dk_at dksX1_wantOf_1 15 rfl rfl)
theorem dX1_wantOf_40 : decode cX1_wantOf 40 = .ok (.iload_n 1, 1) := dk_27 (dk_at dksX1_wantOf_1 16 rfl rfl)
theorem dX1_wantOf_41 : decode cX1_wantOf 41 = .ok (.iaload, 1) := dk_46 (dk_at dksX1_wantOf_1 17 rfl rfl)
theorem dX1_wantOf_42 : decode cX1_wantOf 42 = .ok (.i2l, 1) := dk_133 (dk_at dksX1_wantOf_1 18 rfl rfl)
theorem dX1_wantOf_43 : decode cX1_wantOf 43 = .ok (.lmul, 1) := dk_105 (dk_at dksX1_wantOf_1 19 rfl rfl)
theorem dX1_wantOf_44 : decode cX1_wantOf 44 = .ok (.aload_n 3, 1) := dk_45 (dk_at dksX1_wantOf_1 20 rfl rfl)
theorem dX1_wantOf_45 : decode cX1_wantOf 45 = .ok (.iload_n 2, 1) := dk_28 (dk_at dksX1_wantOf_1 21 rfl rfl)
theorem dX1_wantOf_46 : decode cX1_wantOf 46 = .ok (.iaload, 1) := dk_46 (dk_at dksX1_wantOf_1 22 rfl rfl)
theorem dX1_wantOf_47 : decode cX1_wantOf 47 = .ok (.i2l, 1) := dk_133 (dk_at dksX1_wantOf_1 23 rfl rfl)
theorem dX1_wantOf_48 : decode cX1_wantOf 48 = .ok (.lmul, 1) := dk_105 (dk_at dksX1_wantOf_2 0 rfl rfl)
theorem dX1_wantOf_49 : decode cX1_wantOf 49 = .ok (.ldc2_w 207, 3) := dk_20 0 207 (dk_at dksX1_wantOf_2 1 rfl rfl)
theorem dX1_wantOf_52 : decode cX1_wantOf 52 = .ok (.ldiv, 1) := dk_109 (dk_at dksX1_wantOf_2 4 rfl rfl)
theorem dX1_wantOf_53 : decode cX1_wantOf 53 = .ok (.goto 4, 3) := dk_167 0 4 (dk_at dksX1_wantOf_2 5 rfl rfl)
theorem dX1_wantOf_56 : decode cX1_wantOf 56 = .ok (.lconst 0, 1) := dk_9 (dk_at dksX1_wantOf_2 8 rfl rfl)
theorem dX1_wantOf_57 : decode cX1_wantOf 57 = .ok (.lreturn, 1) := dk_173 (dk_at dksX1_wantOf_2 9 rfl rfl)
abbrev cX1_layChanges : ByteArray := prog_8_method_50_code
def yX1_layChanges : MethodName := ⟨RX1, "layChanges", "([I)V"⟩
def dkwX1_layChanges_13 : List UInt8 := [177]
abbrev dktX1_layChanges_13 : List UInt8 := dkwX1_layChanges_13 ++ []
def dkwX1_layChanges_12 : List UInt8 := [132, 5, 1, 167, 254, 240, 21, 4, 16, 247, 159, 0, 14, 42, 180, 0, 73, 21, 4, 92, 47, 32, 97, 80]
abbrev dktX1_layChanges_12 : List UInt8 := dkwX1_layChanges_12 ++ dktX1_layChanges_13
def dkwX1_layChanges_11 : List UInt8 := [153, 0, 18, 42, 180, 0, 27, 21, 5, 46, 154, 0, 8, 21, 5, 167, 0, 5, 21, 4, 54, 4]
abbrev dktX1_layChanges_11 : List UInt8 := dkwX1_layChanges_11 ++ dktX1_layChanges_12
def dkwX1_layChanges_10 : List UInt8 := [22, 10, 101, 22, 12, 97, 97, 65, 21, 4, 16, 247, 160, 0, 28, 42, 180, 0, 23, 21, 5, 51]
abbrev dktX1_layChanges_10 : List UInt8 := dkwX1_layChanges_10 ++ dktX1_layChanges_11
def dkwX1_layChanges_9 : List UInt8 := [20, 0, 213, 109, 55, 12, 42, 180, 0, 73, 21, 5, 92, 47, 22, 10, 22, 12, 101, 97, 80, 32, 22, 6]
abbrev dktX1_layChanges_9 : List UInt8 := dkwX1_layChanges_9 ++ dktX1_layChanges_10
def dkwX1_layChanges_8 : List UInt8 := [20, 0, 215, 109, 55, 10, 42, 180, 0, 42, 21, 5, 46, 133, 43, 21, 5, 46, 133, 105, 20, 0, 217, 97]
abbrev dktX1_layChanges_8 : List UInt8 := dkwX1_layChanges_8 ++ dktX1_layChanges_9
def dkwX1_layChanges_7 : List UInt8 := [153, 0, 79, 42, 21, 5, 182, 0, 168, 153, 0, 70, 22, 6, 42, 180, 0, 45, 21, 5, 46, 133, 105]
abbrev dktX1_layChanges_7 : List UInt8 := dkwX1_layChanges_7 ++ dktX1_layChanges_8
def dkwX1_layChanges_6 : List UInt8 := [20, 0, 213, 42, 180, 0, 39, 21, 5, 46, 133, 105, 109, 97, 80, 42, 180, 0, 23, 21, 5, 51]
abbrev dktX1_layChanges_6 : List UInt8 := dkwX1_layChanges_6 ++ dktX1_layChanges_7
def dkwX1_layChanges_5 : List UInt8 := [46, 133, 43, 21, 5, 46, 133, 105, 42, 180, 0, 39, 21, 5, 46, 43, 21, 5, 46, 100, 133, 105]
abbrev dktX1_layChanges_5 : List UInt8 := dkwX1_layChanges_5 ++ dktX1_layChanges_6
def dkwX1_layChanges_4 : List UInt8 := [180, 0, 27, 21, 5, 46, 4, 160, 0, 54, 42, 180, 0, 73, 21, 5, 92, 47, 42, 180, 0, 36, 21, 5]
abbrev dktX1_layChanges_4 : List UInt8 := dkwX1_layChanges_4 ++ dktX1_layChanges_5
def dkwX1_layChanges_3 : List UInt8 := [167, 255, 210, 42, 180, 0, 73, 21, 5, 22, 8, 117, 80, 42, 180, 0, 23, 21, 5, 51, 153, 0, 65, 42]
abbrev dktX1_layChanges_3 : List UInt8 := dkwX1_layChanges_3 ++ dktX1_layChanges_4
def dkwX1_layChanges_2 : List UInt8 := [97, 55, 6, 22, 8, 42, 180, 0, 69, 16, 8, 21, 10, 104, 21, 5, 96, 47, 97, 55, 8, 132, 10, 1]
abbrev dktX1_layChanges_2 : List UInt8 := dkwX1_layChanges_2 ++ dktX1_layChanges_3
def dkwX1_layChanges_1 : List UInt8 := [54, 10, 21, 10, 16, 8, 162, 0, 45, 22, 6, 42, 180, 0, 69, 16, 8, 21, 5, 104, 21, 10, 96, 47]
abbrev dktX1_layChanges_1 : List UInt8 := dkwX1_layChanges_1 ++ dktX1_layChanges_2
def dkwX1_layChanges_0 : List UInt8 := [9, 65, 16, 247, 54, 4, 3, 54, 5, 21, 5, 16, 8, 162, 1, 15, 9, 55, 6, 9, 55, 8, 3]
abbrev dktX1_layChanges_0 : List UInt8 := dkwX1_layChanges_0 ++ dktX1_layChanges_1
theorem dksX1_layChanges_0 : cX1_layChanges.data.toList.drop 0 = dktX1_layChanges_0 := by decide +kernel
theorem dksX1_layChanges_1 : cX1_layChanges.data.toList.drop 23 = dktX1_layChanges_1 := dk_seg dksX1_layChanges_0 23 rfl rfl
theorem dksX1_layChanges_2 : cX1_layChanges.data.toList.drop 47 = dktX1_layChanges_2 := dk_seg dksX1_layChanges_1 24 rfl rfl
theorem dksX1_layChanges_3 : cX1_layChanges.data.toList.drop 71 = dktX1_layChanges_3 := dk_seg dksX1_layChanges_2 24 rfl rfl
theorem dksX1_layChanges_4 : cX1_layChanges.data.toList.drop 95 = dktX1_layChanges_4 := dk_seg dksX1_layChanges_3 24 rfl rfl
theorem dksX1_layChanges_5 : cX1_layChanges.data.toList.drop 119 = dktX1_layChanges_5 := dk_seg dksX1_layChanges_4 24 rfl rfl
theorem dksX1_layChanges_6 : cX1_layChanges.data.toList.drop 141 = dktX1_layChanges_6 := dk_seg dksX1_layChanges_5 22 rfl rfl
theorem dksX1_layChanges_7 : cX1_layChanges.data.toList.drop 163 = dktX1_layChanges_7 := dk_seg dksX1_layChanges_6 22 rfl rfl
theorem dksX1_layChanges_8 : cX1_layChanges.data.toList.drop 186 = dktX1_layChanges_8 := dk_seg dksX1_layChanges_7 23 rfl rfl
theorem dksX1_layChanges_9 : cX1_layChanges.data.toList.drop 210 = dktX1_layChanges_9 := dk_seg dksX1_layChanges_8 24 rfl rfl
theorem dksX1_layChanges_10 : cX1_layChanges.data.toList.drop 234 = dktX1_layChanges_10 := dk_seg dksX1_layChanges_9 24 rfl rfl
theorem dksX1_layChanges_11 : cX1_layChanges.data.toList.drop 256 = dktX1_layChanges_11 := dk_seg dksX1_layChanges_10 22 rfl rfl
theorem dksX1_layChanges_12 : cX1_layChanges.data.toList.drop 278 = dktX1_layChanges_12 := dk_seg dksX1_layChanges_11 22 rfl rfl
theorem dksX1_layChanges_13 : cX1_layChanges.data.toList.drop 302 = dktX1_layChanges_13 := dk_seg dksX1_layChanges_12 24 rfl rfl
theorem dX1_layChanges_0 : decode cX1_layChanges 0 = .ok (.lconst 0, 1) := dk_9 (dk_at dksX1_layChanges_0 0 rfl rfl)
theorem dX1_layChanges_1 : decode cX1_layChanges 1 = .ok (.lstore_n 2, 1) := dk_65 (dk_at dksX1_layChanges_0 1 rfl rfl)
theorem dX1_layChanges_2 : decode cX1_layChanges 2 = .ok (.bipush (-9), 2) := dk_16 247 (dk_at dksX1_layChanges_0 2 rfl rfl)
theorem dX1_layChanges_4 : decode cX1_layChanges 4 = .ok (.istore 4, 2) := dk_54 4 (dk_at dksX1_layChanges_0 4 rfl rfl)
theorem dX1_layChanges_6 : decode cX1_layChanges 6 = .ok (.iconst 0, 1) := dk_3 (dk_at dksX1_layChanges_0 6 rfl rfl)
theorem dX1_layChanges_7 : decode cX1_layChanges 7 = .ok (.istore 5, 2) := dk_54 5 (dk_at dksX1_layChanges_0 7 rfl rfl)
theorem dX1_layChanges_9 : decode cX1_layChanges 9 = .ok (.iload 5, 2) := dk_21 5 (dk_at dksX1_layChanges_0 9 rfl rfl)
theorem dX1_layChanges_11 : decode cX1_layChanges 11 = .ok (.bipush 8, 2) := dk_16 8 (dk_at dksX1_layChanges_0 11 rfl rfl)
theorem dX1_layChanges_13 : decode cX1_layChanges 13 = .ok (.if_icmp .ge 271, 3) := dk_162 1 15 (dk_at dksX1_layChanges_0 13 rfl rfl)
theorem dX1_layChanges_16 : decode cX1_layChanges 16 = .ok (.lconst 0, 1) := dk_9 (dk_at dksX1_layChanges_0 16 rfl rfl)
theorem dX1_layChanges_17 : decode cX1_layChanges 17 = .ok (.lstore 6, 2) := dk_55 6 (dk_at dksX1_layChanges_0 17 rfl rfl)
theorem dX1_layChanges_19 : decode cX1_layChanges 19 = .ok (.lconst 0, 1) := dk_9 (dk_at dksX1_layChanges_0 19 rfl rfl)
theorem dX1_layChanges_20 : decode cX1_layChanges 20 = .ok (.lstore 8, 2) := dk_55 8 (dk_at dksX1_layChanges_0 20 rfl rfl)
theorem dX1_layChanges_22 : decode cX1_layChanges 22 = .ok (.iconst 0, 1) := dk_3 (dk_at dksX1_layChanges_0 22 rfl rfl)
theorem dX1_layChanges_23 : decode cX1_layChanges 23 = .ok (.istore 10, 2) := dk_54 10 (dk_at dksX1_layChanges_1 0 rfl rfl)
theorem dX1_layChanges_25 : decode cX1_layChanges 25 = .ok (.iload 10, 2) := dk_21 10 (dk_at dksX1_layChanges_1 2 rfl rfl)
theorem dX1_layChanges_27 : decode cX1_layChanges 27 = .ok (.bipush 8, 2) := dk_16 8 (dk_at dksX1_layChanges_1 4 rfl rfl)
theorem dX1_layChanges_29 : decode cX1_layChanges 29 = .ok (.if_icmp .ge 45, 3) := dk_162 0 45 (dk_at dksX1_layChanges_1 6 rfl rfl)
theorem dX1_layChanges_32 : decode cX1_layChanges 32 = .ok (.lload 6, 2) := dk_22 6 (dk_at dksX1_layChanges_1 9 rfl rfl)
theorem dX1_layChanges_34 : decode cX1_layChanges 34 = .ok (.aload_n 0, 1) := dk_42 (dk_at dksX1_layChanges_1 11 rfl rfl)
theorem dX1_layChanges_35 : decode cX1_layChanges 35 = .ok (.getfield 69, 3) := dk_180 0 69 (dk_at dksX1_layChanges_1 12 rfl rfl)
theorem dX1_layChanges_38 : decode cX1_layChanges 38 = .ok (.bipush 8, 2) := dk_16 8 (dk_at dksX1_layChanges_1 15 rfl rfl)
theorem dX1_layChanges_40 : decode cX1_layChanges 40 = .ok (.iload 5, 2) := dk_21 5 (dk_at dksX1_layChanges_1 17 rfl rfl)
theorem dX1_layChanges_42 : decode cX1_layChanges 42 = .ok (.imul, 1) := dk_104 (dk_at dksX1_layChanges_1 19 rfl rfl)
theorem dX1_layChanges_43 : decode cX1_layChanges 43 = .ok (.iload 10, 2) := dk_21 10 (dk_at dksX1_layChanges_1 20 rfl rfl)
theorem dX1_layChanges_45 : decode cX1_layChanges 45 = .ok (.iadd, 1) := dk_96 (dk_at dksX1_layChanges_1 22 rfl rfl)
theorem dX1_layChanges_46 : decode cX1_layChanges 46 = .ok (.laload, 1) := dk_47 (dk_at dksX1_layChanges_1 23 rfl rfl)
theorem dX1_layChanges_47 : decode cX1_layChanges 47 = .ok (.ladd, 1) := dk_97 (dk_at dksX1_layChanges_2 0 rfl rfl)
theorem dX1_layChanges_48 : decode cX1_layChanges 48 = .ok (.lstore 6, 2) := dk_55 6 (dk_at dksX1_layChanges_2 1 rfl rfl)
theorem dX1_layChanges_50 : decode cX1_layChanges 50 = .ok (.lload 8, 2) := dk_22 8 (dk_at dksX1_layChanges_2 3 rfl rfl)
theorem dX1_layChanges_52 : decode cX1_layChanges 52 = .ok (.aload_n 0, 1) := dk_42 (dk_at dksX1_layChanges_2 5 rfl rfl)
theorem dX1_layChanges_53 : decode cX1_layChanges 53 = .ok (.getfield 69, 3) := dk_180 0 69 (dk_at dksX1_layChanges_2 6 rfl rfl)
theorem dX1_layChanges_56 : decode cX1_layChanges 56 = .ok (.bipush 8, 2) := dk_16 8 (dk_at dksX1_layChanges_2 9 rfl rfl)
theorem dX1_layChanges_58 : decode cX1_layChanges 58 = .ok (.iload 10, 2) := dk_21 10 (dk_at dksX1_layChanges_2 11 rfl rfl)
theorem dX1_layChanges_60 : decode cX1_layChanges 60 = .ok (.imul, 1) := dk_104 (dk_at dksX1_layChanges_2 13 rfl rfl)
theorem dX1_layChanges_61 : decode cX1_layChanges 61 = .ok (.iload 5, 2) := dk_21 5 (dk_at dksX1_layChanges_2 14 rfl rfl)
theorem dX1_layChanges_63 : decode cX1_layChanges 63 = .ok (.iadd, 1) := dk_96 (dk_at dksX1_layChanges_2 16 rfl rfl)
theorem dX1_layChanges_64 : decode cX1_layChanges 64 = .ok (.laload, 1) := dk_47 (dk_at dksX1_layChanges_2 17 rfl rfl)
theorem dX1_layChanges_65 : decode cX1_layChanges 65 = .ok (.ladd, 1) := dk_97 (dk_at dksX1_layChanges_2 18 rfl rfl)
theorem dX1_layChanges_66 : decode cX1_layChanges 66 = .ok (.lstore 8, 2) := dk_55 8 (dk_at dksX1_layChanges_2 19 rfl rfl)
theorem dX1_layChanges_68 : decode cX1_layChanges 68 = .ok (.iinc 10 1, 3) := dk_132 10 1 (dk_at dksX1_layChanges_2 21 rfl rfl)
theorem dX1_layChanges_71 : decode cX1_layChanges 71 = .ok (.goto (-46), 3) := dk_167 255 210 (dk_at dksX1_layChanges_3 0 rfl rfl)
theorem dX1_layChanges_74 : decode cX1_layChanges 74 = .ok (.aload_n 0, 1) := dk_42 (dk_at dksX1_layChanges_3 3 rfl rfl)
theorem dX1_layChanges_75 : decode cX1_layChanges 75 = .ok (.getfield 73, 3) := dk_180 0 73 (dk_at dksX1_layChanges_3 4 rfl rfl)
theorem dX1_layChanges_78 : decode cX1_layChanges 78 = .ok (.iload 5, 2) := dk_21 5 (dk_at dksX1_layChanges_3 7 rfl rfl)
theorem dX1_layChanges_80 : decode cX1_layChanges 80 = .ok (.lload 8, 2) := dk_22 8 (dk_at dksX1_layChanges_3 9 rfl rfl)
theorem dX1_layChanges_82 : decode cX1_layChanges 82 = .ok (.lneg, 1) := dk_117 (dk_at dksX1_layChanges_3 11 rfl rfl)
theorem dX1_layChanges_83 : decode cX1_layChanges 83 = .ok (.lastore, 1) := dk_80 (dk_at dksX1_layChanges_3 12 rfl rfl)
theorem dX1_layChanges_84 : decode cX1_layChanges 84 = .ok (.aload_n 0, 1) := dk_42 (dk_at dksX1_layChanges_3 13 rfl rfl)
theorem dX1_layChanges_85 : decode cX1_layChanges 85 = .ok (.getfield 23, 3) := dk_180 0 23 (dk_at dksX1_layChanges_3 14 rfl rfl)
theorem dX1_layChanges_88 : decode cX1_layChanges 88 = .ok (.iload 5, 2) := dk_21 5 (dk_at dksX1_layChanges_3 17 rfl rfl)
theorem dX1_layChanges_90 : decode cX1_layChanges 90 = .ok (.baload, 1) := dk_51 (dk_at dksX1_layChanges_3 19 rfl rfl)
theorem dX1_layChanges_91 : decode cX1_layChanges 91 = .ok (.ifCond .eq 65, 3) := dk_153 0 65 (dk_at dksX1_layChanges_3 20 rfl rfl)
theorem dX1_layChanges_94 : decode cX1_layChanges 94 = .ok (.aload_n 0, 1) := dk_42 (dk_at dksX1_layChanges_3 23 rfl rfl)
theorem dX1_layChanges_95 : decode cX1_layChanges 95 = .ok (.getfield 27, 3) := dk_180 0 27 (dk_at dksX1_layChanges_4 0 rfl rfl)
theorem dX1_layChanges_98 : decode cX1_layChanges 98 = .ok (.iload 5, 2) := dk_21 5 (dk_at dksX1_layChanges_4 3 rfl rfl)
theorem dX1_layChanges_100 : decode cX1_layChanges 100 = .ok (.iaload, 1) := dk_46 (dk_at dksX1_layChanges_4 5 rfl rfl)
theorem dX1_layChanges_101 : decode cX1_layChanges 101 = .ok (.iconst 1, 1) := dk_4 (dk_at dksX1_layChanges_4 6 rfl rfl)
theorem dX1_layChanges_102 : decode cX1_layChanges 102 = .ok (.if_icmp .ne 54, 3) := dk_160 0 54 (dk_at dksX1_layChanges_4 7 rfl rfl)
theorem dX1_layChanges_105 : decode cX1_layChanges 105 = .ok (.aload_n 0, 1) := dk_42 (dk_at dksX1_layChanges_4 10 rfl rfl)
theorem dX1_layChanges_106 : decode cX1_layChanges 106 = .ok (.getfield 73, 3) := dk_180 0 73 (dk_at dksX1_layChanges_4 11 rfl rfl)
theorem dX1_layChanges_109 : decode cX1_layChanges 109 = .ok (.iload 5, 2) := dk_21 5 (dk_at dksX1_layChanges_4 14 rfl rfl)
theorem dX1_layChanges_111 : decode cX1_layChanges 111 = .ok (.dup2, 1) := dk_92 (dk_at dksX1_layChanges_4 16 rfl rfl)
theorem dX1_layChanges_112 : decode cX1_layChanges 112 = .ok (.laload, 1) := dk_47 (dk_at dksX1_layChanges_4 17 rfl rfl)
theorem dX1_layChanges_113 : decode cX1_layChanges 113 = .ok (.aload_n 0, 1) := dk_42 (dk_at dksX1_layChanges_4 18 rfl rfl)
theorem dX1_layChanges_114 : decode cX1_layChanges 114 = .ok (.getfield 36, 3) := dk_180 0 36 (dk_at dksX1_layChanges_4 19 rfl rfl)
theorem dX1_layChanges_117 : decode cX1_layChanges 117 = .ok (.iload 5, 2) := dk_21 5 (dk_at dksX1_layChanges_4 22 rfl rfl)
theorem dX1_layChanges_119 : decode cX1_layChanges 119 = .ok (.iaload, 1) := dk_46 (dk_at dksX1_layChanges_5 0 rfl rfl)
theorem dX1_layChanges_120 : decode cX1_layChanges 120 = .ok (.i2l, 1) := dk_133 (dk_at dksX1_layChanges_5 1 rfl rfl)
theorem dX1_layChanges_121 : decode cX1_layChanges 121 = .ok (.aload_n 1, 1) := dk_43 (dk_at dksX1_layChanges_5 2 rfl rfl)
theorem dX1_layChanges_122 : decode cX1_layChanges 122 = .ok (.iload 5, 2) := dk_21 5 (dk_at dksX1_layChanges_5 3 rfl rfl)
theorem dX1_layChanges_124 : decode cX1_layChanges 124 = .ok (.iaload, 1) := dk_46 (dk_at dksX1_layChanges_5 5 rfl rfl)
theorem dX1_layChanges_125 : decode cX1_layChanges 125 = .ok (.i2l, 1) := dk_133 (dk_at dksX1_layChanges_5 6 rfl rfl)
theorem dX1_layChanges_126 : decode cX1_layChanges 126 = .ok (.lmul, 1) := dk_105 (dk_at dksX1_layChanges_5 7 rfl rfl)
theorem dX1_layChanges_127 : decode cX1_layChanges 127 = .ok (.aload_n 0, 1) := dk_42 (dk_at dksX1_layChanges_5 8 rfl rfl)
theorem dX1_layChanges_128 : decode cX1_layChanges 128 = .ok (.getfield 39, 3) := dk_180 0 39 (dk_at dksX1_layChanges_5 9 rfl rfl)
theorem dX1_layChanges_131 : decode cX1_layChanges 131 = .ok (.iload 5, 2) := dk_21 5 (dk_at dksX1_layChanges_5 12 rfl rfl)
theorem dX1_layChanges_133 : decode cX1_layChanges 133 = .ok (.iaload, 1) := dk_46 (dk_at dksX1_layChanges_5 14 rfl rfl)
theorem dX1_layChanges_134 : decode cX1_layChanges 134 = .ok (.aload_n 1, 1) := dk_43 (dk_at dksX1_layChanges_5 15 rfl rfl)
theorem dX1_layChanges_135 : decode cX1_layChanges 135 = .ok (.iload 5, 2) := dk_21 5 (dk_at dksX1_layChanges_5 16 rfl rfl)
theorem dX1_layChanges_137 : decode cX1_layChanges 137 = .ok (.iaload, 1) := dk_46 (dk_at dksX1_layChanges_5 18 rfl rfl)
theorem dX1_layChanges_138 : decode cX1_layChanges 138 = .ok (.isub, 1) := dk_100 (dk_at dksX1_layChanges_5 19 rfl rfl)
theorem dX1_layChanges_139 : decode cX1_layChanges 139 = .ok (.i2l, 1) := dk_133 (dk_at dksX1_layChanges_5 20 rfl rfl)
theorem dX1_layChanges_140 : decode cX1_layChanges 140 = .ok (.lmul, 1) := dk_105 (dk_at dksX1_layChanges_5 21 rfl rfl)
theorem dX1_layChanges_141 : decode cX1_layChanges 141 = .ok (.ldc2_w 213, 3) := dk_20 0 213 (dk_at dksX1_layChanges_6 0 rfl rfl)
theorem dX1_layChanges_144 : decode cX1_layChanges 144 = .ok (.aload_n 0, 1) := dk_42 (dk_at dksX1_layChanges_6 3 rfl rfl)
theorem dX1_layChanges_145 : decode cX1_layChanges 145 = .ok (.getfield 39, 3) := dk_180 0 39 (dk_at dksX1_layChanges_6 4 rfl rfl)
theorem dX1_layChanges_148 : decode cX1_layChanges 148 = .ok (.iload 5, 2) := dk_21 5 (dk_at dksX1_layChanges_6 7 rfl rfl)
theorem dX1_layChanges_150 : decode cX1_layChanges 150 = .ok (.iaload, 1) := dk_46 (dk_at dksX1_layChanges_6 9 rfl rfl)
theorem dX1_layChanges_151 : decode cX1_layChanges 151 = .ok (.i2l, 1) := dk_133 (dk_at dksX1_layChanges_6 10 rfl rfl)
theorem dX1_layChanges_152 : decode cX1_layChanges 152 = .ok (.lmul, 1) := dk_105 (dk_at dksX1_layChanges_6 11 rfl rfl)
theorem dX1_layChanges_153 : decode cX1_layChanges 153 = .ok (.ldiv, 1) := dk_109 (dk_at dksX1_layChanges_6 12 rfl rfl)
theorem dX1_layChanges_154 : decode cX1_layChanges 154 = .ok (.ladd, 1) := dk_97 (dk_at dksX1_layChanges_6 13 rfl rfl)
theorem dX1_layChanges_155 : decode cX1_layChanges 155 = .ok (.lastore, 1) := dk_80 (dk_at dksX1_layChanges_6 14 rfl rfl)
theorem dX1_layChanges_156 : decode cX1_layChanges 156 = .ok (.aload_n 0, 1) := dk_42 (dk_at dksX1_layChanges_6 15 rfl rfl)
theorem dX1_layChanges_157 : decode cX1_layChanges 157 = .ok (.getfield 23, 3) := dk_180 0 23 (dk_at dksX1_layChanges_6 16 rfl rfl)
theorem dX1_layChanges_160 : decode cX1_layChanges 160 = .ok (.iload 5, 2) := dk_21 5 (dk_at dksX1_layChanges_6 19 rfl rfl)
theorem dX1_layChanges_162 : decode cX1_layChanges 162 = .ok (.baload, 1) := dk_51 (dk_at dksX1_layChanges_6 21 rfl rfl)
theorem dX1_layChanges_163 : decode cX1_layChanges 163 = .ok (.ifCond .eq 79, 3) := dk_153 0 79 (dk_at dksX1_layChanges_7 0 rfl rfl)
theorem dX1_layChanges_166 : decode cX1_layChanges 166 = .ok (.aload_n 0, 1) := dk_42 (dk_at dksX1_layChanges_7 3 rfl rfl)
theorem dX1_layChanges_167 : decode cX1_layChanges 167 = .ok (.iload 5, 2) := dk_21 5 (dk_at dksX1_layChanges_7 4 rfl rfl)
theorem dX1_layChanges_169 : decode cX1_layChanges 169 = .ok (.invokevirtual 168, 3) := dk_182 0 168 (dk_at dksX1_layChanges_7 6 rfl rfl)
theorem dX1_layChanges_172 : decode cX1_layChanges 172 = .ok (.ifCond .eq 70, 3) := dk_153 0 70 (dk_at dksX1_layChanges_7 9 rfl rfl)
theorem dX1_layChanges_175 : decode cX1_layChanges 175 = .ok (.lload 6, 2) := dk_22 6 (dk_at dksX1_layChanges_7 12 rfl rfl)
theorem dX1_layChanges_177 : decode cX1_layChanges 177 = .ok (.aload_n 0, 1) := dk_42 (dk_at dksX1_layChanges_7 14 rfl rfl)
theorem dX1_layChanges_178 : decode cX1_layChanges 178 = .ok (.getfield 45, 3) := dk_180 0 45 (dk_at dksX1_layChanges_7 15 rfl rfl)
theorem dX1_layChanges_181 : decode cX1_layChanges 181 = .ok (.iload 5, 2) := dk_21 5 (dk_at dksX1_layChanges_7 18 rfl rfl)
theorem dX1_layChanges_183 : decode cX1_layChanges 183 = .ok (.iaload, 1) := dk_46 (dk_at dksX1_layChanges_7 20 rfl rfl)
theorem dX1_layChanges_184 : decode cX1_layChanges 184 = .ok (.i2l, 1) := dk_133 (dk_at dksX1_layChanges_7 21 rfl rfl)
theorem dX1_layChanges_185 : decode cX1_layChanges 185 = .ok (.lmul, 1) := dk_105 (dk_at dksX1_layChanges_7 22 rfl rfl)
theorem dX1_layChanges_186 : decode cX1_layChanges 186 = .ok (.ldc2_w 215, 3) := dk_20 0 215 (dk_at dksX1_layChanges_8 0 rfl rfl)
theorem dX1_layChanges_189 : decode cX1_layChanges 189 = .ok (.ldiv, 1) := dk_109 (dk_at dksX1_layChanges_8 3 rfl rfl)
theorem dX1_layChanges_190 : decode cX1_layChanges 190 = .ok (.lstore 10, 2) := dk_55 10 (dk_at dksX1_layChanges_8 4 rfl rfl)
theorem dX1_layChanges_192 : decode cX1_layChanges 192 = .ok (.aload_n 0, 1) := dk_42 (dk_at dksX1_layChanges_8 6 rfl rfl)
theorem dX1_layChanges_193 : decode cX1_layChanges 193 = .ok (.getfield 42, 3) := dk_180 0 42 (dk_at dksX1_layChanges_8 7 rfl rfl)
theorem dX1_layChanges_196 : decode cX1_layChanges 196 = .ok (.iload 5, 2) := dk_21 5 (dk_at dksX1_layChanges_8 10 rfl rfl)
theorem dX1_layChanges_198 : decode cX1_layChanges 198 = .ok (.iaload, 1) := dk_46 (dk_at dksX1_layChanges_8 12 rfl rfl)
theorem dX1_layChanges_199 : decode cX1_layChanges 199 = .ok (.i2l, 1) := dk_133 (dk_at dksX1_layChanges_8 13 rfl rfl)
theorem dX1_layChanges_200 : decode cX1_layChanges 200 = .ok (.aload_n 1, 1) := dk_43 (dk_at dksX1_layChanges_8 14 rfl rfl)
theorem dX1_layChanges_201 : decode cX1_layChanges 201 = .ok (.iload 5, 2) := dk_21 5 (dk_at dksX1_layChanges_8 15 rfl rfl)
theorem dX1_layChanges_203 : decode cX1_layChanges 203 = .ok (.iaload, 1) := dk_46 (dk_at dksX1_layChanges_8 17 rfl rfl)
theorem dX1_layChanges_204 : decode cX1_layChanges 204 = .ok (.i2l, 1) := dk_133 (dk_at dksX1_layChanges_8 18 rfl rfl)
theorem dX1_layChanges_205 : decode cX1_layChanges 205 = .ok (.lmul, 1) := dk_105 (dk_at dksX1_layChanges_8 19 rfl rfl)
theorem dX1_layChanges_206 : decode cX1_layChanges 206 = .ok (.ldc2_w 217, 3) := dk_20 0 217 (dk_at dksX1_layChanges_8 20 rfl rfl)
theorem dX1_layChanges_209 : decode cX1_layChanges 209 = .ok (.ladd, 1) := dk_97 (dk_at dksX1_layChanges_8 23 rfl rfl)
theorem dX1_layChanges_210 : decode cX1_layChanges 210 = .ok (.ldc2_w 213, 3) := dk_20 0 213 (dk_at dksX1_layChanges_9 0 rfl rfl)
theorem dX1_layChanges_213 : decode cX1_layChanges 213 = .ok (.ldiv, 1) := dk_109 (dk_at dksX1_layChanges_9 3 rfl rfl)
theorem dX1_layChanges_214 : decode cX1_layChanges 214 = .ok (.lstore 12, 2) := dk_55 12 (dk_at dksX1_layChanges_9 4 rfl rfl)
theorem dX1_layChanges_216 : decode cX1_layChanges 216 = .ok (.aload_n 0, 1) := dk_42 (dk_at dksX1_layChanges_9 6 rfl rfl)
theorem dX1_layChanges_217 : decode cX1_layChanges 217 = .ok (.getfield 73, 3) := dk_180 0 73 (dk_at dksX1_layChanges_9 7 rfl rfl)
theorem dX1_layChanges_220 : decode cX1_layChanges 220 = .ok (.iload 5, 2) := dk_21 5 (dk_at dksX1_layChanges_9 10 rfl rfl)
theorem dX1_layChanges_222 : decode cX1_layChanges 222 = .ok (.dup2, 1) := dk_92 (dk_at dksX1_layChanges_9 12 rfl rfl)
theorem dX1_layChanges_223 : decode cX1_layChanges 223 = .ok (.laload, 1) := dk_47 (dk_at dksX1_layChanges_9 13 rfl rfl)
theorem dX1_layChanges_224 : decode cX1_layChanges 224 = .ok (.lload 10, 2) := dk_22 10 (dk_at dksX1_layChanges_9 14 rfl rfl)
theorem dX1_layChanges_226 : decode cX1_layChanges 226 = .ok (.lload 12, 2) := dk_22 12 (dk_at dksX1_layChanges_9 16 rfl rfl)
theorem dX1_layChanges_228 : decode cX1_layChanges 228 = .ok (.lsub, 1) := dk_101 (dk_at dksX1_layChanges_9 18 rfl rfl)
theorem dX1_layChanges_229 : decode cX1_layChanges 229 = .ok (.ladd, 1) := dk_97 (dk_at dksX1_layChanges_9 19 rfl rfl)
theorem dX1_layChanges_230 : decode cX1_layChanges 230 = .ok (.lastore, 1) := dk_80 (dk_at dksX1_layChanges_9 20 rfl rfl)
theorem dX1_layChanges_231 : decode cX1_layChanges 231 = .ok (.lload_n 2, 1) := dk_32 (dk_at dksX1_layChanges_9 21 rfl rfl)
theorem dX1_layChanges_232 : decode cX1_layChanges 232 = .ok (.lload 6, 2) := dk_22 6 (dk_at dksX1_layChanges_9 22 rfl rfl)
theorem dX1_layChanges_234 : decode cX1_layChanges 234 = .ok (.lload 10, 2) := dk_22 10 (dk_at dksX1_layChanges_10 0 rfl rfl)
theorem dX1_layChanges_236 : decode cX1_layChanges 236 = .ok (.lsub, 1) := dk_101 (dk_at dksX1_layChanges_10 2 rfl rfl)
theorem dX1_layChanges_237 : decode cX1_layChanges 237 = .ok (.lload 12, 2) := dk_22 12 (dk_at dksX1_layChanges_10 3 rfl rfl)
theorem dX1_layChanges_239 : decode cX1_layChanges 239 = .ok (.ladd, 1) := dk_97 (dk_at dksX1_layChanges_10 5 rfl rfl)
theorem dX1_layChanges_240 : decode cX1_layChanges 240 = .ok (.ladd, 1) := dk_97 (dk_at dksX1_layChanges_10 6 rfl rfl)
theorem dX1_layChanges_241 : decode cX1_layChanges 241 = .ok (.lstore_n 2, 1) := dk_65 (dk_at dksX1_layChanges_10 7 rfl rfl)
theorem dX1_layChanges_242 : decode cX1_layChanges 242 = .ok (.iload 4, 2) := dk_21 4 (dk_at dksX1_layChanges_10 8 rfl rfl)
theorem dX1_layChanges_244 : decode cX1_layChanges 244 = .ok (.bipush (-9), 2) := dk_16 247 (dk_at dksX1_layChanges_10 10 rfl rfl)
theorem dX1_layChanges_246 : decode cX1_layChanges 246 = .ok (.if_icmp .ne 28, 3) := dk_160 0 28 (dk_at dksX1_layChanges_10 12 rfl rfl)
theorem dX1_layChanges_249 : decode cX1_layChanges 249 = .ok (.aload_n 0, 1) := dk_42 (dk_at dksX1_layChanges_10 15 rfl rfl)
theorem dX1_layChanges_250 : decode cX1_layChanges 250 = .ok (.getfield 23, 3) := dk_180 0 23 (dk_at dksX1_layChanges_10 16 rfl rfl)
theorem dX1_layChanges_253 : decode cX1_layChanges 253 = .ok (.iload 5, 2) := dk_21 5 (dk_at dksX1_layChanges_10 19 rfl rfl)
theorem dX1_layChanges_255 : decode cX1_layChanges 255 = .ok (.baload, 1) := dk_51 (dk_at dksX1_layChanges_10 21 rfl rfl)
theorem dX1_layChanges_256 : decode cX1_layChanges 256 = .ok (.ifCond .eq 18, 3) := dk_153 0 18 (dk_at dksX1_layChanges_11 0 rfl rfl)
theorem dX1_layChanges_259 : decode cX1_layChanges 259 = .ok (.aload_n 0, 1) := dk_42 (dk_at dksX1_layChanges_11 3 rfl rfl)
theorem dX1_layChanges_260 : decode cX1_layChanges 260 = .ok (.getfield 27, 3) := dk_180 0 27 (dk_at dksX1_layChanges_11 4 rfl rfl)
theorem dX1_layChanges_263 : decode cX1_layChanges 263 = .ok (.iload 5, 2) := dk_21 5 (dk_at dksX1_layChanges_11 7 rfl rfl)
theorem dX1_layChanges_265 : decode cX1_layChanges 265 = .ok (.iaload, 1) := dk_46 (dk_at dksX1_layChanges_11 9 rfl rfl)
theorem dX1_layChanges_266 : decode cX1_layChanges 266 = .ok (.ifCond .ne 8, 3) := dk_154 0 8 (dk_at dksX1_layChanges_11 10 rfl rfl)
theorem dX1_layChanges_269 : decode cX1_layChanges 269 = .ok (.iload 5, 2) := dk_21 5 (dk_at dksX1_layChanges_11 13 rfl rfl)
theorem dX1_layChanges_271 : decode cX1_layChanges 271 = .ok (.goto 5, 3) := dk_167 0 5 (dk_at dksX1_layChanges_11 15 rfl rfl)
theorem dX1_layChanges_274 : decode cX1_layChanges 274 = .ok (.iload 4, 2) := dk_21 4 (dk_at dksX1_layChanges_11 18 rfl rfl)
theorem dX1_layChanges_276 : decode cX1_layChanges 276 = .ok (.istore 4, 2) := dk_54 4 (dk_at dksX1_layChanges_11 20 rfl rfl)
theorem dX1_layChanges_278 : decode cX1_layChanges 278 = .ok (.iinc 5 1, 3) := dk_132 5 1 (dk_at dksX1_layChanges_12 0 rfl rfl)
theorem dX1_layChanges_281 : decode cX1_layChanges 281 = .ok (.goto (-272), 3) := dk_167 254 240 (dk_at dksX1_layChanges_12 3 rfl rfl)
theorem dX1_layChanges_284 : decode cX1_layChanges 284 = .ok (.iload 4, 2) := dk_21 4 (dk_at dksX1_layChanges_12 6 rfl rfl)
theorem dX1_layChanges_286 : decode cX1_layChanges 286 = .ok (.bipush (-9), 2) := dk_16 247 (dk_at dksX1_layChanges_12 8 rfl rfl)
theorem dX1_layChanges_288 : decode cX1_layChanges 288 = .ok (.if_icmp .eq 14, 3) := dk_159 0 14 (dk_at dksX1_layChanges_12 10 rfl rfl)
theorem dX1_layChanges_291 : decode cX1_layChanges 291 = .ok (.aload_n 0, 1) := dk_42 (dk_at dksX1_layChanges_12 13 rfl rfl)
theorem dX1_layChanges_292 : decode cX1_layChanges 292 = .ok (.getfield 73, 3) := dk_180 0 73 (dk_at dksX1_layChanges_12 14 rfl rfl)
theorem dX1_layChanges_295 : decode cX1_layChanges 295 = .ok (.iload 4, 2) := dk_21 4 (dk_at dksX1_layChanges_12 17 rfl rfl)
theorem dX1_layChanges_297 : decode cX1_layChanges 297 = .ok (.dup2, 1) := dk_92 (dk_at dksX1_layChanges_12 19 rfl rfl)
theorem dX1_layChanges_298 : decode cX1_layChanges 298 = .ok (.laload, 1) := dk_47 (dk_at dksX1_layChanges_12 20 rfl rfl)
theorem dX1_layChanges_299 : decode cX1_layChanges 299 = .ok (.lload_n 2, 1) := dk_32 (dk_at dksX1_layChanges_12 21 rfl rfl)
theorem dX1_layChanges_300 : decode cX1_layChanges 300 = .ok (.ladd, 1) := dk_97 (dk_at dksX1_layChanges_12 22 rfl rfl)
theorem dX1_layChanges_301 : decode cX1_layChanges 301 = .ok (.lastore, 1) := dk_80 (dk_at dksX1_layChanges_12 23 rfl rfl)
theorem dX1_layChanges_302 : decode cX1_layChanges 302 = .ok (.return_, 1) := dk_177 (dk_at dksX1_layChanges_13 0 rfl rfl)
abbrev cX1_has : ByteArray := prog_8_method_3_code
def yX1_has : MethodName := ⟨RX1, "has", "(II)Z"⟩
def dkwX1_has_0 : List UInt8 := [26, 27, 122, 4, 126, 4, 160, 0, 7, 4, 167, 0, 4, 3, 172]
abbrev dktX1_has_0 : List UInt8 := dkwX1_has_0 ++ []
theorem dksX1_has_0 : cX1_has.data.toList.drop 0 = dktX1_has_0 := by decide +kernel
theorem dX1_has_0 : decode cX1_has 0 = .ok (.iload_n 0, 1) := dk_26 (dk_at dksX1_has_0 0 rfl rfl)
theorem dX1_has_1 : decode cX1_has 1 = .ok (.iload_n 1, 1) := dk_27 (dk_at dksX1_has_0 1 rfl rfl)
theorem dX1_has_2 : decode cX1_has 2 = .ok (.ishr, 1) := dk_122 (dk_at dksX1_has_0 2 rfl rfl)
theorem dX1_has_3 : decode cX1_has 3 = .ok (.iconst 1, 1) := dk_4 (dk_at dksX1_has_0 3 rfl rfl)
theorem dX1_has_4 : decode cX1_has 4 = .ok (.iand, 1) := dk_126 (dk_at dksX1_has_0 4 rfl rfl)
theorem dX1_has_5 : decode cX1_has 5 = .ok (.iconst 1, 1) := dk_4 (dk_at dksX1_has_0 5 rfl rfl)
theorem dX1_has_6 : decode cX1_has 6 = .ok (.if_icmp .ne 7, 3) := dk_160 0 7 (dk_at dksX1_has_0 6 rfl rfl)
theorem dX1_has_9 : decode cX1_has 9 = .ok (.iconst 1, 1) := dk_4 (dk_at dksX1_has_0 9 rfl rfl)
theorem dX1_has_10 : decode cX1_has 10 = .ok (.goto 4, 3) := dk_167 0 4 (dk_at dksX1_has_0 10 rfl rfl)
theorem dX1_has_13 : decode cX1_has 13 = .ok (.iconst 0, 1) := dk_3 (dk_at dksX1_has_0 13 rfl rfl)
theorem dX1_has_14 : decode cX1_has 14 = .ok (.ireturn, 1) := dk_172 (dk_at dksX1_has_0 14 rfl rfl)
abbrev cX1_caught : ByteArray := prog_8_method_53_code
def yX1_caught : MethodName := ⟨RX1, "caught", "()J"⟩
theorem dX1_caught_0 : decode cX1_caught 0 = .ok (.aload_n 0, 1) := by decide +kernel
theorem dX1_caught_1 : decode cX1_caught 1 = .ok (.getfield 237, 3) := by decide +kernel
theorem dX1_caught_4 : decode cX1_caught 4 = .ok (.lreturn, 1) := by decide +kernel
abbrev cX1_swings : ByteArray := prog_8_method_55_code
def yX1_swings : MethodName := ⟨RX1, "swings", "(I)I"⟩
def dkwX1_swings_6 : List UInt8 := [182, 0, 233, 132, 2, 1, 167, 255, 126, 16, 247, 172]
abbrev dktX1_swings_6 : List UInt8 := dkwX1_swings_6 ++ []
def dkwX1_swings_5 : List UInt8 := [42, 29, 28, 29, 100, 182, 0, 246, 172, 132, 3, 1, 167, 255, 181, 42, 42, 180, 0, 79, 16, 247, 3]
abbrev dktX1_swings_5 : List UInt8 := dkwX1_swings_5 ++ dktX1_swings_6
def dkwX1_swings_4 : List UInt8 := [21, 5, 46, 160, 0, 7, 4, 167, 0, 4, 3, 54, 4, 132, 5, 1, 167, 255, 212, 21, 4, 153, 0, 12]
abbrev dktX1_swings_4 : List UInt8 := dkwX1_swings_4 ++ dktX1_swings_5
def dkwX1_swings_3 : List UInt8 := [162, 0, 43, 21, 4, 153, 0, 29, 42, 180, 0, 82, 16, 8, 29, 104, 21, 5, 96, 46, 42, 180, 0, 79]
abbrev dktX1_swings_3 : List UInt8 := dkwX1_swings_3 ++ dktX1_swings_4
def dkwX1_swings_2 : List UInt8 := [79, 132, 3, 1, 167, 255, 230, 3, 62, 29, 28, 162, 0, 76, 4, 54, 4, 3, 54, 5, 21, 5, 16, 8]
abbrev dktX1_swings_2 : List UInt8 := dkwX1_swings_2 ++ dktX1_swings_3
def dkwX1_swings_1 : List UInt8 := [3, 62, 29, 16, 8, 162, 0, 26, 42, 180, 0, 82, 16, 8, 28, 104, 29, 96, 42, 180, 0, 79, 29, 46]
abbrev dktX1_swings_1 : List UInt8 := dkwX1_swings_1 ++ dktX1_swings_2
def dkwX1_swings_0 : List UInt8 := [27, 4, 17, 1, 44, 184, 0, 105, 154, 0, 5, 2, 172, 42, 182, 0, 243, 3, 61, 28, 27, 163, 0, 131]
abbrev dktX1_swings_0 : List UInt8 := dkwX1_swings_0 ++ dktX1_swings_1
theorem dksX1_swings_0 : cX1_swings.data.toList.drop 0 = dktX1_swings_0 := by decide +kernel
theorem dksX1_swings_1 : cX1_swings.data.toList.drop 24 = dktX1_swings_1 := dk_seg dksX1_swings_0 24 rfl rfl
theorem dksX1_swings_2 : cX1_swings.data.toList.drop 48 = dktX1_swings_2 := dk_seg dksX1_swings_1 24 rfl rfl
theorem dksX1_swings_3 : cX1_swings.data.toList.drop 72 = dktX1_swings_3 := dk_seg dksX1_swings_2 24 rfl rfl
theorem dksX1_swings_4 : cX1_swings.data.toList.drop 96 = dktX1_swings_4 := dk_seg dksX1_swings_3 24 rfl rfl
theorem dksX1_swings_5 : cX1_swings.data.toList.drop 120 = dktX1_swings_5 := dk_seg dksX1_swings_4 24 rfl rfl
theorem dksX1_swings_6 : cX1_swings.data.toList.drop 143 = dktX1_swings_6 := dk_seg dksX1_swings_5 23 rfl rfl
theorem dX1_swings_0 : decode cX1_swings 0 = .ok (.iload_n 1, 1) := dk_27 (dk_at dksX1_swings_0 0 rfl rfl)
theorem dX1_swings_1 : decode cX1_swings 1 = .ok (.iconst 1, 1) := dk_4 (dk_at dksX1_swings_0 1 rfl rfl)
theorem dX1_swings_2 : decode cX1_swings 2 = .ok (.sipush 300, 3) := dk_17 1 44 (dk_at dksX1_swings_0 2 rfl rfl)
theorem dX1_swings_5 : decode cX1_swings 5 = .ok (.invokestatic 105, 3) := dk_184 0 105 (dk_at dksX1_swings_0 5 rfl rfl)
theorem dX1_swings_8 : decode cX1_swings 8 = .ok (.ifCond .ne 5, 3) := dk_154 0 5 (dk_at dksX1_swings_0 8 rfl rfl)
theorem dX1_swings_11 : decode cX1_swings 11 = .ok (.iconst (-1), 1) := dk_2 (dk_at dksX1_swings_0 11 rfl rfl)
theorem dX1_swings_12 : decode cX1_swings 12 = .ok (.ireturn, 1) := dk_172 (dk_at dksX1_swings_0 12 rfl rfl)
theorem dX1_swings_13 : decode cX1_swings 13 = .ok (.aload_n 0, 1) := dk_42 (dk_at dksX1_swings_0 13 rfl rfl)
theorem dX1_swings_14 : decode cX1_swings 14 = .ok (.invokevirtual 243, 3) := dk_182 0 243 (dk_at dksX1_swings_0 14 rfl rfl)
theorem dX1_swings_17 : decode cX1_swings 17 = .ok (.iconst 0, 1) := dk_3 (dk_at dksX1_swings_0 17 rfl rfl)
theorem dX1_swings_18 : decode cX1_swings 18 = .ok (.istore_n 2, 1) := dk_61 (dk_at dksX1_swings_0 18 rfl rfl)
theorem dX1_swings_19 : decode cX1_swings 19 = .ok (.iload_n 2, 1) := dk_28 (dk_at dksX1_swings_0 19 rfl rfl)
theorem dX1_swings_20 : decode cX1_swings 20 = .ok (.iload_n 1, 1) := dk_27 (dk_at dksX1_swings_0 20 rfl rfl)
theorem dX1_swings_21 : decode cX1_swings 21 = .ok (.if_icmp .gt 131, 3) := dk_163 0 131 (dk_at dksX1_swings_0 21 rfl rfl)
theorem dX1_swings_24 : decode cX1_swings 24 = .ok (.iconst 0, 1) := dk_3 (dk_at dksX1_swings_1 0 rfl rfl)
theorem dX1_swings_25 : decode cX1_swings 25 = .ok (.istore_n 3, 1) := dk_62 (dk_at dksX1_swings_1 1 rfl rfl)
theorem dX1_swings_26 : decode cX1_swings 26 = .ok (.iload_n 3, 1) := dk_29 (dk_at dksX1_swings_1 2 rfl rfl)
theorem dX1_swings_27 : decode cX1_swings 27 = .ok (.bipush 8, 2) := dk_16 8 (dk_at dksX1_swings_1 3 rfl rfl)
theorem dX1_swings_29 : decode cX1_swings 29 = .ok (.if_icmp .ge 26, 3) := dk_162 0 26 (dk_at dksX1_swings_1 5 rfl rfl)
theorem dX1_swings_32 : decode cX1_swings 32 = .ok (.aload_n 0, 1) := dk_42 (dk_at dksX1_swings_1 8 rfl rfl)
theorem dX1_swings_33 : decode cX1_swings 33 = .ok (.getfield 82, 3) := dk_180 0 82 (dk_at dksX1_swings_1 9 rfl rfl)
theorem dX1_swings_36 : decode cX1_swings 36 = .ok (.bipush 8, 2) := dk_16 8 (dk_at dksX1_swings_1 12 rfl rfl)
theorem dX1_swings_38 : decode cX1_swings 38 = .ok (.iload_n 2, 1) := dk_28 (dk_at dksX1_swings_1 14 rfl rfl)
theorem dX1_swings_39 : decode cX1_swings 39 = .ok (.imul, 1) := dk_104 (dk_at dksX1_swings_1 15 rfl rfl)
theorem dX1_swings_40 : decode cX1_swings 40 = .ok (.iload_n 3, 1) := dk_29 (dk_at dksX1_swings_1 16 rfl rfl)
theorem dX1_swings_41 : decode cX1_swings 41 = .ok (.iadd, 1) := dk_96 (dk_at dksX1_swings_1 17 rfl rfl)
theorem dX1_swings_42 : decode cX1_swings 42 = .ok (.aload_n 0, 1) := dk_42 (dk_at dksX1_swings_1 18 rfl rfl)
theorem dX1_swings_43 : decode cX1_swings 43 = .ok (.getfield 79, 3) := dk_180 0 79 (dk_at dksX1_swings_1 19 rfl rfl)
theorem dX1_swings_46 : decode cX1_swings 46 = .ok (.iload_n 3, 1) := dk_29 (dk_at dksX1_swings_1 22 rfl rfl)
theorem dX1_swings_47 : decode cX1_swings 47 = .ok (.iaload, 1) := dk_46 (dk_at dksX1_swings_1 23 rfl rfl)
theorem dX1_swings_48 : decode cX1_swings 48 = .ok (.iastore, 1) := dk_79 (dk_at dksX1_swings_2 0 rfl rfl)
theorem dX1_swings_49 : decode cX1_swings 49 = .ok (.iinc 3 1, 3) := dk_132 3 1 (dk_at dksX1_swings_2 1 rfl rfl)
theorem dX1_swings_52 : decode cX1_swings 52 = .ok (.goto (-26), 3) := dk_167 255 230 (dk_at dksX1_swings_2 4 rfl rfl)
theorem dX1_swings_55 : decode cX1_swings 55 = .ok (.iconst 0, 1) := dk_3 (dk_at dksX1_swings_2 7 rfl rfl)
theorem dX1_swings_56 : decode cX1_swings 56 = .ok (.istore_n 3, 1) := dk_62 (dk_at dksX1_swings_2 8 rfl rfl)
theorem dX1_swings_57 : decode cX1_swings 57 = .ok (.iload_n 3, 1) := dk_29 (dk_at dksX1_swings_2 9 rfl rfl)
theorem dX1_swings_58 : decode cX1_swings 58 = .ok (.iload_n 2, 1) := dk_28 (dk_at dksX1_swings_2 10 rfl rfl)
theorem dX1_swings_59 : decode cX1_swings 59 = .ok (.if_icmp .ge 76, 3) := dk_162 0 76 (dk_at dksX1_swings_2 11 rfl rfl)
theorem dX1_swings_62 : decode cX1_swings 62 = .ok (.iconst 1, 1) := dk_4 (dk_at dksX1_swings_2 14 rfl rfl)
theorem dX1_swings_63 : decode cX1_swings 63 = .ok (.istore 4, 2) := dk_54 4 (dk_at dksX1_swings_2 15 rfl rfl)
theorem dX1_swings_65 : decode cX1_swings 65 = .ok (.iconst 0, 1) := dk_3 (dk_at dksX1_swings_2 17 rfl rfl)
theorem dX1_swings_66 : decode cX1_swings 66 = .ok (.istore 5, 2) := dk_54 5 (dk_at dksX1_swings_2 18 rfl rfl)
theorem dX1_swings_68 : decode cX1_swings 68 = .ok (.iload 5, 2) := dk_21 5 (dk_at dksX1_swings_2 20 rfl rfl)
theorem dX1_swings_70 : decode cX1_swings 70 = .ok (.bipush 8, 2) := dk_16 8 (dk_at dksX1_swings_2 22 rfl rfl)
theorem dX1_swings_72 : decode cX1_swings 72 = .ok (.if_icmp .ge 43, 3) := dk_162 0 43 (dk_at dksX1_swings_3 0 rfl rfl)
theorem dX1_swings_75 : decode cX1_swings 75 = .ok (.iload 4, 2) := dk_21 4 (dk_at dksX1_swings_3 3 rfl rfl)
theorem dX1_swings_77 : decode cX1_swings 77 = .ok (.ifCond .eq 29, 3) := dk_153 0 29 (dk_at dksX1_swings_3 5 rfl rfl)
theorem dX1_swings_80 : decode cX1_swings 80 = .ok (.aload_n 0, 1) := dk_42 (dk_at dksX1_swings_3 8 rfl rfl)
theorem dX1_swings_81 : decode cX1_swings 81 = .ok (.getfield 82, 3) := dk_180 0 82 (dk_at dksX1_swings_3 9 rfl rfl)
theorem dX1_swings_84 : decode cX1_swings 84 = .ok (.bipush 8, 2) := dk_16 8 (dk_at dksX1_swings_3 12 rfl rfl)
theorem dX1_swings_86 : decode cX1_swings 86 = .ok (.iload_n 3, 1) := dk_29 (dk_at dksX1_swings_3 14 rfl rfl)
theorem dX1_swings_87 : decode cX1_swings 87 = .ok (.imul, 1) := dk_104 (dk_at dksX1_swings_3 15 rfl rfl)
theorem dX1_swings_88 : decode cX1_swings 88 = .ok (.iload 5, 2) := dk_21 5 (dk_at dksX1_swings_3 16 rfl rfl)
theorem dX1_swings_90 : decode cX1_swings 90 = .ok (.iadd, 1) := dk_96 (dk_at dksX1_swings_3 18 rfl rfl)
theorem dX1_swings_91 : decode cX1_swings 91 = .ok (.iaload, 1) := dk_46 (dk_at dksX1_swings_3 19 rfl rfl)
theorem dX1_swings_92 : decode cX1_swings 92 = .ok (.aload_n 0, 1) := dk_42 (dk_at dksX1_swings_3 20 rfl rfl)
theorem dX1_swings_93 : decode cX1_swings 93 = .ok (.getfield 79, 3) := dk_180 0 79 (dk_at dksX1_swings_3 21 rfl rfl)
theorem dX1_swings_96 : decode cX1_swings 96 = .ok (.iload 5, 2) := dk_21 5 (dk_at dksX1_swings_4 0 rfl rfl)
theorem dX1_swings_98 : decode cX1_swings 98 = .ok (.iaload, 1) := dk_46 (dk_at dksX1_swings_4 2 rfl rfl)
theorem dX1_swings_99 : decode cX1_swings 99 = .ok (.if_icmp .ne 7, 3) := dk_160 0 7 (dk_at dksX1_swings_4 3 rfl rfl)
theorem dX1_swings_102 : decode cX1_swings 102 = .ok (.iconst 1, 1) := dk_4 (dk_at dksX1_swings_4 6 rfl rfl)
theorem dX1_swings_103 : decode cX1_swings 103 = .ok (.goto 4, 3) := dk_167 0 4 (dk_at dksX1_swings_4 7 rfl rfl)
theorem dX1_swings_106 : decode cX1_swings 106 = .ok (.iconst 0, 1) := dk_3 (dk_at dksX1_swings_4 10 rfl rfl)
theorem dX1_swings_107 : decode cX1_swings 107 = .ok (.istore 4, 2) := dk_54 4 (dk_at dksX1_swings_4 11 rfl rfl)
theorem dX1_swings_109 : decode cX1_swings 109 = .ok (.iinc 5 1, 3) := dk_132 5 1 (dk_at dksX1_swings_4 13 rfl rfl)
theorem dX1_swings_112 : decode cX1_swings 112 = .ok (.goto (-44), 3) := dk_167 255 212 (dk_at dksX1_swings_4 16 rfl rfl)
theorem dX1_swings_115 : decode cX1_swings 115 = .ok (.iload 4, 2) := dk_21 4 (dk_at dksX1_swings_4 19 rfl rfl)
theorem dX1_swings_117 : decode cX1_swings 117 = .ok (.ifCond .eq 12, 3) := dk_153 0 12 (dk_at dksX1_swings_4 21 rfl rfl)
theorem dX1_swings_120 : decode cX1_swings 120 = .ok (.aload_n 0, 1) := dk_42 (dk_at dksX1_swings_5 0 rfl rfl)
theorem dX1_swings_121 : decode cX1_swings 121 = .ok (.iload_n 3, 1) := dk_29 (dk_at dksX1_swings_5 1 rfl rfl)
theorem dX1_swings_122 : decode cX1_swings 122 = .ok (.iload_n 2, 1) := dk_28 (dk_at dksX1_swings_5 2 rfl rfl)
theorem dX1_swings_123 : decode cX1_swings 123 = .ok (.iload_n 3, 1) := dk_29 (dk_at dksX1_swings_5 3 rfl rfl)
theorem dX1_swings_124 : decode cX1_swings 124 = .ok (.isub, 1) := dk_100 (dk_at dksX1_swings_5 4 rfl rfl)
theorem dX1_swings_125 : decode cX1_swings 125 = .ok (.invokevirtual 246, 3) := dk_182 0 246 (dk_at dksX1_swings_5 5 rfl rfl)
theorem dX1_swings_128 : decode cX1_swings 128 = .ok (.ireturn, 1) := dk_172 (dk_at dksX1_swings_5 8 rfl rfl)
theorem dX1_swings_129 : decode cX1_swings 129 = .ok (.iinc 3 1, 3) := dk_132 3 1 (dk_at dksX1_swings_5 9 rfl rfl)
theorem dX1_swings_132 : decode cX1_swings 132 = .ok (.goto (-75), 3) := dk_167 255 181 (dk_at dksX1_swings_5 12 rfl rfl)
theorem dX1_swings_135 : decode cX1_swings 135 = .ok (.aload_n 0, 1) := dk_42 (dk_at dksX1_swings_5 15 rfl rfl)
theorem dX1_swings_136 : decode cX1_swings 136 = .ok (.aload_n 0, 1) := dk_42 (dk_at dksX1_swings_5 16 rfl rfl)
theorem dX1_swings_137 : decode cX1_swings 137 = .ok (.getfield 79, 3) := dk_180 0 79 (dk_at dksX1_swings_5 17 rfl rfl)
theorem dX1_swings_140 : decode cX1_swings 140 = .ok (.bipush (-9), 2) := dk_16 247 (dk_at dksX1_swings_5 20 rfl rfl)
theorem dX1_swings_142 : decode cX1_swings 142 = .ok (.iconst 0, 1) := dk_3 (dk_at dksX1_swings_5 22 rfl rfl)
theorem dX1_swings_143 : decode cX1_swings 143 = .ok (.invokevirtual 233, 3) := dk_182 0 233 (dk_at dksX1_swings_6 0 rfl rfl)
theorem dX1_swings_146 : decode cX1_swings 146 = .ok (.iinc 2 1, 3) := dk_132 2 1 (dk_at dksX1_swings_6 3 rfl rfl)
theorem dX1_swings_149 : decode cX1_swings 149 = .ok (.goto (-130), 3) := dk_167 255 126 (dk_at dksX1_swings_6 6 rfl rfl)
theorem dX1_swings_152 : decode cX1_swings 152 = .ok (.bipush (-9), 2) := dk_16 247 (dk_at dksX1_swings_6 9 rfl rfl)
theorem dX1_swings_154 : decode cX1_swings 154 = .ok (.ireturn, 1) := dk_172 (dk_at dksX1_swings_6 11 rfl rfl)
abbrev cX1_beginTrial : ByteArray := prog_8_method_54_code
def yX1_beginTrial : MethodName := ⟨RX1, "beginTrial", "()V"⟩
def dkwX1_beginTrial_1 : List UInt8 := [180, 0, 30, 27, 46, 167, 0, 4, 3, 79, 132, 1, 1, 167, 255, 222, 177]
abbrev dktX1_beginTrial_1 : List UInt8 := dkwX1_beginTrial_1 ++ []
def dkwX1_beginTrial_0 : List UInt8 := [3, 60, 27, 16, 8, 162, 0, 34, 42, 180, 0, 79, 27, 42, 180, 0, 23, 27, 51, 153, 0, 12, 42]
abbrev dktX1_beginTrial_0 : List UInt8 := dkwX1_beginTrial_0 ++ dktX1_beginTrial_1
theorem dksX1_beginTrial_0 : cX1_beginTrial.data.toList.drop 0 = dktX1_beginTrial_0 := by decide +kernel
theorem dksX1_beginTrial_1 : cX1_beginTrial.data.toList.drop 23 = dktX1_beginTrial_1 := dk_seg dksX1_beginTrial_0 23 rfl rfl
theorem dX1_beginTrial_0 : decode cX1_beginTrial 0 = .ok (.iconst 0, 1) := dk_3 (dk_at dksX1_beginTrial_0 0 rfl rfl)
theorem dX1_beginTrial_1 : decode cX1_beginTrial 1 = .ok (.istore_n 1, 1) := dk_60 (dk_at dksX1_beginTrial_0 1 rfl rfl)
theorem dX1_beginTrial_2 : decode cX1_beginTrial 2 = .ok (.iload_n 1, 1) := dk_27 (dk_at dksX1_beginTrial_0 2 rfl rfl)
theorem dX1_beginTrial_3 : decode cX1_beginTrial 3 = .ok (.bipush 8, 2) := dk_16 8 (dk_at dksX1_beginTrial_0 3 rfl rfl)
theorem dX1_beginTrial_5 : decode cX1_beginTrial 5 = .ok (.if_icmp .ge 34, 3) := dk_162 0 34 (dk_at dksX1_beginTrial_0 5 rfl rfl)
theorem dX1_beginTrial_8 : decode cX1_beginTrial 8 = .ok (.aload_n 0, 1) := dk_42 (dk_at dksX1_beginTrial_0 8 rfl rfl)
theorem dX1_beginTrial_9 : decode cX1_beginTrial 9 = .ok (.getfield 79, 3) := dk_180 0 79 (dk_at dksX1_beginTrial_0 9 rfl rfl)
theorem dX1_beginTrial_12 : decode cX1_beginTrial 12 = .ok (.iload_n 1, 1) := dk_27 (dk_at dksX1_beginTrial_0 12 rfl rfl)
theorem dX1_beginTrial_13 : decode cX1_beginTrial 13 = .ok (.aload_n 0, 1) := dk_42 (dk_at dksX1_beginTrial_0 13 rfl rfl)
theorem dX1_beginTrial_14 : decode cX1_beginTrial 14 = .ok (.getfield 23, 3) := dk_180 0 23 (dk_at dksX1_beginTrial_0 14 rfl rfl)
theorem dX1_beginTrial_17 : decode cX1_beginTrial 17 = .ok (.iload_n 1, 1) := dk_27 (dk_at dksX1_beginTrial_0 17 rfl rfl)
theorem dX1_beginTrial_18 : decode cX1_beginTrial 18 = .ok (.baload, 1) := dk_51 (dk_at dksX1_beginTrial_0 18 rfl rfl)
theorem dX1_beginTrial_19 : decode cX1_beginTrial 19 = .ok (.ifCond .eq 12, 3) := dk_153 0 12 (dk_at dksX1_beginTrial_0 19 rfl rfl)
theorem dX1_beginTrial_22 : decode cX1_beginTrial 22 = .ok (.aload_n 0, 1) := dk_42 (dk_at dksX1_beginTrial_0 22 rfl rfl)
theorem dX1_beginTrial_23 : decode cX1_beginTrial 23 = .ok (.getfield 30, 3) := dk_180 0 30 (dk_at dksX1_beginTrial_1 0 rfl rfl)
theorem dX1_beginTrial_26 : decode cX1_beginTrial 26 = .ok (.iload_n 1, 1) := dk_27 (dk_at dksX1_beginTrial_1 3 rfl rfl)
theorem dX1_beginTrial_27 : decode cX1_beginTrial 27 = .ok (.iaload, 1) := dk_46 (dk_at dksX1_beginTrial_1 4 rfl rfl)
theorem dX1_beginTrial_28 : decode cX1_beginTrial 28 = .ok (.goto 4, 3) := dk_167 0 4 (dk_at dksX1_beginTrial_1 5 rfl rfl)
theorem dX1_beginTrial_31 : decode cX1_beginTrial 31 = .ok (.iconst 0, 1) := dk_3 (dk_at dksX1_beginTrial_1 8 rfl rfl)
theorem dX1_beginTrial_32 : decode cX1_beginTrial 32 = .ok (.iastore, 1) := dk_79 (dk_at dksX1_beginTrial_1 9 rfl rfl)
theorem dX1_beginTrial_33 : decode cX1_beginTrial 33 = .ok (.iinc 1 1, 3) := dk_132 1 1 (dk_at dksX1_beginTrial_1 10 rfl rfl)
theorem dX1_beginTrial_36 : decode cX1_beginTrial 36 = .ok (.goto (-34), 3) := dk_167 255 222 (dk_at dksX1_beginTrial_1 13 rfl rfl)
theorem dX1_beginTrial_39 : decode cX1_beginTrial 39 = .ok (.return_, 1) := dk_177 (dk_at dksX1_beginTrial_1 16 rfl rfl)
abbrev cX1_tells : ByteArray := prog_8_method_7_code
def yX1_tells : MethodName := ⟨RX1, "tells", "(II)I"⟩
def dkwX1_tells_0 : List UInt8 := [42, 27, 181, 0, 109, 28, 172]
abbrev dktX1_tells_0 : List UInt8 := dkwX1_tells_0 ++ []
theorem dksX1_tells_0 : cX1_tells.data.toList.drop 0 = dktX1_tells_0 := by decide +kernel
theorem dX1_tells_0 : decode cX1_tells 0 = .ok (.aload_n 0, 1) := dk_42 (dk_at dksX1_tells_0 0 rfl rfl)
theorem dX1_tells_1 : decode cX1_tells 1 = .ok (.iload_n 1, 1) := dk_27 (dk_at dksX1_tells_0 1 rfl rfl)
theorem dX1_tells_2 : decode cX1_tells 2 = .ok (.putfield 109, 3) := dk_181 0 109 (dk_at dksX1_tells_0 2 rfl rfl)
theorem dX1_tells_5 : decode cX1_tells 5 = .ok (.iload_n 2, 1) := dk_28 (dk_at dksX1_tells_0 5 rfl rfl)
theorem dX1_tells_6 : decode cX1_tells 6 = .ok (.ireturn, 1) := dk_172 (dk_at dksX1_tells_0 6 rfl rfl)
abbrev cX1_bestTake : ByteArray := prog_8_method_56_code
def yX1_bestTake : MethodName := ⟨RX1, "bestTake", "(III)I"⟩
def dkwX1_bestTake_8 : List UInt8 := [42, 180, 0, 249, 167, 0, 5, 22, 6, 181, 0, 249, 21, 5, 172]
abbrev dktX1_bestTake_8 : List UInt8 := dkwX1_bestTake_8 ++ []
def dkwX1_bestTake_7 : List UInt8 := [21, 8, 28, 104, 54, 5, 22, 9, 55, 6, 132, 8, 1, 167, 255, 134, 42, 21, 5, 16, 247, 160, 0, 10]
abbrev dktX1_bestTake_7 : List UInt8 := dkwX1_bestTake_7 ++ dktX1_bestTake_8
def dkwX1_bestTake_6 : List UInt8 := [167, 255, 203, 21, 11, 153, 0, 28, 21, 5, 16, 247, 159, 0, 11, 22, 9, 22, 6, 148, 158, 0, 13]
abbrev dktX1_bestTake_6 : List UInt8 := dkwX1_bestTake_6 ++ dktX1_bestTake_7
def dkwX1_bestTake_5 : List UInt8 := [21, 11, 153, 0, 14, 42, 180, 0, 226, 154, 0, 7, 4, 167, 0, 4, 3, 54, 11, 132, 12, 1]
abbrev dktX1_bestTake_5 : List UInt8 := dkwX1_bestTake_5 ++ dktX1_bestTake_6
def dkwX1_bestTake_4 : List UInt8 := [180, 0, 79, 27, 21, 8, 28, 104, 182, 0, 233, 22, 9, 42, 180, 0, 76, 27, 46, 133, 97, 55, 9]
abbrev dktX1_bestTake_4 : List UInt8 := dkwX1_bestTake_4 ++ dktX1_bestTake_5
def dkwX1_bestTake_3 : List UInt8 := [157, 0, 108, 42, 182, 0, 243, 9, 55, 9, 4, 54, 11, 3, 54, 12, 21, 12, 29, 162, 0, 53, 42, 42]
abbrev dktX1_bestTake_3 : List UInt8 := dkwX1_bestTake_3 ++ dktX1_bestTake_4
def dkwX1_bestTake_2 : List UInt8 := [55, 6, 3, 54, 8, 21, 8, 16, 20, 162, 0, 121, 21, 8, 133, 28, 133, 105, 20, 0, 207, 148]
abbrev dktX1_bestTake_2 : List UInt8 := dkwX1_bestTake_2 ++ dktX1_bestTake_3
def dkwX1_bestTake_1 : List UInt8 := [167, 0, 4, 3, 27, 182, 0, 182, 54, 4, 21, 4, 156, 0, 6, 21, 4, 172, 16, 247, 54, 5, 9]
abbrev dktX1_bestTake_1 : List UInt8 := dkwX1_bestTake_1 ++ dktX1_bestTake_2
def dkwX1_bestTake_0 : List UInt8 := [42, 28, 4, 18, 153, 184, 0, 105, 153, 0, 18, 29, 3, 17, 0, 200, 184, 0, 105, 153, 0, 7, 4]
abbrev dktX1_bestTake_0 : List UInt8 := dkwX1_bestTake_0 ++ dktX1_bestTake_1
theorem dksX1_bestTake_0 : cX1_bestTake.data.toList.drop 0 = dktX1_bestTake_0 := by decide +kernel
theorem dksX1_bestTake_1 : cX1_bestTake.data.toList.drop 23 = dktX1_bestTake_1 := dk_seg dksX1_bestTake_0 23 rfl rfl
theorem dksX1_bestTake_2 : cX1_bestTake.data.toList.drop 46 = dktX1_bestTake_2 := dk_seg dksX1_bestTake_1 23 rfl rfl
theorem dksX1_bestTake_3 : cX1_bestTake.data.toList.drop 68 = dktX1_bestTake_3 := dk_seg dksX1_bestTake_2 22 rfl rfl
theorem dksX1_bestTake_4 : cX1_bestTake.data.toList.drop 92 = dktX1_bestTake_4 := dk_seg dksX1_bestTake_3 24 rfl rfl
theorem dksX1_bestTake_5 : cX1_bestTake.data.toList.drop 115 = dktX1_bestTake_5 := dk_seg dksX1_bestTake_4 23 rfl rfl
theorem dksX1_bestTake_6 : cX1_bestTake.data.toList.drop 137 = dktX1_bestTake_6 := dk_seg dksX1_bestTake_5 22 rfl rfl
theorem dksX1_bestTake_7 : cX1_bestTake.data.toList.drop 160 = dktX1_bestTake_7 := dk_seg dksX1_bestTake_6 23 rfl rfl
theorem dksX1_bestTake_8 : cX1_bestTake.data.toList.drop 184 = dktX1_bestTake_8 := dk_seg dksX1_bestTake_7 24 rfl rfl
theorem dX1_bestTake_0 : decode cX1_bestTake 0 = .ok (.aload_n 0, 1) := dk_42 (dk_at dksX1_bestTake_0 0 rfl rfl)
theorem dX1_bestTake_1 : decode cX1_bestTake 1 = .ok (.iload_n 2, 1) := dk_28 (dk_at dksX1_bestTake_0 1 rfl rfl)
theorem dX1_bestTake_2 : decode cX1_bestTake 2 = .ok (.iconst 1, 1) := dk_4 (dk_at dksX1_bestTake_0 2 rfl rfl)
theorem dX1_bestTake_3 : decode cX1_bestTake 3 = .ok (.ldc 153, 2) := dk_18 153 (dk_at dksX1_bestTake_0 3 rfl rfl)
theorem dX1_bestTake_5 : decode cX1_bestTake 5 = .ok (.invokestatic 105, 3) := dk_184 0 105 (dk_at dksX1_bestTake_0 5 rfl rfl)
theorem dX1_bestTake_8 : decode cX1_bestTake 8 = .ok (.ifCond .eq 18, 3) := dk_153 0 18 (dk_at dksX1_bestTake_0 8 rfl rfl)
theorem dX1_bestTake_11 : decode cX1_bestTake 11 = .ok (.iload_n 3, 1) := dk_29 (dk_at dksX1_bestTake_0 11 rfl rfl)
theorem dX1_bestTake_12 : decode cX1_bestTake 12 = .ok (.iconst 0, 1) := dk_3 (dk_at dksX1_bestTake_0 12 rfl rfl)
theorem dX1_bestTake_13 : decode cX1_bestTake 13 = .ok (.sipush 200, 3) := dk_17 0 200 (dk_at dksX1_bestTake_0 13 rfl rfl)
theorem dX1_bestTake_16 : decode cX1_bestTake 16 = .ok (.invokestatic 105, 3) := dk_184 0 105 (dk_at dksX1_bestTake_0 16 rfl rfl)
theorem dX1_bestTake_19 : decode cX1_bestTake 19 = .ok (.ifCond .eq 7, 3) := dk_153 0 7 (dk_at dksX1_bestTake_0 19 rfl rfl)
theorem dX1_bestTake_22 : decode cX1_bestTake 22 = .ok (.iconst 1, 1) := dk_4 (dk_at dksX1_bestTake_0 22 rfl rfl)
theorem dX1_bestTake_23 : decode cX1_bestTake 23 = .ok (.goto 4, 3) := dk_167 0 4 (dk_at dksX1_bestTake_1 0 rfl rfl)
theorem dX1_bestTake_26 : decode cX1_bestTake 26 = .ok (.iconst 0, 1) := dk_3 (dk_at dksX1_bestTake_1 3 rfl rfl)
theorem dX1_bestTake_27 : decode cX1_bestTake 27 = .ok (.iload_n 1, 1) := dk_27 (dk_at dksX1_bestTake_1 4 rfl rfl)
theorem dX1_bestTake_28 : decode cX1_bestTake 28 = .ok (.invokevirtual 182, 3) := dk_182 0 182 (dk_at dksX1_bestTake_1 5 rfl rfl)
theorem dX1_bestTake_31 : decode cX1_bestTake 31 = .ok (.istore 4, 2) := dk_54 4 (dk_at dksX1_bestTake_1 8 rfl rfl)
theorem dX1_bestTake_33 : decode cX1_bestTake 33 = .ok (.iload 4, 2) := dk_21 4 (dk_at dksX1_bestTake_1 10 rfl rfl)
theorem dX1_bestTake_35 : decode cX1_bestTake 35 = .ok (.ifCond .ge 6, 3) := dk_156 0 6 (dk_at dksX1_bestTake_1 12 rfl rfl)
theorem dX1_bestTake_38 : decode cX1_bestTake 38 = .ok (.iload 4, 2) := dk_21 4 (dk_at dksX1_bestTake_1 15 rfl rfl)
theorem dX1_bestTake_40 : decode cX1_bestTake 40 = .ok (.ireturn, 1) := dk_172 (dk_at dksX1_bestTake_1 17 rfl rfl)
theorem dX1_bestTake_41 : decode cX1_bestTake 41 = .ok (.bipush (-9), 2) := dk_16 247 (dk_at dksX1_bestTake_1 18 rfl rfl)
theorem dX1_bestTake_43 : decode cX1_bestTake 43 = .ok (.istore 5, 2) := dk_54 5 (dk_at dksX1_bestTake_1 20 rfl rfl)
theorem dX1_bestTake_45 : decode cX1_bestTake 45 = .ok (.lconst 0, 1) := dk_9 (dk_at dksX1_bestTake_1 22 rfl rfl)
theorem dX1_bestTake_46 : decode cX1_bestTake 46 = .ok (.lstore 6, 2) := dk_55 6 (dk_at dksX1_bestTake_2 0 rfl rfl)
theorem dX1_bestTake_48 : decode cX1_bestTake 48 = .ok (.iconst 0, 1) := dk_3 (dk_at dksX1_bestTake_2 2 rfl rfl)
theorem dX1_bestTake_49 : decode cX1_bestTake 49 = .ok (.istore 8, 2) := dk_54 8 (dk_at dksX1_bestTake_2 3 rfl rfl)
theorem dX1_bestTake_51 : decode cX1_bestTake 51 = .ok (.iload 8, 2) := dk_21 8 (dk_at dksX1_bestTake_2 5 rfl rfl)
theorem dX1_bestTake_53 : decode cX1_bestTake 53 = .ok (.bipush 20, 2) := dk_16 20 (dk_at dksX1_bestTake_2 7 rfl rfl)
theorem dX1_bestTake_55 : decode cX1_bestTake 55 = .ok (.if_icmp .ge 121, 3) := dk_162 0 121 (dk_at dksX1_bestTake_2 9 rfl rfl)
theorem dX1_bestTake_58 : decode cX1_bestTake 58 = .ok (.iload 8, 2) := dk_21 8 (dk_at dksX1_bestTake_2 12 rfl rfl)
theorem dX1_bestTake_60 : decode cX1_bestTake 60 = .ok (.i2l, 1) := dk_133 (dk_at dksX1_bestTake_2 14 rfl rfl)
theorem dX1_bestTake_61 : decode cX1_bestTake 61 = .ok (.iload_n 2, 1) := dk_28 (dk_at dksX1_bestTake_2 15 rfl rfl)
theorem dX1_bestTake_62 : decode cX1_bestTake 62 = .ok (.i2l, 1) := dk_133 (dk_at dksX1_bestTake_2 16 rfl rfl)
theorem dX1_bestTake_63 : decode cX1_bestTake 63 = .ok (.lmul, 1) := dk_105 (dk_at dksX1_bestTake_2 17 rfl rfl)
theorem dX1_bestTake_64 : decode cX1_bestTake 64 = .ok (.ldc2_w 207, 3) := dk_20 0 207 (dk_at dksX1_bestTake_2 18 rfl rfl)
theorem dX1_bestTake_67 : decode cX1_bestTake 67 = .ok (.lcmp, 1) := dk_148 (dk_at dksX1_bestTake_2 21 rfl rfl)
theorem dX1_bestTake_68 : decode cX1_bestTake 68 = .ok (.ifCond .gt 108, 3) := dk_157 0 108 (dk_at dksX1_bestTake_3 0 rfl rfl)
theorem dX1_bestTake_71 : decode cX1_bestTake 71 = .ok (.aload_n 0, 1) := dk_42 (dk_at dksX1_bestTake_3 3 rfl rfl)
theorem dX1_bestTake_72 : decode cX1_bestTake 72 = .ok (.invokevirtual 243, 3) := dk_182 0 243 (dk_at dksX1_bestTake_3 4 rfl rfl)
theorem dX1_bestTake_75 : decode cX1_bestTake 75 = .ok (.lconst 0, 1) := dk_9 (dk_at dksX1_bestTake_3 7 rfl rfl)
theorem dX1_bestTake_76 : decode cX1_bestTake 76 = .ok (.lstore 9, 2) := dk_55 9 (dk_at dksX1_bestTake_3 8 rfl rfl)
theorem dX1_bestTake_78 : decode cX1_bestTake 78 = .ok (.iconst 1, 1) := dk_4 (dk_at dksX1_bestTake_3 10 rfl rfl)
theorem dX1_bestTake_79 : decode cX1_bestTake 79 = .ok (.istore 11, 2) := dk_54 11 (dk_at dksX1_bestTake_3 11 rfl rfl)
theorem dX1_bestTake_81 : decode cX1_bestTake 81 = .ok (.iconst 0, 1) := dk_3 (dk_at dksX1_bestTake_3 13 rfl rfl)
theorem dX1_bestTake_82 : decode cX1_bestTake 82 = .ok (.istore 12, 2) := dk_54 12 (dk_at dksX1_bestTake_3 14 rfl rfl)
theorem dX1_bestTake_84 : decode cX1_bestTake 84 = .ok (.iload 12, 2) := dk_21 12 (dk_at dksX1_bestTake_3 16 rfl rfl)
theorem dX1_bestTake_86 : decode cX1_bestTake 86 = .ok (.iload_n 3, 1) := dk_29 (dk_at dksX1_bestTake_3 18 rfl rfl)
theorem dX1_bestTake_87 : decode cX1_bestTake 87 = .ok (.if_icmp .ge 53, 3) := dk_162 0 53 (dk_at dksX1_bestTake_3 19 rfl rfl)
theorem dX1_bestTake_90 : decode cX1_bestTake 90 = .ok (.aload_n 0, 1) := dk_42 (dk_at dksX1_bestTake_3 22 rfl rfl)
theorem dX1_bestTake_91 : decode cX1_bestTake 91 = .ok (.aload_n 0, 1) := dk_42 (dk_at dksX1_bestTake_3 23 rfl rfl)
theorem dX1_bestTake_92 : decode cX1_bestTake 92 = .ok (.getfield 79, 3) := dk_180 0 79 (dk_at dksX1_bestTake_4 0 rfl rfl)
theorem dX1_bestTake_95 : decode cX1_bestTake 95 = .ok (.iload_n 1, 1) := dk_27 (dk_at dksX1_bestTake_4 3 rfl rfl)
theorem dX1_bestTake_96 : decode cX1_bestTake 96 = .ok (.iload 8, 2) := dk_21 8 (dk_at dksX1_bestTake_4 4 rfl rfl)
theorem dX1_bestTake_98 : decode cX1_bestTake 98 = .ok (.iload_n 2, 1) := dk_28 (dk_at dksX1_bestTake_4 6 rfl rfl)
theorem dX1_bestTake_99 : decode cX1_bestTake 99 = .ok (.imul, 1) := dk_104 (dk_at dksX1_bestTake_4 7 rfl rfl)
theorem dX1_bestTake_100 : decode cX1_bestTake 100 = .ok (.invokevirtual 233, 3) := dk_182 0 233 (dk_at dksX1_bestTake_4 8 rfl rfl)
theorem dX1_bestTake_103 : decode cX1_bestTake 103 = .ok (.lload 9, 2) := dk_22 9 (dk_at dksX1_bestTake_4 11 rfl rfl)
theorem dX1_bestTake_105 : decode cX1_bestTake 105 = .ok (.aload_n 0, 1) := dk_42 (dk_at dksX1_bestTake_4 13 rfl rfl)
theorem dX1_bestTake_106 : decode cX1_bestTake 106 = .ok (.getfield 76, 3) := dk_180 0 76 (dk_at dksX1_bestTake_4 14 rfl rfl)
theorem dX1_bestTake_109 : decode cX1_bestTake 109 = .ok (.iload_n 1, 1) := dk_27 (dk_at dksX1_bestTake_4 17 rfl rfl)
theorem dX1_bestTake_110 : decode cX1_bestTake 110 = .ok (.iaload, 1) := dk_46 (dk_at dksX1_bestTake_4 18 rfl rfl)
theorem dX1_bestTake_111 : decode cX1_bestTake 111 = .ok (.i2l, 1) := dk_133 (dk_at dksX1_bestTake_4 19 rfl rfl)
theorem dX1_bestTake_112 : decode cX1_bestTake 112 = .ok (.ladd, 1) := dk_97 (dk_at dksX1_bestTake_4 20 rfl rfl)
theorem dX1_bestTake_113 : decode cX1_bestTake 113 = .ok (.lstore 9, 2) := dk_55 9 (dk_at dksX1_bestTake_4 21 rfl rfl)
theorem dX1_bestTake_115 : decode cX1_bestTake 115 = .ok (.iload 11, 2) := dk_21 11 (dk_at dksX1_bestTake_5 0 rfl rfl)
theorem dX1_bestTake_117 : decode cX1_bestTake 117 = .ok (.ifCond .eq 14, 3) := dk_153 0 14 (dk_at dksX1_bestTake_5 2 rfl rfl)
theorem dX1_bestTake_120 : decode cX1_bestTake 120 = .ok (.aload_n 0, 1) := dk_42 (dk_at dksX1_bestTake_5 5 rfl rfl)
theorem dX1_bestTake_121 : decode cX1_bestTake 121 = .ok (.getfield 226, 3) := dk_180 0 226 (dk_at dksX1_bestTake_5 6 rfl rfl)
theorem dX1_bestTake_124 : decode cX1_bestTake 124 = .ok (.ifCond .ne 7, 3) := dk_154 0 7 (dk_at dksX1_bestTake_5 9 rfl rfl)
theorem dX1_bestTake_127 : decode cX1_bestTake 127 = .ok (.iconst 1, 1) := dk_4 (dk_at dksX1_bestTake_5 12 rfl rfl)
theorem dX1_bestTake_128 : decode cX1_bestTake 128 = .ok (.goto 4, 3) := dk_167 0 4 (dk_at dksX1_bestTake_5 13 rfl rfl)
theorem dX1_bestTake_131 : decode cX1_bestTake 131 = .ok (.iconst 0, 1) := dk_3 (dk_at dksX1_bestTake_5 16 rfl rfl)
theorem dX1_bestTake_132 : decode cX1_bestTake 132 = .ok (.istore 11, 2) := dk_54 11 (dk_at dksX1_bestTake_5 17 rfl rfl)
theorem dX1_bestTake_134 : decode cX1_bestTake 134 = .ok (.iinc 12 1, 3) := dk_132 12 1 (dk_at dksX1_bestTake_5 19 rfl rfl)
theorem dX1_bestTake_137 : decode cX1_bestTake 137 = .ok (.goto (-53), 3) := dk_167 255 203 (dk_at dksX1_bestTake_6 0 rfl rfl)
theorem dX1_bestTake_140 : decode cX1_bestTake 140 = .ok (.iload 11, 2) := dk_21 11 (dk_at dksX1_bestTake_6 3 rfl rfl)
theorem dX1_bestTake_142 : decode cX1_bestTake 142 = .ok (.ifCond .eq 28, 3) := dk_153 0 28 (dk_at dksX1_bestTake_6 5 rfl rfl)
theorem dX1_bestTake_145 : decode cX1_bestTake 145 = .ok (.iload 5, 2) := dk_21 5 (dk_at dksX1_bestTake_6 8 rfl rfl)
theorem dX1_bestTake_147 : decode cX1_bestTake 147 = .ok (.bipush (-9), 2) := dk_16 247 (dk_at dksX1_bestTake_6 10 rfl rfl)
theorem dX1_bestTake_149 : decode cX1_bestTake 149 = .ok (.if_icmp .eq 11, 3) := dk_159 0 11 (dk_at dksX1_bestTake_6 12 rfl rfl)
theorem dX1_bestTake_152 : decode cX1_bestTake 152 = .ok (.lload 9, 2) := dk_22 9 (dk_at dksX1_bestTake_6 15 rfl rfl)
theorem dX1_bestTake_154 : decode cX1_bestTake 154 = .ok (.lload 6, 2) := dk_22 6 (dk_at dksX1_bestTake_6 17 rfl rfl)
theorem dX1_bestTake_156 : decode cX1_bestTake 156 = .ok (.lcmp, 1) := dk_148 (dk_at dksX1_bestTake_6 19 rfl rfl)
theorem dX1_bestTake_157 : decode cX1_bestTake 157 = .ok (.ifCond .le 13, 3) := dk_158 0 13 (dk_at dksX1_bestTake_6 20 rfl rfl)
theorem dX1_bestTake_160 : decode cX1_bestTake 160 = .ok (.iload 8, 2) := dk_21 8 (dk_at dksX1_bestTake_7 0 rfl rfl)
theorem dX1_bestTake_162 : decode cX1_bestTake 162 = .ok (.iload_n 2, 1) := dk_28 (dk_at dksX1_bestTake_7 2 rfl rfl)
theorem dX1_bestTake_163 : decode cX1_bestTake 163 = .ok (.imul, 1) := dk_104 (dk_at dksX1_bestTake_7 3 rfl rfl)
theorem dX1_bestTake_164 : decode cX1_bestTake 164 = .ok (.istore 5, 2) := dk_54 5 (dk_at dksX1_bestTake_7 4 rfl rfl)
theorem dX1_bestTake_166 : decode cX1_bestTake 166 = .ok (.lload 9, 2) := dk_22 9 (dk_at dksX1_bestTake_7 6 rfl rfl)
theorem dX1_bestTake_168 : decode cX1_bestTake 168 = .ok (.lstore 6, 2) := dk_55 6 (dk_at dksX1_bestTake_7 8 rfl rfl)
theorem dX1_bestTake_170 : decode cX1_bestTake 170 = .ok (.iinc 8 1, 3) := dk_132 8 1 (dk_at dksX1_bestTake_7 10 rfl rfl)
theorem dX1_bestTake_173 : decode cX1_bestTake 173 = .ok (.goto (-122), 3) := dk_167 255 134 (dk_at dksX1_bestTake_7 13 rfl rfl)
theorem dX1_bestTake_176 : decode cX1_bestTake 176 = .ok (.aload_n 0, 1) := dk_42 (dk_at dksX1_bestTake_7 16 rfl rfl)
theorem dX1_bestTake_177 : decode cX1_bestTake 177 = .ok (.iload 5, 2) := dk_21 5 (dk_at dksX1_bestTake_7 17 rfl rfl)
theorem dX1_bestTake_179 : decode cX1_bestTake 179 = .ok (.bipush (-9), 2) := dk_16 247 (dk_at dksX1_bestTake_7 19 rfl rfl)
theorem dX1_bestTake_181 : decode cX1_bestTake 181 = .ok (.if_icmp .ne 10, 3) := dk_160 0 10 (dk_at dksX1_bestTake_7 21 rfl rfl)
theorem dX1_bestTake_184 : decode cX1_bestTake 184 = .ok (.aload_n 0, 1) := dk_42 (dk_at dksX1_bestTake_8 0 rfl rfl)
theorem dX1_bestTake_185 : decode cX1_bestTake 185 = .ok (.getfield 249, 3) := dk_180 0 249 (dk_at dksX1_bestTake_8 1 rfl rfl)
theorem dX1_bestTake_188 : decode cX1_bestTake 188 = .ok (.goto 5, 3) := dk_167 0 5 (dk_at dksX1_bestTake_8 4 rfl rfl)
theorem dX1_bestTake_191 : decode cX1_bestTake 191 = .ok (.lload 6, 2) := dk_22 6 (dk_at dksX1_bestTake_8 7 rfl rfl)
theorem dX1_bestTake_193 : decode cX1_bestTake 193 = .ok (.putfield 249, 3) := dk_181 0 249 (dk_at dksX1_bestTake_8 9 rfl rfl)
theorem dX1_bestTake_196 : decode cX1_bestTake 196 = .ok (.iload 5, 2) := dk_21 5 (dk_at dksX1_bestTake_8 12 rfl rfl)
theorem dX1_bestTake_198 : decode cX1_bestTake 198 = .ok (.ireturn, 1) := dk_172 (dk_at dksX1_bestTake_8 14 rfl rfl)
abbrev cX1_caughtBy : ByteArray := prog_8_method_57_code
def yX1_caughtBy : MethodName := ⟨RX1, "caughtBy", "()J"⟩
theorem dX1_caughtBy_0 : decode cX1_caughtBy 0 = .ok (.aload_n 0, 1) := by decide +kernel
theorem dX1_caughtBy_1 : decode cX1_caughtBy 1 = .ok (.getfield 249, 3) := by decide +kernel
theorem dX1_caughtBy_4 : decode cX1_caughtBy 4 = .ok (.lreturn, 1) := by decide +kernel
abbrev cX1_without : ByteArray := prog_8_method_61_code
def yX1_without : MethodName := ⟨RX1, "without", "(I)I"⟩
def dkwX1_without_1 : List UInt8 := [184, 1, 2, 182, 0, 246, 172]
abbrev dktX1_without_1 : List UInt8 := dkwX1_without_1 ++ []
def dkwX1_without_0 : List UInt8 := [27, 3, 17, 0, 255, 184, 0, 105, 154, 0, 5, 2, 172, 42, 27, 182, 0, 255, 61, 42, 28, 28]
abbrev dktX1_without_0 : List UInt8 := dkwX1_without_0 ++ dktX1_without_1
theorem dksX1_without_0 : cX1_without.data.toList.drop 0 = dktX1_without_0 := by decide +kernel
theorem dksX1_without_1 : cX1_without.data.toList.drop 22 = dktX1_without_1 := dk_seg dksX1_without_0 22 rfl rfl
theorem dX1_without_0 : decode cX1_without 0 = .ok (.iload_n 1, 1) := dk_27 (dk_at dksX1_without_0 0 rfl rfl)
theorem dX1_without_1 : decode cX1_without 1 = .ok (.iconst 0, 1) := dk_3 (dk_at dksX1_without_0 1 rfl rfl)
theorem dX1_without_2 : decode cX1_without 2 = .ok (.sipush 255, 3) := dk_17 0 255 (dk_at dksX1_without_0 2 rfl rfl)
theorem dX1_without_5 : decode cX1_without 5 = .ok (.invokestatic 105, 3) := dk_184 0 105 (dk_at dksX1_without_0 5 rfl rfl)
theorem dX1_without_8 : decode cX1_without 8 = .ok (.ifCond .ne 5, 3) := dk_154 0 5 (dk_at dksX1_without_0 8 rfl rfl)
theorem dX1_without_11 : decode cX1_without 11 = .ok (.iconst (-1), 1) := dk_2 (dk_at dksX1_without_0 11 rfl rfl)
theorem dX1_without_12 : decode cX1_without 12 = .ok (.ireturn, 1) := dk_172 (dk_at dksX1_without_0 12 rfl rfl)
theorem dX1_without_13 : decode cX1_without 13 = .ok (.aload_n 0, 1) := dk_42 (dk_at dksX1_without_0 13 rfl rfl)
theorem dX1_without_14 : decode cX1_without 14 = .ok (.iload_n 1, 1) := dk_27 (dk_at dksX1_without_0 14 rfl rfl)
theorem dX1_without_15 : decode cX1_without 15 = .ok (.invokevirtual 255, 3) := dk_182 0 255 (dk_at dksX1_without_0 15 rfl rfl)
theorem dX1_without_18 : decode cX1_without 18 = .ok (.istore_n 2, 1) := dk_61 (dk_at dksX1_without_0 18 rfl rfl)
theorem dX1_without_19 : decode cX1_without 19 = .ok (.aload_n 0, 1) := dk_42 (dk_at dksX1_without_0 19 rfl rfl)
theorem dX1_without_20 : decode cX1_without 20 = .ok (.iload_n 2, 1) := dk_28 (dk_at dksX1_without_0 20 rfl rfl)
theorem dX1_without_21 : decode cX1_without 21 = .ok (.iload_n 2, 1) := dk_28 (dk_at dksX1_without_0 21 rfl rfl)
theorem dX1_without_22 : decode cX1_without 22 = .ok (.invokestatic 258, 3) := dk_184 1 2 (dk_at dksX1_without_1 0 rfl rfl)
theorem dX1_without_25 : decode cX1_without 25 = .ok (.invokevirtual 246, 3) := dk_182 0 246 (dk_at dksX1_without_1 3 rfl rfl)
theorem dX1_without_28 : decode cX1_without 28 = .ok (.ireturn, 1) := dk_172 (dk_at dksX1_without_1 6 rfl rfl)
abbrev cX1_goneWithout : ByteArray := prog_8_method_59_code
def yX1_goneWithout : MethodName := ⟨RX1, "goneWithout", "(I)I"⟩
def dkwX1_goneWithout_5 : List UInt8 := [167, 255, 149, 28, 172]
abbrev dktX1_goneWithout_5 : List UInt8 := dkwX1_goneWithout_5 ++ []
def dkwX1_goneWithout_4 : List UInt8 := [21, 5, 28, 2, 130, 126, 154, 0, 12, 28, 4, 21, 4, 120, 128, 61, 4, 62, 132, 4, 1, 167, 255, 161]
abbrev dktX1_goneWithout_4 : List UInt8 := dkwX1_goneWithout_4 ++ dktX1_goneWithout_5
def dkwX1_goneWithout_3 : List UInt8 := [180, 0, 23, 21, 4, 51, 153, 0, 35, 28, 21, 4, 184, 0, 240, 154, 0, 26, 21, 5, 153, 0, 21]
abbrev dktX1_goneWithout_3 : List UInt8 := dkwX1_goneWithout_3 ++ dktX1_goneWithout_4
def dkwX1_goneWithout_2 : List UInt8 := [182, 0, 190, 153, 0, 10, 4, 21, 6, 120, 167, 0, 4, 3, 128, 54, 5, 132, 6, 1, 167, 255, 222, 42]
abbrev dktX1_goneWithout_2 : List UInt8 := dkwX1_goneWithout_2 ++ dktX1_goneWithout_3
def dkwX1_goneWithout_1 : List UInt8 := [162, 0, 94, 3, 54, 5, 3, 54, 6, 21, 6, 16, 8, 162, 0, 33, 21, 5, 42, 21, 4, 21, 6]
abbrev dktX1_goneWithout_1 : List UInt8 := dkwX1_goneWithout_1 ++ dktX1_goneWithout_2
def dkwX1_goneWithout_0 : List UInt8 := [27, 42, 182, 0, 252, 126, 61, 4, 62, 29, 153, 0, 109, 3, 62, 3, 54, 4, 21, 4, 16, 8]
abbrev dktX1_goneWithout_0 : List UInt8 := dkwX1_goneWithout_0 ++ dktX1_goneWithout_1
theorem dksX1_goneWithout_0 : cX1_goneWithout.data.toList.drop 0 = dktX1_goneWithout_0 := by decide +kernel
theorem dksX1_goneWithout_1 : cX1_goneWithout.data.toList.drop 22 = dktX1_goneWithout_1 := dk_seg dksX1_goneWithout_0 22 rfl rfl
theorem dksX1_goneWithout_2 : cX1_goneWithout.data.toList.drop 45 = dktX1_goneWithout_2 := dk_seg dksX1_goneWithout_1 23 rfl rfl
theorem dksX1_goneWithout_3 : cX1_goneWithout.data.toList.drop 69 = dktX1_goneWithout_3 := dk_seg dksX1_goneWithout_2 24 rfl rfl
theorem dksX1_goneWithout_4 : cX1_goneWithout.data.toList.drop 92 = dktX1_goneWithout_4 := dk_seg dksX1_goneWithout_3 23 rfl rfl
theorem dksX1_goneWithout_5 : cX1_goneWithout.data.toList.drop 116 = dktX1_goneWithout_5 := dk_seg dksX1_goneWithout_4 24 rfl rfl
theorem dX1_goneWithout_0 : decode cX1_goneWithout 0 = .ok (.iload_n 1, 1) := dk_27 (dk_at dksX1_goneWithout_0 0 rfl rfl)
theorem dX1_goneWithout_1 : decode cX1_goneWithout 1 = .ok (.aload_n 0, 1) := dk_42 (dk_at dksX1_goneWithout_0 1 rfl rfl)
theorem dX1_goneWithout_2 : decode cX1_goneWithout 2 = .ok (.invokevirtual 252, 3) := dk_182 0 252 (dk_at dksX1_goneWithout_0 2 rfl rfl)
theorem dX1_goneWithout_5 : decode cX1_goneWithout 5 = .ok (.iand, 1) := dk_126 (dk_at dksX1_goneWithout_0 5 rfl rfl)
theorem dX1_goneWithout_6 : decode cX1_goneWithout 6 = .ok (.istore_n 2, 1) := dk_61 (dk_at dksX1_goneWithout_0 6 rfl rfl)
theorem dX1_goneWithout_7 : decode cX1_goneWithout 7 = .ok (.iconst 1, 1) := dk_4 (dk_at dksX1_goneWithout_0 7 rfl rfl)
theorem dX1_goneWithout_8 : decode cX1_goneWithout 8 = .ok (.istore_n 3, 1) := dk_62 (dk_at dksX1_goneWithout_0 8 rfl rfl)
theorem dX1_goneWithout_9 : decode cX1_goneWithout 9 = .ok (.iload_n 3, 1) := dk_29 (dk_at dksX1_goneWithout_0 9 rfl rfl)
theorem dX1_goneWithout_10 : decode cX1_goneWithout 10 = .ok (.ifCond .eq 109, 3) := dk_153 0 109 (dk_at dksX1_goneWithout_0 10 rfl rfl)
theorem dX1_goneWithout_13 : decode cX1_goneWithout 13 = .ok (.iconst 0, 1) := dk_3 (dk_at dksX1_goneWithout_0 13 rfl rfl)
theorem dX1_goneWithout_14 : decode cX1_goneWithout 14 = .ok (.istore_n 3, 1) := dk_62 (dk_at dksX1_goneWithout_0 14 rfl rfl)
theorem dX1_goneWithout_15 : decode cX1_goneWithout 15 = .ok (.iconst 0, 1) := dk_3 (dk_at dksX1_goneWithout_0 15 rfl rfl)
theorem dX1_goneWithout_16 : decode cX1_goneWithout 16 = .ok (.istore 4, 2) := dk_54 4 (dk_at dksX1_goneWithout_0 16 rfl rfl)
theorem dX1_goneWithout_18 : decode cX1_goneWithout 18 = .ok (.iload 4, 2) := dk_21 4 (dk_at dksX1_goneWithout_0 18 rfl rfl)
theorem dX1_goneWithout_20 : decode cX1_goneWithout 20 = .ok (.bipush 8, 2) := dk_16 8 (dk_at dksX1_goneWithout_0 20 rfl rfl)
theorem dX1_goneWithout_22 : decode cX1_goneWithout 22 = .ok (.if_icmp .ge 94, 3) := dk_162 0 94 (dk_at dksX1_goneWithout_1 0 rfl rfl)
theorem dX1_goneWithout_25 : decode cX1_goneWithout 25 = .ok (.iconst 0, 1) := dk_3 (dk_at dksX1_goneWithout_1 3 rfl rfl)
theorem dX1_goneWithout_26 : decode cX1_goneWithout 26 = .ok (.istore 5, 2) := dk_54 5 (dk_at dksX1_goneWithout_1 4 rfl rfl)
theorem dX1_goneWithout_28 : decode cX1_goneWithout 28 = .ok (.iconst 0, 1) := dk_3 (dk_at dksX1_goneWithout_1 6 rfl rfl)
theorem dX1_goneWithout_29 : decode cX1_goneWithout 29 = .ok (.istore 6, 2) := dk_54 6 (dk_at dksX1_goneWithout_1 7 rfl rfl)
theorem dX1_goneWithout_31 : decode cX1_goneWithout 31 = .ok (.iload 6, 2) := dk_21 6 (dk_at dksX1_goneWithout_1 9 rfl rfl)
theorem dX1_goneWithout_33 : decode cX1_goneWithout 33 = .ok (.bipush 8, 2) := dk_16 8 (dk_at dksX1_goneWithout_1 11 rfl rfl)
theorem dX1_goneWithout_35 : decode cX1_goneWithout 35 = .ok (.if_icmp .ge 33, 3) := dk_162 0 33 (dk_at dksX1_goneWithout_1 13 rfl rfl)
theorem dX1_goneWithout_38 : decode cX1_goneWithout 38 = .ok (.iload 5, 2) := dk_21 5 (dk_at dksX1_goneWithout_1 16 rfl rfl)
theorem dX1_goneWithout_40 : decode cX1_goneWithout 40 = .ok (.aload_n 0, 1) := dk_42 (dk_at dksX1_goneWithout_1 18 rfl rfl)
theorem dX1_goneWithout_41 : decode cX1_goneWithout 41 = .ok (.iload 4, 2) := dk_21 4 (dk_at dksX1_goneWithout_1 19 rfl rfl)
theorem dX1_goneWithout_43 : decode cX1_goneWithout 43 = .ok (.iload 6, 2) := dk_21 6 (dk_at dksX1_goneWithout_1 21 rfl rfl)
theorem dX1_goneWithout_45 : decode cX1_goneWithout 45 = .ok (.invokevirtual 190, 3) := dk_182 0 190 (dk_at dksX1_goneWithout_2 0 rfl rfl)
theorem dX1_goneWithout_48 : decode cX1_goneWithout 48 = .ok (.ifCond .eq 10, 3) := dk_153 0 10 (dk_at dksX1_goneWithout_2 3 rfl rfl)
theorem dX1_goneWithout_51 : decode cX1_goneWithout 51 = .ok (.iconst 1, 1) := dk_4 (dk_at dksX1_goneWithout_2 6 rfl rfl)
theorem dX1_goneWithout_52 : decode cX1_goneWithout 52 = .ok (.iload 6, 2) := dk_21 6 (dk_at dksX1_goneWithout_2 7 rfl rfl)
theorem dX1_goneWithout_54 : decode cX1_goneWithout 54 = .ok (.ishl, 1) := dk_120 (dk_at dksX1_goneWithout_2 9 rfl rfl)
theorem dX1_goneWithout_55 : decode cX1_goneWithout 55 = .ok (.goto 4, 3) := dk_167 0 4 (dk_at dksX1_goneWithout_2 10 rfl rfl)
theorem dX1_goneWithout_58 : decode cX1_goneWithout 58 = .ok (.iconst 0, 1) := dk_3 (dk_at dksX1_goneWithout_2 13 rfl rfl)
theorem dX1_goneWithout_59 : decode cX1_goneWithout 59 = .ok (.ior, 1) := dk_128 (dk_at dksX1_goneWithout_2 14 rfl rfl)
theorem dX1_goneWithout_60 : decode cX1_goneWithout 60 = .ok (.istore 5, 2) := dk_54 5 (dk_at dksX1_goneWithout_2 15 rfl rfl)
theorem dX1_goneWithout_62 : decode cX1_goneWithout 62 = .ok (.iinc 6 1, 3) := dk_132 6 1 (dk_at dksX1_goneWithout_2 17 rfl rfl)
theorem dX1_goneWithout_65 : decode cX1_goneWithout 65 = .ok (.goto (-34), 3) := dk_167 255 222 (dk_at dksX1_goneWithout_2 20 rfl rfl)
theorem dX1_goneWithout_68 : decode cX1_goneWithout 68 = .ok (.aload_n 0, 1) := dk_42 (dk_at dksX1_goneWithout_2 23 rfl rfl)
theorem dX1_goneWithout_69 : decode cX1_goneWithout 69 = .ok (.getfield 23, 3) := dk_180 0 23 (dk_at dksX1_goneWithout_3 0 rfl rfl)
theorem dX1_goneWithout_72 : decode cX1_goneWithout 72 = .ok (.iload 4, 2) := dk_21 4 (dk_at dksX1_goneWithout_3 3 rfl rfl)
theorem dX1_goneWithout_74 : decode cX1_goneWithout 74 = .ok (.baload, 1) := dk_51 (dk_at dksX1_goneWithout_3 5 rfl rfl)
theorem dX1_goneWithout_75 : decode cX1_goneWithout 75 = .ok (.ifCond .eq 35, 3) := dk_153 0 35 (dk_at dksX1_goneWithout_3 6 rfl rfl)
theorem dX1_goneWithout_78 : decode cX1_goneWithout 78 = .ok (.iload_n 2, 1) := dk_28 (dk_at dksX1_goneWithout_3 9 rfl rfl)
theorem dX1_goneWithout_79 : decode cX1_goneWithout 79 = .ok (.iload 4, 2) := dk_21 4 (dk_at dksX1_goneWithout_3 10 rfl rfl)
theorem dX1_goneWithout_81 : decode cX1_goneWithout 81 = .ok (.invokestatic 240, 3) := dk_184 0 240 (dk_at dksX1_goneWithout_3 12 rfl rfl)
theorem dX1_goneWithout_84 : decode cX1_goneWithout 84 = .ok (.ifCond .ne 26, 3) := dk_154 0 26 (dk_at dksX1_goneWithout_3 15 rfl rfl)
theorem dX1_goneWithout_87 : decode cX1_goneWithout 87 = .ok (.iload 5, 2) := dk_21 5 (dk_at dksX1_goneWithout_3 18 rfl rfl)
theorem dX1_goneWithout_89 : decode cX1_goneWithout 89 = .ok (.ifCond .eq 21, 3) := dk_153 0 21 (dk_at dksX1_goneWithout_3 20 rfl rfl)
theorem dX1_goneWithout_92 : decode cX1_goneWithout 92 = .ok (.iload 5, 2) := dk_21 5 (dk_at dksX1_goneWithout_4 0 rfl rfl)
theorem dX1_goneWithout_94 : decode cX1_goneWithout 94 = .ok (.iload_n 2, 1) := dk_28 (dk_at dksX1_goneWithout_4 2 rfl rfl)
theorem dX1_goneWithout_95 : decode cX1_goneWithout 95 = .ok (.iconst (-1), 1) := dk_2 (dk_at dksX1_goneWithout_4 3 rfl rfl)
theorem dX1_goneWithout_96 : decode cX1_goneWithout 96 = .ok (.ixor, 1) := dk_130 (dk_at dksX1_goneWithout_4 4 rfl rfl)
theorem dX1_goneWithout_97 : decode cX1_goneWithout 97 = .ok (.iand, 1) := dk_126 (dk_at dksX1_goneWithout_4 5 rfl rfl)
theorem dX1_goneWithout_98 : decode cX1_goneWithout 98 = .ok (.ifCond .ne 12, 3) := dk_154 0 12 (dk_at dksX1_goneWithout_4 6 rfl rfl)
theorem dX1_goneWithout_101 : decode cX1_goneWithout 101 = .ok (.iload_n 2, 1) := dk_28 (dk_at dksX1_goneWithout_4 9 rfl rfl)
theorem dX1_goneWithout_102 : decode cX1_goneWithout 102 = .ok (.iconst 1, 1) := dk_4 (dk_at dksX1_goneWithout_4 10 rfl rfl)
theorem dX1_goneWithout_103 : decode cX1_goneWithout 103 = .ok (.iload 4, 2) := dk_21 4 (dk_at dksX1_goneWithout_4 11 rfl rfl)
theorem dX1_goneWithout_105 : decode cX1_goneWithout 105 = .ok (.ishl, 1) := dk_120 (dk_at dksX1_goneWithout_4 13 rfl rfl)
theorem dX1_goneWithout_106 : decode cX1_goneWithout 106 = .ok (.ior, 1) := dk_128 (dk_at dksX1_goneWithout_4 14 rfl rfl)
theorem dX1_goneWithout_107 : decode cX1_goneWithout 107 = .ok (.istore_n 2, 1) := dk_61 (dk_at dksX1_goneWithout_4 15 rfl rfl)
theorem dX1_goneWithout_108 : decode cX1_goneWithout 108 = .ok (.iconst 1, 1) := dk_4 (dk_at dksX1_goneWithout_4 16 rfl rfl)
theorem dX1_goneWithout_109 : decode cX1_goneWithout 109 = .ok (.istore_n 3, 1) := dk_62 (dk_at dksX1_goneWithout_4 17 rfl rfl)
theorem dX1_goneWithout_110 : decode cX1_goneWithout 110 = .ok (.iinc 4 1, 3) := dk_132 4 1 (dk_at dksX1_goneWithout_4 18 rfl rfl)
theorem dX1_goneWithout_113 : decode cX1_goneWithout 113 = .ok (.goto (-95), 3) := dk_167 255 161 (dk_at dksX1_goneWithout_4 21 rfl rfl)
theorem dX1_goneWithout_116 : decode cX1_goneWithout 116 = .ok (.goto (-107), 3) := dk_167 255 149 (dk_at dksX1_goneWithout_5 0 rfl rfl)
theorem dX1_goneWithout_119 : decode cX1_goneWithout 119 = .ok (.iload_n 2, 1) := dk_28 (dk_at dksX1_goneWithout_5 3 rfl rfl)
theorem dX1_goneWithout_120 : decode cX1_goneWithout 120 = .ok (.ireturn, 1) := dk_172 (dk_at dksX1_goneWithout_5 4 rfl rfl)
abbrev cX1_thereSet : ByteArray := prog_8_method_58_code
def yX1_thereSet : MethodName := ⟨RX1, "thereSet", "()I"⟩
def dkwX1_thereSet_1 : List UInt8 := [167, 0, 4, 3, 128, 60, 132, 2, 1, 167, 255, 228, 27, 172]
abbrev dktX1_thereSet_1 : List UInt8 := dkwX1_thereSet_1 ++ []
def dkwX1_thereSet_0 : List UInt8 := [3, 60, 3, 61, 28, 16, 8, 162, 0, 28, 27, 42, 180, 0, 23, 28, 51, 153, 0, 9, 4, 28, 120]
abbrev dktX1_thereSet_0 : List UInt8 := dkwX1_thereSet_0 ++ dktX1_thereSet_1
theorem dksX1_thereSet_0 : cX1_thereSet.data.toList.drop 0 = dktX1_thereSet_0 := by decide +kernel
theorem dksX1_thereSet_1 : cX1_thereSet.data.toList.drop 23 = dktX1_thereSet_1 := dk_seg dksX1_thereSet_0 23 rfl rfl
theorem dX1_thereSet_0 : decode cX1_thereSet 0 = .ok (.iconst 0, 1) := dk_3 (dk_at dksX1_thereSet_0 0 rfl rfl)
theorem dX1_thereSet_1 : decode cX1_thereSet 1 = .ok (.istore_n 1, 1) := dk_60 (dk_at dksX1_thereSet_0 1 rfl rfl)
theorem dX1_thereSet_2 : decode cX1_thereSet 2 = .ok (.iconst 0, 1) := dk_3 (dk_at dksX1_thereSet_0 2 rfl rfl)
theorem dX1_thereSet_3 : decode cX1_thereSet 3 = .ok (.istore_n 2, 1) := dk_61 (dk_at dksX1_thereSet_0 3 rfl rfl)
theorem dX1_thereSet_4 : decode cX1_thereSet 4 = .ok (.iload_n 2, 1) := dk_28 (dk_at dksX1_thereSet_0 4 rfl rfl)
theorem dX1_thereSet_5 : decode cX1_thereSet 5 = .ok (.bipush 8, 2) := dk_16 8 (dk_at dksX1_thereSet_0 5 rfl rfl)
theorem dX1_thereSet_7 : decode cX1_thereSet 7 = .ok (.if_icmp .ge 28, 3) := dk_162 0 28 (dk_at dksX1_thereSet_0 7 rfl rfl)
theorem dX1_thereSet_10 : decode cX1_thereSet 10 = .ok (.iload_n 1, 1) := dk_27 (dk_at dksX1_thereSet_0 10 rfl rfl)
theorem dX1_thereSet_11 : decode cX1_thereSet 11 = .ok (.aload_n 0, 1) := dk_42 (dk_at dksX1_thereSet_0 11 rfl rfl)
theorem dX1_thereSet_12 : decode cX1_thereSet 12 = .ok (.getfield 23, 3) := dk_180 0 23 (dk_at dksX1_thereSet_0 12 rfl rfl)
theorem dX1_thereSet_15 : decode cX1_thereSet 15 = .ok (.iload_n 2, 1) := dk_28 (dk_at dksX1_thereSet_0 15 rfl rfl)
theorem dX1_thereSet_16 : decode cX1_thereSet 16 = .ok (.baload, 1) := dk_51 (dk_at dksX1_thereSet_0 16 rfl rfl)
theorem dX1_thereSet_17 : decode cX1_thereSet 17 = .ok (.ifCond .eq 9, 3) := dk_153 0 9 (dk_at dksX1_thereSet_0 17 rfl rfl)
theorem dX1_thereSet_20 : decode cX1_thereSet 20 = .ok (.iconst 1, 1) := dk_4 (dk_at dksX1_thereSet_0 20 rfl rfl)
theorem dX1_thereSet_21 : decode cX1_thereSet 21 = .ok (.iload_n 2, 1) := dk_28 (dk_at dksX1_thereSet_0 21 rfl rfl)
theorem dX1_thereSet_22 : decode cX1_thereSet 22 = .ok (.ishl, 1) := dk_120 (dk_at dksX1_thereSet_0 22 rfl rfl)
theorem dX1_thereSet_23 : decode cX1_thereSet 23 = .ok (.goto 4, 3) := dk_167 0 4 (dk_at dksX1_thereSet_1 0 rfl rfl)
theorem dX1_thereSet_26 : decode cX1_thereSet 26 = .ok (.iconst 0, 1) := dk_3 (dk_at dksX1_thereSet_1 3 rfl rfl)
theorem dX1_thereSet_27 : decode cX1_thereSet 27 = .ok (.ior, 1) := dk_128 (dk_at dksX1_thereSet_1 4 rfl rfl)
theorem dX1_thereSet_28 : decode cX1_thereSet 28 = .ok (.istore_n 1, 1) := dk_60 (dk_at dksX1_thereSet_1 5 rfl rfl)
theorem dX1_thereSet_29 : decode cX1_thereSet 29 = .ok (.iinc 2 1, 3) := dk_132 2 1 (dk_at dksX1_thereSet_1 6 rfl rfl)
theorem dX1_thereSet_32 : decode cX1_thereSet 32 = .ok (.goto (-28), 3) := dk_167 255 228 (dk_at dksX1_thereSet_1 9 rfl rfl)
theorem dX1_thereSet_35 : decode cX1_thereSet 35 = .ok (.iload_n 1, 1) := dk_27 (dk_at dksX1_thereSet_1 12 rfl rfl)
theorem dX1_thereSet_36 : decode cX1_thereSet 36 = .ok (.ireturn, 1) := dk_172 (dk_at dksX1_thereSet_1 13 rfl rfl)
abbrev cX1_bitsOf : ByteArray := prog_8_method_60_code
def yX1_bitsOf : MethodName := ⟨RX1, "bitsOf", "(I)I"⟩
def dkwX1_bitsOf_1 : List UInt8 := [27, 172]
abbrev dktX1_bitsOf_1 : List UInt8 := dkwX1_bitsOf_1 ++ []
def dkwX1_bitsOf_0 : List UInt8 := [3, 60, 3, 61, 28, 16, 8, 162, 0, 17, 27, 26, 28, 122, 4, 126, 96, 60, 132, 2, 1, 167, 255, 239]
abbrev dktX1_bitsOf_0 : List UInt8 := dkwX1_bitsOf_0 ++ dktX1_bitsOf_1
theorem dksX1_bitsOf_0 : cX1_bitsOf.data.toList.drop 0 = dktX1_bitsOf_0 := by decide +kernel
theorem dksX1_bitsOf_1 : cX1_bitsOf.data.toList.drop 24 = dktX1_bitsOf_1 := dk_seg dksX1_bitsOf_0 24 rfl rfl
theorem dX1_bitsOf_0 : decode cX1_bitsOf 0 = .ok (.iconst 0, 1) := dk_3 (dk_at dksX1_bitsOf_0 0 rfl rfl)
theorem dX1_bitsOf_1 : decode cX1_bitsOf 1 = .ok (.istore_n 1, 1) := dk_60 (dk_at dksX1_bitsOf_0 1 rfl rfl)
theorem dX1_bitsOf_2 : decode cX1_bitsOf 2 = .ok (.iconst 0, 1) := dk_3 (dk_at dksX1_bitsOf_0 2 rfl rfl)
theorem dX1_bitsOf_3 : decode cX1_bitsOf 3 = .ok (.istore_n 2, 1) := dk_61 (dk_at dksX1_bitsOf_0 3 rfl rfl)
theorem dX1_bitsOf_4 : decode cX1_bitsOf 4 = .ok (.iload_n 2, 1) := dk_28 (dk_at dksX1_bitsOf_0 4 rfl rfl)
theorem dX1_bitsOf_5 : decode cX1_bitsOf 5 = .ok (.bipush 8, 2) := dk_16 8 (dk_at dksX1_bitsOf_0 5 rfl rfl)
theorem dX1_bitsOf_7 : decode cX1_bitsOf 7 = .ok (.if_icmp .ge 17, 3) := dk_162 0 17 (dk_at dksX1_bitsOf_0 7 rfl rfl)
theorem dX1_bitsOf_10 : decode cX1_bitsOf 10 = .ok (.iload_n 1, 1) := dk_27 (dk_at dksX1_bitsOf_0 10 rfl rfl)
theorem dX1_bitsOf_11 : decode cX1_bitsOf 11 = .ok (.iload_n 0, 1) := dk_26 (dk_at dksX1_bitsOf_0 11 rfl rfl)
theorem dX1_bitsOf_12 : decode cX1_bitsOf 12 = .ok (.iload_n 2, 1) := dk_28 (dk_at dksX1_bitsOf_0 12 rfl rfl)
theorem dX1_bitsOf_13 : decode cX1_bitsOf 13 = .ok (.ishr, 1) := dk_122 (dk_at dksX1_bitsOf_0 13 rfl rfl)
theorem dX1_bitsOf_14 : decode cX1_bitsOf 14 = .ok (.iconst 1, 1) := dk_4 (dk_at dksX1_bitsOf_0 14 rfl rfl)
theorem dX1_bitsOf_15 : decode cX1_bitsOf 15 = .ok (.iand, 1) := dk_126 (dk_at dksX1_bitsOf_0 15 rfl rfl)
theorem dX1_bitsOf_16 : decode cX1_bitsOf 16 = .ok (.iadd, 1) := dk_96 (dk_at dksX1_bitsOf_0 16 rfl rfl)
theorem dX1_bitsOf_17 : decode cX1_bitsOf 17 = .ok (.istore_n 1, 1) := dk_60 (dk_at dksX1_bitsOf_0 17 rfl rfl)
theorem dX1_bitsOf_18 : decode cX1_bitsOf 18 = .ok (.iinc 2 1, 3) := dk_132 2 1 (dk_at dksX1_bitsOf_0 18 rfl rfl)
theorem dX1_bitsOf_21 : decode cX1_bitsOf 21 = .ok (.goto (-17), 3) := dk_167 255 239 (dk_at dksX1_bitsOf_0 21 rfl rfl)
theorem dX1_bitsOf_24 : decode cX1_bitsOf 24 = .ok (.iload_n 1, 1) := dk_27 (dk_at dksX1_bitsOf_1 0 rfl rfl)
theorem dX1_bitsOf_25 : decode cX1_bitsOf 25 = .ok (.ireturn, 1) := dk_172 (dk_at dksX1_bitsOf_1 1 rfl rfl)
abbrev cX1_worst : ByteArray := prog_8_method_62_code
def yX1_worst : MethodName := ⟨RX1, "worst", "(I)I"⟩
def dkwX1_worst_4 : List UInt8 := [16, 247, 160, 0, 8, 16, 247, 167, 0, 9, 42, 29, 28, 182, 0, 246, 172]
abbrev dktX1_worst_4 : List UInt8 := dkwX1_worst_4 ++ []
def dkwX1_worst_3 : List UInt8 := [164, 0, 16, 21, 4, 61, 42, 21, 4, 182, 0, 255, 184, 1, 2, 62, 132, 4, 1, 167, 255, 186, 28]
abbrev dktX1_worst_3 : List UInt8 := dkwX1_worst_3 ++ dktX1_worst_4
def dkwX1_worst_2 : List UInt8 := [4, 167, 0, 4, 3, 54, 5, 21, 5, 153, 0, 29, 42, 21, 4, 182, 0, 255, 184, 1, 2, 29]
abbrev dktX1_worst_2 : List UInt8 := dkwX1_worst_2 ++ dktX1_worst_3
def dkwX1_worst_1 : List UInt8 := [162, 0, 68, 21, 4, 42, 182, 0, 252, 2, 130, 126, 154, 0, 16, 21, 4, 184, 1, 2, 27, 160, 0, 7]
abbrev dktX1_worst_1 : List UInt8 := dkwX1_worst_1 ++ dktX1_worst_2
def dkwX1_worst_0 : List UInt8 := [27, 3, 7, 184, 0, 105, 154, 0, 5, 2, 172, 16, 247, 61, 2, 62, 3, 54, 4, 21, 4, 17, 1, 0]
abbrev dktX1_worst_0 : List UInt8 := dkwX1_worst_0 ++ dktX1_worst_1
theorem dksX1_worst_0 : cX1_worst.data.toList.drop 0 = dktX1_worst_0 := by decide +kernel
theorem dksX1_worst_1 : cX1_worst.data.toList.drop 24 = dktX1_worst_1 := dk_seg dksX1_worst_0 24 rfl rfl
theorem dksX1_worst_2 : cX1_worst.data.toList.drop 48 = dktX1_worst_2 := dk_seg dksX1_worst_1 24 rfl rfl
theorem dksX1_worst_3 : cX1_worst.data.toList.drop 70 = dktX1_worst_3 := dk_seg dksX1_worst_2 22 rfl rfl
theorem dksX1_worst_4 : cX1_worst.data.toList.drop 93 = dktX1_worst_4 := dk_seg dksX1_worst_3 23 rfl rfl
theorem dX1_worst_0 : decode cX1_worst 0 = .ok (.iload_n 1, 1) := dk_27 (dk_at dksX1_worst_0 0 rfl rfl)
theorem dX1_worst_1 : decode cX1_worst 1 = .ok (.iconst 0, 1) := dk_3 (dk_at dksX1_worst_0 1 rfl rfl)
theorem dX1_worst_2 : decode cX1_worst 2 = .ok (.iconst 4, 1) := dk_7 (dk_at dksX1_worst_0 2 rfl rfl)
theorem dX1_worst_3 : decode cX1_worst 3 = .ok (.invokestatic 105, 3) := dk_184 0 105 (dk_at dksX1_worst_0 3 rfl rfl)
theorem dX1_worst_6 : decode cX1_worst 6 = .ok (.ifCond .ne 5, 3) := dk_154 0 5 (dk_at dksX1_worst_0 6 rfl rfl)
theorem dX1_worst_9 : decode cX1_worst 9 = .ok (.iconst (-1), 1) := dk_2 (dk_at dksX1_worst_0 9 rfl rfl)
theorem dX1_worst_10 : decode cX1_worst 10 = .ok (.ireturn, 1) := dk_172 (dk_at dksX1_worst_0 10 rfl rfl)
theorem dX1_worst_11 : decode cX1_worst 11 = .ok (.bipush (-9), 2) := dk_16 247 (dk_at dksX1_worst_0 11 rfl rfl)
theorem dX1_worst_13 : decode cX1_worst 13 = .ok (.istore_n 2, 1) := dk_61 (dk_at dksX1_worst_0 13 rfl rfl)
theorem dX1_worst_14 : decode cX1_worst 14 = .ok (.iconst (-1), 1) := dk_2 (dk_at dksX1_worst_0 14 rfl rfl)
theorem dX1_worst_15 : decode cX1_worst 15 = .ok (.istore_n 3, 1) := dk_62 (dk_at dksX1_worst_0 15 rfl rfl)
theorem dX1_worst_16 : decode cX1_worst 16 = .ok (.iconst 0, 1) := dk_3 (dk_at dksX1_worst_0 16 rfl rfl)
theorem dX1_worst_17 : decode cX1_worst 17 = .ok (.istore 4, 2) := dk_54 4 (dk_at dksX1_worst_0 17 rfl rfl)
theorem dX1_worst_19 : decode cX1_worst 19 = .ok (.iload 4, 2) := dk_21 4 (dk_at dksX1_worst_0 19 rfl rfl)
theorem dX1_worst_21 : decode cX1_worst 21 = .ok (.sipush 256, 3) := dk_17 1 0 (dk_at dksX1_worst_0 21 rfl rfl)
theorem dX1_worst_24 : decode cX1_worst 24 = .ok (.if_icmp .ge 68, 3) := dk_162 0 68 (dk_at dksX1_worst_1 0 rfl rfl)
theorem dX1_worst_27 : decode cX1_worst 27 = .ok (.iload 4, 2) := dk_21 4 (dk_at dksX1_worst_1 3 rfl rfl)
theorem dX1_worst_29 : decode cX1_worst 29 = .ok (.aload_n 0, 1) := dk_42 (dk_at dksX1_worst_1 5 rfl rfl)
theorem dX1_worst_30 : decode cX1_worst 30 = .ok (.invokevirtual 252, 3) := dk_182 0 252 (dk_at dksX1_worst_1 6 rfl rfl)
theorem dX1_worst_33 : decode cX1_worst 33 = .ok (.iconst (-1), 1) := dk_2 (dk_at dksX1_worst_1 9 rfl rfl)
theorem dX1_worst_34 : decode cX1_worst 34 = .ok (.ixor, 1) := dk_130 (dk_at dksX1_worst_1 10 rfl rfl)
theorem dX1_worst_35 : decode cX1_worst 35 = .ok (.iand, 1) := dk_126 (dk_at dksX1_worst_1 11 rfl rfl)
theorem dX1_worst_36 : decode cX1_worst 36 = .ok (.ifCond .ne 16, 3) := dk_154 0 16 (dk_at dksX1_worst_1 12 rfl rfl)
theorem dX1_worst_39 : decode cX1_worst 39 = .ok (.iload 4, 2) := dk_21 4 (dk_at dksX1_worst_1 15 rfl rfl)
theorem dX1_worst_41 : decode cX1_worst 41 = .ok (.invokestatic 258, 3) := dk_184 1 2 (dk_at dksX1_worst_1 17 rfl rfl)
theorem dX1_worst_44 : decode cX1_worst 44 = .ok (.iload_n 1, 1) := dk_27 (dk_at dksX1_worst_1 20 rfl rfl)
theorem dX1_worst_45 : decode cX1_worst 45 = .ok (.if_icmp .ne 7, 3) := dk_160 0 7 (dk_at dksX1_worst_1 21 rfl rfl)
theorem dX1_worst_48 : decode cX1_worst 48 = .ok (.iconst 1, 1) := dk_4 (dk_at dksX1_worst_2 0 rfl rfl)
theorem dX1_worst_49 : decode cX1_worst 49 = .ok (.goto 4, 3) := dk_167 0 4 (dk_at dksX1_worst_2 1 rfl rfl)
theorem dX1_worst_52 : decode cX1_worst 52 = .ok (.iconst 0, 1) := dk_3 (dk_at dksX1_worst_2 4 rfl rfl)
theorem dX1_worst_53 : decode cX1_worst 53 = .ok (.istore 5, 2) := dk_54 5 (dk_at dksX1_worst_2 5 rfl rfl)
theorem dX1_worst_55 : decode cX1_worst 55 = .ok (.iload 5, 2) := dk_21 5 (dk_at dksX1_worst_2 7 rfl rfl)
theorem dX1_worst_57 : decode cX1_worst 57 = .ok (.ifCond .eq 29, 3) := dk_153 0 29 (dk_at dksX1_worst_2 9 rfl rfl)
theorem dX1_worst_60 : decode cX1_worst 60 = .ok (.aload_n 0, 1) := dk_42 (dk_at dksX1_worst_2 12 rfl rfl)
theorem dX1_worst_61 : decode cX1_worst 61 = .ok (.iload 4, 2) := dk_21 4 (dk_at dksX1_worst_2 13 rfl rfl)
theorem dX1_worst_63 : decode cX1_worst 63 = .ok (.invokevirtual 255, 3) := dk_182 0 255 (dk_at dksX1_worst_2 15 rfl rfl)
theorem dX1_worst_66 : decode cX1_worst 66 = .ok (.invokestatic 258, 3) := dk_184 1 2 (dk_at dksX1_worst_2 18 rfl rfl)
theorem dX1_worst_69 : decode cX1_worst 69 = .ok (.iload_n 3, 1) := dk_29 (dk_at dksX1_worst_2 21 rfl rfl)
theorem dX1_worst_70 : decode cX1_worst 70 = .ok (.if_icmp .le 16, 3) := dk_164 0 16 (dk_at dksX1_worst_3 0 rfl rfl)
theorem dX1_worst_73 : decode cX1_worst 73 = .ok (.iload 4, 2) := dk_21 4 (dk_at dksX1_worst_3 3 rfl rfl)
theorem dX1_worst_75 : decode cX1_worst 75 = .ok (.istore_n 2, 1) := dk_61 (dk_at dksX1_worst_3 5 rfl rfl)
theorem dX1_worst_76 : decode cX1_worst 76 = .ok (.aload_n 0, 1) := dk_42 (dk_at dksX1_worst_3 6 rfl rfl)
theorem dX1_worst_77 : decode cX1_worst 77 = .ok (.iload 4, 2) := dk_21 4 (dk_at dksX1_worst_3 7 rfl rfl)
theorem dX1_worst_79 : decode cX1_worst 79 = .ok (.invokevirtual 255, 3) := dk_182 0 255 (dk_at dksX1_worst_3 9 rfl rfl)
theorem dX1_worst_82 : decode cX1_worst 82 = .ok (.invokestatic 258, 3) := dk_184 1 2 (dk_at dksX1_worst_3 12 rfl rfl)
theorem dX1_worst_85 : decode cX1_worst 85 = .ok (.istore_n 3, 1) := dk_62 (dk_at dksX1_worst_3 15 rfl rfl)
theorem dX1_worst_86 : decode cX1_worst 86 = .ok (.iinc 4 1, 3) := dk_132 4 1 (dk_at dksX1_worst_3 16 rfl rfl)
theorem dX1_worst_89 : decode cX1_worst 89 = .ok (.goto (-70), 3) := dk_167 255 186 (dk_at dksX1_worst_3 19 rfl rfl)
theorem dX1_worst_92 : decode cX1_worst 92 = .ok (.iload_n 2, 1) := dk_28 (dk_at dksX1_worst_3 22 rfl rfl)
theorem dX1_worst_93 : decode cX1_worst 93 = .ok (.bipush (-9), 2) := dk_16 247 (dk_at dksX1_worst_4 0 rfl rfl)
theorem dX1_worst_95 : decode cX1_worst 95 = .ok (.if_icmp .ne 8, 3) := dk_160 0 8 (dk_at dksX1_worst_4 2 rfl rfl)
theorem dX1_worst_98 : decode cX1_worst 98 = .ok (.bipush (-9), 2) := dk_16 247 (dk_at dksX1_worst_4 5 rfl rfl)
theorem dX1_worst_100 : decode cX1_worst 100 = .ok (.goto 9, 3) := dk_167 0 9 (dk_at dksX1_worst_4 7 rfl rfl)
theorem dX1_worst_103 : decode cX1_worst 103 = .ok (.aload_n 0, 1) := dk_42 (dk_at dksX1_worst_4 10 rfl rfl)
theorem dX1_worst_104 : decode cX1_worst 104 = .ok (.iload_n 3, 1) := dk_29 (dk_at dksX1_worst_4 11 rfl rfl)
theorem dX1_worst_105 : decode cX1_worst 105 = .ok (.iload_n 2, 1) := dk_28 (dk_at dksX1_worst_4 12 rfl rfl)
theorem dX1_worst_106 : decode cX1_worst 106 = .ok (.invokevirtual 246, 3) := dk_182 0 246 (dk_at dksX1_worst_4 13 rfl rfl)
theorem dX1_worst_109 : decode cX1_worst 109 = .ok (.ireturn, 1) := dk_172 (dk_at dksX1_worst_4 16 rfl rfl)
abbrev cX1_needs : ByteArray := prog_8_method_63_code
def yX1_needs : MethodName := ⟨RX1, "needs", "(II)I"⟩
def dkwX1_needs_1 : List UInt8 := [120, 182, 0, 255, 27, 184, 0, 240, 153, 0, 7, 4, 167, 0, 4, 3, 172]
abbrev dktX1_needs_1 : List UInt8 := dkwX1_needs_1 ++ []
def dkwX1_needs_0 : List UInt8 := [42, 4, 27, 28, 182, 0, 186, 62, 29, 156, 0, 7, 29, 167, 0, 27, 27, 28, 159, 0, 21, 42, 4, 28]
abbrev dktX1_needs_0 : List UInt8 := dkwX1_needs_0 ++ dktX1_needs_1
theorem dksX1_needs_0 : cX1_needs.data.toList.drop 0 = dktX1_needs_0 := by decide +kernel
theorem dksX1_needs_1 : cX1_needs.data.toList.drop 24 = dktX1_needs_1 := dk_seg dksX1_needs_0 24 rfl rfl
theorem dX1_needs_0 : decode cX1_needs 0 = .ok (.aload_n 0, 1) := dk_42 (dk_at dksX1_needs_0 0 rfl rfl)
theorem dX1_needs_1 : decode cX1_needs 1 = .ok (.iconst 1, 1) := dk_4 (dk_at dksX1_needs_0 1 rfl rfl)
theorem dX1_needs_2 : decode cX1_needs 2 = .ok (.iload_n 1, 1) := dk_27 (dk_at dksX1_needs_0 2 rfl rfl)
theorem dX1_needs_3 : decode cX1_needs 3 = .ok (.iload_n 2, 1) := dk_28 (dk_at dksX1_needs_0 3 rfl rfl)
theorem dX1_needs_4 : decode cX1_needs 4 = .ok (.invokevirtual 186, 3) := dk_182 0 186 (dk_at dksX1_needs_0 4 rfl rfl)
theorem dX1_needs_7 : decode cX1_needs 7 = .ok (.istore_n 3, 1) := dk_62 (dk_at dksX1_needs_0 7 rfl rfl)
theorem dX1_needs_8 : decode cX1_needs 8 = .ok (.iload_n 3, 1) := dk_29 (dk_at dksX1_needs_0 8 rfl rfl)
theorem dX1_needs_9 : decode cX1_needs 9 = .ok (.ifCond .ge 7, 3) := dk_156 0 7 (dk_at dksX1_needs_0 9 rfl rfl)
theorem dX1_needs_12 : decode cX1_needs 12 = .ok (.iload_n 3, 1) := dk_29 (dk_at dksX1_needs_0 12 rfl rfl)
theorem dX1_needs_13 : decode cX1_needs 13 = .ok (.goto 27, 3) := dk_167 0 27 (dk_at dksX1_needs_0 13 rfl rfl)
theorem dX1_needs_16 : decode cX1_needs 16 = .ok (.iload_n 1, 1) := dk_27 (dk_at dksX1_needs_0 16 rfl rfl)
theorem dX1_needs_17 : decode cX1_needs 17 = .ok (.iload_n 2, 1) := dk_28 (dk_at dksX1_needs_0 17 rfl rfl)
theorem dX1_needs_18 : decode cX1_needs 18 = .ok (.if_icmp .eq 21, 3) := dk_159 0 21 (dk_at dksX1_needs_0 18 rfl rfl)
theorem dX1_needs_21 : decode cX1_needs 21 = .ok (.aload_n 0, 1) := dk_42 (dk_at dksX1_needs_0 21 rfl rfl)
theorem dX1_needs_22 : decode cX1_needs 22 = .ok (.iconst 1, 1) := dk_4 (dk_at dksX1_needs_0 22 rfl rfl)
theorem dX1_needs_23 : decode cX1_needs 23 = .ok (.iload_n 2, 1) := dk_28 (dk_at dksX1_needs_0 23 rfl rfl)
theorem dX1_needs_24 : decode cX1_needs 24 = .ok (.ishl, 1) := dk_120 (dk_at dksX1_needs_1 0 rfl rfl)
theorem dX1_needs_25 : decode cX1_needs 25 = .ok (.invokevirtual 255, 3) := dk_182 0 255 (dk_at dksX1_needs_1 1 rfl rfl)
theorem dX1_needs_28 : decode cX1_needs 28 = .ok (.iload_n 1, 1) := dk_27 (dk_at dksX1_needs_1 4 rfl rfl)
theorem dX1_needs_29 : decode cX1_needs 29 = .ok (.invokestatic 240, 3) := dk_184 0 240 (dk_at dksX1_needs_1 5 rfl rfl)
theorem dX1_needs_32 : decode cX1_needs 32 = .ok (.ifCond .eq 7, 3) := dk_153 0 7 (dk_at dksX1_needs_1 8 rfl rfl)
theorem dX1_needs_35 : decode cX1_needs 35 = .ok (.iconst 1, 1) := dk_4 (dk_at dksX1_needs_1 11 rfl rfl)
theorem dX1_needs_36 : decode cX1_needs 36 = .ok (.goto 4, 3) := dk_167 0 4 (dk_at dksX1_needs_1 12 rfl rfl)
theorem dX1_needs_39 : decode cX1_needs 39 = .ok (.iconst 0, 1) := dk_3 (dk_at dksX1_needs_1 15 rfl rfl)
theorem dX1_needs_40 : decode cX1_needs 40 = .ok (.ireturn, 1) := dk_172 (dk_at dksX1_needs_1 16 rfl rfl)
abbrev cX1_rung : ByteArray := prog_8_method_64_code
def yX1_rung : MethodName := ⟨RX1, "rung", "(I)I"⟩
def dkwX1_rung_6 : List UInt8 := [132, 7, 1, 167, 255, 213, 132, 6, 1, 167, 255, 197, 21, 5, 62, 132, 4, 1, 167, 255, 164, 16, 247, 172]
abbrev dktX1_rung_6 : List UInt8 := dkwX1_rung_6 ++ []
def dkwX1_rung_5 : List UInt8 := [153, 0, 19, 29, 21, 7, 184, 0, 240, 153, 0, 10, 4, 21, 6, 120, 167, 0, 4, 3, 128, 54, 5]
abbrev dktX1_rung_5 : List UInt8 := dkwX1_rung_5 ++ dktX1_rung_6
def dkwX1_rung_4 : List UInt8 := [162, 0, 58, 3, 54, 7, 21, 7, 16, 8, 162, 0, 42, 21, 5, 42, 21, 6, 21, 7, 182, 0, 190]
abbrev dktX1_rung_4 : List UInt8 := dkwX1_rung_4 ++ dktX1_rung_5
def dkwX1_rung_3 : List UInt8 := [163, 0, 91, 29, 27, 184, 0, 240, 153, 0, 6, 21, 4, 172, 29, 54, 5, 3, 54, 6, 21, 6, 16, 8]
abbrev dktX1_rung_3 : List UInt8 := dkwX1_rung_3 ++ dktX1_rung_4
def dkwX1_rung_2 : List UInt8 := [21, 4, 120, 167, 0, 4, 3, 128, 62, 132, 4, 1, 167, 255, 216, 3, 54, 4, 21, 4, 16, 8]
abbrev dktX1_rung_2 : List UInt8 := dkwX1_rung_2 ++ dktX1_rung_3
def dkwX1_rung_1 : List UInt8 := [162, 0, 39, 29, 42, 180, 0, 23, 21, 4, 51, 153, 0, 19, 42, 21, 4, 182, 0, 168, 154, 0, 10, 4]
abbrev dktX1_rung_1 : List UInt8 := dkwX1_rung_1 ++ dktX1_rung_2
def dkwX1_rung_0 : List UInt8 := [42, 4, 27, 182, 0, 182, 61, 28, 156, 0, 5, 28, 172, 3, 62, 3, 54, 4, 21, 4, 16, 8]
abbrev dktX1_rung_0 : List UInt8 := dkwX1_rung_0 ++ dktX1_rung_1
theorem dksX1_rung_0 : cX1_rung.data.toList.drop 0 = dktX1_rung_0 := by decide +kernel
theorem dksX1_rung_1 : cX1_rung.data.toList.drop 22 = dktX1_rung_1 := dk_seg dksX1_rung_0 22 rfl rfl
theorem dksX1_rung_2 : cX1_rung.data.toList.drop 46 = dktX1_rung_2 := dk_seg dksX1_rung_1 24 rfl rfl
theorem dksX1_rung_3 : cX1_rung.data.toList.drop 68 = dktX1_rung_3 := dk_seg dksX1_rung_2 22 rfl rfl
theorem dksX1_rung_4 : cX1_rung.data.toList.drop 92 = dktX1_rung_4 := dk_seg dksX1_rung_3 24 rfl rfl
theorem dksX1_rung_5 : cX1_rung.data.toList.drop 115 = dktX1_rung_5 := dk_seg dksX1_rung_4 23 rfl rfl
theorem dksX1_rung_6 : cX1_rung.data.toList.drop 138 = dktX1_rung_6 := dk_seg dksX1_rung_5 23 rfl rfl
theorem dX1_rung_0 : decode cX1_rung 0 = .ok (.aload_n 0, 1) := dk_42 (dk_at dksX1_rung_0 0 rfl rfl)
theorem dX1_rung_1 : decode cX1_rung 1 = .ok (.iconst 1, 1) := dk_4 (dk_at dksX1_rung_0 1 rfl rfl)
theorem dX1_rung_2 : decode cX1_rung 2 = .ok (.iload_n 1, 1) := dk_27 (dk_at dksX1_rung_0 2 rfl rfl)
theorem dX1_rung_3 : decode cX1_rung 3 = .ok (.invokevirtual 182, 3) := dk_182 0 182 (dk_at dksX1_rung_0 3 rfl rfl)
theorem dX1_rung_6 : decode cX1_rung 6 = .ok (.istore_n 2, 1) := dk_61 (dk_at dksX1_rung_0 6 rfl rfl)
theorem dX1_rung_7 : decode cX1_rung 7 = .ok (.iload_n 2, 1) := dk_28 (dk_at dksX1_rung_0 7 rfl rfl)
theorem dX1_rung_8 : decode cX1_rung 8 = .ok (.ifCond .ge 5, 3) := dk_156 0 5 (dk_at dksX1_rung_0 8 rfl rfl)
theorem dX1_rung_11 : decode cX1_rung 11 = .ok (.iload_n 2, 1) := dk_28 (dk_at dksX1_rung_0 11 rfl rfl)
theorem dX1_rung_12 : decode cX1_rung 12 = .ok (.ireturn, 1) := dk_172 (dk_at dksX1_rung_0 12 rfl rfl)
theorem dX1_rung_13 : decode cX1_rung 13 = .ok (.iconst 0, 1) := dk_3 (dk_at dksX1_rung_0 13 rfl rfl)
theorem dX1_rung_14 : decode cX1_rung 14 = .ok (.istore_n 3, 1) := dk_62 (dk_at dksX1_rung_0 14 rfl rfl)
theorem dX1_rung_15 : decode cX1_rung 15 = .ok (.iconst 0, 1) := dk_3 (dk_at dksX1_rung_0 15 rfl rfl)
theorem dX1_rung_16 : decode cX1_rung 16 = .ok (.istore 4, 2) := dk_54 4 (dk_at dksX1_rung_0 16 rfl rfl)
theorem dX1_rung_18 : decode cX1_rung 18 = .ok (.iload 4, 2) := dk_21 4 (dk_at dksX1_rung_0 18 rfl rfl)
theorem dX1_rung_20 : decode cX1_rung 20 = .ok (.bipush 8, 2) := dk_16 8 (dk_at dksX1_rung_0 20 rfl rfl)
theorem dX1_rung_22 : decode cX1_rung 22 = .ok (.if_icmp .ge 39, 3) := dk_162 0 39 (dk_at dksX1_rung_1 0 rfl rfl)
theorem dX1_rung_25 : decode cX1_rung 25 = .ok (.iload_n 3, 1) := dk_29 (dk_at dksX1_rung_1 3 rfl rfl)
theorem dX1_rung_26 : decode cX1_rung 26 = .ok (.aload_n 0, 1) := dk_42 (dk_at dksX1_rung_1 4 rfl rfl)
theorem dX1_rung_27 : decode cX1_rung 27 = .ok (.getfield 23, 3) := dk_180 0 23 (dk_at dksX1_rung_1 5 rfl rfl)
theorem dX1_rung_30 : decode cX1_rung 30 = .ok (.iload 4, 2) := dk_21 4 (dk_at dksX1_rung_1 8 rfl rfl)
theorem dX1_rung_32 : decode cX1_rung 32 = .ok (.baload, 1) := dk_51 (dk_at dksX1_rung_1 10 rfl rfl)
theorem dX1_rung_33 : decode cX1_rung 33 = .ok (.ifCond .eq 19, 3) := dk_153 0 19 (dk_at dksX1_rung_1 11 rfl rfl)
theorem dX1_rung_36 : decode cX1_rung 36 = .ok (.aload_n 0, 1) := dk_42 (dk_at dksX1_rung_1 14 rfl rfl)
theorem dX1_rung_37 : decode cX1_rung 37 = .ok (.iload 4, 2) := dk_21 4 (dk_at dksX1_rung_1 15 rfl rfl)
theorem dX1_rung_39 : decode cX1_rung 39 = .ok (.invokevirtual 168, 3) := dk_182 0 168 (dk_at dksX1_rung_1 17 rfl rfl)
theorem dX1_rung_42 : decode cX1_rung 42 = .ok (.ifCond .ne 10, 3) := dk_154 0 10 (dk_at dksX1_rung_1 20 rfl rfl)
theorem dX1_rung_45 : decode cX1_rung 45 = .ok (.iconst 1, 1) := dk_4 (dk_at dksX1_rung_1 23 rfl rfl)
theorem dX1_rung_46 : decode cX1_rung 46 = .ok (.iload 4, 2) := dk_21 4 (dk_at dksX1_rung_2 0 rfl rfl)
theorem dX1_rung_48 : decode cX1_rung 48 = .ok (.ishl, 1) := dk_120 (dk_at dksX1_rung_2 2 rfl rfl)
theorem dX1_rung_49 : decode cX1_rung 49 = .ok (.goto 4, 3) := dk_167 0 4 (dk_at dksX1_rung_2 3 rfl rfl)
theorem dX1_rung_52 : decode cX1_rung 52 = .ok (.iconst 0, 1) := dk_3 (dk_at dksX1_rung_2 6 rfl rfl)
theorem dX1_rung_53 : decode cX1_rung 53 = .ok (.ior, 1) := dk_128 (dk_at dksX1_rung_2 7 rfl rfl)
theorem dX1_rung_54 : decode cX1_rung 54 = .ok (.istore_n 3, 1) := dk_62 (dk_at dksX1_rung_2 8 rfl rfl)
theorem dX1_rung_55 : decode cX1_rung 55 = .ok (.iinc 4 1, 3) := dk_132 4 1 (dk_at dksX1_rung_2 9 rfl rfl)
theorem dX1_rung_58 : decode cX1_rung 58 = .ok (.goto (-40), 3) := dk_167 255 216 (dk_at dksX1_rung_2 12 rfl rfl)
theorem dX1_rung_61 : decode cX1_rung 61 = .ok (.iconst 0, 1) := dk_3 (dk_at dksX1_rung_2 15 rfl rfl)
theorem dX1_rung_62 : decode cX1_rung 62 = .ok (.istore 4, 2) := dk_54 4 (dk_at dksX1_rung_2 16 rfl rfl)
theorem dX1_rung_64 : decode cX1_rung 64 = .ok (.iload 4, 2) := dk_21 4 (dk_at dksX1_rung_2 18 rfl rfl)
theorem dX1_rung_66 : decode cX1_rung 66 = .ok (.bipush 8, 2) := dk_16 8 (dk_at dksX1_rung_2 20 rfl rfl)
theorem dX1_rung_68 : decode cX1_rung 68 = .ok (.if_icmp .gt 91, 3) := dk_163 0 91 (dk_at dksX1_rung_3 0 rfl rfl)
theorem dX1_rung_71 : decode cX1_rung 71 = .ok (.iload_n 3, 1) := dk_29 (dk_at dksX1_rung_3 3 rfl rfl)
theorem dX1_rung_72 : decode cX1_rung 72 = .ok (.iload_n 1, 1) := dk_27 (dk_at dksX1_rung_3 4 rfl rfl)
theorem dX1_rung_73 : decode cX1_rung 73 = .ok (.invokestatic 240, 3) := dk_184 0 240 (dk_at dksX1_rung_3 5 rfl rfl)
theorem dX1_rung_76 : decode cX1_rung 76 = .ok (.ifCond .eq 6, 3) := dk_153 0 6 (dk_at dksX1_rung_3 8 rfl rfl)
theorem dX1_rung_79 : decode cX1_rung 79 = .ok (.iload 4, 2) := dk_21 4 (dk_at dksX1_rung_3 11 rfl rfl)
theorem dX1_rung_81 : decode cX1_rung 81 = .ok (.ireturn, 1) := dk_172 (dk_at dksX1_rung_3 13 rfl rfl)
theorem dX1_rung_82 : decode cX1_rung 82 = .ok (.iload_n 3, 1) := dk_29 (dk_at dksX1_rung_3 14 rfl rfl)
theorem dX1_rung_83 : decode cX1_rung 83 = .ok (.istore 5, 2) := dk_54 5 (dk_at dksX1_rung_3 15 rfl rfl)
theorem dX1_rung_85 : decode cX1_rung 85 = .ok (.iconst 0, 1) := dk_3 (dk_at dksX1_rung_3 17 rfl rfl)
theorem dX1_rung_86 : decode cX1_rung 86 = .ok (.istore 6, 2) := dk_54 6 (dk_at dksX1_rung_3 18 rfl rfl)
theorem dX1_rung_88 : decode cX1_rung 88 = .ok (.iload 6, 2) := dk_21 6 (dk_at dksX1_rung_3 20 rfl rfl)
theorem dX1_rung_90 : decode cX1_rung 90 = .ok (.bipush 8, 2) := dk_16 8 (dk_at dksX1_rung_3 22 rfl rfl)
theorem dX1_rung_92 : decode cX1_rung 92 = .ok (.if_icmp .ge 58, 3) := dk_162 0 58 (dk_at dksX1_rung_4 0 rfl rfl)
theorem dX1_rung_95 : decode cX1_rung 95 = .ok (.iconst 0, 1) := dk_3 (dk_at dksX1_rung_4 3 rfl rfl)
theorem dX1_rung_96 : decode cX1_rung 96 = .ok (.istore 7, 2) := dk_54 7 (dk_at dksX1_rung_4 4 rfl rfl)
theorem dX1_rung_98 : decode cX1_rung 98 = .ok (.iload 7, 2) := dk_21 7 (dk_at dksX1_rung_4 6 rfl rfl)
theorem dX1_rung_100 : decode cX1_rung 100 = .ok (.bipush 8, 2) := dk_16 8 (dk_at dksX1_rung_4 8 rfl rfl)
theorem dX1_rung_102 : decode cX1_rung 102 = .ok (.if_icmp .ge 42, 3) := dk_162 0 42 (dk_at dksX1_rung_4 10 rfl rfl)
theorem dX1_rung_105 : decode cX1_rung 105 = .ok (.iload 5, 2) := dk_21 5 (dk_at dksX1_rung_4 13 rfl rfl)
theorem dX1_rung_107 : decode cX1_rung 107 = .ok (.aload_n 0, 1) := dk_42 (dk_at dksX1_rung_4 15 rfl rfl)
theorem dX1_rung_108 : decode cX1_rung 108 = .ok (.iload 6, 2) := dk_21 6 (dk_at dksX1_rung_4 16 rfl rfl)
theorem dX1_rung_110 : decode cX1_rung 110 = .ok (.iload 7, 2) := dk_21 7 (dk_at dksX1_rung_4 18 rfl rfl)
theorem dX1_rung_112 : decode cX1_rung 112 = .ok (.invokevirtual 190, 3) := dk_182 0 190 (dk_at dksX1_rung_4 20 rfl rfl)
theorem dX1_rung_115 : decode cX1_rung 115 = .ok (.ifCond .eq 19, 3) := dk_153 0 19 (dk_at dksX1_rung_5 0 rfl rfl)
theorem dX1_rung_118 : decode cX1_rung 118 = .ok (.iload_n 3, 1) := dk_29 (dk_at dksX1_rung_5 3 rfl rfl)
theorem dX1_rung_119 : decode cX1_rung 119 = .ok (.iload 7, 2) := dk_21 7 (dk_at dksX1_rung_5 4 rfl rfl)
theorem dX1_rung_121 : decode cX1_rung 121 = .ok (.invokestatic 240, 3) := dk_184 0 240 (dk_at dksX1_rung_5 6 rfl rfl)
theorem dX1_rung_124 : decode cX1_rung 124 = .ok (.ifCond .eq 10, 3) := dk_153 0 10 (dk_at dksX1_rung_5 9 rfl rfl)
theorem dX1_rung_127 : decode cX1_rung 127 = .ok (.iconst 1, 1) := dk_4 (dk_at dksX1_rung_5 12 rfl rfl)
theorem dX1_rung_128 : decode cX1_rung 128 = .ok (.iload 6, 2) := dk_21 6 (dk_at dksX1_rung_5 13 rfl rfl)
theorem dX1_rung_130 : decode cX1_rung 130 = .ok (.ishl, 1) := dk_120 (dk_at dksX1_rung_5 15 rfl rfl)
theorem dX1_rung_131 : decode cX1_rung 131 = .ok (.goto 4, 3) := dk_167 0 4 (dk_at dksX1_rung_5 16 rfl rfl)
theorem dX1_rung_134 : decode cX1_rung 134 = .ok (.iconst 0, 1) := dk_3 (dk_at dksX1_rung_5 19 rfl rfl)
theorem dX1_rung_135 : decode cX1_rung 135 = .ok (.ior, 1) := dk_128 (dk_at dksX1_rung_5 20 rfl rfl)
theorem dX1_rung_136 : decode cX1_rung 136 = .ok (.istore 5, 2) := dk_54 5 (dk_at dksX1_rung_5 21 rfl rfl)
theorem dX1_rung_138 : decode cX1_rung 138 = .ok (.iinc 7 1, 3) := dk_132 7 1 (dk_at dksX1_rung_6 0 rfl rfl)
theorem dX1_rung_141 : decode cX1_rung 141 = .ok (.goto (-43), 3) := dk_167 255 213 (dk_at dksX1_rung_6 3 rfl rfl)
theorem dX1_rung_144 : decode cX1_rung 144 = .ok (.iinc 6 1, 3) := dk_132 6 1 (dk_at dksX1_rung_6 6 rfl rfl)
theorem dX1_rung_147 : decode cX1_rung 147 = .ok (.goto (-59), 3) := dk_167 255 197 (dk_at dksX1_rung_6 9 rfl rfl)
theorem dX1_rung_150 : decode cX1_rung 150 = .ok (.iload 5, 2) := dk_21 5 (dk_at dksX1_rung_6 12 rfl rfl)
theorem dX1_rung_152 : decode cX1_rung 152 = .ok (.istore_n 3, 1) := dk_62 (dk_at dksX1_rung_6 14 rfl rfl)
theorem dX1_rung_153 : decode cX1_rung 153 = .ok (.iinc 4 1, 3) := dk_132 4 1 (dk_at dksX1_rung_6 15 rfl rfl)
theorem dX1_rung_156 : decode cX1_rung 156 = .ok (.goto (-92), 3) := dk_167 255 164 (dk_at dksX1_rung_6 18 rfl rfl)
theorem dX1_rung_159 : decode cX1_rung 159 = .ok (.bipush (-9), 2) := dk_16 247 (dk_at dksX1_rung_6 21 rfl rfl)
theorem dX1_rung_161 : decode cX1_rung 161 = .ok (.ireturn, 1) := dk_172 (dk_at dksX1_rung_6 23 rfl rfl)
abbrev cX1_rings : ByteArray := prog_8_method_66_code
def yX1_rings : MethodName := ⟨RX1, "rings", "(I)I"⟩
def dkwX1_rings_1 : List UInt8 := [29, 29, 4, 29, 120, 27, 4, 100, 182, 1, 5, 96, 61, 132, 3, 1, 167, 255, 232, 28, 172]
abbrev dktX1_rings_1 : List UInt8 := dkwX1_rings_1 ++ []
def dkwX1_rings_0 : List UInt8 := [27, 4, 16, 8, 184, 0, 105, 154, 0, 5, 2, 172, 3, 61, 3, 62, 29, 16, 8, 162, 0, 24, 28, 42]
abbrev dktX1_rings_0 : List UInt8 := dkwX1_rings_0 ++ dktX1_rings_1
theorem dksX1_rings_0 : cX1_rings.data.toList.drop 0 = dktX1_rings_0 := by decide +kernel
theorem dksX1_rings_1 : cX1_rings.data.toList.drop 24 = dktX1_rings_1 := dk_seg dksX1_rings_0 24 rfl rfl
theorem dX1_rings_0 : decode cX1_rings 0 = .ok (.iload_n 1, 1) := dk_27 (dk_at dksX1_rings_0 0 rfl rfl)
theorem dX1_rings_1 : decode cX1_rings 1 = .ok (.iconst 1, 1) := dk_4 (dk_at dksX1_rings_0 1 rfl rfl)
theorem dX1_rings_2 : decode cX1_rings 2 = .ok (.bipush 8, 2) := dk_16 8 (dk_at dksX1_rings_0 2 rfl rfl)
theorem dX1_rings_4 : decode cX1_rings 4 = .ok (.invokestatic 105, 3) := dk_184 0 105 (dk_at dksX1_rings_0 4 rfl rfl)
theorem dX1_rings_7 : decode cX1_rings 7 = .ok (.ifCond .ne 5, 3) := dk_154 0 5 (dk_at dksX1_rings_0 7 rfl rfl)
theorem dX1_rings_10 : decode cX1_rings 10 = .ok (.iconst (-1), 1) := dk_2 (dk_at dksX1_rings_0 10 rfl rfl)
theorem dX1_rings_11 : decode cX1_rings 11 = .ok (.ireturn, 1) := dk_172 (dk_at dksX1_rings_0 11 rfl rfl)
theorem dX1_rings_12 : decode cX1_rings 12 = .ok (.iconst 0, 1) := dk_3 (dk_at dksX1_rings_0 12 rfl rfl)
theorem dX1_rings_13 : decode cX1_rings 13 = .ok (.istore_n 2, 1) := dk_61 (dk_at dksX1_rings_0 13 rfl rfl)
theorem dX1_rings_14 : decode cX1_rings 14 = .ok (.iconst 0, 1) := dk_3 (dk_at dksX1_rings_0 14 rfl rfl)
theorem dX1_rings_15 : decode cX1_rings 15 = .ok (.istore_n 3, 1) := dk_62 (dk_at dksX1_rings_0 15 rfl rfl)
theorem dX1_rings_16 : decode cX1_rings 16 = .ok (.iload_n 3, 1) := dk_29 (dk_at dksX1_rings_0 16 rfl rfl)
theorem dX1_rings_17 : decode cX1_rings 17 = .ok (.bipush 8, 2) := dk_16 8 (dk_at dksX1_rings_0 17 rfl rfl)
theorem dX1_rings_19 : decode cX1_rings 19 = .ok (.if_icmp .ge 24, 3) := dk_162 0 24 (dk_at dksX1_rings_0 19 rfl rfl)
theorem dX1_rings_22 : decode cX1_rings 22 = .ok (.iload_n 2, 1) := dk_28 (dk_at dksX1_rings_0 22 rfl rfl)
theorem dX1_rings_23 : decode cX1_rings 23 = .ok (.aload_n 0, 1) := dk_42 (dk_at dksX1_rings_0 23 rfl rfl)
theorem dX1_rings_24 : decode cX1_rings 24 = .ok (.iload_n 3, 1) := dk_29 (dk_at dksX1_rings_1 0 rfl rfl)
theorem dX1_rings_25 : decode cX1_rings 25 = .ok (.iload_n 3, 1) := dk_29 (dk_at dksX1_rings_1 1 rfl rfl)
theorem dX1_rings_26 : decode cX1_rings 26 = .ok (.iconst 1, 1) := dk_4 (dk_at dksX1_rings_1 2 rfl rfl)
theorem dX1_rings_27 : decode cX1_rings 27 = .ok (.iload_n 3, 1) := dk_29 (dk_at dksX1_rings_1 3 rfl rfl)
theorem dX1_rings_28 : decode cX1_rings 28 = .ok (.ishl, 1) := dk_120 (dk_at dksX1_rings_1 4 rfl rfl)
theorem dX1_rings_29 : decode cX1_rings 29 = .ok (.iload_n 1, 1) := dk_27 (dk_at dksX1_rings_1 5 rfl rfl)
theorem dX1_rings_30 : decode cX1_rings 30 = .ok (.iconst 1, 1) := dk_4 (dk_at dksX1_rings_1 6 rfl rfl)
theorem dX1_rings_31 : decode cX1_rings 31 = .ok (.isub, 1) := dk_100 (dk_at dksX1_rings_1 7 rfl rfl)
theorem dX1_rings_32 : decode cX1_rings 32 = .ok (.invokevirtual 261, 3) := dk_182 1 5 (dk_at dksX1_rings_1 8 rfl rfl)
theorem dX1_rings_35 : decode cX1_rings 35 = .ok (.iadd, 1) := dk_96 (dk_at dksX1_rings_1 11 rfl rfl)
theorem dX1_rings_36 : decode cX1_rings 36 = .ok (.istore_n 2, 1) := dk_61 (dk_at dksX1_rings_1 12 rfl rfl)
theorem dX1_rings_37 : decode cX1_rings 37 = .ok (.iinc 3 1, 3) := dk_132 3 1 (dk_at dksX1_rings_1 13 rfl rfl)
theorem dX1_rings_40 : decode cX1_rings 40 = .ok (.goto (-24), 3) := dk_167 255 232 (dk_at dksX1_rings_1 16 rfl rfl)
theorem dX1_rings_43 : decode cX1_rings 43 = .ok (.iload_n 2, 1) := dk_28 (dk_at dksX1_rings_1 19 rfl rfl)
theorem dX1_rings_44 : decode cX1_rings 44 = .ok (.ireturn, 1) := dk_172 (dk_at dksX1_rings_1 20 rfl rfl)
abbrev cX1_ringsFrom : ByteArray := prog_8_method_65_code
def yX1_ringsFrom : MethodName := ⟨RX1, "ringsFrom", "(IIII)I"⟩
def dkwX1_ringsFrom_3 : List UInt8 := [182, 1, 5, 167, 0, 4, 3, 96, 54, 5, 132, 6, 1, 167, 255, 201, 21, 5, 172]
abbrev dktX1_ringsFrom_3 : List UInt8 := dkwX1_ringsFrom_3 ++ []
def dkwX1_ringsFrom_2 : List UInt8 := [21, 6, 184, 0, 240, 154, 0, 23, 42, 27, 21, 6, 29, 4, 21, 6, 120, 128, 21, 4, 4, 100]
abbrev dktX1_ringsFrom_2 : List UInt8 := dkwX1_ringsFrom_2 ++ dktX1_ringsFrom_3
def dkwX1_ringsFrom_1 : List UInt8 := [4, 96, 54, 6, 21, 6, 16, 8, 162, 0, 54, 21, 5, 42, 28, 21, 6, 182, 0, 190, 153, 0, 32, 29]
abbrev dktX1_ringsFrom_1 : List UInt8 := dkwX1_ringsFrom_1 ++ dktX1_ringsFrom_2
def dkwX1_ringsFrom_0 : List UInt8 := [21, 4, 154, 0, 18, 42, 28, 27, 182, 0, 190, 153, 0, 7, 4, 167, 0, 4, 3, 172, 3, 54, 5, 27]
abbrev dktX1_ringsFrom_0 : List UInt8 := dkwX1_ringsFrom_0 ++ dktX1_ringsFrom_1
theorem dksX1_ringsFrom_0 : cX1_ringsFrom.data.toList.drop 0 = dktX1_ringsFrom_0 := by decide +kernel
theorem dksX1_ringsFrom_1 : cX1_ringsFrom.data.toList.drop 24 = dktX1_ringsFrom_1 := dk_seg dksX1_ringsFrom_0 24 rfl rfl
theorem dksX1_ringsFrom_2 : cX1_ringsFrom.data.toList.drop 48 = dktX1_ringsFrom_2 := dk_seg dksX1_ringsFrom_1 24 rfl rfl
theorem dksX1_ringsFrom_3 : cX1_ringsFrom.data.toList.drop 70 = dktX1_ringsFrom_3 := dk_seg dksX1_ringsFrom_2 22 rfl rfl
theorem dX1_ringsFrom_0 : decode cX1_ringsFrom 0 = .ok (.iload 4, 2) := dk_21 4 (dk_at dksX1_ringsFrom_0 0 rfl rfl)
theorem dX1_ringsFrom_2 : decode cX1_ringsFrom 2 = .ok (.ifCond .ne 18, 3) := dk_154 0 18 (dk_at dksX1_ringsFrom_0 2 rfl rfl)
theorem dX1_ringsFrom_5 : decode cX1_ringsFrom 5 = .ok (.aload_n 0, 1) := dk_42 (dk_at dksX1_ringsFrom_0 5 rfl rfl)
theorem dX1_ringsFrom_6 : decode cX1_ringsFrom 6 = .ok (.iload_n 2, 1) := dk_28 (dk_at dksX1_ringsFrom_0 6 rfl rfl)
theorem dX1_ringsFrom_7 : decode cX1_ringsFrom 7 = .ok (.iload_n 1, 1) := dk_27 (dk_at dksX1_ringsFrom_0 7 rfl rfl)
theorem dX1_ringsFrom_8 : decode cX1_ringsFrom 8 = .ok (.invokevirtual 190, 3) := dk_182 0 190 (dk_at dksX1_ringsFrom_0 8 rfl rfl)
theorem dX1_ringsFrom_11 : decode cX1_ringsFrom 11 = .ok (.ifCond .eq 7, 3) := dk_153 0 7 (dk_at dksX1_ringsFrom_0 11 rfl rfl)
theorem dX1_ringsFrom_14 : decode cX1_ringsFrom 14 = .ok (.iconst 1, 1) := dk_4 (dk_at dksX1_ringsFrom_0 14 rfl rfl)
theorem dX1_ringsFrom_15 : decode cX1_ringsFrom 15 = .ok (.goto 4, 3) := dk_167 0 4 (dk_at dksX1_ringsFrom_0 15 rfl rfl)
theorem dX1_ringsFrom_18 : decode cX1_ringsFrom 18 = .ok (.iconst 0, 1) := dk_3 (dk_at dksX1_ringsFrom_0 18 rfl rfl)
theorem dX1_ringsFrom_19 : decode cX1_ringsFrom 19 = .ok (.ireturn, 1) := dk_172 (dk_at dksX1_ringsFrom_0 19 rfl rfl)
theorem dX1_ringsFrom_20 : decode cX1_ringsFrom 20 = .ok (.iconst 0, 1) := dk_3 (dk_at dksX1_ringsFrom_0 20 rfl rfl)
theorem dX1_ringsFrom_21 : decode cX1_ringsFrom 21 = .ok (.istore 5, 2) := dk_54 5 (dk_at dksX1_ringsFrom_0 21 rfl rfl)
theorem dX1_ringsFrom_23 : decode cX1_ringsFrom 23 = .ok (.iload_n 1, 1) := dk_27 (dk_at dksX1_ringsFrom_0 23 rfl rfl)
theorem dX1_ringsFrom_24 : decode cX1_ringsFrom 24 = .ok (.iconst 1, 1) := dk_4 (dk_at dksX1_ringsFrom_1 0 rfl rfl)
theorem dX1_ringsFrom_25 : decode cX1_ringsFrom 25 = .ok (.iadd, 1) := dk_96 (dk_at dksX1_ringsFrom_1 1 rfl rfl)
theorem dX1_ringsFrom_26 : decode cX1_ringsFrom 26 = .ok (.istore 6, 2) := dk_54 6 (dk_at dksX1_ringsFrom_1 2 rfl rfl)
theorem dX1_ringsFrom_28 : decode cX1_ringsFrom 28 = .ok (.iload 6, 2) := dk_21 6 (dk_at dksX1_ringsFrom_1 4 rfl rfl)
theorem dX1_ringsFrom_30 : decode cX1_ringsFrom 30 = .ok (.bipush 8, 2) := dk_16 8 (dk_at dksX1_ringsFrom_1 6 rfl rfl)
theorem dX1_ringsFrom_32 : decode cX1_ringsFrom 32 = .ok (.if_icmp .ge 54, 3) := dk_162 0 54 (dk_at dksX1_ringsFrom_1 8 rfl rfl)
theorem dX1_ringsFrom_35 : decode cX1_ringsFrom 35 = .ok (.iload 5, 2) := dk_21 5 (dk_at dksX1_ringsFrom_1 11 rfl rfl)
theorem dX1_ringsFrom_37 : decode cX1_ringsFrom 37 = .ok (.aload_n 0, 1) := dk_42 (dk_at dksX1_ringsFrom_1 13 rfl rfl)
theorem dX1_ringsFrom_38 : decode cX1_ringsFrom 38 = .ok (.iload_n 2, 1) := dk_28 (dk_at dksX1_ringsFrom_1 14 rfl rfl)
theorem dX1_ringsFrom_39 : decode cX1_ringsFrom 39 = .ok (.iload 6, 2) := dk_21 6 (dk_at dksX1_ringsFrom_1 15 rfl rfl)
theorem dX1_ringsFrom_41 : decode cX1_ringsFrom 41 = .ok (.invokevirtual 190, 3) := dk_182 0 190 (dk_at dksX1_ringsFrom_1 17 rfl rfl)
theorem dX1_ringsFrom_44 : decode cX1_ringsFrom 44 = .ok (.ifCond .eq 32, 3) := dk_153 0 32 (dk_at dksX1_ringsFrom_1 20 rfl rfl)
theorem dX1_ringsFrom_47 : decode cX1_ringsFrom 47 = .ok (.iload_n 3, 1) := dk_29 (dk_at dksX1_ringsFrom_1 23 rfl rfl)
theorem dX1_ringsFrom_48 : decode cX1_ringsFrom 48 = .ok (.iload 6, 2) := dk_21 6 (dk_at dksX1_ringsFrom_2 0 rfl rfl)
theorem dX1_ringsFrom_50 : decode cX1_ringsFrom 50 = .ok (.invokestatic 240, 3) := dk_184 0 240 (dk_at dksX1_ringsFrom_2 2 rfl rfl)
theorem dX1_ringsFrom_53 : decode cX1_ringsFrom 53 = .ok (.ifCond .ne 23, 3) := dk_154 0 23 (dk_at dksX1_ringsFrom_2 5 rfl rfl)
theorem dX1_ringsFrom_56 : decode cX1_ringsFrom 56 = .ok (.aload_n 0, 1) := dk_42 (dk_at dksX1_ringsFrom_2 8 rfl rfl)
theorem dX1_ringsFrom_57 : decode cX1_ringsFrom 57 = .ok (.iload_n 1, 1) := dk_27 (dk_at dksX1_ringsFrom_2 9 rfl rfl)
theorem dX1_ringsFrom_58 : decode cX1_ringsFrom 58 = .ok (.iload 6, 2) := dk_21 6 (dk_at dksX1_ringsFrom_2 10 rfl rfl)
theorem dX1_ringsFrom_60 : decode cX1_ringsFrom 60 = .ok (.iload_n 3, 1) := dk_29 (dk_at dksX1_ringsFrom_2 12 rfl rfl)
theorem dX1_ringsFrom_61 : decode cX1_ringsFrom 61 = .ok (.iconst 1, 1) := dk_4 (dk_at dksX1_ringsFrom_2 13 rfl rfl)
theorem dX1_ringsFrom_62 : decode cX1_ringsFrom 62 = .ok (.iload 6, 2) := dk_21 6 (dk_at dksX1_ringsFrom_2 14 rfl rfl)
theorem dX1_ringsFrom_64 : decode cX1_ringsFrom 64 = .ok (.ishl, 1) := dk_120 (dk_at dksX1_ringsFrom_2 16 rfl rfl)
theorem dX1_ringsFrom_65 : decode cX1_ringsFrom 65 = .ok (.ior, 1) := dk_128 (dk_at dksX1_ringsFrom_2 17 rfl rfl)
theorem dX1_ringsFrom_66 : decode cX1_ringsFrom 66 = .ok (.iload 4, 2) := dk_21 4 (dk_at dksX1_ringsFrom_2 18 rfl rfl)
theorem dX1_ringsFrom_68 : decode cX1_ringsFrom 68 = .ok (.iconst 1, 1) := dk_4 (dk_at dksX1_ringsFrom_2 20 rfl rfl)
theorem dX1_ringsFrom_69 : decode cX1_ringsFrom 69 = .ok (.isub, 1) := dk_100 (dk_at dksX1_ringsFrom_2 21 rfl rfl)
theorem dX1_ringsFrom_70 : decode cX1_ringsFrom 70 = .ok (.invokevirtual 261, 3) := dk_182 1 5 (dk_at dksX1_ringsFrom_3 0 rfl rfl)
theorem dX1_ringsFrom_73 : decode cX1_ringsFrom 73 = .ok (.goto 4, 3) := dk_167 0 4 (dk_at dksX1_ringsFrom_3 3 rfl rfl)
theorem dX1_ringsFrom_76 : decode cX1_ringsFrom 76 = .ok (.iconst 0, 1) := dk_3 (dk_at dksX1_ringsFrom_3 6 rfl rfl)
theorem dX1_ringsFrom_77 : decode cX1_ringsFrom 77 = .ok (.iadd, 1) := dk_96 (dk_at dksX1_ringsFrom_3 7 rfl rfl)
theorem dX1_ringsFrom_78 : decode cX1_ringsFrom 78 = .ok (.istore 5, 2) := dk_54 5 (dk_at dksX1_ringsFrom_3 8 rfl rfl)
theorem dX1_ringsFrom_80 : decode cX1_ringsFrom 80 = .ok (.iinc 6 1, 3) := dk_132 6 1 (dk_at dksX1_ringsFrom_3 10 rfl rfl)
theorem dX1_ringsFrom_83 : decode cX1_ringsFrom 83 = .ok (.goto (-55), 3) := dk_167 255 201 (dk_at dksX1_ringsFrom_3 13 rfl rfl)
theorem dX1_ringsFrom_86 : decode cX1_ringsFrom 86 = .ok (.iload 5, 2) := dk_21 5 (dk_at dksX1_ringsFrom_3 16 rfl rfl)
theorem dX1_ringsFrom_88 : decode cX1_ringsFrom 88 = .ok (.ireturn, 1) := dk_172 (dk_at dksX1_ringsFrom_3 18 rfl rfl)
abbrev cX1_span : ByteArray := prog_8_method_69_code
def yX1_span : MethodName := ⟨RX1, "span", "(IIII)I"⟩
def dkwX1_span_3 : List UInt8 := [42, 180, 0, 60, 16, 8, 27, 104, 28, 96, 21, 4, 79, 4, 172]
abbrev dktX1_span_3 : List UInt8 := dkwX1_span_3 ++ []
def dkwX1_span_2 : List UInt8 := [182, 0, 190, 154, 0, 9, 42, 4, 182, 0, 119, 172, 42, 180, 0, 57, 16, 8, 27, 104, 28, 96, 29, 79]
abbrev dktX1_span_2 : List UInt8 := dkwX1_span_2 ++ dktX1_span_3
def dkwX1_span_1 : List UInt8 := [167, 0, 4, 3, 27, 28, 182, 0, 186, 54, 5, 21, 5, 156, 0, 6, 21, 5, 172, 42, 27, 28]
abbrev dktX1_span_1 : List UInt8 := dkwX1_span_1 ++ dktX1_span_2
def dkwX1_span_0 : List UInt8 := [42, 29, 3, 18, 153, 184, 0, 105, 153, 0, 18, 21, 4, 29, 18, 153, 184, 0, 105, 153, 0, 7, 4]
abbrev dktX1_span_0 : List UInt8 := dkwX1_span_0 ++ dktX1_span_1
theorem dksX1_span_0 : cX1_span.data.toList.drop 0 = dktX1_span_0 := by decide +kernel
theorem dksX1_span_1 : cX1_span.data.toList.drop 23 = dktX1_span_1 := dk_seg dksX1_span_0 23 rfl rfl
theorem dksX1_span_2 : cX1_span.data.toList.drop 45 = dktX1_span_2 := dk_seg dksX1_span_1 22 rfl rfl
theorem dksX1_span_3 : cX1_span.data.toList.drop 69 = dktX1_span_3 := dk_seg dksX1_span_2 24 rfl rfl
theorem dX1_span_0 : decode cX1_span 0 = .ok (.aload_n 0, 1) := dk_42 (dk_at dksX1_span_0 0 rfl rfl)
theorem dX1_span_1 : decode cX1_span 1 = .ok (.iload_n 3, 1) := dk_29 (dk_at dksX1_span_0 1 rfl rfl)
theorem dX1_span_2 : decode cX1_span 2 = .ok (.iconst 0, 1) := dk_3 (dk_at dksX1_span_0 2 rfl rfl)
theorem dX1_span_3 : decode cX1_span 3 = .ok (.ldc 153, 2) := dk_18 153 (dk_at dksX1_span_0 3 rfl rfl)
theorem dX1_span_5 : decode cX1_span 5 = .ok (.invokestatic 105, 3) := dk_184 0 105 (dk_at dksX1_span_0 5 rfl rfl)
theorem dX1_span_8 : decode cX1_span 8 = .ok (.ifCond .eq 18, 3) := dk_153 0 18 (dk_at dksX1_span_0 8 rfl rfl)
theorem dX1_span_11 : decode cX1_span 11 = .ok (.iload 4, 2) := dk_21 4 (dk_at dksX1_span_0 11 rfl rfl)
theorem dX1_span_13 : decode cX1_span 13 = .ok (.iload_n 3, 1) := dk_29 (dk_at dksX1_span_0 13 rfl rfl)
theorem dX1_span_14 : decode cX1_span 14 = .ok (.ldc 153, 2) := dk_18 153 (dk_at dksX1_span_0 14 rfl rfl)
theorem dX1_span_16 : decode cX1_span 16 = .ok (.invokestatic 105, 3) := dk_184 0 105 (dk_at dksX1_span_0 16 rfl rfl)
theorem dX1_span_19 : decode cX1_span 19 = .ok (.ifCond .eq 7, 3) := dk_153 0 7 (dk_at dksX1_span_0 19 rfl rfl)
theorem dX1_span_22 : decode cX1_span 22 = .ok (.iconst 1, 1) := dk_4 (dk_at dksX1_span_0 22 rfl rfl)
theorem dX1_span_23 : decode cX1_span 23 = .ok (.goto 4, 3) := dk_167 0 4 (dk_at dksX1_span_1 0 rfl rfl)
theorem dX1_span_26 : decode cX1_span 26 = .ok (.iconst 0, 1) := dk_3 (dk_at dksX1_span_1 3 rfl rfl)
theorem dX1_span_27 : decode cX1_span 27 = .ok (.iload_n 1, 1) := dk_27 (dk_at dksX1_span_1 4 rfl rfl)
theorem dX1_span_28 : decode cX1_span 28 = .ok (.iload_n 2, 1) := dk_28 (dk_at dksX1_span_1 5 rfl rfl)
theorem dX1_span_29 : decode cX1_span 29 = .ok (.invokevirtual 186, 3) := dk_182 0 186 (dk_at dksX1_span_1 6 rfl rfl)
theorem dX1_span_32 : decode cX1_span 32 = .ok (.istore 5, 2) := dk_54 5 (dk_at dksX1_span_1 9 rfl rfl)
theorem dX1_span_34 : decode cX1_span 34 = .ok (.iload 5, 2) := dk_21 5 (dk_at dksX1_span_1 11 rfl rfl)
theorem dX1_span_36 : decode cX1_span 36 = .ok (.ifCond .ge 6, 3) := dk_156 0 6 (dk_at dksX1_span_1 13 rfl rfl)
theorem dX1_span_39 : decode cX1_span 39 = .ok (.iload 5, 2) := dk_21 5 (dk_at dksX1_span_1 16 rfl rfl)
theorem dX1_span_41 : decode cX1_span 41 = .ok (.ireturn, 1) := dk_172 (dk_at dksX1_span_1 18 rfl rfl)
theorem dX1_span_42 : decode cX1_span 42 = .ok (.aload_n 0, 1) := dk_42 (dk_at dksX1_span_1 19 rfl rfl)
theorem dX1_span_43 : decode cX1_span 43 = .ok (.iload_n 1, 1) := dk_27 (dk_at dksX1_span_1 20 rfl rfl)
theorem dX1_span_44 : decode cX1_span 44 = .ok (.iload_n 2, 1) := dk_28 (dk_at dksX1_span_1 21 rfl rfl)
theorem dX1_span_45 : decode cX1_span 45 = .ok (.invokevirtual 190, 3) := dk_182 0 190 (dk_at dksX1_span_2 0 rfl rfl)
theorem dX1_span_48 : decode cX1_span 48 = .ok (.ifCond .ne 9, 3) := dk_154 0 9 (dk_at dksX1_span_2 3 rfl rfl)
theorem dX1_span_51 : decode cX1_span 51 = .ok (.aload_n 0, 1) := dk_42 (dk_at dksX1_span_2 6 rfl rfl)
theorem dX1_span_52 : decode cX1_span 52 = .ok (.iconst 1, 1) := dk_4 (dk_at dksX1_span_2 7 rfl rfl)
theorem dX1_span_53 : decode cX1_span 53 = .ok (.invokevirtual 119, 3) := dk_182 0 119 (dk_at dksX1_span_2 8 rfl rfl)
theorem dX1_span_56 : decode cX1_span 56 = .ok (.ireturn, 1) := dk_172 (dk_at dksX1_span_2 11 rfl rfl)
theorem dX1_span_57 : decode cX1_span 57 = .ok (.aload_n 0, 1) := dk_42 (dk_at dksX1_span_2 12 rfl rfl)
theorem dX1_span_58 : decode cX1_span 58 = .ok (.getfield 57, 3) := dk_180 0 57 (dk_at dksX1_span_2 13 rfl rfl)
theorem dX1_span_61 : decode cX1_span 61 = .ok (.bipush 8, 2) := dk_16 8 (dk_at dksX1_span_2 16 rfl rfl)
theorem dX1_span_63 : decode cX1_span 63 = .ok (.iload_n 1, 1) := dk_27 (dk_at dksX1_span_2 18 rfl rfl)
theorem dX1_span_64 : decode cX1_span 64 = .ok (.imul, 1) := dk_104 (dk_at dksX1_span_2 19 rfl rfl)
theorem dX1_span_65 : decode cX1_span 65 = .ok (.iload_n 2, 1) := dk_28 (dk_at dksX1_span_2 20 rfl rfl)
theorem dX1_span_66 : decode cX1_span 66 = .ok (.iadd, 1) := dk_96 (dk_at dksX1_span_2 21 rfl rfl)
theorem dX1_span_67 : decode cX1_span 67 = .ok (.iload_n 3, 1) := dk_29 (dk_at dksX1_span_2 22 rfl rfl)
theorem dX1_span_68 : decode cX1_span 68 = .ok (.iastore, 1) := dk_79 (dk_at dksX1_span_2 23 rfl rfl)
theorem dX1_span_69 : decode cX1_span 69 = .ok (.aload_n 0, 1) := dk_42 (dk_at dksX1_span_3 0 rfl rfl)
theorem dX1_span_70 : decode cX1_span 70 = .ok (.getfield 60, 3) := dk_180 0 60 (dk_at dksX1_span_3 1 rfl rfl)
theorem dX1_span_73 : decode cX1_span 73 = .ok (.bipush 8, 2) := dk_16 8 (dk_at dksX1_span_3 4 rfl rfl)
theorem dX1_span_75 : decode cX1_span 75 = .ok (.iload_n 1, 1) := dk_27 (dk_at dksX1_span_3 6 rfl rfl)
theorem dX1_span_76 : decode cX1_span 76 = .ok (.imul, 1) := dk_104 (dk_at dksX1_span_3 7 rfl rfl)
theorem dX1_span_77 : decode cX1_span 77 = .ok (.iload_n 2, 1) := dk_28 (dk_at dksX1_span_3 8 rfl rfl)
theorem dX1_span_78 : decode cX1_span 78 = .ok (.iadd, 1) := dk_96 (dk_at dksX1_span_3 9 rfl rfl)
theorem dX1_span_79 : decode cX1_span 79 = .ok (.iload 4, 2) := dk_21 4 (dk_at dksX1_span_3 10 rfl rfl)
theorem dX1_span_81 : decode cX1_span 81 = .ok (.iastore, 1) := dk_79 (dk_at dksX1_span_3 12 rfl rfl)
theorem dX1_span_82 : decode cX1_span 82 = .ok (.iconst 1, 1) := dk_4 (dk_at dksX1_span_3 13 rfl rfl)
theorem dX1_span_83 : decode cX1_span 83 = .ok (.ireturn, 1) := dk_172 (dk_at dksX1_span_3 14 rfl rfl)
abbrev cX1_door : ByteArray := prog_8_method_70_code
def yX1_door : MethodName := ⟨RX1, "door", "(IZII)I"⟩
def dkwX1_door_3 : List UInt8 := [6, 167, 0, 4, 4, 96, 21, 4, 79, 4, 172]
abbrev dktX1_door_3 : List UInt8 := dkwX1_door_3 ++ []
def dkwX1_door_2 : List UInt8 := [104, 28, 153, 0, 7, 5, 167, 0, 4, 3, 96, 29, 79, 42, 180, 0, 63, 7, 27, 104, 28, 153, 0, 7]
abbrev dktX1_door_2 : List UInt8 := dkwX1_door_2 ++ dktX1_door_3
def dkwX1_door_1 : List UInt8 := [167, 0, 4, 3, 27, 182, 0, 182, 54, 5, 21, 5, 156, 0, 6, 21, 5, 172, 42, 180, 0, 63, 7, 27]
abbrev dktX1_door_1 : List UInt8 := dkwX1_door_1 ++ dktX1_door_2
def dkwX1_door_0 : List UInt8 := [42, 29, 3, 18, 153, 184, 0, 105, 153, 0, 18, 21, 4, 29, 18, 153, 184, 0, 105, 153, 0, 7, 4]
abbrev dktX1_door_0 : List UInt8 := dkwX1_door_0 ++ dktX1_door_1
theorem dksX1_door_0 : cX1_door.data.toList.drop 0 = dktX1_door_0 := by decide +kernel
theorem dksX1_door_1 : cX1_door.data.toList.drop 23 = dktX1_door_1 := dk_seg dksX1_door_0 23 rfl rfl
theorem dksX1_door_2 : cX1_door.data.toList.drop 47 = dktX1_door_2 := dk_seg dksX1_door_1 24 rfl rfl
theorem dksX1_door_3 : cX1_door.data.toList.drop 71 = dktX1_door_3 := dk_seg dksX1_door_2 24 rfl rfl
theorem dX1_door_0 : decode cX1_door 0 = .ok (.aload_n 0, 1) := dk_42 (dk_at dksX1_door_0 0 rfl rfl)
theorem dX1_door_1 : decode cX1_door 1 = .ok (.iload_n 3, 1) := dk_29 (dk_at dksX1_door_0 1 rfl rfl)
theorem dX1_door_2 : decode cX1_door 2 = .ok (.iconst 0, 1) := dk_3 (dk_at dksX1_door_0 2 rfl rfl)
theorem dX1_door_3 : decode cX1_door 3 = .ok (.ldc 153, 2) := dk_18 153 (dk_at dksX1_door_0 3 rfl rfl)
theorem dX1_door_5 : decode cX1_door 5 = .ok (.invokestatic 105, 3) := dk_184 0 105 (dk_at dksX1_door_0 5 rfl rfl)
theorem dX1_door_8 : decode cX1_door 8 = .ok (.ifCond .eq 18, 3) := dk_153 0 18 (dk_at dksX1_door_0 8 rfl rfl)
theorem dX1_door_11 : decode cX1_door 11 = .ok (.iload 4, 2) := dk_21 4 (dk_at dksX1_door_0 11 rfl rfl)
theorem dX1_door_13 : decode cX1_door 13 = .ok (.iload_n 3, 1) := dk_29 (dk_at dksX1_door_0 13 rfl rfl)
theorem dX1_door_14 : decode cX1_door 14 = .ok (.ldc 153, 2) := dk_18 153 (dk_at dksX1_door_0 14 rfl rfl)
theorem dX1_door_16 : decode cX1_door 16 = .ok (.invokestatic 105, 3) := dk_184 0 105 (dk_at dksX1_door_0 16 rfl rfl)
theorem dX1_door_19 : decode cX1_door 19 = .ok (.ifCond .eq 7, 3) := dk_153 0 7 (dk_at dksX1_door_0 19 rfl rfl)
theorem dX1_door_22 : decode cX1_door 22 = .ok (.iconst 1, 1) := dk_4 (dk_at dksX1_door_0 22 rfl rfl)
theorem dX1_door_23 : decode cX1_door 23 = .ok (.goto 4, 3) := dk_167 0 4 (dk_at dksX1_door_1 0 rfl rfl)
theorem dX1_door_26 : decode cX1_door 26 = .ok (.iconst 0, 1) := dk_3 (dk_at dksX1_door_1 3 rfl rfl)
theorem dX1_door_27 : decode cX1_door 27 = .ok (.iload_n 1, 1) := dk_27 (dk_at dksX1_door_1 4 rfl rfl)
theorem dX1_door_28 : decode cX1_door 28 = .ok (.invokevirtual 182, 3) := dk_182 0 182 (dk_at dksX1_door_1 5 rfl rfl)
theorem dX1_door_31 : decode cX1_door 31 = .ok (.istore 5, 2) := dk_54 5 (dk_at dksX1_door_1 8 rfl rfl)
theorem dX1_door_33 : decode cX1_door 33 = .ok (.iload 5, 2) := dk_21 5 (dk_at dksX1_door_1 10 rfl rfl)
theorem dX1_door_35 : decode cX1_door 35 = .ok (.ifCond .ge 6, 3) := dk_156 0 6 (dk_at dksX1_door_1 12 rfl rfl)
theorem dX1_door_38 : decode cX1_door 38 = .ok (.iload 5, 2) := dk_21 5 (dk_at dksX1_door_1 15 rfl rfl)
theorem dX1_door_40 : decode cX1_door 40 = .ok (.ireturn, 1) := dk_172 (dk_at dksX1_door_1 17 rfl rfl)
theorem dX1_door_41 : decode cX1_door 41 = .ok (.aload_n 0, 1) := dk_42 (dk_at dksX1_door_1 18 rfl rfl)
theorem dX1_door_42 : decode cX1_door 42 = .ok (.getfield 63, 3) := dk_180 0 63 (dk_at dksX1_door_1 19 rfl rfl)
theorem dX1_door_45 : decode cX1_door 45 = .ok (.iconst 4, 1) := dk_7 (dk_at dksX1_door_1 22 rfl rfl)
theorem dX1_door_46 : decode cX1_door 46 = .ok (.iload_n 1, 1) := dk_27 (dk_at dksX1_door_1 23 rfl rfl)
theorem dX1_door_47 : decode cX1_door 47 = .ok (.imul, 1) := dk_104 (dk_at dksX1_door_2 0 rfl rfl)
theorem dX1_door_48 : decode cX1_door 48 = .ok (.iload_n 2, 1) := dk_28 (dk_at dksX1_door_2 1 rfl rfl)
theorem dX1_door_49 : decode cX1_door 49 = .ok (.ifCond .eq 7, 3) := dk_153 0 7 (dk_at dksX1_door_2 2 rfl rfl)
theorem dX1_door_52 : decode cX1_door 52 = .ok (.iconst 2, 1) := dk_5 (dk_at dksX1_door_2 5 rfl rfl)
theorem dX1_door_53 : decode cX1_door 53 = .ok (.goto 4, 3) := dk_167 0 4 (dk_at dksX1_door_2 6 rfl rfl)
theorem dX1_door_56 : decode cX1_door 56 = .ok (.iconst 0, 1) := dk_3 (dk_at dksX1_door_2 9 rfl rfl)
theorem dX1_door_57 : decode cX1_door 57 = .ok (.iadd, 1) := dk_96 (dk_at dksX1_door_2 10 rfl rfl)
theorem dX1_door_58 : decode cX1_door 58 = .ok (.iload_n 3, 1) := dk_29 (dk_at dksX1_door_2 11 rfl rfl)
theorem dX1_door_59 : decode cX1_door 59 = .ok (.iastore, 1) := dk_79 (dk_at dksX1_door_2 12 rfl rfl)
theorem dX1_door_60 : decode cX1_door 60 = .ok (.aload_n 0, 1) := dk_42 (dk_at dksX1_door_2 13 rfl rfl)
theorem dX1_door_61 : decode cX1_door 61 = .ok (.getfield 63, 3) := dk_180 0 63 (dk_at dksX1_door_2 14 rfl rfl)
theorem dX1_door_64 : decode cX1_door 64 = .ok (.iconst 4, 1) := dk_7 (dk_at dksX1_door_2 17 rfl rfl)
theorem dX1_door_65 : decode cX1_door 65 = .ok (.iload_n 1, 1) := dk_27 (dk_at dksX1_door_2 18 rfl rfl)
theorem dX1_door_66 : decode cX1_door 66 = .ok (.imul, 1) := dk_104 (dk_at dksX1_door_2 19 rfl rfl)
theorem dX1_door_67 : decode cX1_door 67 = .ok (.iload_n 2, 1) := dk_28 (dk_at dksX1_door_2 20 rfl rfl)
theorem dX1_door_68 : decode cX1_door 68 = .ok (.ifCond .eq 7, 3) := dk_153 0 7 (dk_at dksX1_door_2 21 rfl rfl)
theorem dX1_door_71 : decode cX1_door 71 = .ok (.iconst 3, 1) := dk_6 (dk_at dksX1_door_3 0 rfl rfl)
theorem dX1_door_72 : decode cX1_door 72 = .ok (.goto 4, 3) := dk_167 0 4 (dk_at dksX1_door_3 1 rfl rfl)
theorem dX1_door_75 : decode cX1_door 75 = .ok (.iconst 1, 1) := dk_4 (dk_at dksX1_door_3 4 rfl rfl)
theorem dX1_door_76 : decode cX1_door 76 = .ok (.iadd, 1) := dk_96 (dk_at dksX1_door_3 5 rfl rfl)
theorem dX1_door_77 : decode cX1_door 77 = .ok (.iload 4, 2) := dk_21 4 (dk_at dksX1_door_3 6 rfl rfl)
theorem dX1_door_79 : decode cX1_door 79 = .ok (.iastore, 1) := dk_79 (dk_at dksX1_door_3 8 rfl rfl)
theorem dX1_door_80 : decode cX1_door 80 = .ok (.iconst 1, 1) := dk_4 (dk_at dksX1_door_3 9 rfl rfl)
theorem dX1_door_81 : decode cX1_door 81 = .ok (.ireturn, 1) := dk_172 (dk_at dksX1_door_3 10 rfl rfl)
abbrev cX1_balanced : ByteArray := prog_8_method_71_code
def yX1_balanced : MethodName := ⟨RX1, "balanced", "()I"⟩
def dkwX1_balanced_0 : List UInt8 := [42, 182, 1, 24, 16, 247, 160, 0, 7, 4, 167, 0, 4, 3, 172]
abbrev dktX1_balanced_0 : List UInt8 := dkwX1_balanced_0 ++ []
theorem dksX1_balanced_0 : cX1_balanced.data.toList.drop 0 = dktX1_balanced_0 := by decide +kernel
theorem dX1_balanced_0 : decode cX1_balanced 0 = .ok (.aload_n 0, 1) := dk_42 (dk_at dksX1_balanced_0 0 rfl rfl)
theorem dX1_balanced_1 : decode cX1_balanced 1 = .ok (.invokevirtual 280, 3) := dk_182 1 24 (dk_at dksX1_balanced_0 1 rfl rfl)
theorem dX1_balanced_4 : decode cX1_balanced 4 = .ok (.bipush (-9), 2) := dk_16 247 (dk_at dksX1_balanced_0 4 rfl rfl)
theorem dX1_balanced_6 : decode cX1_balanced 6 = .ok (.if_icmp .ne 7, 3) := dk_160 0 7 (dk_at dksX1_balanced_0 6 rfl rfl)
theorem dX1_balanced_9 : decode cX1_balanced 9 = .ok (.iconst 1, 1) := dk_4 (dk_at dksX1_balanced_0 9 rfl rfl)
theorem dX1_balanced_10 : decode cX1_balanced 10 = .ok (.goto 4, 3) := dk_167 0 4 (dk_at dksX1_balanced_0 10 rfl rfl)
theorem dX1_balanced_13 : decode cX1_balanced 13 = .ok (.iconst 0, 1) := dk_3 (dk_at dksX1_balanced_0 13 rfl rfl)
theorem dX1_balanced_14 : decode cX1_balanced 14 = .ok (.ireturn, 1) := dk_172 (dk_at dksX1_balanced_0 14 rfl rfl)
abbrev cX1_quarrelSet : ByteArray := prog_8_method_68_code
def yX1_quarrelSet : MethodName := ⟨RX1, "quarrelSet", "()I"⟩
def dkwX1_quarrelSet_3 : List UInt8 := [184, 1, 2, 162, 0, 7, 28, 167, 0, 4, 27, 60, 132, 2, 1, 167, 255, 175, 27, 172]
abbrev dktX1_quarrelSet_3 : List UInt8 := dkwX1_quarrelSet_3 ++ []
def dkwX1_quarrelSet_2 : List UInt8 := [164, 0, 7, 4, 167, 0, 4, 3, 62, 29, 153, 0, 24, 27, 16, 247, 159, 0, 14, 28, 184, 1, 2, 27]
abbrev dktX1_quarrelSet_2 : List UInt8 := dkwX1_quarrelSet_2 ++ dktX1_quarrelSet_3
def dkwX1_quarrelSet_1 : List UInt8 := [28, 182, 1, 21, 42, 180, 1, 9, 42, 180, 1, 18, 163, 0, 14, 42, 180, 1, 15, 42, 180, 1, 12]
abbrev dktX1_quarrelSet_1 : List UInt8 := dkwX1_quarrelSet_1 ++ dktX1_quarrelSet_2
def dkwX1_quarrelSet_0 : List UInt8 := [16, 247, 60, 4, 61, 28, 17, 1, 0, 162, 0, 80, 28, 42, 182, 0, 252, 2, 130, 126, 154, 0, 63, 42]
abbrev dktX1_quarrelSet_0 : List UInt8 := dkwX1_quarrelSet_0 ++ dktX1_quarrelSet_1
theorem dksX1_quarrelSet_0 : cX1_quarrelSet.data.toList.drop 0 = dktX1_quarrelSet_0 := by decide +kernel
theorem dksX1_quarrelSet_1 : cX1_quarrelSet.data.toList.drop 24 = dktX1_quarrelSet_1 := dk_seg dksX1_quarrelSet_0 24 rfl rfl
theorem dksX1_quarrelSet_2 : cX1_quarrelSet.data.toList.drop 47 = dktX1_quarrelSet_2 := dk_seg dksX1_quarrelSet_1 23 rfl rfl
theorem dksX1_quarrelSet_3 : cX1_quarrelSet.data.toList.drop 71 = dktX1_quarrelSet_3 := dk_seg dksX1_quarrelSet_2 24 rfl rfl
theorem dX1_quarrelSet_0 : decode cX1_quarrelSet 0 = .ok (.bipush (-9), 2) := dk_16 247 (dk_at dksX1_quarrelSet_0 0 rfl rfl)
theorem dX1_quarrelSet_2 : decode cX1_quarrelSet 2 = .ok (.istore_n 1, 1) := dk_60 (dk_at dksX1_quarrelSet_0 2 rfl rfl)
theorem dX1_quarrelSet_3 : decode cX1_quarrelSet 3 = .ok (.iconst 1, 1) := dk_4 (dk_at dksX1_quarrelSet_0 3 rfl rfl)
theorem dX1_quarrelSet_4 : decode cX1_quarrelSet 4 = .ok (.istore_n 2, 1) := dk_61 (dk_at dksX1_quarrelSet_0 4 rfl rfl)
theorem dX1_quarrelSet_5 : decode cX1_quarrelSet 5 = .ok (.iload_n 2, 1) := dk_28 (dk_at dksX1_quarrelSet_0 5 rfl rfl)
theorem dX1_quarrelSet_6 : decode cX1_quarrelSet 6 = .ok (.sipush 256, 3) := dk_17 1 0 (dk_at dksX1_quarrelSet_0 6 rfl rfl)
theorem dX1_quarrelSet_9 : decode cX1_quarrelSet 9 = .ok (.if_icmp .ge 80, 3) := dk_162 0 80 (dk_at dksX1_quarrelSet_0 9 rfl rfl)
theorem dX1_quarrelSet_12 : decode cX1_quarrelSet 12 = .ok (.iload_n 2, 1) := dk_28 (dk_at dksX1_quarrelSet_0 12 rfl rfl)
theorem dX1_quarrelSet_13 : decode cX1_quarrelSet 13 = .ok (.aload_n 0, 1) := dk_42 (dk_at dksX1_quarrelSet_0 13 rfl rfl)
theorem dX1_quarrelSet_14 : decode cX1_quarrelSet 14 = .ok (.invokevirtual 252, 3) := dk_182 0 252 (dk_at dksX1_quarrelSet_0 14 rfl rfl)
theorem dX1_quarrelSet_17 : decode cX1_quarrelSet 17 = .ok (.iconst (-1), 1) := dk_2 (dk_at dksX1_quarrelSet_0 17 rfl rfl)
theorem dX1_quarrelSet_18 : decode cX1_quarrelSet 18 = .ok (.ixor, 1) := dk_130 (dk_at dksX1_quarrelSet_0 18 rfl rfl)
theorem dX1_quarrelSet_19 : decode cX1_quarrelSet 19 = .ok (.iand, 1) := dk_126 (dk_at dksX1_quarrelSet_0 19 rfl rfl)
theorem dX1_quarrelSet_20 : decode cX1_quarrelSet 20 = .ok (.ifCond .ne 63, 3) := dk_154 0 63 (dk_at dksX1_quarrelSet_0 20 rfl rfl)
theorem dX1_quarrelSet_23 : decode cX1_quarrelSet 23 = .ok (.aload_n 0, 1) := dk_42 (dk_at dksX1_quarrelSet_0 23 rfl rfl)
theorem dX1_quarrelSet_24 : decode cX1_quarrelSet 24 = .ok (.iload_n 2, 1) := dk_28 (dk_at dksX1_quarrelSet_1 0 rfl rfl)
theorem dX1_quarrelSet_25 : decode cX1_quarrelSet 25 = .ok (.invokevirtual 277, 3) := dk_182 1 21 (dk_at dksX1_quarrelSet_1 1 rfl rfl)
theorem dX1_quarrelSet_28 : decode cX1_quarrelSet 28 = .ok (.aload_n 0, 1) := dk_42 (dk_at dksX1_quarrelSet_1 4 rfl rfl)
theorem dX1_quarrelSet_29 : decode cX1_quarrelSet 29 = .ok (.getfield 265, 3) := dk_180 1 9 (dk_at dksX1_quarrelSet_1 5 rfl rfl)
theorem dX1_quarrelSet_32 : decode cX1_quarrelSet 32 = .ok (.aload_n 0, 1) := dk_42 (dk_at dksX1_quarrelSet_1 8 rfl rfl)
theorem dX1_quarrelSet_33 : decode cX1_quarrelSet 33 = .ok (.getfield 274, 3) := dk_180 1 18 (dk_at dksX1_quarrelSet_1 9 rfl rfl)
theorem dX1_quarrelSet_36 : decode cX1_quarrelSet 36 = .ok (.if_icmp .gt 14, 3) := dk_163 0 14 (dk_at dksX1_quarrelSet_1 12 rfl rfl)
theorem dX1_quarrelSet_39 : decode cX1_quarrelSet 39 = .ok (.aload_n 0, 1) := dk_42 (dk_at dksX1_quarrelSet_1 15 rfl rfl)
theorem dX1_quarrelSet_40 : decode cX1_quarrelSet 40 = .ok (.getfield 271, 3) := dk_180 1 15 (dk_at dksX1_quarrelSet_1 16 rfl rfl)
theorem dX1_quarrelSet_43 : decode cX1_quarrelSet 43 = .ok (.aload_n 0, 1) := dk_42 (dk_at dksX1_quarrelSet_1 19 rfl rfl)
theorem dX1_quarrelSet_44 : decode cX1_quarrelSet 44 = .ok (.getfield 268, 3) := dk_180 1 12 (dk_at dksX1_quarrelSet_1 20 rfl rfl)
theorem dX1_quarrelSet_47 : decode cX1_quarrelSet 47 = .ok (.if_icmp .le 7, 3) := dk_164 0 7 (dk_at dksX1_quarrelSet_2 0 rfl rfl)
theorem dX1_quarrelSet_50 : decode cX1_quarrelSet 50 = .ok (.iconst 1, 1) := dk_4 (dk_at dksX1_quarrelSet_2 3 rfl rfl)
theorem dX1_quarrelSet_51 : decode cX1_quarrelSet 51 = .ok (.goto 4, 3) := dk_167 0 4 (dk_at dksX1_quarrelSet_2 4 rfl rfl)
theorem dX1_quarrelSet_54 : decode cX1_quarrelSet 54 = .ok (.iconst 0, 1) := dk_3 (dk_at dksX1_quarrelSet_2 7 rfl rfl)
theorem dX1_quarrelSet_55 : decode cX1_quarrelSet 55 = .ok (.istore_n 3, 1) := dk_62 (dk_at dksX1_quarrelSet_2 8 rfl rfl)
theorem dX1_quarrelSet_56 : decode cX1_quarrelSet 56 = .ok (.iload_n 3, 1) := dk_29 (dk_at dksX1_quarrelSet_2 9 rfl rfl)
theorem dX1_quarrelSet_57 : decode cX1_quarrelSet 57 = .ok (.ifCond .eq 24, 3) := dk_153 0 24 (dk_at dksX1_quarrelSet_2 10 rfl rfl)
theorem dX1_quarrelSet_60 : decode cX1_quarrelSet 60 = .ok (.iload_n 1, 1) := dk_27 (dk_at dksX1_quarrelSet_2 13 rfl rfl)
theorem dX1_quarrelSet_61 : decode cX1_quarrelSet 61 = .ok (.bipush (-9), 2) := dk_16 247 (dk_at dksX1_quarrelSet_2 14 rfl rfl)
theorem dX1_quarrelSet_63 : decode cX1_quarrelSet 63 = .ok (.if_icmp .eq 14, 3) := dk_159 0 14 (dk_at dksX1_quarrelSet_2 16 rfl rfl)
theorem dX1_quarrelSet_66 : decode cX1_quarrelSet 66 = .ok (.iload_n 2, 1) := dk_28 (dk_at dksX1_quarrelSet_2 19 rfl rfl)
theorem dX1_quarrelSet_67 : decode cX1_quarrelSet 67 = .ok (.invokestatic 258, 3) := dk_184 1 2 (dk_at dksX1_quarrelSet_2 20 rfl rfl)
theorem dX1_quarrelSet_70 : decode cX1_quarrelSet 70 = .ok (.iload_n 1, 1) := dk_27 (dk_at dksX1_quarrelSet_2 23 rfl rfl)
theorem dX1_quarrelSet_71 : decode cX1_quarrelSet 71 = .ok (.invokestatic 258, 3) := dk_184 1 2 (dk_at dksX1_quarrelSet_3 0 rfl rfl)
theorem dX1_quarrelSet_74 : decode cX1_quarrelSet 74 = .ok (.if_icmp .ge 7, 3) := dk_162 0 7 (dk_at dksX1_quarrelSet_3 3 rfl rfl)
theorem dX1_quarrelSet_77 : decode cX1_quarrelSet 77 = .ok (.iload_n 2, 1) := dk_28 (dk_at dksX1_quarrelSet_3 6 rfl rfl)
theorem dX1_quarrelSet_78 : decode cX1_quarrelSet 78 = .ok (.goto 4, 3) := dk_167 0 4 (dk_at dksX1_quarrelSet_3 7 rfl rfl)
theorem dX1_quarrelSet_81 : decode cX1_quarrelSet 81 = .ok (.iload_n 1, 1) := dk_27 (dk_at dksX1_quarrelSet_3 10 rfl rfl)
theorem dX1_quarrelSet_82 : decode cX1_quarrelSet 82 = .ok (.istore_n 1, 1) := dk_60 (dk_at dksX1_quarrelSet_3 11 rfl rfl)
theorem dX1_quarrelSet_83 : decode cX1_quarrelSet 83 = .ok (.iinc 2 1, 3) := dk_132 2 1 (dk_at dksX1_quarrelSet_3 12 rfl rfl)
theorem dX1_quarrelSet_86 : decode cX1_quarrelSet 86 = .ok (.goto (-81), 3) := dk_167 255 175 (dk_at dksX1_quarrelSet_3 15 rfl rfl)
theorem dX1_quarrelSet_89 : decode cX1_quarrelSet 89 = .ok (.iload_n 1, 1) := dk_27 (dk_at dksX1_quarrelSet_3 18 rfl rfl)
theorem dX1_quarrelSet_90 : decode cX1_quarrelSet 90 = .ok (.ireturn, 1) := dk_172 (dk_at dksX1_quarrelSet_3 19 rfl rfl)
abbrev cX1_layRim : ByteArray := prog_8_method_67_code
def yX1_layRim : MethodName := ⟨RX1, "layRim", "(I)V"⟩
def dkwX1_layRim_11 : List UInt8 := [167, 0, 4, 3, 96, 181, 1, 18, 132, 3, 1, 167, 255, 104, 132, 2, 1, 167, 255, 8, 177]
abbrev dktX1_layRim_11 : List UInt8 := dkwX1_layRim_11 ++ []
def dkwX1_layRim_10 : List UInt8 := [181, 1, 15, 42, 89, 180, 1, 18, 27, 29, 184, 0, 240, 153, 0, 13, 42, 180, 0, 60, 21, 4, 46]
abbrev dktX1_layRim_10 : List UInt8 := dkwX1_layRim_10 ++ dktX1_layRim_11
def dkwX1_layRim_9 : List UInt8 := [180, 1, 15, 27, 29, 184, 0, 240, 153, 0, 13, 42, 180, 0, 57, 21, 4, 46, 167, 0, 4, 3, 96]
abbrev dktX1_layRim_9 : List UInt8 := dkwX1_layRim_9 ++ dktX1_layRim_10
def dkwX1_layRim_8 : List UInt8 := [184, 0, 240, 153, 0, 13, 42, 180, 0, 60, 21, 4, 46, 167, 0, 4, 3, 96, 181, 1, 12, 42, 89]
abbrev dktX1_layRim_8 : List UInt8 := dkwX1_layRim_8 ++ dktX1_layRim_9
def dkwX1_layRim_7 : List UInt8 := [42, 180, 0, 57, 21, 4, 46, 167, 0, 4, 3, 96, 181, 1, 9, 42, 89, 180, 1, 12, 27, 28]
abbrev dktX1_layRim_7 : List UInt8 := dkwX1_layRim_7 ++ dktX1_layRim_8
def dkwX1_layRim_6 : List UInt8 := [184, 0, 240, 27, 29, 184, 0, 240, 159, 0, 115, 42, 89, 180, 1, 9, 27, 28, 184, 0, 240, 153, 0, 13]
abbrev dktX1_layRim_6 : List UInt8 := dkwX1_layRim_6 ++ dktX1_layRim_7
def dkwX1_layRim_5 : List UInt8 := [162, 0, 152, 16, 8, 28, 104, 29, 96, 54, 4, 42, 180, 0, 54, 21, 4, 46, 158, 0, 128, 27, 28]
abbrev dktX1_layRim_5 : List UInt8 := dkwX1_layRim_5 ++ dktX1_layRim_6
def dkwX1_layRim_4 : List UInt8 := [180, 1, 18, 42, 180, 0, 63, 7, 28, 104, 6, 96, 46, 96, 181, 1, 18, 3, 62, 29, 16, 8]
abbrev dktX1_layRim_4 : List UInt8 := dkwX1_layRim_4 ++ dktX1_layRim_5
def dkwX1_layRim_3 : List UInt8 := [181, 1, 12, 42, 89, 180, 1, 15, 42, 180, 0, 63, 7, 28, 104, 5, 96, 46, 96, 181, 1, 15, 42, 89]
abbrev dktX1_layRim_3 : List UInt8 := dkwX1_layRim_3 ++ dktX1_layRim_4
def dkwX1_layRim_2 : List UInt8 := [104, 46, 96, 181, 1, 9, 42, 89, 180, 1, 12, 42, 180, 0, 63, 7, 28, 104, 4, 96, 46, 96]
abbrev dktX1_layRim_2 : List UInt8 := dkwX1_layRim_2 ++ dktX1_layRim_3
def dkwX1_layRim_1 : List UInt8 := [16, 8, 162, 0, 248, 27, 28, 184, 0, 240, 153, 0, 77, 42, 89, 180, 1, 9, 42, 180, 0, 63, 7, 28]
abbrev dktX1_layRim_1 : List UInt8 := dkwX1_layRim_1 ++ dktX1_layRim_2
def dkwX1_layRim_0 : List UInt8 := [42, 3, 181, 1, 9, 42, 3, 181, 1, 12, 42, 3, 181, 1, 15, 42, 3, 181, 1, 18, 3, 61, 28]
abbrev dktX1_layRim_0 : List UInt8 := dkwX1_layRim_0 ++ dktX1_layRim_1
theorem dksX1_layRim_0 : cX1_layRim.data.toList.drop 0 = dktX1_layRim_0 := by decide +kernel
theorem dksX1_layRim_1 : cX1_layRim.data.toList.drop 23 = dktX1_layRim_1 := dk_seg dksX1_layRim_0 23 rfl rfl
theorem dksX1_layRim_2 : cX1_layRim.data.toList.drop 47 = dktX1_layRim_2 := dk_seg dksX1_layRim_1 24 rfl rfl
theorem dksX1_layRim_3 : cX1_layRim.data.toList.drop 69 = dktX1_layRim_3 := dk_seg dksX1_layRim_2 22 rfl rfl
theorem dksX1_layRim_4 : cX1_layRim.data.toList.drop 93 = dktX1_layRim_4 := dk_seg dksX1_layRim_3 24 rfl rfl
theorem dksX1_layRim_5 : cX1_layRim.data.toList.drop 115 = dktX1_layRim_5 := dk_seg dksX1_layRim_4 22 rfl rfl
theorem dksX1_layRim_6 : cX1_layRim.data.toList.drop 138 = dktX1_layRim_6 := dk_seg dksX1_layRim_5 23 rfl rfl
theorem dksX1_layRim_7 : cX1_layRim.data.toList.drop 162 = dktX1_layRim_7 := dk_seg dksX1_layRim_6 24 rfl rfl
theorem dksX1_layRim_8 : cX1_layRim.data.toList.drop 184 = dktX1_layRim_8 := dk_seg dksX1_layRim_7 22 rfl rfl
theorem dksX1_layRim_9 : cX1_layRim.data.toList.drop 207 = dktX1_layRim_9 := dk_seg dksX1_layRim_8 23 rfl rfl
theorem dksX1_layRim_10 : cX1_layRim.data.toList.drop 230 = dktX1_layRim_10 := dk_seg dksX1_layRim_9 23 rfl rfl
theorem dksX1_layRim_11 : cX1_layRim.data.toList.drop 253 = dktX1_layRim_11 := dk_seg dksX1_layRim_10 23 rfl rfl
theorem dX1_layRim_0 : decode cX1_layRim 0 = .ok (.aload_n 0, 1) := dk_42 (dk_at dksX1_layRim_0 0 rfl rfl)
theorem dX1_layRim_1 : decode cX1_layRim 1 = .ok (.iconst 0, 1) := dk_3 (dk_at dksX1_layRim_0 1 rfl rfl)
theorem dX1_layRim_2 : decode cX1_layRim 2 = .ok (.putfield 265, 3) := dk_181 1 9 (dk_at dksX1_layRim_0 2 rfl rfl)
theorem dX1_layRim_5 : decode cX1_layRim 5 = .ok (.aload_n 0, 1) := dk_42 (dk_at dksX1_layRim_0 5 rfl rfl)
theorem dX1_layRim_6 : decode cX1_layRim 6 = .ok (.iconst 0, 1) := dk_3 (dk_at dksX1_layRim_0 6 rfl rfl)
theorem dX1_layRim_7 : decode cX1_layRim 7 = .ok (.putfield 268, 3) := dk_181 1 12 (dk_at dksX1_layRim_0 7 rfl rfl)
theorem dX1_layRim_10 : decode cX1_layRim 10 = .ok (.aload_n 0, 1) := dk_42 (dk_at dksX1_layRim_0 10 rfl rfl)
theorem dX1_layRim_11 : decode cX1_layRim 11 = .ok (.iconst 0, 1) := dk_3 (dk_at dksX1_layRim_0 11 rfl rfl)
theorem dX1_layRim_12 : decode cX1_layRim 12 = .ok (.putfield 271, 3) := dk_181 1 15 (dk_at dksX1_layRim_0 12 rfl rfl)
theorem dX1_layRim_15 : decode cX1_layRim 15 = .ok (.aload_n 0, 1) := dk_42 (dk_at dksX1_layRim_0 15 rfl rfl)
theorem dX1_layRim_16 : decode cX1_layRim 16 = .ok (.iconst 0, 1) := dk_3 (dk_at dksX1_layRim_0 16 rfl rfl)
theorem dX1_layRim_17 : decode cX1_layRim 17 = .ok (.putfield 274, 3) := dk_181 1 18 (dk_at dksX1_layRim_0 17 rfl rfl)
theorem dX1_layRim_20 : decode cX1_layRim 20 = .ok (.iconst 0, 1) := dk_3 (dk_at dksX1_layRim_0 20 rfl rfl)
theorem dX1_layRim_21 : decode cX1_layRim 21 = .ok (.istore_n 2, 1) := dk_61 (dk_at dksX1_layRim_0 21 rfl rfl)
theorem dX1_layRim_22 : decode cX1_layRim 22 = .ok (.iload_n 2, 1) := dk_28 (dk_at dksX1_layRim_0 22 rfl rfl)
theorem dX1_layRim_23 : decode cX1_layRim 23 = .ok (.bipush 8, 2) := dk_16 8 (dk_at dksX1_layRim_1 0 rfl rfl)
theorem dX1_layRim_25 : decode cX1_layRim 25 = .ok (.if_icmp .ge 248, 3) := dk_162 0 248 (dk_at dksX1_layRim_1 2 rfl rfl)
theorem dX1_layRim_28 : decode cX1_layRim 28 = .ok (.iload_n 1, 1) := dk_27 (dk_at dksX1_layRim_1 5 rfl rfl)
theorem dX1_layRim_29 : decode cX1_layRim 29 = .ok (.iload_n 2, 1) := dk_28 (dk_at dksX1_layRim_1 6 rfl rfl)
theorem dX1_layRim_30 : decode cX1_layRim 30 = .ok (.invokestatic 240, 3) := dk_184 0 240 (dk_at dksX1_layRim_1 7 rfl rfl)
theorem dX1_layRim_33 : decode cX1_layRim 33 = .ok (.ifCond .eq 77, 3) := dk_153 0 77 (dk_at dksX1_layRim_1 10 rfl rfl)
theorem dX1_layRim_36 : decode cX1_layRim 36 = .ok (.aload_n 0, 1) := dk_42 (dk_at dksX1_layRim_1 13 rfl rfl)
theorem dX1_layRim_37 : decode cX1_layRim 37 = .ok (.dup, 1) := dk_89 (dk_at dksX1_layRim_1 14 rfl rfl)
theorem dX1_layRim_38 : decode cX1_layRim 38 = .ok (.getfield 265, 3) := dk_180 1 9 (dk_at dksX1_layRim_1 15 rfl rfl)
theorem dX1_layRim_41 : decode cX1_layRim 41 = .ok (.aload_n 0, 1) := dk_42 (dk_at dksX1_layRim_1 18 rfl rfl)
theorem dX1_layRim_42 : decode cX1_layRim 42 = .ok (.getfield 63, 3) := dk_180 0 63 (dk_at dksX1_layRim_1 19 rfl rfl)
theorem dX1_layRim_45 : decode cX1_layRim 45 = .ok (.iconst 4, 1) := dk_7 (dk_at dksX1_layRim_1 22 rfl rfl)
theorem dX1_layRim_46 : decode cX1_layRim 46 = .ok (.iload_n 2, 1) := dk_28 (dk_at dksX1_layRim_1 23 rfl rfl)
theorem dX1_layRim_47 : decode cX1_layRim 47 = .ok (.imul, 1) := dk_104 (dk_at dksX1_layRim_2 0 rfl rfl)
theorem dX1_layRim_48 : decode cX1_layRim 48 = .ok (.iaload, 1) := dk_46 (dk_at dksX1_layRim_2 1 rfl rfl)
theorem dX1_layRim_49 : decode cX1_layRim 49 = .ok (.iadd, 1) := dk_96 (dk_at dksX1_layRim_2 2 rfl rfl)
theorem dX1_layRim_50 : decode cX1_layRim 50 = .ok (.putfield 265, 3) := dk_181 1 9 (dk_at dksX1_layRim_2 3 rfl rfl)
theorem dX1_layRim_53 : decode cX1_layRim 53 = .ok (.aload_n 0, 1) := dk_42 (dk_at dksX1_layRim_2 6 rfl rfl)
theorem dX1_layRim_54 : decode cX1_layRim 54 = .ok (.dup, 1) := dk_89 (dk_at dksX1_layRim_2 7 rfl rfl)
theorem dX1_layRim_55 : decode cX1_layRim 55 = .ok (.getfield 268, 3) := dk_180 1 12 (dk_at dksX1_layRim_2 8 rfl rfl)
theorem dX1_layRim_58 : decode cX1_layRim 58 = .ok (.aload_n 0, 1) := dk_42 (dk_at dksX1_layRim_2 11 rfl rfl)
theorem dX1_layRim_59 : decode cX1_layRim 59 = .ok (.getfield 63, 3) := dk_180 0 63 (dk_at dksX1_layRim_2 12 rfl rfl)
theorem dX1_layRim_62 : decode cX1_layRim 62 = .ok (.iconst 4, 1) := dk_7 (dk_at dksX1_layRim_2 15 rfl rfl)
theorem dX1_layRim_63 : decode cX1_layRim 63 = .ok (.iload_n 2, 1) := dk_28 (dk_at dksX1_layRim_2 16 rfl rfl)
theorem dX1_layRim_64 : decode cX1_layRim 64 = .ok (.imul, 1) := dk_104 (dk_at dksX1_layRim_2 17 rfl rfl)
theorem dX1_layRim_65 : decode cX1_layRim 65 = .ok (.iconst 1, 1) := dk_4 (dk_at dksX1_layRim_2 18 rfl rfl)
theorem dX1_layRim_66 : decode cX1_layRim 66 = .ok (.iadd, 1) := dk_96 (dk_at dksX1_layRim_2 19 rfl rfl)
theorem dX1_layRim_67 : decode cX1_layRim 67 = .ok (.iaload, 1) := dk_46 (dk_at dksX1_layRim_2 20 rfl rfl)
theorem dX1_layRim_68 : decode cX1_layRim 68 = .ok (.iadd, 1) := dk_96 (dk_at dksX1_layRim_2 21 rfl rfl)
theorem dX1_layRim_69 : decode cX1_layRim 69 = .ok (.putfield 268, 3) := dk_181 1 12 (dk_at dksX1_layRim_3 0 rfl rfl)
theorem dX1_layRim_72 : decode cX1_layRim 72 = .ok (.aload_n 0, 1) := dk_42 (dk_at dksX1_layRim_3 3 rfl rfl)
theorem dX1_layRim_73 : decode cX1_layRim 73 = .ok (.dup, 1) := dk_89 (dk_at dksX1_layRim_3 4 rfl rfl)
theorem dX1_layRim_74 : decode cX1_layRim 74 = .ok (.getfield 271, 3) := dk_180 1 15 (dk_at dksX1_layRim_3 5 rfl rfl)
theorem dX1_layRim_77 : decode cX1_layRim 77 = .ok (.aload_n 0, 1) := dk_42 (dk_at dksX1_layRim_3 8 rfl rfl)
theorem dX1_layRim_78 : decode cX1_layRim 78 = .ok (.getfield 63, 3) := dk_180 0 63 (dk_at dksX1_layRim_3 9 rfl rfl)
theorem dX1_layRim_81 : decode cX1_layRim 81 = .ok (.iconst 4, 1) := dk_7 (dk_at dksX1_layRim_3 12 rfl rfl)
theorem dX1_layRim_82 : decode cX1_layRim 82 = .ok (.iload_n 2, 1) := dk_28 (dk_at dksX1_layRim_3 13 rfl rfl)
theorem dX1_layRim_83 : decode cX1_layRim 83 = .ok (.imul, 1) := dk_104 (dk_at dksX1_layRim_3 14 rfl rfl)
theorem dX1_layRim_84 : decode cX1_layRim 84 = .ok (.iconst 2, 1) := dk_5 (dk_at dksX1_layRim_3 15 rfl rfl)
theorem dX1_layRim_85 : decode cX1_layRim 85 = .ok (.iadd, 1) := dk_96 (dk_at dksX1_layRim_3 16 rfl rfl)
theorem dX1_layRim_86 : decode cX1_layRim 86 = .ok (.iaload, 1) := dk_46 (dk_at dksX1_layRim_3 17 rfl rfl)
theorem dX1_layRim_87 : decode cX1_layRim 87 = .ok (.iadd, 1) := dk_96 (dk_at dksX1_layRim_3 18 rfl rfl)
theorem dX1_layRim_88 : decode cX1_layRim 88 = .ok (.putfield 271, 3) := dk_181 1 15 (dk_at dksX1_layRim_3 19 rfl rfl)
theorem dX1_layRim_91 : decode cX1_layRim 91 = .ok (.aload_n 0, 1) := dk_42 (dk_at dksX1_layRim_3 22 rfl rfl)
theorem dX1_layRim_92 : decode cX1_layRim 92 = .ok (.dup, 1) := dk_89 (dk_at dksX1_layRim_3 23 rfl rfl)
theorem dX1_layRim_93 : decode cX1_layRim 93 = .ok (.getfield 274, 3) := dk_180 1 18 (dk_at dksX1_layRim_4 0 rfl rfl)
theorem dX1_layRim_96 : decode cX1_layRim 96 = .ok (.aload_n 0, 1) := dk_42 (dk_at dksX1_layRim_4 3 rfl rfl)
theorem dX1_layRim_97 : decode cX1_layRim 97 = .ok (.getfield 63, 3) := dk_180 0 63 (dk_at dksX1_layRim_4 4 rfl rfl)
theorem dX1_layRim_100 : decode cX1_layRim 100 = .ok (.iconst 4, 1) := dk_7 (dk_at dksX1_layRim_4 7 rfl rfl)
theorem dX1_layRim_101 : decode cX1_layRim 101 = .ok (.iload_n 2, 1) := dk_28 (dk_at dksX1_layRim_4 8 rfl rfl)
theorem dX1_layRim_102 : decode cX1_layRim 102 = .ok (.imul, 1) := dk_104 (dk_at dksX1_layRim_4 9 rfl rfl)
theorem dX1_layRim_103 : decode cX1_layRim 103 = .ok (.iconst 3, 1) := dk_6 (dk_at dksX1_layRim_4 10 rfl rfl)
theorem dX1_layRim_104 : decode cX1_layRim 104 = .ok (.iadd, 1) := dk_96 (dk_at dksX1_layRim_4 11 rfl rfl)
theorem dX1_layRim_105 : decode cX1_layRim 105 = .ok (.iaload, 1) := dk_46 (dk_at dksX1_layRim_4 12 rfl rfl)
theorem dX1_layRim_106 : decode cX1_layRim 106 = .ok (.iadd, 1) := dk_96 (dk_at dksX1_layRim_4 13 rfl rfl)
theorem dX1_layRim_107 : decode cX1_layRim 107 = .ok (.putfield 274, 3) := dk_181 1 18 (dk_at dksX1_layRim_4 14 rfl rfl)
theorem dX1_layRim_110 : decode cX1_layRim 110 = .ok (.iconst 0, 1) := dk_3 (dk_at dksX1_layRim_4 17 rfl rfl)
theorem dX1_layRim_111 : decode cX1_layRim 111 = .ok (.istore_n 3, 1) := dk_62 (dk_at dksX1_layRim_4 18 rfl rfl)
theorem dX1_layRim_112 : decode cX1_layRim 112 = .ok (.iload_n 3, 1) := dk_29 (dk_at dksX1_layRim_4 19 rfl rfl)
theorem dX1_layRim_113 : decode cX1_layRim 113 = .ok (.bipush 8, 2) := dk_16 8 (dk_at dksX1_layRim_4 20 rfl rfl)
theorem dX1_layRim_115 : decode cX1_layRim 115 = .ok (.if_icmp .ge 152, 3) := dk_162 0 152 (dk_at dksX1_layRim_5 0 rfl rfl)
theorem dX1_layRim_118 : decode cX1_layRim 118 = .ok (.bipush 8, 2) := dk_16 8 (dk_at dksX1_layRim_5 3 rfl rfl)
theorem dX1_layRim_120 : decode cX1_layRim 120 = .ok (.iload_n 2, 1) := dk_28 (dk_at dksX1_layRim_5 5 rfl rfl)
theorem dX1_layRim_121 : decode cX1_layRim 121 = .ok (.imul, 1) := dk_104 (dk_at dksX1_layRim_5 6 rfl rfl)
theorem dX1_layRim_122 : decode cX1_layRim 122 = .ok (.iload_n 3, 1) := dk_29 (dk_at dksX1_layRim_5 7 rfl rfl)
theorem dX1_layRim_123 : decode cX1_layRim 123 = .ok (.iadd, 1) := dk_96 (dk_at dksX1_layRim_5 8 rfl rfl)
theorem dX1_layRim_124 : decode cX1_layRim 124 = .ok (.istore 4, 2) := dk_54 4 (dk_at dksX1_layRim_5 9 rfl rfl)
theorem dX1_layRim_126 : decode cX1_layRim 126 = .ok (.aload_n 0, 1) := dk_42 (dk_at dksX1_layRim_5 11 rfl rfl)
theorem dX1_layRim_127 : decode cX1_layRim 127 = .ok (.getfield 54, 3) := dk_180 0 54 (dk_at dksX1_layRim_5 12 rfl rfl)
theorem dX1_layRim_130 : decode cX1_layRim 130 = .ok (.iload 4, 2) := dk_21 4 (dk_at dksX1_layRim_5 15 rfl rfl)
theorem dX1_layRim_132 : decode cX1_layRim 132 = .ok (.iaload, 1) := dk_46 (dk_at dksX1_layRim_5 17 rfl rfl)
theorem dX1_layRim_133 : decode cX1_layRim 133 = .ok (.ifCond .le 128, 3) := dk_158 0 128 (dk_at dksX1_layRim_5 18 rfl rfl)
theorem dX1_layRim_136 : decode cX1_layRim 136 = .ok (.iload_n 1, 1) := dk_27 (dk_at dksX1_layRim_5 21 rfl rfl)
theorem dX1_layRim_137 : decode cX1_layRim 137 = .ok (.iload_n 2, 1) := dk_28 (dk_at dksX1_layRim_5 22 rfl rfl)
theorem dX1_layRim_138 : decode cX1_layRim 138 = .ok (.invokestatic 240, 3) := dk_184 0 240 (dk_at dksX1_layRim_6 0 rfl rfl)
theorem dX1_layRim_141 : decode cX1_layRim 141 = .ok (.iload_n 1, 1) := dk_27 (dk_at dksX1_layRim_6 3 rfl rfl)
theorem dX1_layRim_142 : decode cX1_layRim 142 = .ok (.iload_n 3, 1) := dk_29 (dk_at dksX1_layRim_6 4 rfl rfl)
theorem dX1_layRim_143 : decode cX1_layRim 143 = .ok (.invokestatic 240, 3) := dk_184 0 240 (dk_at dksX1_layRim_6 5 rfl rfl)
theorem dX1_layRim_146 : decode cX1_layRim 146 = .ok (.if_icmp .eq 115, 3) := dk_159 0 115 (dk_at dksX1_layRim_6 8 rfl rfl)
theorem dX1_layRim_149 : decode cX1_layRim 149 = .ok (.aload_n 0, 1) := dk_42 (dk_at dksX1_layRim_6 11 rfl rfl)
theorem dX1_layRim_150 : decode cX1_layRim 150 = .ok (.dup, 1) := dk_89 (dk_at dksX1_layRim_6 12 rfl rfl)
theorem dX1_layRim_151 : decode cX1_layRim 151 = .ok (.getfield 265, 3) := dk_180 1 9 (dk_at dksX1_layRim_6 13 rfl rfl)
theorem dX1_layRim_154 : decode cX1_layRim 154 = .ok (.iload_n 1, 1) := dk_27 (dk_at dksX1_layRim_6 16 rfl rfl)
theorem dX1_layRim_155 : decode cX1_layRim 155 = .ok (.iload_n 2, 1) := dk_28 (dk_at dksX1_layRim_6 17 rfl rfl)
theorem dX1_layRim_156 : decode cX1_layRim 156 = .ok (.invokestatic 240, 3) := dk_184 0 240 (dk_at dksX1_layRim_6 18 rfl rfl)
theorem dX1_layRim_159 : decode cX1_layRim 159 = .ok (.ifCond .eq 13, 3) := dk_153 0 13 (dk_at dksX1_layRim_6 21 rfl rfl)
theorem dX1_layRim_162 : decode cX1_layRim 162 = .ok (.aload_n 0, 1) := dk_42 (dk_at dksX1_layRim_7 0 rfl rfl)
theorem dX1_layRim_163 : decode cX1_layRim 163 = .ok (.getfield 57, 3) := dk_180 0 57 (dk_at dksX1_layRim_7 1 rfl rfl)
theorem dX1_layRim_166 : decode cX1_layRim 166 = .ok (.iload 4, 2) := dk_21 4 (dk_at dksX1_layRim_7 4 rfl rfl)
theorem dX1_layRim_168 : decode cX1_layRim 168 = .ok (.iaload, 1) := dk_46 (dk_at dksX1_layRim_7 6 rfl rfl)
theorem dX1_layRim_169 : decode cX1_layRim 169 = .ok (.goto 4, 3) := dk_167 0 4 (dk_at dksX1_layRim_7 7 rfl rfl)
theorem dX1_layRim_172 : decode cX1_layRim 172 = .ok (.iconst 0, 1) := dk_3 (dk_at dksX1_layRim_7 10 rfl rfl)
theorem dX1_layRim_173 : decode cX1_layRim 173 = .ok (.iadd, 1) := dk_96 (dk_at dksX1_layRim_7 11 rfl rfl)
theorem dX1_layRim_174 : decode cX1_layRim 174 = .ok (.putfield 265, 3) := dk_181 1 9 (dk_at dksX1_layRim_7 12 rfl rfl)
theorem dX1_layRim_177 : decode cX1_layRim 177 = .ok (.aload_n 0, 1) := dk_42 (dk_at dksX1_layRim_7 15 rfl rfl)
theorem dX1_layRim_178 : decode cX1_layRim 178 = .ok (.dup, 1) := dk_89 (dk_at dksX1_layRim_7 16 rfl rfl)
theorem dX1_layRim_179 : decode cX1_layRim 179 = .ok (.getfield 268, 3) := dk_180 1 12 (dk_at dksX1_layRim_7 17 rfl rfl)
theorem dX1_layRim_182 : decode cX1_layRim 182 = .ok (.iload_n 1, 1) := dk_27 (dk_at dksX1_layRim_7 20 rfl rfl)
theorem dX1_layRim_183 : decode cX1_layRim 183 = .ok (.iload_n 2, 1) := dk_28 (dk_at dksX1_layRim_7 21 rfl rfl)
theorem dX1_layRim_184 : decode cX1_layRim 184 = .ok (.invokestatic 240, 3) := dk_184 0 240 (dk_at dksX1_layRim_8 0 rfl rfl)
theorem dX1_layRim_187 : decode cX1_layRim 187 = .ok (.ifCond .eq 13, 3) := dk_153 0 13 (dk_at dksX1_layRim_8 3 rfl rfl)
theorem dX1_layRim_190 : decode cX1_layRim 190 = .ok (.aload_n 0, 1) := dk_42 (dk_at dksX1_layRim_8 6 rfl rfl)
theorem dX1_layRim_191 : decode cX1_layRim 191 = .ok (.getfield 60, 3) := dk_180 0 60 (dk_at dksX1_layRim_8 7 rfl rfl)
theorem dX1_layRim_194 : decode cX1_layRim 194 = .ok (.iload 4, 2) := dk_21 4 (dk_at dksX1_layRim_8 10 rfl rfl)
theorem dX1_layRim_196 : decode cX1_layRim 196 = .ok (.iaload, 1) := dk_46 (dk_at dksX1_layRim_8 12 rfl rfl)
theorem dX1_layRim_197 : decode cX1_layRim 197 = .ok (.goto 4, 3) := dk_167 0 4 (dk_at dksX1_layRim_8 13 rfl rfl)
theorem dX1_layRim_200 : decode cX1_layRim 200 = .ok (.iconst 0, 1) := dk_3 (dk_at dksX1_layRim_8 16 rfl rfl)
theorem dX1_layRim_201 : decode cX1_layRim 201 = .ok (.iadd, 1) := dk_96 (dk_at dksX1_layRim_8 17 rfl rfl)
theorem dX1_layRim_202 : decode cX1_layRim 202 = .ok (.putfield 268, 3) := dk_181 1 12 (dk_at dksX1_layRim_8 18 rfl rfl)
theorem dX1_layRim_205 : decode cX1_layRim 205 = .ok (.aload_n 0, 1) := dk_42 (dk_at dksX1_layRim_8 21 rfl rfl)
theorem dX1_layRim_206 : decode cX1_layRim 206 = .ok (.dup, 1) := dk_89 (dk_at dksX1_layRim_8 22 rfl rfl)
theorem dX1_layRim_207 : decode cX1_layRim 207 = .ok (.getfield 271, 3) := dk_180 1 15 (dk_at dksX1_layRim_9 0 rfl rfl)
theorem dX1_layRim_210 : decode cX1_layRim 210 = .ok (.iload_n 1, 1) := dk_27 (dk_at dksX1_layRim_9 3 rfl rfl)
theorem dX1_layRim_211 : decode cX1_layRim 211 = .ok (.iload_n 3, 1) := dk_29 (dk_at dksX1_layRim_9 4 rfl rfl)
theorem dX1_layRim_212 : decode cX1_layRim 212 = .ok (.invokestatic 240, 3) := dk_184 0 240 (dk_at dksX1_layRim_9 5 rfl rfl)
theorem dX1_layRim_215 : decode cX1_layRim 215 = .ok (.ifCond .eq 13, 3) := dk_153 0 13 (dk_at dksX1_layRim_9 8 rfl rfl)
theorem dX1_layRim_218 : decode cX1_layRim 218 = .ok (.aload_n 0, 1) := dk_42 (dk_at dksX1_layRim_9 11 rfl rfl)
theorem dX1_layRim_219 : decode cX1_layRim 219 = .ok (.getfield 57, 3) := dk_180 0 57 (dk_at dksX1_layRim_9 12 rfl rfl)
theorem dX1_layRim_222 : decode cX1_layRim 222 = .ok (.iload 4, 2) := dk_21 4 (dk_at dksX1_layRim_9 15 rfl rfl)
theorem dX1_layRim_224 : decode cX1_layRim 224 = .ok (.iaload, 1) := dk_46 (dk_at dksX1_layRim_9 17 rfl rfl)
theorem dX1_layRim_225 : decode cX1_layRim 225 = .ok (.goto 4, 3) := dk_167 0 4 (dk_at dksX1_layRim_9 18 rfl rfl)
theorem dX1_layRim_228 : decode cX1_layRim 228 = .ok (.iconst 0, 1) := dk_3 (dk_at dksX1_layRim_9 21 rfl rfl)
theorem dX1_layRim_229 : decode cX1_layRim 229 = .ok (.iadd, 1) := dk_96 (dk_at dksX1_layRim_9 22 rfl rfl)
theorem dX1_layRim_230 : decode cX1_layRim 230 = .ok (.putfield 271, 3) := dk_181 1 15 (dk_at dksX1_layRim_10 0 rfl rfl)
theorem dX1_layRim_233 : decode cX1_layRim 233 = .ok (.aload_n 0, 1) := dk_42 (dk_at dksX1_layRim_10 3 rfl rfl)
theorem dX1_layRim_234 : decode cX1_layRim 234 = .ok (.dup, 1) := dk_89 (dk_at dksX1_layRim_10 4 rfl rfl)
theorem dX1_layRim_235 : decode cX1_layRim 235 = .ok (.getfield 274, 3) := dk_180 1 18 (dk_at dksX1_layRim_10 5 rfl rfl)
theorem dX1_layRim_238 : decode cX1_layRim 238 = .ok (.iload_n 1, 1) := dk_27 (dk_at dksX1_layRim_10 8 rfl rfl)
theorem dX1_layRim_239 : decode cX1_layRim 239 = .ok (.iload_n 3, 1) := dk_29 (dk_at dksX1_layRim_10 9 rfl rfl)
theorem dX1_layRim_240 : decode cX1_layRim 240 = .ok (.invokestatic 240, 3) := dk_184 0 240 (dk_at dksX1_layRim_10 10 rfl rfl)
theorem dX1_layRim_243 : decode cX1_layRim 243 = .ok (.ifCond .eq 13, 3) := dk_153 0 13 (dk_at dksX1_layRim_10 13 rfl rfl)
theorem dX1_layRim_246 : decode cX1_layRim 246 = .ok (.aload_n 0, 1) := dk_42 (dk_at dksX1_layRim_10 16 rfl rfl)
theorem dX1_layRim_247 : decode cX1_layRim 247 = .ok (.getfield 60, 3) := dk_180 0 60 (dk_at dksX1_layRim_10 17 rfl rfl)
theorem dX1_layRim_250 : decode cX1_layRim 250 = .ok (.iload 4, 2) := dk_21 4 (dk_at dksX1_layRim_10 20 rfl rfl)
theorem dX1_layRim_252 : decode cX1_layRim 252 = .ok (.iaload, 1) := dk_46 (dk_at dksX1_layRim_10 22 rfl rfl)
theorem dX1_layRim_253 : decode cX1_layRim 253 = .ok (.goto 4, 3) := dk_167 0 4 (dk_at dksX1_layRim_11 0 rfl rfl)
theorem dX1_layRim_256 : decode cX1_layRim 256 = .ok (.iconst 0, 1) := dk_3 (dk_at dksX1_layRim_11 3 rfl rfl)
theorem dX1_layRim_257 : decode cX1_layRim 257 = .ok (.iadd, 1) := dk_96 (dk_at dksX1_layRim_11 4 rfl rfl)
theorem dX1_layRim_258 : decode cX1_layRim 258 = .ok (.putfield 274, 3) := dk_181 1 18 (dk_at dksX1_layRim_11 5 rfl rfl)
theorem dX1_layRim_261 : decode cX1_layRim 261 = .ok (.iinc 3 1, 3) := dk_132 3 1 (dk_at dksX1_layRim_11 8 rfl rfl)
theorem dX1_layRim_264 : decode cX1_layRim 264 = .ok (.goto (-152), 3) := dk_167 255 104 (dk_at dksX1_layRim_11 11 rfl rfl)
theorem dX1_layRim_267 : decode cX1_layRim 267 = .ok (.iinc 2 1, 3) := dk_132 2 1 (dk_at dksX1_layRim_11 14 rfl rfl)
theorem dX1_layRim_270 : decode cX1_layRim 270 = .ok (.goto (-248), 3) := dk_167 255 8 (dk_at dksX1_layRim_11 17 rfl rfl)
theorem dX1_layRim_273 : decode cX1_layRim 273 = .ok (.return_, 1) := dk_177 (dk_at dksX1_layRim_11 20 rfl rfl)
abbrev cX1_quarrel : ByteArray := prog_8_method_72_code
def yX1_quarrel : MethodName := ⟨RX1, "quarrel", "()I"⟩
theorem dX1_quarrel_0 : decode cX1_quarrel 0 = .ok (.aload_n 0, 1) := by decide +kernel
theorem dX1_quarrel_1 : decode cX1_quarrel 1 = .ok (.invokevirtual 280, 3) := by decide +kernel
theorem dX1_quarrel_4 : decode cX1_quarrel 4 = .ok (.ireturn, 1) := by decide +kernel
abbrev cX1_range : ByteArray := prog_8_method_74_code
def yX1_range : MethodName := ⟨RX1, "range", "(IIZ)I"⟩
def dkwX1_range_2 : List UInt8 := [182, 1, 33, 29, 153, 0, 10, 42, 180, 1, 30, 167, 0, 7, 42, 180, 1, 27, 172]
abbrev dktX1_range_2 : List UInt8 := dkwX1_range_2 ++ []
def dkwX1_range_1 : List UInt8 := [154, 0, 9, 42, 4, 182, 0, 119, 172, 42, 182, 1, 24, 16, 247, 159, 0, 6, 16, 247, 172, 42, 27, 28]
abbrev dktX1_range_1 : List UInt8 := dkwX1_range_1 ++ dktX1_range_2
def dkwX1_range_0 : List UInt8 := [42, 4, 27, 28, 182, 0, 186, 54, 4, 21, 4, 156, 0, 6, 21, 4, 172, 42, 27, 28, 182, 0, 190]
abbrev dktX1_range_0 : List UInt8 := dkwX1_range_0 ++ dktX1_range_1
theorem dksX1_range_0 : cX1_range.data.toList.drop 0 = dktX1_range_0 := by decide +kernel
theorem dksX1_range_1 : cX1_range.data.toList.drop 23 = dktX1_range_1 := dk_seg dksX1_range_0 23 rfl rfl
theorem dksX1_range_2 : cX1_range.data.toList.drop 47 = dktX1_range_2 := dk_seg dksX1_range_1 24 rfl rfl
theorem dX1_range_0 : decode cX1_range 0 = .ok (.aload_n 0, 1) := dk_42 (dk_at dksX1_range_0 0 rfl rfl)
theorem dX1_range_1 : decode cX1_range 1 = .ok (.iconst 1, 1) := dk_4 (dk_at dksX1_range_0 1 rfl rfl)
theorem dX1_range_2 : decode cX1_range 2 = .ok (.iload_n 1, 1) := dk_27 (dk_at dksX1_range_0 2 rfl rfl)
theorem dX1_range_3 : decode cX1_range 3 = .ok (.iload_n 2, 1) := dk_28 (dk_at dksX1_range_0 3 rfl rfl)
theorem dX1_range_4 : decode cX1_range 4 = .ok (.invokevirtual 186, 3) := dk_182 0 186 (dk_at dksX1_range_0 4 rfl rfl)
theorem dX1_range_7 : decode cX1_range 7 = .ok (.istore 4, 2) := dk_54 4 (dk_at dksX1_range_0 7 rfl rfl)
theorem dX1_range_9 : decode cX1_range 9 = .ok (.iload 4, 2) := dk_21 4 (dk_at dksX1_range_0 9 rfl rfl)
theorem dX1_range_11 : decode cX1_range 11 = .ok (.ifCond .ge 6, 3) := dk_156 0 6 (dk_at dksX1_range_0 11 rfl rfl)
theorem dX1_range_14 : decode cX1_range 14 = .ok (.iload 4, 2) := dk_21 4 (dk_at dksX1_range_0 14 rfl rfl)
theorem dX1_range_16 : decode cX1_range 16 = .ok (.ireturn, 1) := dk_172 (dk_at dksX1_range_0 16 rfl rfl)
theorem dX1_range_17 : decode cX1_range 17 = .ok (.aload_n 0, 1) := dk_42 (dk_at dksX1_range_0 17 rfl rfl)
theorem dX1_range_18 : decode cX1_range 18 = .ok (.iload_n 1, 1) := dk_27 (dk_at dksX1_range_0 18 rfl rfl)
theorem dX1_range_19 : decode cX1_range 19 = .ok (.iload_n 2, 1) := dk_28 (dk_at dksX1_range_0 19 rfl rfl)
theorem dX1_range_20 : decode cX1_range 20 = .ok (.invokevirtual 190, 3) := dk_182 0 190 (dk_at dksX1_range_0 20 rfl rfl)
theorem dX1_range_23 : decode cX1_range 23 = .ok (.ifCond .ne 9, 3) := dk_154 0 9 (dk_at dksX1_range_1 0 rfl rfl)
theorem dX1_range_26 : decode cX1_range 26 = .ok (.aload_n 0, 1) := dk_42 (dk_at dksX1_range_1 3 rfl rfl)
theorem dX1_range_27 : decode cX1_range 27 = .ok (.iconst 1, 1) := dk_4 (dk_at dksX1_range_1 4 rfl rfl)
theorem dX1_range_28 : decode cX1_range 28 = .ok (.invokevirtual 119, 3) := dk_182 0 119 (dk_at dksX1_range_1 5 rfl rfl)
theorem dX1_range_31 : decode cX1_range 31 = .ok (.ireturn, 1) := dk_172 (dk_at dksX1_range_1 8 rfl rfl)
theorem dX1_range_32 : decode cX1_range 32 = .ok (.aload_n 0, 1) := dk_42 (dk_at dksX1_range_1 9 rfl rfl)
theorem dX1_range_33 : decode cX1_range 33 = .ok (.invokevirtual 280, 3) := dk_182 1 24 (dk_at dksX1_range_1 10 rfl rfl)
theorem dX1_range_36 : decode cX1_range 36 = .ok (.bipush (-9), 2) := dk_16 247 (dk_at dksX1_range_1 13 rfl rfl)
theorem dX1_range_38 : decode cX1_range 38 = .ok (.if_icmp .eq 6, 3) := dk_159 0 6 (dk_at dksX1_range_1 15 rfl rfl)
theorem dX1_range_41 : decode cX1_range 41 = .ok (.bipush (-9), 2) := dk_16 247 (dk_at dksX1_range_1 18 rfl rfl)
theorem dX1_range_43 : decode cX1_range 43 = .ok (.ireturn, 1) := dk_172 (dk_at dksX1_range_1 20 rfl rfl)
theorem dX1_range_44 : decode cX1_range 44 = .ok (.aload_n 0, 1) := dk_42 (dk_at dksX1_range_1 21 rfl rfl)
theorem dX1_range_45 : decode cX1_range 45 = .ok (.iload_n 1, 1) := dk_27 (dk_at dksX1_range_1 22 rfl rfl)
theorem dX1_range_46 : decode cX1_range 46 = .ok (.iload_n 2, 1) := dk_28 (dk_at dksX1_range_1 23 rfl rfl)
theorem dX1_range_47 : decode cX1_range 47 = .ok (.invokevirtual 289, 3) := dk_182 1 33 (dk_at dksX1_range_2 0 rfl rfl)
theorem dX1_range_50 : decode cX1_range 50 = .ok (.iload_n 3, 1) := dk_29 (dk_at dksX1_range_2 3 rfl rfl)
theorem dX1_range_51 : decode cX1_range 51 = .ok (.ifCond .eq 10, 3) := dk_153 0 10 (dk_at dksX1_range_2 4 rfl rfl)
theorem dX1_range_54 : decode cX1_range 54 = .ok (.aload_n 0, 1) := dk_42 (dk_at dksX1_range_2 7 rfl rfl)
theorem dX1_range_55 : decode cX1_range 55 = .ok (.getfield 286, 3) := dk_180 1 30 (dk_at dksX1_range_2 8 rfl rfl)
theorem dX1_range_58 : decode cX1_range 58 = .ok (.goto 7, 3) := dk_167 0 7 (dk_at dksX1_range_2 11 rfl rfl)
theorem dX1_range_61 : decode cX1_range 61 = .ok (.aload_n 0, 1) := dk_42 (dk_at dksX1_range_2 14 rfl rfl)
theorem dX1_range_62 : decode cX1_range 62 = .ok (.getfield 283, 3) := dk_180 1 27 (dk_at dksX1_range_2 15 rfl rfl)
theorem dX1_range_65 : decode cX1_range 65 = .ok (.ireturn, 1) := dk_172 (dk_at dksX1_range_2 18 rfl rfl)
abbrev cX1_layRange : ByteArray := prog_8_method_73_code
def yX1_layRange : MethodName := ⟨RX1, "layRange", "(II)V"⟩
def dkwX1_layRange_9 : List UInt8 := [181, 1, 30, 132, 4, 1, 167, 255, 71, 177]
abbrev dktX1_layRange_9 : List UInt8 := dkwX1_layRange_9 ++ []
def dkwX1_layRange_8 : List UInt8 := [181, 1, 27, 42, 21, 7, 42, 180, 1, 30, 162, 0, 8, 21, 7, 167, 0, 7, 42, 180, 1, 30]
abbrev dktX1_layRange_8 : List UInt8 := dkwX1_layRange_8 ++ dktX1_layRange_9
def dkwX1_layRange_7 : List UInt8 := [100, 100, 54, 7, 42, 21, 6, 42, 180, 1, 27, 164, 0, 8, 21, 6, 167, 0, 7, 42, 180, 1, 27]
abbrev dktX1_layRange_7 : List UInt8 := dkwX1_layRange_7 ++ dktX1_layRange_8
def dkwX1_layRange_6 : List UInt8 := [180, 0, 57, 29, 46, 100, 100, 167, 0, 19, 42, 180, 1, 12, 42, 180, 1, 15, 42, 180, 0, 57, 29, 46]
abbrev dktX1_layRange_6 : List UInt8 := dkwX1_layRange_6 ++ dktX1_layRange_7
def dkwX1_layRange_5 : List UInt8 := [180, 0, 60, 29, 46, 100, 100, 54, 6, 21, 5, 153, 0, 22, 42, 180, 1, 18, 42, 180, 1, 9, 42]
abbrev dktX1_layRange_5 : List UInt8 := dkwX1_layRange_5 ++ dktX1_layRange_6
def dkwX1_layRange_4 : List UInt8 := [180, 1, 12, 42, 180, 0, 60, 29, 46, 100, 100, 167, 0, 19, 42, 180, 1, 9, 42, 180, 1, 18, 42]
abbrev dktX1_layRange_4 : List UInt8 := dkwX1_layRange_4 ++ dktX1_layRange_5
def dkwX1_layRange_3 : List UInt8 := [42, 21, 4, 182, 1, 21, 21, 4, 27, 184, 0, 240, 54, 5, 21, 5, 153, 0, 22, 42, 180, 1, 15, 42]
abbrev dktX1_layRange_3 : List UInt8 := dkwX1_layRange_3 ++ dktX1_layRange_4
def dkwX1_layRange_2 : List UInt8 := [182, 0, 252, 2, 130, 126, 154, 0, 160, 21, 4, 27, 184, 0, 240, 21, 4, 28, 184, 0, 240, 159, 0, 145]
abbrev dktX1_layRange_2 : List UInt8 := dkwX1_layRange_2 ++ dktX1_layRange_3
def dkwX1_layRange_1 : List UInt8 := [181, 1, 30, 4, 54, 4, 21, 4, 17, 1, 0, 162, 0, 183, 27, 28, 159, 0, 178, 21, 4, 42]
abbrev dktX1_layRange_1 : List UInt8 := dkwX1_layRange_1 ++ dktX1_layRange_2
def dkwX1_layRange_0 : List UInt8 := [16, 8, 27, 104, 28, 96, 62, 42, 42, 180, 0, 57, 29, 46, 181, 1, 27, 42, 42, 180, 0, 60, 29, 46]
abbrev dktX1_layRange_0 : List UInt8 := dkwX1_layRange_0 ++ dktX1_layRange_1
theorem dksX1_layRange_0 : cX1_layRange.data.toList.drop 0 = dktX1_layRange_0 := by decide +kernel
theorem dksX1_layRange_1 : cX1_layRange.data.toList.drop 24 = dktX1_layRange_1 := dk_seg dksX1_layRange_0 24 rfl rfl
theorem dksX1_layRange_2 : cX1_layRange.data.toList.drop 46 = dktX1_layRange_2 := dk_seg dksX1_layRange_1 22 rfl rfl
theorem dksX1_layRange_3 : cX1_layRange.data.toList.drop 70 = dktX1_layRange_3 := dk_seg dksX1_layRange_2 24 rfl rfl
theorem dksX1_layRange_4 : cX1_layRange.data.toList.drop 94 = dktX1_layRange_4 := dk_seg dksX1_layRange_3 24 rfl rfl
theorem dksX1_layRange_5 : cX1_layRange.data.toList.drop 117 = dktX1_layRange_5 := dk_seg dksX1_layRange_4 23 rfl rfl
theorem dksX1_layRange_6 : cX1_layRange.data.toList.drop 140 = dktX1_layRange_6 := dk_seg dksX1_layRange_5 23 rfl rfl
theorem dksX1_layRange_7 : cX1_layRange.data.toList.drop 164 = dktX1_layRange_7 := dk_seg dksX1_layRange_6 24 rfl rfl
theorem dksX1_layRange_8 : cX1_layRange.data.toList.drop 187 = dktX1_layRange_8 := dk_seg dksX1_layRange_7 23 rfl rfl
theorem dksX1_layRange_9 : cX1_layRange.data.toList.drop 209 = dktX1_layRange_9 := dk_seg dksX1_layRange_8 22 rfl rfl
theorem dX1_layRange_0 : decode cX1_layRange 0 = .ok (.bipush 8, 2) := dk_16 8 (dk_at dksX1_layRange_0 0 rfl rfl)
theorem dX1_layRange_2 : decode cX1_layRange 2 = .ok (.iload_n 1, 1) := dk_27 (dk_at dksX1_layRange_0 2 rfl rfl)
theorem dX1_layRange_3 : decode cX1_layRange 3 = .ok (.imul, 1) := dk_104 (dk_at dksX1_layRange_0 3 rfl rfl)
theorem dX1_layRange_4 : decode cX1_layRange 4 = .ok (.iload_n 2, 1) := dk_28 (dk_at dksX1_layRange_0 4 rfl rfl)
theorem dX1_layRange_5 : decode cX1_layRange 5 = .ok (.iadd, 1) := dk_96 (dk_at dksX1_layRange_0 5 rfl rfl)
theorem dX1_layRange_6 : decode cX1_layRange 6 = .ok (.istore_n 3, 1) := dk_62 (dk_at dksX1_layRange_0 6 rfl rfl)
theorem dX1_layRange_7 : decode cX1_layRange 7 = .ok (.aload_n 0, 1) := dk_42 (dk_at dksX1_layRange_0 7 rfl rfl)
theorem dX1_layRange_8 : decode cX1_layRange 8 = .ok (.aload_n 0, 1) := dk_42 (dk_at dksX1_layRange_0 8 rfl rfl)
theorem dX1_layRange_9 : decode cX1_layRange 9 = .ok (.getfield 57, 3) := dk_180 0 57 (dk_at dksX1_layRange_0 9 rfl rfl)
theorem dX1_layRange_12 : decode cX1_layRange 12 = .ok (.iload_n 3, 1) := dk_29 (dk_at dksX1_layRange_0 12 rfl rfl)
theorem dX1_layRange_13 : decode cX1_layRange 13 = .ok (.iaload, 1) := dk_46 (dk_at dksX1_layRange_0 13 rfl rfl)
theorem dX1_layRange_14 : decode cX1_layRange 14 = .ok (.putfield 283, 3) := dk_181 1 27 (dk_at dksX1_layRange_0 14 rfl rfl)
theorem dX1_layRange_17 : decode cX1_layRange 17 = .ok (.aload_n 0, 1) := dk_42 (dk_at dksX1_layRange_0 17 rfl rfl)
theorem dX1_layRange_18 : decode cX1_layRange 18 = .ok (.aload_n 0, 1) := dk_42 (dk_at dksX1_layRange_0 18 rfl rfl)
theorem dX1_layRange_19 : decode cX1_layRange 19 = .ok (.getfield 60, 3) := dk_180 0 60 (dk_at dksX1_layRange_0 19 rfl rfl)
theorem dX1_layRange_22 : decode cX1_layRange 22 = .ok (.iload_n 3, 1) := dk_29 (dk_at dksX1_layRange_0 22 rfl rfl)
theorem dX1_layRange_23 : decode cX1_layRange 23 = .ok (.iaload, 1) := dk_46 (dk_at dksX1_layRange_0 23 rfl rfl)
theorem dX1_layRange_24 : decode cX1_layRange 24 = .ok (.putfield 286, 3) := dk_181 1 30 (dk_at dksX1_layRange_1 0 rfl rfl)
theorem dX1_layRange_27 : decode cX1_layRange 27 = .ok (.iconst 1, 1) := dk_4 (dk_at dksX1_layRange_1 3 rfl rfl)
theorem dX1_layRange_28 : decode cX1_layRange 28 = .ok (.istore 4, 2) := dk_54 4 (dk_at dksX1_layRange_1 4 rfl rfl)
theorem dX1_layRange_30 : decode cX1_layRange 30 = .ok (.iload 4, 2) := dk_21 4 (dk_at dksX1_layRange_1 6 rfl rfl)
theorem dX1_layRange_32 : decode cX1_layRange 32 = .ok (.sipush 256, 3) := dk_17 1 0 (dk_at dksX1_layRange_1 8 rfl rfl)
theorem dX1_layRange_35 : decode cX1_layRange 35 = .ok (.if_icmp .ge 183, 3) := dk_162 0 183 (dk_at dksX1_layRange_1 11 rfl rfl)
theorem dX1_layRange_38 : decode cX1_layRange 38 = .ok (.iload_n 1, 1) := dk_27 (dk_at dksX1_layRange_1 14 rfl rfl)
theorem dX1_layRange_39 : decode cX1_layRange 39 = .ok (.iload_n 2, 1) := dk_28 (dk_at dksX1_layRange_1 15 rfl rfl)
theorem dX1_layRange_40 : decode cX1_layRange 40 = .ok (.if_icmp .eq 178, 3) := dk_159 0 178 (dk_at dksX1_layRange_1 16 rfl rfl)
theorem dX1_layRange_43 : decode cX1_layRange 43 = .ok (.iload 4, 2) := dk_21 4 (dk_at dksX1_layRange_1 19 rfl rfl)
theorem dX1_layRange_45 : decode cX1_layRange 45 = .ok (.aload_n 0, 1) := dk_42 (dk_at dksX1_layRange_1 21 rfl rfl)
theorem dX1_layRange_46 : decode cX1_layRange 46 = .ok (.invokevirtual 252, 3) := dk_182 0 252 (dk_at dksX1_layRange_2 0 rfl rfl)
theorem dX1_layRange_49 : decode cX1_layRange 49 = .ok (.iconst (-1), 1) := dk_2 (dk_at dksX1_layRange_2 3 rfl rfl)
theorem dX1_layRange_50 : decode cX1_layRange 50 = .ok (.ixor, 1) := dk_130 (dk_at dksX1_layRange_2 4 rfl rfl)
theorem dX1_layRange_51 : decode cX1_layRange 51 = .ok (.iand, 1) := dk_126 (dk_at dksX1_layRange_2 5 rfl rfl)
theorem dX1_layRange_52 : decode cX1_layRange 52 = .ok (.ifCond .ne 160, 3) := dk_154 0 160 (dk_at dksX1_layRange_2 6 rfl rfl)
theorem dX1_layRange_55 : decode cX1_layRange 55 = .ok (.iload 4, 2) := dk_21 4 (dk_at dksX1_layRange_2 9 rfl rfl)
theorem dX1_layRange_57 : decode cX1_layRange 57 = .ok (.iload_n 1, 1) := dk_27 (dk_at dksX1_layRange_2 11 rfl rfl)
theorem dX1_layRange_58 : decode cX1_layRange 58 = .ok (.invokestatic 240, 3) := dk_184 0 240 (dk_at dksX1_layRange_2 12 rfl rfl)
theorem dX1_layRange_61 : decode cX1_layRange 61 = .ok (.iload 4, 2) := dk_21 4 (dk_at dksX1_layRange_2 15 rfl rfl)
theorem dX1_layRange_63 : decode cX1_layRange 63 = .ok (.iload_n 2, 1) := dk_28 (dk_at dksX1_layRange_2 17 rfl rfl)
theorem dX1_layRange_64 : decode cX1_layRange 64 = .ok (.invokestatic 240, 3) := dk_184 0 240 (dk_at dksX1_layRange_2 18 rfl rfl)
theorem dX1_layRange_67 : decode cX1_layRange 67 = .ok (.if_icmp .eq 145, 3) := dk_159 0 145 (dk_at dksX1_layRange_2 21 rfl rfl)
theorem dX1_layRange_70 : decode cX1_layRange 70 = .ok (.aload_n 0, 1) := dk_42 (dk_at dksX1_layRange_3 0 rfl rfl)
theorem dX1_layRange_71 : decode cX1_layRange 71 = .ok (.iload 4, 2) := dk_21 4 (dk_at dksX1_layRange_3 1 rfl rfl)
theorem dX1_layRange_73 : decode cX1_layRange 73 = .ok (.invokevirtual 277, 3) := dk_182 1 21 (dk_at dksX1_layRange_3 3 rfl rfl)
theorem dX1_layRange_76 : decode cX1_layRange 76 = .ok (.iload 4, 2) := dk_21 4 (dk_at dksX1_layRange_3 6 rfl rfl)
theorem dX1_layRange_78 : decode cX1_layRange 78 = .ok (.iload_n 1, 1) := dk_27 (dk_at dksX1_layRange_3 8 rfl rfl)
theorem dX1_layRange_79 : decode cX1_layRange 79 = .ok (.invokestatic 240, 3) := dk_184 0 240 (dk_at dksX1_layRange_3 9 rfl rfl)
theorem dX1_layRange_82 : decode cX1_layRange 82 = .ok (.istore 5, 2) := dk_54 5 (dk_at dksX1_layRange_3 12 rfl rfl)
theorem dX1_layRange_84 : decode cX1_layRange 84 = .ok (.iload 5, 2) := dk_21 5 (dk_at dksX1_layRange_3 14 rfl rfl)
theorem dX1_layRange_86 : decode cX1_layRange 86 = .ok (.ifCond .eq 22, 3) := dk_153 0 22 (dk_at dksX1_layRange_3 16 rfl rfl)
theorem dX1_layRange_89 : decode cX1_layRange 89 = .ok (.aload_n 0, 1) := dk_42 (dk_at dksX1_layRange_3 19 rfl rfl)
theorem dX1_layRange_90 : decode cX1_layRange 90 = .ok (.getfield 271, 3) := dk_180 1 15 (dk_at dksX1_layRange_3 20 rfl rfl)
theorem dX1_layRange_93 : decode cX1_layRange 93 = .ok (.aload_n 0, 1) := dk_42 (dk_at dksX1_layRange_3 23 rfl rfl)
theorem dX1_layRange_94 : decode cX1_layRange 94 = .ok (.getfield 268, 3) := dk_180 1 12 (dk_at dksX1_layRange_4 0 rfl rfl)
theorem dX1_layRange_97 : decode cX1_layRange 97 = .ok (.aload_n 0, 1) := dk_42 (dk_at dksX1_layRange_4 3 rfl rfl)
theorem dX1_layRange_98 : decode cX1_layRange 98 = .ok (.getfield 60, 3) := dk_180 0 60 (dk_at dksX1_layRange_4 4 rfl rfl)
theorem dX1_layRange_101 : decode cX1_layRange 101 = .ok (.iload_n 3, 1) := dk_29 (dk_at dksX1_layRange_4 7 rfl rfl)
theorem dX1_layRange_102 : decode cX1_layRange 102 = .ok (.iaload, 1) := dk_46 (dk_at dksX1_layRange_4 8 rfl rfl)
theorem dX1_layRange_103 : decode cX1_layRange 103 = .ok (.isub, 1) := dk_100 (dk_at dksX1_layRange_4 9 rfl rfl)
theorem dX1_layRange_104 : decode cX1_layRange 104 = .ok (.isub, 1) := dk_100 (dk_at dksX1_layRange_4 10 rfl rfl)
theorem dX1_layRange_105 : decode cX1_layRange 105 = .ok (.goto 19, 3) := dk_167 0 19 (dk_at dksX1_layRange_4 11 rfl rfl)
theorem dX1_layRange_108 : decode cX1_layRange 108 = .ok (.aload_n 0, 1) := dk_42 (dk_at dksX1_layRange_4 14 rfl rfl)
theorem dX1_layRange_109 : decode cX1_layRange 109 = .ok (.getfield 265, 3) := dk_180 1 9 (dk_at dksX1_layRange_4 15 rfl rfl)
theorem dX1_layRange_112 : decode cX1_layRange 112 = .ok (.aload_n 0, 1) := dk_42 (dk_at dksX1_layRange_4 18 rfl rfl)
theorem dX1_layRange_113 : decode cX1_layRange 113 = .ok (.getfield 274, 3) := dk_180 1 18 (dk_at dksX1_layRange_4 19 rfl rfl)
theorem dX1_layRange_116 : decode cX1_layRange 116 = .ok (.aload_n 0, 1) := dk_42 (dk_at dksX1_layRange_4 22 rfl rfl)
theorem dX1_layRange_117 : decode cX1_layRange 117 = .ok (.getfield 60, 3) := dk_180 0 60 (dk_at dksX1_layRange_5 0 rfl rfl)
theorem dX1_layRange_120 : decode cX1_layRange 120 = .ok (.iload_n 3, 1) := dk_29 (dk_at dksX1_layRange_5 3 rfl rfl)
theorem dX1_layRange_121 : decode cX1_layRange 121 = .ok (.iaload, 1) := dk_46 (dk_at dksX1_layRange_5 4 rfl rfl)
theorem dX1_layRange_122 : decode cX1_layRange 122 = .ok (.isub, 1) := dk_100 (dk_at dksX1_layRange_5 5 rfl rfl)
theorem dX1_layRange_123 : decode cX1_layRange 123 = .ok (.isub, 1) := dk_100 (dk_at dksX1_layRange_5 6 rfl rfl)
theorem dX1_layRange_124 : decode cX1_layRange 124 = .ok (.istore 6, 2) := dk_54 6 (dk_at dksX1_layRange_5 7 rfl rfl)
theorem dX1_layRange_126 : decode cX1_layRange 126 = .ok (.iload 5, 2) := dk_21 5 (dk_at dksX1_layRange_5 9 rfl rfl)
theorem dX1_layRange_128 : decode cX1_layRange 128 = .ok (.ifCond .eq 22, 3) := dk_153 0 22 (dk_at dksX1_layRange_5 11 rfl rfl)
theorem dX1_layRange_131 : decode cX1_layRange 131 = .ok (.aload_n 0, 1) := dk_42 (dk_at dksX1_layRange_5 14 rfl rfl)
theorem dX1_layRange_132 : decode cX1_layRange 132 = .ok (.getfield 274, 3) := dk_180 1 18 (dk_at dksX1_layRange_5 15 rfl rfl)
theorem dX1_layRange_135 : decode cX1_layRange 135 = .ok (.aload_n 0, 1) := dk_42 (dk_at dksX1_layRange_5 18 rfl rfl)
theorem dX1_layRange_136 : decode cX1_layRange 136 = .ok (.getfield 265, 3) := dk_180 1 9 (dk_at dksX1_layRange_5 19 rfl rfl)
theorem dX1_layRange_139 : decode cX1_layRange 139 = .ok (.aload_n 0, 1) := dk_42 (dk_at dksX1_layRange_5 22 rfl rfl)
theorem dX1_layRange_140 : decode cX1_layRange 140 = .ok (.getfield 57, 3) := dk_180 0 57 (dk_at dksX1_layRange_6 0 rfl rfl)
theorem dX1_layRange_143 : decode cX1_layRange 143 = .ok (.iload_n 3, 1) := dk_29 (dk_at dksX1_layRange_6 3 rfl rfl)
theorem dX1_layRange_144 : decode cX1_layRange 144 = .ok (.iaload, 1) := dk_46 (dk_at dksX1_layRange_6 4 rfl rfl)
theorem dX1_layRange_145 : decode cX1_layRange 145 = .ok (.isub, 1) := dk_100 (dk_at dksX1_layRange_6 5 rfl rfl)
theorem dX1_layRange_146 : decode cX1_layRange 146 = .ok (.isub, 1) := dk_100 (dk_at dksX1_layRange_6 6 rfl rfl)
theorem dX1_layRange_147 : decode cX1_layRange 147 = .ok (.goto 19, 3) := dk_167 0 19 (dk_at dksX1_layRange_6 7 rfl rfl)
theorem dX1_layRange_150 : decode cX1_layRange 150 = .ok (.aload_n 0, 1) := dk_42 (dk_at dksX1_layRange_6 10 rfl rfl)
theorem dX1_layRange_151 : decode cX1_layRange 151 = .ok (.getfield 268, 3) := dk_180 1 12 (dk_at dksX1_layRange_6 11 rfl rfl)
theorem dX1_layRange_154 : decode cX1_layRange 154 = .ok (.aload_n 0, 1) := dk_42 (dk_at dksX1_layRange_6 14 rfl rfl)
theorem dX1_layRange_155 : decode cX1_layRange 155 = .ok (.getfield 271, 3) := dk_180 1 15 (dk_at dksX1_layRange_6 15 rfl rfl)
theorem dX1_layRange_158 : decode cX1_layRange 158 = .ok (.aload_n 0, 1) := dk_42 (dk_at dksX1_layRange_6 18 rfl rfl)
theorem dX1_layRange_159 : decode cX1_layRange 159 = .ok (.getfield 57, 3) := dk_180 0 57 (dk_at dksX1_layRange_6 19 rfl rfl)
theorem dX1_layRange_162 : decode cX1_layRange 162 = .ok (.iload_n 3, 1) := dk_29 (dk_at dksX1_layRange_6 22 rfl rfl)
theorem dX1_layRange_163 : decode cX1_layRange 163 = .ok (.iaload, 1) := dk_46 (dk_at dksX1_layRange_6 23 rfl rfl)
theorem dX1_layRange_164 : decode cX1_layRange 164 = .ok (.isub, 1) := dk_100 (dk_at dksX1_layRange_7 0 rfl rfl)
theorem dX1_layRange_165 : decode cX1_layRange 165 = .ok (.isub, 1) := dk_100 (dk_at dksX1_layRange_7 1 rfl rfl)
theorem dX1_layRange_166 : decode cX1_layRange 166 = .ok (.istore 7, 2) := dk_54 7 (dk_at dksX1_layRange_7 2 rfl rfl)
theorem dX1_layRange_168 : decode cX1_layRange 168 = .ok (.aload_n 0, 1) := dk_42 (dk_at dksX1_layRange_7 4 rfl rfl)
theorem dX1_layRange_169 : decode cX1_layRange 169 = .ok (.iload 6, 2) := dk_21 6 (dk_at dksX1_layRange_7 5 rfl rfl)
theorem dX1_layRange_171 : decode cX1_layRange 171 = .ok (.aload_n 0, 1) := dk_42 (dk_at dksX1_layRange_7 7 rfl rfl)
theorem dX1_layRange_172 : decode cX1_layRange 172 = .ok (.getfield 283, 3) := dk_180 1 27 (dk_at dksX1_layRange_7 8 rfl rfl)
theorem dX1_layRange_175 : decode cX1_layRange 175 = .ok (.if_icmp .le 8, 3) := dk_164 0 8 (dk_at dksX1_layRange_7 11 rfl rfl)
theorem dX1_layRange_178 : decode cX1_layRange 178 = .ok (.iload 6, 2) := dk_21 6 (dk_at dksX1_layRange_7 14 rfl rfl)
theorem dX1_layRange_180 : decode cX1_layRange 180 = .ok (.goto 7, 3) := dk_167 0 7 (dk_at dksX1_layRange_7 16 rfl rfl)
theorem dX1_layRange_183 : decode cX1_layRange 183 = .ok (.aload_n 0, 1) := dk_42 (dk_at dksX1_layRange_7 19 rfl rfl)
theorem dX1_layRange_184 : decode cX1_layRange 184 = .ok (.getfield 283, 3) := dk_180 1 27 (dk_at dksX1_layRange_7 20 rfl rfl)
theorem dX1_layRange_187 : decode cX1_layRange 187 = .ok (.putfield 283, 3) := dk_181 1 27 (dk_at dksX1_layRange_8 0 rfl rfl)
theorem dX1_layRange_190 : decode cX1_layRange 190 = .ok (.aload_n 0, 1) := dk_42 (dk_at dksX1_layRange_8 3 rfl rfl)
theorem dX1_layRange_191 : decode cX1_layRange 191 = .ok (.iload 7, 2) := dk_21 7 (dk_at dksX1_layRange_8 4 rfl rfl)
theorem dX1_layRange_193 : decode cX1_layRange 193 = .ok (.aload_n 0, 1) := dk_42 (dk_at dksX1_layRange_8 6 rfl rfl)
theorem dX1_layRange_194 : decode cX1_layRange 194 = .ok (.getfield 286, 3) := dk_180 1 30 (dk_at dksX1_layRange_8 7 rfl rfl)
theorem dX1_layRange_197 : decode cX1_layRange 197 = .ok (.if_icmp .ge 8, 3) := dk_162 0 8 (dk_at dksX1_layRange_8 10 rfl rfl)
theorem dX1_layRange_200 : decode cX1_layRange 200 = .ok (.iload 7, 2) := dk_21 7 (dk_at dksX1_layRange_8 13 rfl rfl)
theorem dX1_layRange_202 : decode cX1_layRange 202 = .ok (.goto 7, 3) := dk_167 0 7 (dk_at dksX1_layRange_8 15 rfl rfl)
theorem dX1_layRange_205 : decode cX1_layRange 205 = .ok (.aload_n 0, 1) := dk_42 (dk_at dksX1_layRange_8 18 rfl rfl)
theorem dX1_layRange_206 : decode cX1_layRange 206 = .ok (.getfield 286, 3) := dk_180 1 30 (dk_at dksX1_layRange_8 19 rfl rfl)
theorem dX1_layRange_209 : decode cX1_layRange 209 = .ok (.putfield 286, 3) := dk_181 1 30 (dk_at dksX1_layRange_9 0 rfl rfl)
theorem dX1_layRange_212 : decode cX1_layRange 212 = .ok (.iinc 4 1, 3) := dk_132 4 1 (dk_at dksX1_layRange_9 3 rfl rfl)
theorem dX1_layRange_215 : decode cX1_layRange 215 = .ok (.goto (-185), 3) := dk_167 255 71 (dk_at dksX1_layRange_9 6 rfl rfl)
theorem dX1_layRange_218 : decode cX1_layRange 218 = .ok (.return_, 1) := dk_177 (dk_at dksX1_layRange_9 9 rfl rfl)
abbrev cX1_nextSight : ByteArray := prog_8_method_75_code
def yX1_nextSight : MethodName := ⟨RX1, "nextSight", "()I"⟩
def dkwX1_nextSight_4 : List UInt8 := [167, 255, 183, 27, 16, 247, 160, 0, 8, 16, 247, 167, 0, 9, 42, 28, 27, 182, 0, 246, 172]
abbrev dktX1_nextSight_4 : List UInt8 := dkwX1_nextSight_4 ++ []
def dkwX1_nextSight_3 : List UInt8 := [21, 4, 96, 60, 42, 180, 1, 30, 42, 180, 1, 27, 100, 61, 132, 4, 1, 167, 255, 198, 132, 3, 1]
abbrev dktX1_nextSight_3 : List UInt8 := dkwX1_nextSight_3 ++ dktX1_nextSight_4
def dkwX1_nextSight_2 : List UInt8 := [29, 21, 4, 182, 1, 33, 42, 180, 1, 30, 42, 180, 1, 27, 100, 28, 164, 0, 21, 16, 10, 29, 104]
abbrev dktX1_nextSight_2 : List UInt8 := dkwX1_nextSight_2 ++ dktX1_nextSight_3
def dkwX1_nextSight_1 : List UInt8 := [162, 0, 73, 3, 54, 4, 21, 4, 16, 8, 162, 0, 57, 42, 29, 21, 4, 182, 0, 190, 153, 0, 41, 42]
abbrev dktX1_nextSight_1 : List UInt8 := dkwX1_nextSight_1 ++ dktX1_nextSight_2
def dkwX1_nextSight_0 : List UInt8 := [16, 247, 60, 3, 61, 42, 182, 1, 24, 16, 247, 159, 0, 6, 16, 247, 172, 3, 62, 29, 16, 8]
abbrev dktX1_nextSight_0 : List UInt8 := dkwX1_nextSight_0 ++ dktX1_nextSight_1
theorem dksX1_nextSight_0 : cX1_nextSight.data.toList.drop 0 = dktX1_nextSight_0 := by decide +kernel
theorem dksX1_nextSight_1 : cX1_nextSight.data.toList.drop 22 = dktX1_nextSight_1 := dk_seg dksX1_nextSight_0 22 rfl rfl
theorem dksX1_nextSight_2 : cX1_nextSight.data.toList.drop 46 = dktX1_nextSight_2 := dk_seg dksX1_nextSight_1 24 rfl rfl
theorem dksX1_nextSight_3 : cX1_nextSight.data.toList.drop 69 = dktX1_nextSight_3 := dk_seg dksX1_nextSight_2 23 rfl rfl
theorem dksX1_nextSight_4 : cX1_nextSight.data.toList.drop 92 = dktX1_nextSight_4 := dk_seg dksX1_nextSight_3 23 rfl rfl
theorem dX1_nextSight_0 : decode cX1_nextSight 0 = .ok (.bipush (-9), 2) := dk_16 247 (dk_at dksX1_nextSight_0 0 rfl rfl)
theorem dX1_nextSight_2 : decode cX1_nextSight 2 = .ok (.istore_n 1, 1) := dk_60 (dk_at dksX1_nextSight_0 2 rfl rfl)
theorem dX1_nextSight_3 : decode cX1_nextSight 3 = .ok (.iconst 0, 1) := dk_3 (dk_at dksX1_nextSight_0 3 rfl rfl)
theorem dX1_nextSight_4 : decode cX1_nextSight 4 = .ok (.istore_n 2, 1) := dk_61 (dk_at dksX1_nextSight_0 4 rfl rfl)
theorem dX1_nextSight_5 : decode cX1_nextSight 5 = .ok (.aload_n 0, 1) := dk_42 (dk_at dksX1_nextSight_0 5 rfl rfl)
theorem dX1_nextSight_6 : decode cX1_nextSight 6 = .ok (.invokevirtual 280, 3) := dk_182 1 24 (dk_at dksX1_nextSight_0 6 rfl rfl)
theorem dX1_nextSight_9 : decode cX1_nextSight 9 = .ok (.bipush (-9), 2) := dk_16 247 (dk_at dksX1_nextSight_0 9 rfl rfl)
theorem dX1_nextSight_11 : decode cX1_nextSight 11 = .ok (.if_icmp .eq 6, 3) := dk_159 0 6 (dk_at dksX1_nextSight_0 11 rfl rfl)
theorem dX1_nextSight_14 : decode cX1_nextSight 14 = .ok (.bipush (-9), 2) := dk_16 247 (dk_at dksX1_nextSight_0 14 rfl rfl)
theorem dX1_nextSight_16 : decode cX1_nextSight 16 = .ok (.ireturn, 1) := dk_172 (dk_at dksX1_nextSight_0 16 rfl rfl)
theorem dX1_nextSight_17 : decode cX1_nextSight 17 = .ok (.iconst 0, 1) := dk_3 (dk_at dksX1_nextSight_0 17 rfl rfl)
theorem dX1_nextSight_18 : decode cX1_nextSight 18 = .ok (.istore_n 3, 1) := dk_62 (dk_at dksX1_nextSight_0 18 rfl rfl)
theorem dX1_nextSight_19 : decode cX1_nextSight 19 = .ok (.iload_n 3, 1) := dk_29 (dk_at dksX1_nextSight_0 19 rfl rfl)
theorem dX1_nextSight_20 : decode cX1_nextSight 20 = .ok (.bipush 8, 2) := dk_16 8 (dk_at dksX1_nextSight_0 20 rfl rfl)
theorem dX1_nextSight_22 : decode cX1_nextSight 22 = .ok (.if_icmp .ge 73, 3) := dk_162 0 73 (dk_at dksX1_nextSight_1 0 rfl rfl)
theorem dX1_nextSight_25 : decode cX1_nextSight 25 = .ok (.iconst 0, 1) := dk_3 (dk_at dksX1_nextSight_1 3 rfl rfl)
theorem dX1_nextSight_26 : decode cX1_nextSight 26 = .ok (.istore 4, 2) := dk_54 4 (dk_at dksX1_nextSight_1 4 rfl rfl)
theorem dX1_nextSight_28 : decode cX1_nextSight 28 = .ok (.iload 4, 2) := dk_21 4 (dk_at dksX1_nextSight_1 6 rfl rfl)
theorem dX1_nextSight_30 : decode cX1_nextSight 30 = .ok (.bipush 8, 2) := dk_16 8 (dk_at dksX1_nextSight_1 8 rfl rfl)
theorem dX1_nextSight_32 : decode cX1_nextSight 32 = .ok (.if_icmp .ge 57, 3) := dk_162 0 57 (dk_at dksX1_nextSight_1 10 rfl rfl)
theorem dX1_nextSight_35 : decode cX1_nextSight 35 = .ok (.aload_n 0, 1) := dk_42 (dk_at dksX1_nextSight_1 13 rfl rfl)
theorem dX1_nextSight_36 : decode cX1_nextSight 36 = .ok (.iload_n 3, 1) := dk_29 (dk_at dksX1_nextSight_1 14 rfl rfl)
theorem dX1_nextSight_37 : decode cX1_nextSight 37 = .ok (.iload 4, 2) := dk_21 4 (dk_at dksX1_nextSight_1 15 rfl rfl)
theorem dX1_nextSight_39 : decode cX1_nextSight 39 = .ok (.invokevirtual 190, 3) := dk_182 0 190 (dk_at dksX1_nextSight_1 17 rfl rfl)
theorem dX1_nextSight_42 : decode cX1_nextSight 42 = .ok (.ifCond .eq 41, 3) := dk_153 0 41 (dk_at dksX1_nextSight_1 20 rfl rfl)
theorem dX1_nextSight_45 : decode cX1_nextSight 45 = .ok (.aload_n 0, 1) := dk_42 (dk_at dksX1_nextSight_1 23 rfl rfl)
theorem dX1_nextSight_46 : decode cX1_nextSight 46 = .ok (.iload_n 3, 1) := dk_29 (dk_at dksX1_nextSight_2 0 rfl rfl)
theorem dX1_nextSight_47 : decode cX1_nextSight 47 = .ok (.iload 4, 2) := dk_21 4 (dk_at dksX1_nextSight_2 1 rfl rfl)
theorem dX1_nextSight_49 : decode cX1_nextSight 49 = .ok (.invokevirtual 289, 3) := dk_182 1 33 (dk_at dksX1_nextSight_2 3 rfl rfl)
theorem dX1_nextSight_52 : decode cX1_nextSight 52 = .ok (.aload_n 0, 1) := dk_42 (dk_at dksX1_nextSight_2 6 rfl rfl)
theorem dX1_nextSight_53 : decode cX1_nextSight 53 = .ok (.getfield 286, 3) := dk_180 1 30 (dk_at dksX1_nextSight_2 7 rfl rfl)
theorem dX1_nextSight_56 : decode cX1_nextSight 56 = .ok (.aload_n 0, 1) := dk_42 (dk_at dksX1_nextSight_2 10 rfl rfl)
theorem dX1_nextSight_57 : decode cX1_nextSight 57 = .ok (.getfield 283, 3) := dk_180 1 27 (dk_at dksX1_nextSight_2 11 rfl rfl)
theorem dX1_nextSight_60 : decode cX1_nextSight 60 = .ok (.isub, 1) := dk_100 (dk_at dksX1_nextSight_2 14 rfl rfl)
theorem dX1_nextSight_61 : decode cX1_nextSight 61 = .ok (.iload_n 2, 1) := dk_28 (dk_at dksX1_nextSight_2 15 rfl rfl)
theorem dX1_nextSight_62 : decode cX1_nextSight 62 = .ok (.if_icmp .le 21, 3) := dk_164 0 21 (dk_at dksX1_nextSight_2 16 rfl rfl)
theorem dX1_nextSight_65 : decode cX1_nextSight 65 = .ok (.bipush 10, 2) := dk_16 10 (dk_at dksX1_nextSight_2 19 rfl rfl)
theorem dX1_nextSight_67 : decode cX1_nextSight 67 = .ok (.iload_n 3, 1) := dk_29 (dk_at dksX1_nextSight_2 21 rfl rfl)
theorem dX1_nextSight_68 : decode cX1_nextSight 68 = .ok (.imul, 1) := dk_104 (dk_at dksX1_nextSight_2 22 rfl rfl)
theorem dX1_nextSight_69 : decode cX1_nextSight 69 = .ok (.iload 4, 2) := dk_21 4 (dk_at dksX1_nextSight_3 0 rfl rfl)
theorem dX1_nextSight_71 : decode cX1_nextSight 71 = .ok (.iadd, 1) := dk_96 (dk_at dksX1_nextSight_3 2 rfl rfl)
theorem dX1_nextSight_72 : decode cX1_nextSight 72 = .ok (.istore_n 1, 1) := dk_60 (dk_at dksX1_nextSight_3 3 rfl rfl)
theorem dX1_nextSight_73 : decode cX1_nextSight 73 = .ok (.aload_n 0, 1) := dk_42 (dk_at dksX1_nextSight_3 4 rfl rfl)
theorem dX1_nextSight_74 : decode cX1_nextSight 74 = .ok (.getfield 286, 3) := dk_180 1 30 (dk_at dksX1_nextSight_3 5 rfl rfl)
theorem dX1_nextSight_77 : decode cX1_nextSight 77 = .ok (.aload_n 0, 1) := dk_42 (dk_at dksX1_nextSight_3 8 rfl rfl)
theorem dX1_nextSight_78 : decode cX1_nextSight 78 = .ok (.getfield 283, 3) := dk_180 1 27 (dk_at dksX1_nextSight_3 9 rfl rfl)
theorem dX1_nextSight_81 : decode cX1_nextSight 81 = .ok (.isub, 1) := dk_100 (dk_at dksX1_nextSight_3 12 rfl rfl)
theorem dX1_nextSight_82 : decode cX1_nextSight 82 = .ok (.istore_n 2, 1) := dk_61 (dk_at dksX1_nextSight_3 13 rfl rfl)
theorem dX1_nextSight_83 : decode cX1_nextSight 83 = .ok (.iinc 4 1, 3) := dk_132 4 1 (dk_at dksX1_nextSight_3 14 rfl rfl)
theorem dX1_nextSight_86 : decode cX1_nextSight 86 = .ok (.goto (-58), 3) := dk_167 255 198 (dk_at dksX1_nextSight_3 17 rfl rfl)
theorem dX1_nextSight_89 : decode cX1_nextSight 89 = .ok (.iinc 3 1, 3) := dk_132 3 1 (dk_at dksX1_nextSight_3 20 rfl rfl)
theorem dX1_nextSight_92 : decode cX1_nextSight 92 = .ok (.goto (-73), 3) := dk_167 255 183 (dk_at dksX1_nextSight_4 0 rfl rfl)
theorem dX1_nextSight_95 : decode cX1_nextSight 95 = .ok (.iload_n 1, 1) := dk_27 (dk_at dksX1_nextSight_4 3 rfl rfl)
theorem dX1_nextSight_96 : decode cX1_nextSight 96 = .ok (.bipush (-9), 2) := dk_16 247 (dk_at dksX1_nextSight_4 4 rfl rfl)
theorem dX1_nextSight_98 : decode cX1_nextSight 98 = .ok (.if_icmp .ne 8, 3) := dk_160 0 8 (dk_at dksX1_nextSight_4 6 rfl rfl)
theorem dX1_nextSight_101 : decode cX1_nextSight 101 = .ok (.bipush (-9), 2) := dk_16 247 (dk_at dksX1_nextSight_4 9 rfl rfl)
theorem dX1_nextSight_103 : decode cX1_nextSight 103 = .ok (.goto 9, 3) := dk_167 0 9 (dk_at dksX1_nextSight_4 11 rfl rfl)
theorem dX1_nextSight_106 : decode cX1_nextSight 106 = .ok (.aload_n 0, 1) := dk_42 (dk_at dksX1_nextSight_4 14 rfl rfl)
theorem dX1_nextSight_107 : decode cX1_nextSight 107 = .ok (.iload_n 2, 1) := dk_28 (dk_at dksX1_nextSight_4 15 rfl rfl)
theorem dX1_nextSight_108 : decode cX1_nextSight 108 = .ok (.iload_n 1, 1) := dk_27 (dk_at dksX1_nextSight_4 16 rfl rfl)
theorem dX1_nextSight_109 : decode cX1_nextSight 109 = .ok (.invokevirtual 246, 3) := dk_182 0 246 (dk_at dksX1_nextSight_4 17 rfl rfl)
theorem dX1_nextSight_112 : decode cX1_nextSight 112 = .ok (.ireturn, 1) := dk_172 (dk_at dksX1_nextSight_4 20 rfl rfl)
abbrev cX1_effect : ByteArray := prog_8_method_80_code
def yX1_effect : MethodName := ⟨RX1, "effect", "(III)I"⟩
def dkwX1_effect_2 : List UInt8 := [79, 42, 21, 5, 4, 182, 0, 246, 172]
abbrev dktX1_effect_2 : List UInt8 := dkwX1_effect_2 ++ []
def dkwX1_effect_1 : List UInt8 := [42, 180, 0, 66, 16, 8, 27, 104, 28, 96, 46, 54, 5, 42, 180, 0, 66, 16, 8, 27, 104, 28, 96, 29]
abbrev dktX1_effect_1 : List UInt8 := dkwX1_effect_1 ++ dktX1_effect_2
def dkwX1_effect_0 : List UInt8 := [42, 29, 16, 236, 16, 20, 184, 0, 105, 27, 28, 182, 0, 186, 54, 4, 21, 4, 156, 0, 6, 21, 4, 172]
abbrev dktX1_effect_0 : List UInt8 := dkwX1_effect_0 ++ dktX1_effect_1
theorem dksX1_effect_0 : cX1_effect.data.toList.drop 0 = dktX1_effect_0 := by decide +kernel
theorem dksX1_effect_1 : cX1_effect.data.toList.drop 24 = dktX1_effect_1 := dk_seg dksX1_effect_0 24 rfl rfl
theorem dksX1_effect_2 : cX1_effect.data.toList.drop 48 = dktX1_effect_2 := dk_seg dksX1_effect_1 24 rfl rfl
theorem dX1_effect_0 : decode cX1_effect 0 = .ok (.aload_n 0, 1) := dk_42 (dk_at dksX1_effect_0 0 rfl rfl)
theorem dX1_effect_1 : decode cX1_effect 1 = .ok (.iload_n 3, 1) := dk_29 (dk_at dksX1_effect_0 1 rfl rfl)
theorem dX1_effect_2 : decode cX1_effect 2 = .ok (.bipush (-20), 2) := dk_16 236 (dk_at dksX1_effect_0 2 rfl rfl)
theorem dX1_effect_4 : decode cX1_effect 4 = .ok (.bipush 20, 2) := dk_16 20 (dk_at dksX1_effect_0 4 rfl rfl)
theorem dX1_effect_6 : decode cX1_effect 6 = .ok (.invokestatic 105, 3) := dk_184 0 105 (dk_at dksX1_effect_0 6 rfl rfl)
theorem dX1_effect_9 : decode cX1_effect 9 = .ok (.iload_n 1, 1) := dk_27 (dk_at dksX1_effect_0 9 rfl rfl)
theorem dX1_effect_10 : decode cX1_effect 10 = .ok (.iload_n 2, 1) := dk_28 (dk_at dksX1_effect_0 10 rfl rfl)
theorem dX1_effect_11 : decode cX1_effect 11 = .ok (.invokevirtual 186, 3) := dk_182 0 186 (dk_at dksX1_effect_0 11 rfl rfl)
theorem dX1_effect_14 : decode cX1_effect 14 = .ok (.istore 4, 2) := dk_54 4 (dk_at dksX1_effect_0 14 rfl rfl)
theorem dX1_effect_16 : decode cX1_effect 16 = .ok (.iload 4, 2) := dk_21 4 (dk_at dksX1_effect_0 16 rfl rfl)
theorem dX1_effect_18 : decode cX1_effect 18 = .ok (.ifCond .ge 6, 3) := dk_156 0 6 (dk_at dksX1_effect_0 18 rfl rfl)
theorem dX1_effect_21 : decode cX1_effect 21 = .ok (.iload 4, 2) := dk_21 4 (dk_at dksX1_effect_0 21 rfl rfl)
theorem dX1_effect_23 : decode cX1_effect 23 = .ok (.ireturn, 1) := dk_172 (dk_at dksX1_effect_0 23 rfl rfl)
theorem dX1_effect_24 : decode cX1_effect 24 = .ok (.aload_n 0, 1) := dk_42 (dk_at dksX1_effect_1 0 rfl rfl)
theorem dX1_effect_25 : decode cX1_effect 25 = .ok (.getfield 66, 3) := dk_180 0 66 (dk_at dksX1_effect_1 1 rfl rfl)
theorem dX1_effect_28 : decode cX1_effect 28 = .ok (.bipush 8, 2) := dk_16 8 (dk_at dksX1_effect_1 4 rfl rfl)
theorem dX1_effect_30 : decode cX1_effect 30 = .ok (.iload_n 1, 1) := dk_27 (dk_at dksX1_effect_1 6 rfl rfl)
theorem dX1_effect_31 : decode cX1_effect 31 = .ok (.imul, 1) := dk_104 (dk_at dksX1_effect_1 7 rfl rfl)
theorem dX1_effect_32 : decode cX1_effect 32 = .ok (.iload_n 2, 1) := dk_28 (dk_at dksX1_effect_1 8 rfl rfl)
theorem dX1_effect_33 : decode cX1_effect 33 = .ok (.iadd, 1) := dk_96 (dk_at dksX1_effect_1 9 rfl rfl)
theorem dX1_effect_34 : decode cX1_effect 34 = .ok (.iaload, 1) := dk_46 (dk_at dksX1_effect_1 10 rfl rfl)
theorem dX1_effect_35 : decode cX1_effect 35 = .ok (.istore 5, 2) := dk_54 5 (dk_at dksX1_effect_1 11 rfl rfl)
theorem dX1_effect_37 : decode cX1_effect 37 = .ok (.aload_n 0, 1) := dk_42 (dk_at dksX1_effect_1 13 rfl rfl)
theorem dX1_effect_38 : decode cX1_effect 38 = .ok (.getfield 66, 3) := dk_180 0 66 (dk_at dksX1_effect_1 14 rfl rfl)
theorem dX1_effect_41 : decode cX1_effect 41 = .ok (.bipush 8, 2) := dk_16 8 (dk_at dksX1_effect_1 17 rfl rfl)
theorem dX1_effect_43 : decode cX1_effect 43 = .ok (.iload_n 1, 1) := dk_27 (dk_at dksX1_effect_1 19 rfl rfl)
theorem dX1_effect_44 : decode cX1_effect 44 = .ok (.imul, 1) := dk_104 (dk_at dksX1_effect_1 20 rfl rfl)
theorem dX1_effect_45 : decode cX1_effect 45 = .ok (.iload_n 2, 1) := dk_28 (dk_at dksX1_effect_1 21 rfl rfl)
theorem dX1_effect_46 : decode cX1_effect 46 = .ok (.iadd, 1) := dk_96 (dk_at dksX1_effect_1 22 rfl rfl)
theorem dX1_effect_47 : decode cX1_effect 47 = .ok (.iload_n 3, 1) := dk_29 (dk_at dksX1_effect_1 23 rfl rfl)
theorem dX1_effect_48 : decode cX1_effect 48 = .ok (.iastore, 1) := dk_79 (dk_at dksX1_effect_2 0 rfl rfl)
theorem dX1_effect_49 : decode cX1_effect 49 = .ok (.aload_n 0, 1) := dk_42 (dk_at dksX1_effect_2 1 rfl rfl)
theorem dX1_effect_50 : decode cX1_effect 50 = .ok (.iload 5, 2) := dk_21 5 (dk_at dksX1_effect_2 2 rfl rfl)
theorem dX1_effect_52 : decode cX1_effect 52 = .ok (.iconst 1, 1) := dk_4 (dk_at dksX1_effect_2 4 rfl rfl)
theorem dX1_effect_53 : decode cX1_effect 53 = .ok (.invokevirtual 246, 3) := dk_182 0 246 (dk_at dksX1_effect_2 5 rfl rfl)
theorem dX1_effect_56 : decode cX1_effect 56 = .ok (.ireturn, 1) := dk_172 (dk_at dksX1_effect_2 8 rfl rfl)
abbrev cX1_push : ByteArray := prog_8_method_82_code
def yX1_push : MethodName := ⟨RX1, "push", "(II)I"⟩
def dkwX1_push_3 : List UInt8 := [4, 182, 1, 67, 167, 0, 12, 42, 22, 6, 22, 4, 4, 182, 1, 67, 172]
abbrev dktX1_push_3 : List UInt8 := dkwX1_push_3 ++ []
def dkwX1_push_2 : List UInt8 := [42, 27, 182, 1, 64, 182, 1, 60, 55, 6, 22, 4, 9, 148, 156, 0, 17, 42, 22, 6, 117, 22, 4, 117]
abbrev dktX1_push_2 : List UInt8 := dkwX1_push_2 ++ dktX1_push_3
def dkwX1_push_1 : List UInt8 := [182, 1, 60, 55, 4, 22, 4, 9, 148, 154, 0, 9, 42, 7, 182, 0, 119, 172, 42, 42, 28, 182, 1, 64]
abbrev dktX1_push_1 : List UInt8 := dkwX1_push_1 ++ dktX1_push_2
def dkwX1_push_0 : List UInt8 := [42, 27, 28, 182, 1, 54, 62, 29, 156, 0, 5, 29, 172, 42, 182, 1, 57, 42, 16, 247, 16, 247]
abbrev dktX1_push_0 : List UInt8 := dkwX1_push_0 ++ dktX1_push_1
theorem dksX1_push_0 : cX1_push.data.toList.drop 0 = dktX1_push_0 := by decide +kernel
theorem dksX1_push_1 : cX1_push.data.toList.drop 22 = dktX1_push_1 := dk_seg dksX1_push_0 22 rfl rfl
theorem dksX1_push_2 : cX1_push.data.toList.drop 46 = dktX1_push_2 := dk_seg dksX1_push_1 24 rfl rfl
theorem dksX1_push_3 : cX1_push.data.toList.drop 70 = dktX1_push_3 := dk_seg dksX1_push_2 24 rfl rfl
theorem dX1_push_0 : decode cX1_push 0 = .ok (.aload_n 0, 1) := dk_42 (dk_at dksX1_push_0 0 rfl rfl)
theorem dX1_push_1 : decode cX1_push 1 = .ok (.iload_n 1, 1) := dk_27 (dk_at dksX1_push_0 1 rfl rfl)
theorem dX1_push_2 : decode cX1_push 2 = .ok (.iload_n 2, 1) := dk_28 (dk_at dksX1_push_0 2 rfl rfl)
theorem dX1_push_3 : decode cX1_push 3 = .ok (.invokevirtual 310, 3) := dk_182 1 54 (dk_at dksX1_push_0 3 rfl rfl)
theorem dX1_push_6 : decode cX1_push 6 = .ok (.istore_n 3, 1) := dk_62 (dk_at dksX1_push_0 6 rfl rfl)
theorem dX1_push_7 : decode cX1_push 7 = .ok (.iload_n 3, 1) := dk_29 (dk_at dksX1_push_0 7 rfl rfl)
theorem dX1_push_8 : decode cX1_push 8 = .ok (.ifCond .ge 5, 3) := dk_156 0 5 (dk_at dksX1_push_0 8 rfl rfl)
theorem dX1_push_11 : decode cX1_push 11 = .ok (.iload_n 3, 1) := dk_29 (dk_at dksX1_push_0 11 rfl rfl)
theorem dX1_push_12 : decode cX1_push 12 = .ok (.ireturn, 1) := dk_172 (dk_at dksX1_push_0 12 rfl rfl)
theorem dX1_push_13 : decode cX1_push 13 = .ok (.aload_n 0, 1) := dk_42 (dk_at dksX1_push_0 13 rfl rfl)
theorem dX1_push_14 : decode cX1_push 14 = .ok (.invokevirtual 313, 3) := dk_182 1 57 (dk_at dksX1_push_0 14 rfl rfl)
theorem dX1_push_17 : decode cX1_push 17 = .ok (.aload_n 0, 1) := dk_42 (dk_at dksX1_push_0 17 rfl rfl)
theorem dX1_push_18 : decode cX1_push 18 = .ok (.bipush (-9), 2) := dk_16 247 (dk_at dksX1_push_0 18 rfl rfl)
theorem dX1_push_20 : decode cX1_push 20 = .ok (.bipush (-9), 2) := dk_16 247 (dk_at dksX1_push_0 20 rfl rfl)
theorem dX1_push_22 : decode cX1_push 22 = .ok (.invokevirtual 316, 3) := dk_182 1 60 (dk_at dksX1_push_1 0 rfl rfl)
theorem dX1_push_25 : decode cX1_push 25 = .ok (.lstore 4, 2) := dk_55 4 (dk_at dksX1_push_1 3 rfl rfl)
theorem dX1_push_27 : decode cX1_push 27 = .ok (.lload 4, 2) := dk_22 4 (dk_at dksX1_push_1 5 rfl rfl)
theorem dX1_push_29 : decode cX1_push 29 = .ok (.lconst 0, 1) := dk_9 (dk_at dksX1_push_1 7 rfl rfl)
theorem dX1_push_30 : decode cX1_push 30 = .ok (.lcmp, 1) := dk_148 (dk_at dksX1_push_1 8 rfl rfl)
theorem dX1_push_31 : decode cX1_push 31 = .ok (.ifCond .ne 9, 3) := dk_154 0 9 (dk_at dksX1_push_1 9 rfl rfl)
theorem dX1_push_34 : decode cX1_push 34 = .ok (.aload_n 0, 1) := dk_42 (dk_at dksX1_push_1 12 rfl rfl)
theorem dX1_push_35 : decode cX1_push 35 = .ok (.iconst 4, 1) := dk_7 (dk_at dksX1_push_1 13 rfl rfl)
theorem dX1_push_36 : decode cX1_push 36 = .ok (.invokevirtual 119, 3) := dk_182 0 119 (dk_at dksX1_push_1 14 rfl rfl)
theorem dX1_push_39 : decode cX1_push 39 = .ok (.ireturn, 1) := dk_172 (dk_at dksX1_push_1 17 rfl rfl)
theorem dX1_push_40 : decode cX1_push 40 = .ok (.aload_n 0, 1) := dk_42 (dk_at dksX1_push_1 18 rfl rfl)
theorem dX1_push_41 : decode cX1_push 41 = .ok (.aload_n 0, 1) := dk_42 (dk_at dksX1_push_1 19 rfl rfl)
theorem dX1_push_42 : decode cX1_push 42 = .ok (.iload_n 2, 1) := dk_28 (dk_at dksX1_push_1 20 rfl rfl)
theorem dX1_push_43 : decode cX1_push 43 = .ok (.invokevirtual 320, 3) := dk_182 1 64 (dk_at dksX1_push_1 21 rfl rfl)
theorem dX1_push_46 : decode cX1_push 46 = .ok (.aload_n 0, 1) := dk_42 (dk_at dksX1_push_2 0 rfl rfl)
theorem dX1_push_47 : decode cX1_push 47 = .ok (.iload_n 1, 1) := dk_27 (dk_at dksX1_push_2 1 rfl rfl)
theorem dX1_push_48 : decode cX1_push 48 = .ok (.invokevirtual 320, 3) := dk_182 1 64 (dk_at dksX1_push_2 2 rfl rfl)
theorem dX1_push_51 : decode cX1_push 51 = .ok (.invokevirtual 316, 3) := dk_182 1 60 (dk_at dksX1_push_2 5 rfl rfl)
theorem dX1_push_54 : decode cX1_push 54 = .ok (.lstore 6, 2) := dk_55 6 (dk_at dksX1_push_2 8 rfl rfl)
theorem dX1_push_56 : decode cX1_push 56 = .ok (.lload 4, 2) := dk_22 4 (dk_at dksX1_push_2 10 rfl rfl)
theorem dX1_push_58 : decode cX1_push 58 = .ok (.lconst 0, 1) := dk_9 (dk_at dksX1_push_2 12 rfl rfl)
theorem dX1_push_59 : decode cX1_push 59 = .ok (.lcmp, 1) := dk_148 (dk_at dksX1_push_2 13 rfl rfl)
theorem dX1_push_60 : decode cX1_push 60 = .ok (.ifCond .ge 17, 3) := dk_156 0 17 (dk_at dksX1_push_2 14 rfl rfl)
theorem dX1_push_63 : decode cX1_push 63 = .ok (.aload_n 0, 1) := dk_42 (dk_at dksX1_push_2 17 rfl rfl)
theorem dX1_push_64 : decode cX1_push 64 = .ok (.lload 6, 2) := dk_22 6 (dk_at dksX1_push_2 18 rfl rfl)
theorem dX1_push_66 : decode cX1_push 66 = .ok (.lneg, 1) := dk_117 (dk_at dksX1_push_2 20 rfl rfl)
theorem dX1_push_67 : decode cX1_push 67 = .ok (.lload 4, 2) := dk_22 4 (dk_at dksX1_push_2 21 rfl rfl)
theorem dX1_push_69 : decode cX1_push 69 = .ok (.lneg, 1) := dk_117 (dk_at dksX1_push_2 23 rfl rfl)
theorem dX1_push_70 : decode cX1_push 70 = .ok (.iconst 1, 1) := dk_4 (dk_at dksX1_push_3 0 rfl rfl)
theorem dX1_push_71 : decode cX1_push 71 = .ok (.invokevirtual 323, 3) := dk_182 1 67 (dk_at dksX1_push_3 1 rfl rfl)
theorem dX1_push_74 : decode cX1_push 74 = .ok (.goto 12, 3) := dk_167 0 12 (dk_at dksX1_push_3 4 rfl rfl)
theorem dX1_push_77 : decode cX1_push 77 = .ok (.aload_n 0, 1) := dk_42 (dk_at dksX1_push_3 7 rfl rfl)
theorem dX1_push_78 : decode cX1_push 78 = .ok (.lload 6, 2) := dk_22 6 (dk_at dksX1_push_3 8 rfl rfl)
theorem dX1_push_80 : decode cX1_push 80 = .ok (.lload 4, 2) := dk_22 4 (dk_at dksX1_push_3 10 rfl rfl)
theorem dX1_push_82 : decode cX1_push 82 = .ok (.iconst 1, 1) := dk_4 (dk_at dksX1_push_3 12 rfl rfl)
theorem dX1_push_83 : decode cX1_push 83 = .ok (.invokevirtual 323, 3) := dk_182 1 67 (dk_at dksX1_push_3 13 rfl rfl)
theorem dX1_push_86 : decode cX1_push 86 = .ok (.ireturn, 1) := dk_172 (dk_at dksX1_push_3 16 rfl rfl)
abbrev cX1_needPush : ByteArray := prog_8_method_81_code
def yX1_needPush : MethodName := ⟨RX1, "needPush", "(II)I"⟩
def dkwX1_needPush_1 : List UInt8 := [164, 0, 8, 16, 252, 167, 0, 4, 3, 172]
abbrev dktX1_needPush_1 : List UInt8 := dkwX1_needPush_1 ++ []
def dkwX1_needPush_0 : List UInt8 := [42, 4, 27, 28, 182, 0, 186, 62, 29, 156, 0, 7, 29, 167, 0, 18, 42, 182, 0, 200, 16, 6]
abbrev dktX1_needPush_0 : List UInt8 := dkwX1_needPush_0 ++ dktX1_needPush_1
theorem dksX1_needPush_0 : cX1_needPush.data.toList.drop 0 = dktX1_needPush_0 := by decide +kernel
theorem dksX1_needPush_1 : cX1_needPush.data.toList.drop 22 = dktX1_needPush_1 := dk_seg dksX1_needPush_0 22 rfl rfl
theorem dX1_needPush_0 : decode cX1_needPush 0 = .ok (.aload_n 0, 1) := dk_42 (dk_at dksX1_needPush_0 0 rfl rfl)
theorem dX1_needPush_1 : decode cX1_needPush 1 = .ok (.iconst 1, 1) := dk_4 (dk_at dksX1_needPush_0 1 rfl rfl)
theorem dX1_needPush_2 : decode cX1_needPush 2 = .ok (.iload_n 1, 1) := dk_27 (dk_at dksX1_needPush_0 2 rfl rfl)
theorem dX1_needPush_3 : decode cX1_needPush 3 = .ok (.iload_n 2, 1) := dk_28 (dk_at dksX1_needPush_0 3 rfl rfl)
theorem dX1_needPush_4 : decode cX1_needPush 4 = .ok (.invokevirtual 186, 3) := dk_182 0 186 (dk_at dksX1_needPush_0 4 rfl rfl)
theorem dX1_needPush_7 : decode cX1_needPush 7 = .ok (.istore_n 3, 1) := dk_62 (dk_at dksX1_needPush_0 7 rfl rfl)
theorem dX1_needPush_8 : decode cX1_needPush 8 = .ok (.iload_n 3, 1) := dk_29 (dk_at dksX1_needPush_0 8 rfl rfl)
theorem dX1_needPush_9 : decode cX1_needPush 9 = .ok (.ifCond .ge 7, 3) := dk_156 0 7 (dk_at dksX1_needPush_0 9 rfl rfl)
theorem dX1_needPush_12 : decode cX1_needPush 12 = .ok (.iload_n 3, 1) := dk_29 (dk_at dksX1_needPush_0 12 rfl rfl)
theorem dX1_needPush_13 : decode cX1_needPush 13 = .ok (.goto 18, 3) := dk_167 0 18 (dk_at dksX1_needPush_0 13 rfl rfl)
theorem dX1_needPush_16 : decode cX1_needPush 16 = .ok (.aload_n 0, 1) := dk_42 (dk_at dksX1_needPush_0 16 rfl rfl)
theorem dX1_needPush_17 : decode cX1_needPush 17 = .ok (.invokevirtual 200, 3) := dk_182 0 200 (dk_at dksX1_needPush_0 17 rfl rfl)
theorem dX1_needPush_20 : decode cX1_needPush 20 = .ok (.bipush 6, 2) := dk_16 6 (dk_at dksX1_needPush_0 20 rfl rfl)
theorem dX1_needPush_22 : decode cX1_needPush 22 = .ok (.if_icmp .le 8, 3) := dk_164 0 8 (dk_at dksX1_needPush_1 0 rfl rfl)
theorem dX1_needPush_25 : decode cX1_needPush 25 = .ok (.bipush (-4), 2) := dk_16 252 (dk_at dksX1_needPush_1 3 rfl rfl)
theorem dX1_needPush_27 : decode cX1_needPush 27 = .ok (.goto 4, 3) := dk_167 0 4 (dk_at dksX1_needPush_1 5 rfl rfl)
theorem dX1_needPush_30 : decode cX1_needPush 30 = .ok (.iconst 0, 1) := dk_3 (dk_at dksX1_needPush_1 8 rfl rfl)
theorem dX1_needPush_31 : decode cX1_needPush 31 = .ok (.ireturn, 1) := dk_172 (dk_at dksX1_needPush_1 9 rfl rfl)
abbrev cX1_layTable : ByteArray := prog_8_method_76_code
def yX1_layTable : MethodName := ⟨RX1, "layTable", "()V"⟩
def dkwX1_layTable_4 : List UInt8 := [180, 0, 85, 28, 46, 96, 46, 116, 133, 80, 132, 2, 1, 167, 255, 211, 132, 1, 1, 167, 255, 195, 177]
abbrev dktX1_layTable_4 : List UInt8 := dkwX1_layTable_4 ++ []
def dkwX1_layTable_3 : List UInt8 := [180, 0, 88, 16, 8, 27, 104, 28, 96, 42, 180, 0, 66, 16, 8, 42, 180, 0, 85, 27, 46, 104, 42]
abbrev dktX1_layTable_3 : List UInt8 := dkwX1_layTable_3 ++ dktX1_layTable_4
def dkwX1_layTable_2 : List UInt8 := [167, 255, 218, 3, 60, 27, 42, 180, 1, 36, 162, 0, 59, 3, 61, 28, 42, 180, 1, 36, 162, 0, 43, 42]
abbrev dktX1_layTable_2 : List UInt8 := dkwX1_layTable_2 ++ dktX1_layTable_3
def dkwX1_layTable_1 : List UInt8 := [180, 0, 85, 42, 180, 1, 36, 27, 79, 42, 89, 180, 1, 36, 4, 96, 181, 1, 36, 132, 1, 1]
abbrev dktX1_layTable_1 : List UInt8 := dkwX1_layTable_1 ++ dktX1_layTable_2
def dkwX1_layTable_0 : List UInt8 := [42, 3, 181, 1, 36, 3, 60, 27, 16, 8, 162, 0, 38, 42, 180, 0, 23, 27, 51, 153, 0, 23, 42]
abbrev dktX1_layTable_0 : List UInt8 := dkwX1_layTable_0 ++ dktX1_layTable_1
theorem dksX1_layTable_0 : cX1_layTable.data.toList.drop 0 = dktX1_layTable_0 := by decide +kernel
theorem dksX1_layTable_1 : cX1_layTable.data.toList.drop 23 = dktX1_layTable_1 := dk_seg dksX1_layTable_0 23 rfl rfl
theorem dksX1_layTable_2 : cX1_layTable.data.toList.drop 45 = dktX1_layTable_2 := dk_seg dksX1_layTable_1 22 rfl rfl
theorem dksX1_layTable_3 : cX1_layTable.data.toList.drop 69 = dktX1_layTable_3 := dk_seg dksX1_layTable_2 24 rfl rfl
theorem dksX1_layTable_4 : cX1_layTable.data.toList.drop 92 = dktX1_layTable_4 := dk_seg dksX1_layTable_3 23 rfl rfl
theorem dX1_layTable_0 : decode cX1_layTable 0 = .ok (.aload_n 0, 1) := dk_42 (dk_at dksX1_layTable_0 0 rfl rfl)
theorem dX1_layTable_1 : decode cX1_layTable 1 = .ok (.iconst 0, 1) := dk_3 (dk_at dksX1_layTable_0 1 rfl rfl)
theorem dX1_layTable_2 : decode cX1_layTable 2 = .ok (.putfield 292, 3) := dk_181 1 36 (dk_at dksX1_layTable_0 2 rfl rfl)
theorem dX1_layTable_5 : decode cX1_layTable 5 = .ok (.iconst 0, 1) := dk_3 (dk_at dksX1_layTable_0 5 rfl rfl)
theorem dX1_layTable_6 : decode cX1_layTable 6 = .ok (.istore_n 1, 1) := dk_60 (dk_at dksX1_layTable_0 6 rfl rfl)
theorem dX1_layTable_7 : decode cX1_layTable 7 = .ok (.iload_n 1, 1) := dk_27 (dk_at dksX1_layTable_0 7 rfl rfl)
theorem dX1_layTable_8 : decode cX1_layTable 8 = .ok (.bipush 8, 2) := dk_16 8 (dk_at dksX1_layTable_0 8 rfl rfl)
theorem dX1_layTable_10 : decode cX1_layTable 10 = .ok (.if_icmp .ge 38, 3) := dk_162 0 38 (dk_at dksX1_layTable_0 10 rfl rfl)
theorem dX1_layTable_13 : decode cX1_layTable 13 = .ok (.aload_n 0, 1) := dk_42 (dk_at dksX1_layTable_0 13 rfl rfl)
theorem dX1_layTable_14 : decode cX1_layTable 14 = .ok (.getfield 23, 3) := dk_180 0 23 (dk_at dksX1_layTable_0 14 rfl rfl)
theorem dX1_layTable_17 : decode cX1_layTable 17 = .ok (.iload_n 1, 1) := dk_27 (dk_at dksX1_layTable_0 17 rfl rfl)
theorem dX1_layTable_18 : decode cX1_layTable 18 = .ok (.baload, 1) := dk_51 (dk_at dksX1_layTable_0 18 rfl rfl)
theorem dX1_layTable_19 : decode cX1_layTable 19 = .ok (.ifCond .eq 23, 3) := dk_153 0 23 (dk_at dksX1_layTable_0 19 rfl rfl)
theorem dX1_layTable_22 : decode cX1_layTable 22 = .ok (.aload_n 0, 1) := dk_42 (dk_at dksX1_layTable_0 22 rfl rfl)
theorem dX1_layTable_23 : decode cX1_layTable 23 = .ok (.getfield 85, 3) := dk_180 0 85 (dk_at dksX1_layTable_1 0 rfl rfl)
theorem dX1_layTable_26 : decode cX1_layTable 26 = .ok (.aload_n 0, 1) := dk_42 (dk_at dksX1_layTable_1 3 rfl rfl)
theorem dX1_layTable_27 : decode cX1_layTable 27 = .ok (.getfield 292, 3) := dk_180 1 36 (dk_at dksX1_layTable_1 4 rfl rfl)
theorem dX1_layTable_30 : decode cX1_layTable 30 = .ok (.iload_n 1, 1) := dk_27 (dk_at dksX1_layTable_1 7 rfl rfl)
theorem dX1_layTable_31 : decode cX1_layTable 31 = .ok (.iastore, 1) := dk_79 (dk_at dksX1_layTable_1 8 rfl rfl)
theorem dX1_layTable_32 : decode cX1_layTable 32 = .ok (.aload_n 0, 1) := dk_42 (dk_at dksX1_layTable_1 9 rfl rfl)
theorem dX1_layTable_33 : decode cX1_layTable 33 = .ok (.dup, 1) := dk_89 (dk_at dksX1_layTable_1 10 rfl rfl)
theorem dX1_layTable_34 : decode cX1_layTable 34 = .ok (.getfield 292, 3) := dk_180 1 36 (dk_at dksX1_layTable_1 11 rfl rfl)
theorem dX1_layTable_37 : decode cX1_layTable 37 = .ok (.iconst 1, 1) := dk_4 (dk_at dksX1_layTable_1 14 rfl rfl)
theorem dX1_layTable_38 : decode cX1_layTable 38 = .ok (.iadd, 1) := dk_96 (dk_at dksX1_layTable_1 15 rfl rfl)
theorem dX1_layTable_39 : decode cX1_layTable 39 = .ok (.putfield 292, 3) := dk_181 1 36 (dk_at dksX1_layTable_1 16 rfl rfl)
theorem dX1_layTable_42 : decode cX1_layTable 42 = .ok (.iinc 1 1, 3) := dk_132 1 1 (dk_at dksX1_layTable_1 19 rfl rfl)
theorem dX1_layTable_45 : decode cX1_layTable 45 = .ok (.goto (-38), 3) := dk_167 255 218 (dk_at dksX1_layTable_2 0 rfl rfl)
theorem dX1_layTable_48 : decode cX1_layTable 48 = .ok (.iconst 0, 1) := dk_3 (dk_at dksX1_layTable_2 3 rfl rfl)
theorem dX1_layTable_49 : decode cX1_layTable 49 = .ok (.istore_n 1, 1) := dk_60 (dk_at dksX1_layTable_2 4 rfl rfl)
theorem dX1_layTable_50 : decode cX1_layTable 50 = .ok (.iload_n 1, 1) := dk_27 (dk_at dksX1_layTable_2 5 rfl rfl)
theorem dX1_layTable_51 : decode cX1_layTable 51 = .ok (.aload_n 0, 1) := dk_42 (dk_at dksX1_layTable_2 6 rfl rfl)
theorem dX1_layTable_52 : decode cX1_layTable 52 = .ok (.getfield 292, 3) := dk_180 1 36 (dk_at dksX1_layTable_2 7 rfl rfl)
theorem dX1_layTable_55 : decode cX1_layTable 55 = .ok (.if_icmp .ge 59, 3) := dk_162 0 59 (dk_at dksX1_layTable_2 10 rfl rfl)
theorem dX1_layTable_58 : decode cX1_layTable 58 = .ok (.iconst 0, 1) := dk_3 (dk_at dksX1_layTable_2 13 rfl rfl)
theorem dX1_layTable_59 : decode cX1_layTable 59 = .ok (.istore_n 2, 1) := dk_61 (dk_at dksX1_layTable_2 14 rfl rfl)
theorem dX1_layTable_60 : decode cX1_layTable 60 = .ok (.iload_n 2, 1) := dk_28 (dk_at dksX1_layTable_2 15 rfl rfl)
theorem dX1_layTable_61 : decode cX1_layTable 61 = .ok (.aload_n 0, 1) := dk_42 (dk_at dksX1_layTable_2 16 rfl rfl)
theorem dX1_layTable_62 : decode cX1_layTable 62 = .ok (.getfield 292, 3) := dk_180 1 36 (dk_at dksX1_layTable_2 17 rfl rfl)
theorem dX1_layTable_65 : decode cX1_layTable 65 = .ok (.if_icmp .ge 43, 3) := dk_162 0 43 (dk_at dksX1_layTable_2 20 rfl rfl)
theorem dX1_layTable_68 : decode cX1_layTable 68 = .ok (.aload_n 0, 1) := dk_42 (dk_at dksX1_layTable_2 23 rfl rfl)
theorem dX1_layTable_69 : decode cX1_layTable 69 = .ok (.getfield 88, 3) := dk_180 0 88 (dk_at dksX1_layTable_3 0 rfl rfl)
theorem dX1_layTable_72 : decode cX1_layTable 72 = .ok (.bipush 8, 2) := dk_16 8 (dk_at dksX1_layTable_3 3 rfl rfl)
theorem dX1_layTable_74 : decode cX1_layTable 74 = .ok (.iload_n 1, 1) := dk_27 (dk_at dksX1_layTable_3 5 rfl rfl)
theorem dX1_layTable_75 : decode cX1_layTable 75 = .ok (.imul, 1) := dk_104 (dk_at dksX1_layTable_3 6 rfl rfl)
theorem dX1_layTable_76 : decode cX1_layTable 76 = .ok (.iload_n 2, 1) := dk_28 (dk_at dksX1_layTable_3 7 rfl rfl)
theorem dX1_layTable_77 : decode cX1_layTable 77 = .ok (.iadd, 1) := dk_96 (dk_at dksX1_layTable_3 8 rfl rfl)
theorem dX1_layTable_78 : decode cX1_layTable 78 = .ok (.aload_n 0, 1) := dk_42 (dk_at dksX1_layTable_3 9 rfl rfl)
theorem dX1_layTable_79 : decode cX1_layTable 79 = .ok (.getfield 66, 3) := dk_180 0 66 (dk_at dksX1_layTable_3 10 rfl rfl)
theorem dX1_layTable_82 : decode cX1_layTable 82 = .ok (.bipush 8, 2) := dk_16 8 (dk_at dksX1_layTable_3 13 rfl rfl)
theorem dX1_layTable_84 : decode cX1_layTable 84 = .ok (.aload_n 0, 1) := dk_42 (dk_at dksX1_layTable_3 15 rfl rfl)
theorem dX1_layTable_85 : decode cX1_layTable 85 = .ok (.getfield 85, 3) := dk_180 0 85 (dk_at dksX1_layTable_3 16 rfl rfl)
theorem dX1_layTable_88 : decode cX1_layTable 88 = .ok (.iload_n 1, 1) := dk_27 (dk_at dksX1_layTable_3 19 rfl rfl)
theorem dX1_layTable_89 : decode cX1_layTable 89 = .ok (.iaload, 1) := dk_46 (dk_at dksX1_layTable_3 20 rfl rfl)
theorem dX1_layTable_90 : decode cX1_layTable 90 = .ok (.imul, 1) := dk_104 (dk_at dksX1_layTable_3 21 rfl rfl)
theorem dX1_layTable_91 : decode cX1_layTable 91 = .ok (.aload_n 0, 1) := dk_42 (dk_at dksX1_layTable_3 22 rfl rfl)
theorem dX1_layTable_92 : decode cX1_layTable 92 = .ok (.getfield 85, 3) := dk_180 0 85 (dk_at dksX1_layTable_4 0 rfl rfl)
theorem dX1_layTable_95 : decode cX1_layTable 95 = .ok (.iload_n 2, 1) := dk_28 (dk_at dksX1_layTable_4 3 rfl rfl)
theorem dX1_layTable_96 : decode cX1_layTable 96 = .ok (.iaload, 1) := dk_46 (dk_at dksX1_layTable_4 4 rfl rfl)
theorem dX1_layTable_97 : decode cX1_layTable 97 = .ok (.iadd, 1) := dk_96 (dk_at dksX1_layTable_4 5 rfl rfl)
theorem dX1_layTable_98 : decode cX1_layTable 98 = .ok (.iaload, 1) := dk_46 (dk_at dksX1_layTable_4 6 rfl rfl)
theorem dX1_layTable_99 : decode cX1_layTable 99 = .ok (.ineg, 1) := dk_116 (dk_at dksX1_layTable_4 7 rfl rfl)
theorem dX1_layTable_100 : decode cX1_layTable 100 = .ok (.i2l, 1) := dk_133 (dk_at dksX1_layTable_4 8 rfl rfl)
theorem dX1_layTable_101 : decode cX1_layTable 101 = .ok (.lastore, 1) := dk_80 (dk_at dksX1_layTable_4 9 rfl rfl)
theorem dX1_layTable_102 : decode cX1_layTable 102 = .ok (.iinc 2 1, 3) := dk_132 2 1 (dk_at dksX1_layTable_4 10 rfl rfl)
theorem dX1_layTable_105 : decode cX1_layTable 105 = .ok (.goto (-45), 3) := dk_167 255 211 (dk_at dksX1_layTable_4 13 rfl rfl)
theorem dX1_layTable_108 : decode cX1_layTable 108 = .ok (.iinc 1 1, 3) := dk_132 1 1 (dk_at dksX1_layTable_4 16 rfl rfl)
theorem dX1_layTable_111 : decode cX1_layTable 111 = .ok (.goto (-61), 3) := dk_167 255 195 (dk_at dksX1_layTable_4 19 rfl rfl)
theorem dX1_layTable_114 : decode cX1_layTable 114 = .ok (.return_, 1) := dk_177 (dk_at dksX1_layTable_4 22 rfl rfl)
abbrev cX1_worth : ByteArray := prog_8_method_79_code
def yX1_worth : MethodName := ⟨RX1, "worth", "(II)J"⟩
def dkwX1_worth_2 : List UInt8 := [4, 28, 120, 29, 153, 0, 9, 20, 1, 52, 167, 0, 4, 10, 27, 182, 1, 48, 42, 180, 1, 39, 173]
abbrev dktX1_worth_2 : List UInt8 := dkwX1_worth_2 ++ []
def dkwX1_worth_1 : List UInt8 := [5, 112, 4, 160, 0, 7, 4, 167, 0, 4, 3, 62, 42, 3, 27, 16, 247, 160, 0, 7, 3, 167, 0, 6]
abbrev dktX1_worth_1 : List UInt8 := dkwX1_worth_1 ++ dktX1_worth_2
def dkwX1_worth_0 : List UInt8 := [42, 9, 181, 1, 39, 42, 3, 181, 1, 42, 42, 3, 181, 1, 45, 27, 16, 247, 159, 0, 16, 27, 28, 96]
abbrev dktX1_worth_0 : List UInt8 := dkwX1_worth_0 ++ dktX1_worth_1
theorem dksX1_worth_0 : cX1_worth.data.toList.drop 0 = dktX1_worth_0 := by decide +kernel
theorem dksX1_worth_1 : cX1_worth.data.toList.drop 24 = dktX1_worth_1 := dk_seg dksX1_worth_0 24 rfl rfl
theorem dksX1_worth_2 : cX1_worth.data.toList.drop 48 = dktX1_worth_2 := dk_seg dksX1_worth_1 24 rfl rfl
theorem dX1_worth_0 : decode cX1_worth 0 = .ok (.aload_n 0, 1) := dk_42 (dk_at dksX1_worth_0 0 rfl rfl)
theorem dX1_worth_1 : decode cX1_worth 1 = .ok (.lconst 0, 1) := dk_9 (dk_at dksX1_worth_0 1 rfl rfl)
theorem dX1_worth_2 : decode cX1_worth 2 = .ok (.putfield 295, 3) := dk_181 1 39 (dk_at dksX1_worth_0 2 rfl rfl)
theorem dX1_worth_5 : decode cX1_worth 5 = .ok (.aload_n 0, 1) := dk_42 (dk_at dksX1_worth_0 5 rfl rfl)
theorem dX1_worth_6 : decode cX1_worth 6 = .ok (.iconst 0, 1) := dk_3 (dk_at dksX1_worth_0 6 rfl rfl)
theorem dX1_worth_7 : decode cX1_worth 7 = .ok (.putfield 298, 3) := dk_181 1 42 (dk_at dksX1_worth_0 7 rfl rfl)
theorem dX1_worth_10 : decode cX1_worth 10 = .ok (.aload_n 0, 1) := dk_42 (dk_at dksX1_worth_0 10 rfl rfl)
theorem dX1_worth_11 : decode cX1_worth 11 = .ok (.iconst 0, 1) := dk_3 (dk_at dksX1_worth_0 11 rfl rfl)
theorem dX1_worth_12 : decode cX1_worth 12 = .ok (.putfield 301, 3) := dk_181 1 45 (dk_at dksX1_worth_0 12 rfl rfl)
theorem dX1_worth_15 : decode cX1_worth 15 = .ok (.iload_n 1, 1) := dk_27 (dk_at dksX1_worth_0 15 rfl rfl)
theorem dX1_worth_16 : decode cX1_worth 16 = .ok (.bipush (-9), 2) := dk_16 247 (dk_at dksX1_worth_0 16 rfl rfl)
theorem dX1_worth_18 : decode cX1_worth 18 = .ok (.if_icmp .eq 16, 3) := dk_159 0 16 (dk_at dksX1_worth_0 18 rfl rfl)
theorem dX1_worth_21 : decode cX1_worth 21 = .ok (.iload_n 1, 1) := dk_27 (dk_at dksX1_worth_0 21 rfl rfl)
theorem dX1_worth_22 : decode cX1_worth 22 = .ok (.iload_n 2, 1) := dk_28 (dk_at dksX1_worth_0 22 rfl rfl)
theorem dX1_worth_23 : decode cX1_worth 23 = .ok (.iadd, 1) := dk_96 (dk_at dksX1_worth_0 23 rfl rfl)
theorem dX1_worth_24 : decode cX1_worth 24 = .ok (.iconst 2, 1) := dk_5 (dk_at dksX1_worth_1 0 rfl rfl)
theorem dX1_worth_25 : decode cX1_worth 25 = .ok (.irem, 1) := dk_112 (dk_at dksX1_worth_1 1 rfl rfl)
theorem dX1_worth_26 : decode cX1_worth 26 = .ok (.iconst 1, 1) := dk_4 (dk_at dksX1_worth_1 2 rfl rfl)
theorem dX1_worth_27 : decode cX1_worth 27 = .ok (.if_icmp .ne 7, 3) := dk_160 0 7 (dk_at dksX1_worth_1 3 rfl rfl)
theorem dX1_worth_30 : decode cX1_worth 30 = .ok (.iconst 1, 1) := dk_4 (dk_at dksX1_worth_1 6 rfl rfl)
theorem dX1_worth_31 : decode cX1_worth 31 = .ok (.goto 4, 3) := dk_167 0 4 (dk_at dksX1_worth_1 7 rfl rfl)
theorem dX1_worth_34 : decode cX1_worth 34 = .ok (.iconst 0, 1) := dk_3 (dk_at dksX1_worth_1 10 rfl rfl)
theorem dX1_worth_35 : decode cX1_worth 35 = .ok (.istore_n 3, 1) := dk_62 (dk_at dksX1_worth_1 11 rfl rfl)
theorem dX1_worth_36 : decode cX1_worth 36 = .ok (.aload_n 0, 1) := dk_42 (dk_at dksX1_worth_1 12 rfl rfl)
theorem dX1_worth_37 : decode cX1_worth 37 = .ok (.iconst 0, 1) := dk_3 (dk_at dksX1_worth_1 13 rfl rfl)
theorem dX1_worth_38 : decode cX1_worth 38 = .ok (.iload_n 1, 1) := dk_27 (dk_at dksX1_worth_1 14 rfl rfl)
theorem dX1_worth_39 : decode cX1_worth 39 = .ok (.bipush (-9), 2) := dk_16 247 (dk_at dksX1_worth_1 15 rfl rfl)
theorem dX1_worth_41 : decode cX1_worth 41 = .ok (.if_icmp .ne 7, 3) := dk_160 0 7 (dk_at dksX1_worth_1 17 rfl rfl)
theorem dX1_worth_44 : decode cX1_worth 44 = .ok (.iconst 0, 1) := dk_3 (dk_at dksX1_worth_1 20 rfl rfl)
theorem dX1_worth_45 : decode cX1_worth 45 = .ok (.goto 6, 3) := dk_167 0 6 (dk_at dksX1_worth_1 21 rfl rfl)
theorem dX1_worth_48 : decode cX1_worth 48 = .ok (.iconst 1, 1) := dk_4 (dk_at dksX1_worth_2 0 rfl rfl)
theorem dX1_worth_49 : decode cX1_worth 49 = .ok (.iload_n 2, 1) := dk_28 (dk_at dksX1_worth_2 1 rfl rfl)
theorem dX1_worth_50 : decode cX1_worth 50 = .ok (.ishl, 1) := dk_120 (dk_at dksX1_worth_2 2 rfl rfl)
theorem dX1_worth_51 : decode cX1_worth 51 = .ok (.iload_n 3, 1) := dk_29 (dk_at dksX1_worth_2 3 rfl rfl)
theorem dX1_worth_52 : decode cX1_worth 52 = .ok (.ifCond .eq 9, 3) := dk_153 0 9 (dk_at dksX1_worth_2 4 rfl rfl)
theorem dX1_worth_55 : decode cX1_worth 55 = .ok (.ldc2_w 308, 3) := dk_20 1 52 (dk_at dksX1_worth_2 7 rfl rfl)
theorem dX1_worth_58 : decode cX1_worth 58 = .ok (.goto 4, 3) := dk_167 0 4 (dk_at dksX1_worth_2 10 rfl rfl)
theorem dX1_worth_61 : decode cX1_worth 61 = .ok (.lconst 1, 1) := dk_10 (dk_at dksX1_worth_2 13 rfl rfl)
theorem dX1_worth_62 : decode cX1_worth 62 = .ok (.iload_n 1, 1) := dk_27 (dk_at dksX1_worth_2 14 rfl rfl)
theorem dX1_worth_63 : decode cX1_worth 63 = .ok (.invokevirtual 304, 3) := dk_182 1 48 (dk_at dksX1_worth_2 15 rfl rfl)
theorem dX1_worth_66 : decode cX1_worth 66 = .ok (.aload_n 0, 1) := dk_42 (dk_at dksX1_worth_2 18 rfl rfl)
theorem dX1_worth_67 : decode cX1_worth 67 = .ok (.getfield 295, 3) := dk_180 1 39 (dk_at dksX1_worth_2 19 rfl rfl)
theorem dX1_worth_70 : decode cX1_worth 70 = .ok (.lreturn, 1) := dk_173 (dk_at dksX1_worth_2 22 rfl rfl)
abbrev cX1_expand : ByteArray := prog_8_method_78_code
def yX1_expand : MethodName := ⟨RX1, "expand", "(IIJI)V"⟩
def dkwX1_expand_7 : List UInt8 := [167, 255, 177, 177]
abbrev dktX1_expand_7 : List UInt8 := dkwX1_expand_7 ++ []
def dkwX1_expand_6 : List UInt8 := [22, 8, 105, 167, 0, 8, 33, 117, 22, 8, 105, 21, 5, 182, 1, 48, 132, 6, 1, 132, 7, 1]
abbrev dktX1_expand_6 : List UInt8 := dkwX1_expand_6 ++ dktX1_expand_7
def dkwX1_expand_5 : List UInt8 := [9, 148, 153, 0, 37, 42, 27, 4, 96, 28, 4, 21, 7, 120, 128, 21, 6, 5, 112, 154, 0, 10, 33]
abbrev dktX1_expand_5 : List UInt8 := dkwX1_expand_5 ++ dktX1_expand_6
def dkwX1_expand_4 : List UInt8 := [21, 7, 184, 0, 240, 154, 0, 61, 42, 180, 0, 88, 16, 8, 27, 104, 21, 7, 96, 47, 55, 8, 22, 8]
abbrev dktX1_expand_4 : List UInt8 := dkwX1_expand_4 ++ dktX1_expand_5
def dkwX1_expand_3 : List UInt8 := [33, 21, 5, 182, 1, 48, 177, 3, 54, 6, 3, 54, 7, 21, 7, 42, 180, 1, 36, 162, 0, 76, 28]
abbrev dktX1_expand_3 : List UInt8 := dkwX1_expand_3 ++ dktX1_expand_4
def dkwX1_expand_2 : List UInt8 := [156, 0, 7, 4, 167, 0, 4, 3, 96, 181, 1, 45, 177, 27, 21, 5, 160, 0, 15, 42, 27, 4, 96, 28]
abbrev dktX1_expand_2 : List UInt8 := dkwX1_expand_2 ++ dktX1_expand_3
def dkwX1_expand_1 : List UInt8 := [9, 148, 158, 0, 7, 4, 167, 0, 4, 3, 96, 181, 1, 42, 42, 89, 180, 1, 45, 33, 9, 148]
abbrev dktX1_expand_1 : List UInt8 := dkwX1_expand_1 ++ dktX1_expand_2
def dkwX1_expand_0 : List UInt8 := [27, 42, 180, 1, 36, 160, 0, 54, 42, 89, 180, 1, 39, 33, 97, 181, 1, 39, 42, 89, 180, 1, 42, 33]
abbrev dktX1_expand_0 : List UInt8 := dkwX1_expand_0 ++ dktX1_expand_1
theorem dksX1_expand_0 : cX1_expand.data.toList.drop 0 = dktX1_expand_0 := by decide +kernel
theorem dksX1_expand_1 : cX1_expand.data.toList.drop 24 = dktX1_expand_1 := dk_seg dksX1_expand_0 24 rfl rfl
theorem dksX1_expand_2 : cX1_expand.data.toList.drop 46 = dktX1_expand_2 := dk_seg dksX1_expand_1 22 rfl rfl
theorem dksX1_expand_3 : cX1_expand.data.toList.drop 70 = dktX1_expand_3 := dk_seg dksX1_expand_2 24 rfl rfl
theorem dksX1_expand_4 : cX1_expand.data.toList.drop 93 = dktX1_expand_4 := dk_seg dksX1_expand_3 23 rfl rfl
theorem dksX1_expand_5 : cX1_expand.data.toList.drop 117 = dktX1_expand_5 := dk_seg dksX1_expand_4 24 rfl rfl
theorem dksX1_expand_6 : cX1_expand.data.toList.drop 140 = dktX1_expand_6 := dk_seg dksX1_expand_5 23 rfl rfl
theorem dksX1_expand_7 : cX1_expand.data.toList.drop 162 = dktX1_expand_7 := dk_seg dksX1_expand_6 22 rfl rfl
theorem dX1_expand_0 : decode cX1_expand 0 = .ok (.iload_n 1, 1) := dk_27 (dk_at dksX1_expand_0 0 rfl rfl)
theorem dX1_expand_1 : decode cX1_expand 1 = .ok (.aload_n 0, 1) := dk_42 (dk_at dksX1_expand_0 1 rfl rfl)
theorem dX1_expand_2 : decode cX1_expand 2 = .ok (.getfield 292, 3) := dk_180 1 36 (dk_at dksX1_expand_0 2 rfl rfl)
theorem dX1_expand_5 : decode cX1_expand 5 = .ok (.if_icmp .ne 54, 3) := dk_160 0 54 (dk_at dksX1_expand_0 5 rfl rfl)
theorem dX1_expand_8 : decode cX1_expand 8 = .ok (.aload_n 0, 1) := dk_42 (dk_at dksX1_expand_0 8 rfl rfl)
theorem dX1_expand_9 : decode cX1_expand 9 = .ok (.dup, 1) := dk_89 (dk_at dksX1_expand_0 9 rfl rfl)
theorem dX1_expand_10 : decode cX1_expand 10 = .ok (.getfield 295, 3) := dk_180 1 39 (dk_at dksX1_expand_0 10 rfl rfl)
theorem dX1_expand_13 : decode cX1_expand 13 = .ok (.lload_n 3, 1) := dk_33 (dk_at dksX1_expand_0 13 rfl rfl)
theorem dX1_expand_14 : decode cX1_expand 14 = .ok (.ladd, 1) := dk_97 (dk_at dksX1_expand_0 14 rfl rfl)
theorem dX1_expand_15 : decode cX1_expand 15 = .ok (.putfield 295, 3) := dk_181 1 39 (dk_at dksX1_expand_0 15 rfl rfl)
theorem dX1_expand_18 : decode cX1_expand 18 = .ok (.aload_n 0, 1) := dk_42 (dk_at dksX1_expand_0 18 rfl rfl)
theorem dX1_expand_19 : decode cX1_expand 19 = .ok (.dup, 1) := dk_89 (dk_at dksX1_expand_0 19 rfl rfl)
theorem dX1_expand_20 : decode cX1_expand 20 = .ok (.getfield 298, 3) := dk_180 1 42 (dk_at dksX1_expand_0 20 rfl rfl)
theorem dX1_expand_23 : decode cX1_expand 23 = .ok (.lload_n 3, 1) := dk_33 (dk_at dksX1_expand_0 23 rfl rfl)
theorem dX1_expand_24 : decode cX1_expand 24 = .ok (.lconst 0, 1) := dk_9 (dk_at dksX1_expand_1 0 rfl rfl)
theorem dX1_expand_25 : decode cX1_expand 25 = .ok (.lcmp, 1) := dk_148 (dk_at dksX1_expand_1 1 rfl rfl)
theorem dX1_expand_26 : decode cX1_expand 26 = .ok (.ifCond .le 7, 3) := dk_158 0 7 (dk_at dksX1_expand_1 2 rfl rfl)
theorem dX1_expand_29 : decode cX1_expand 29 = .ok (.iconst 1, 1) := dk_4 (dk_at dksX1_expand_1 5 rfl rfl)
theorem dX1_expand_30 : decode cX1_expand 30 = .ok (.goto 4, 3) := dk_167 0 4 (dk_at dksX1_expand_1 6 rfl rfl)
theorem dX1_expand_33 : decode cX1_expand 33 = .ok (.iconst 0, 1) := dk_3 (dk_at dksX1_expand_1 9 rfl rfl)
theorem dX1_expand_34 : decode cX1_expand 34 = .ok (.iadd, 1) := dk_96 (dk_at dksX1_expand_1 10 rfl rfl)
theorem dX1_expand_35 : decode cX1_expand 35 = .ok (.putfield 298, 3) := dk_181 1 42 (dk_at dksX1_expand_1 11 rfl rfl)
theorem dX1_expand_38 : decode cX1_expand 38 = .ok (.aload_n 0, 1) := dk_42 (dk_at dksX1_expand_1 14 rfl rfl)
theorem dX1_expand_39 : decode cX1_expand 39 = .ok (.dup, 1) := dk_89 (dk_at dksX1_expand_1 15 rfl rfl)
theorem dX1_expand_40 : decode cX1_expand 40 = .ok (.getfield 301, 3) := dk_180 1 45 (dk_at dksX1_expand_1 16 rfl rfl)
theorem dX1_expand_43 : decode cX1_expand 43 = .ok (.lload_n 3, 1) := dk_33 (dk_at dksX1_expand_1 19 rfl rfl)
theorem dX1_expand_44 : decode cX1_expand 44 = .ok (.lconst 0, 1) := dk_9 (dk_at dksX1_expand_1 20 rfl rfl)
theorem dX1_expand_45 : decode cX1_expand 45 = .ok (.lcmp, 1) := dk_148 (dk_at dksX1_expand_1 21 rfl rfl)
theorem dX1_expand_46 : decode cX1_expand 46 = .ok (.ifCond .ge 7, 3) := dk_156 0 7 (dk_at dksX1_expand_2 0 rfl rfl)
theorem dX1_expand_49 : decode cX1_expand 49 = .ok (.iconst 1, 1) := dk_4 (dk_at dksX1_expand_2 3 rfl rfl)
theorem dX1_expand_50 : decode cX1_expand 50 = .ok (.goto 4, 3) := dk_167 0 4 (dk_at dksX1_expand_2 4 rfl rfl)
theorem dX1_expand_53 : decode cX1_expand 53 = .ok (.iconst 0, 1) := dk_3 (dk_at dksX1_expand_2 7 rfl rfl)
theorem dX1_expand_54 : decode cX1_expand 54 = .ok (.iadd, 1) := dk_96 (dk_at dksX1_expand_2 8 rfl rfl)
theorem dX1_expand_55 : decode cX1_expand 55 = .ok (.putfield 301, 3) := dk_181 1 45 (dk_at dksX1_expand_2 9 rfl rfl)
theorem dX1_expand_58 : decode cX1_expand 58 = .ok (.return_, 1) := dk_177 (dk_at dksX1_expand_2 12 rfl rfl)
theorem dX1_expand_59 : decode cX1_expand 59 = .ok (.iload_n 1, 1) := dk_27 (dk_at dksX1_expand_2 13 rfl rfl)
theorem dX1_expand_60 : decode cX1_expand 60 = .ok (.iload 5, 2) := dk_21 5 (dk_at dksX1_expand_2 14 rfl rfl)
theorem dX1_expand_62 : decode cX1_expand 62 = .ok (.if_icmp .ne 15, 3) := dk_160 0 15 (dk_at dksX1_expand_2 16 rfl rfl)
theorem dX1_expand_65 : decode cX1_expand 65 = .ok (.aload_n 0, 1) := dk_42 (dk_at dksX1_expand_2 19 rfl rfl)
theorem dX1_expand_66 : decode cX1_expand 66 = .ok (.iload_n 1, 1) := dk_27 (dk_at dksX1_expand_2 20 rfl rfl)
theorem dX1_expand_67 : decode cX1_expand 67 = .ok (.iconst 1, 1) := dk_4 (dk_at dksX1_expand_2 21 rfl rfl)
theorem dX1_expand_68 : decode cX1_expand 68 = .ok (.iadd, 1) := dk_96 (dk_at dksX1_expand_2 22 rfl rfl)
theorem dX1_expand_69 : decode cX1_expand 69 = .ok (.iload_n 2, 1) := dk_28 (dk_at dksX1_expand_2 23 rfl rfl)
theorem dX1_expand_70 : decode cX1_expand 70 = .ok (.lload_n 3, 1) := dk_33 (dk_at dksX1_expand_3 0 rfl rfl)
theorem dX1_expand_71 : decode cX1_expand 71 = .ok (.iload 5, 2) := dk_21 5 (dk_at dksX1_expand_3 1 rfl rfl)
theorem dX1_expand_73 : decode cX1_expand 73 = .ok (.invokevirtual 304, 3) := dk_182 1 48 (dk_at dksX1_expand_3 3 rfl rfl)
theorem dX1_expand_76 : decode cX1_expand 76 = .ok (.return_, 1) := dk_177 (dk_at dksX1_expand_3 6 rfl rfl)
theorem dX1_expand_77 : decode cX1_expand 77 = .ok (.iconst 0, 1) := dk_3 (dk_at dksX1_expand_3 7 rfl rfl)
theorem dX1_expand_78 : decode cX1_expand 78 = .ok (.istore 6, 2) := dk_54 6 (dk_at dksX1_expand_3 8 rfl rfl)
theorem dX1_expand_80 : decode cX1_expand 80 = .ok (.iconst 0, 1) := dk_3 (dk_at dksX1_expand_3 10 rfl rfl)
theorem dX1_expand_81 : decode cX1_expand 81 = .ok (.istore 7, 2) := dk_54 7 (dk_at dksX1_expand_3 11 rfl rfl)
theorem dX1_expand_83 : decode cX1_expand 83 = .ok (.iload 7, 2) := dk_21 7 (dk_at dksX1_expand_3 13 rfl rfl)
theorem dX1_expand_85 : decode cX1_expand 85 = .ok (.aload_n 0, 1) := dk_42 (dk_at dksX1_expand_3 15 rfl rfl)
theorem dX1_expand_86 : decode cX1_expand 86 = .ok (.getfield 292, 3) := dk_180 1 36 (dk_at dksX1_expand_3 16 rfl rfl)
theorem dX1_expand_89 : decode cX1_expand 89 = .ok (.if_icmp .ge 76, 3) := dk_162 0 76 (dk_at dksX1_expand_3 19 rfl rfl)
theorem dX1_expand_92 : decode cX1_expand 92 = .ok (.iload_n 2, 1) := dk_28 (dk_at dksX1_expand_3 22 rfl rfl)
theorem dX1_expand_93 : decode cX1_expand 93 = .ok (.iload 7, 2) := dk_21 7 (dk_at dksX1_expand_4 0 rfl rfl)
theorem dX1_expand_95 : decode cX1_expand 95 = .ok (.invokestatic 240, 3) := dk_184 0 240 (dk_at dksX1_expand_4 2 rfl rfl)
theorem dX1_expand_98 : decode cX1_expand 98 = .ok (.ifCond .ne 61, 3) := dk_154 0 61 (dk_at dksX1_expand_4 5 rfl rfl)
theorem dX1_expand_101 : decode cX1_expand 101 = .ok (.aload_n 0, 1) := dk_42 (dk_at dksX1_expand_4 8 rfl rfl)
theorem dX1_expand_102 : decode cX1_expand 102 = .ok (.getfield 88, 3) := dk_180 0 88 (dk_at dksX1_expand_4 9 rfl rfl)
theorem dX1_expand_105 : decode cX1_expand 105 = .ok (.bipush 8, 2) := dk_16 8 (dk_at dksX1_expand_4 12 rfl rfl)
theorem dX1_expand_107 : decode cX1_expand 107 = .ok (.iload_n 1, 1) := dk_27 (dk_at dksX1_expand_4 14 rfl rfl)
theorem dX1_expand_108 : decode cX1_expand 108 = .ok (.imul, 1) := dk_104 (dk_at dksX1_expand_4 15 rfl rfl)
theorem dX1_expand_109 : decode cX1_expand 109 = .ok (.iload 7, 2) := dk_21 7 (dk_at dksX1_expand_4 16 rfl rfl)
theorem dX1_expand_111 : decode cX1_expand 111 = .ok (.iadd, 1) := dk_96 (dk_at dksX1_expand_4 18 rfl rfl)
theorem dX1_expand_112 : decode cX1_expand 112 = .ok (.laload, 1) := dk_47 (dk_at dksX1_expand_4 19 rfl rfl)
theorem dX1_expand_113 : decode cX1_expand 113 = .ok (.lstore 8, 2) := dk_55 8 (dk_at dksX1_expand_4 20 rfl rfl)
theorem dX1_expand_115 : decode cX1_expand 115 = .ok (.lload 8, 2) := dk_22 8 (dk_at dksX1_expand_4 22 rfl rfl)
theorem dX1_expand_117 : decode cX1_expand 117 = .ok (.lconst 0, 1) := dk_9 (dk_at dksX1_expand_5 0 rfl rfl)
theorem dX1_expand_118 : decode cX1_expand 118 = .ok (.lcmp, 1) := dk_148 (dk_at dksX1_expand_5 1 rfl rfl)
theorem dX1_expand_119 : decode cX1_expand 119 = .ok (.ifCond .eq 37, 3) := dk_153 0 37 (dk_at dksX1_expand_5 2 rfl rfl)
theorem dX1_expand_122 : decode cX1_expand 122 = .ok (.aload_n 0, 1) := dk_42 (dk_at dksX1_expand_5 5 rfl rfl)
theorem dX1_expand_123 : decode cX1_expand 123 = .ok (.iload_n 1, 1) := dk_27 (dk_at dksX1_expand_5 6 rfl rfl)
theorem dX1_expand_124 : decode cX1_expand 124 = .ok (.iconst 1, 1) := dk_4 (dk_at dksX1_expand_5 7 rfl rfl)
theorem dX1_expand_125 : decode cX1_expand 125 = .ok (.iadd, 1) := dk_96 (dk_at dksX1_expand_5 8 rfl rfl)
theorem dX1_expand_126 : decode cX1_expand 126 = .ok (.iload_n 2, 1) := dk_28 (dk_at dksX1_expand_5 9 rfl rfl)
theorem dX1_expand_127 : decode cX1_expand 127 = .ok (.iconst 1, 1) := dk_4 (dk_at dksX1_expand_5 10 rfl rfl)
theorem dX1_expand_128 : decode cX1_expand 128 = .ok (.iload 7, 2) := dk_21 7 (dk_at dksX1_expand_5 11 rfl rfl)
theorem dX1_expand_130 : decode cX1_expand 130 = .ok (.ishl, 1) := dk_120 (dk_at dksX1_expand_5 13 rfl rfl)
theorem dX1_expand_131 : decode cX1_expand 131 = .ok (.ior, 1) := dk_128 (dk_at dksX1_expand_5 14 rfl rfl)
theorem dX1_expand_132 : decode cX1_expand 132 = .ok (.iload 6, 2) := dk_21 6 (dk_at dksX1_expand_5 15 rfl rfl)
theorem dX1_expand_134 : decode cX1_expand 134 = .ok (.iconst 2, 1) := dk_5 (dk_at dksX1_expand_5 17 rfl rfl)
theorem dX1_expand_135 : decode cX1_expand 135 = .ok (.irem, 1) := dk_112 (dk_at dksX1_expand_5 18 rfl rfl)
theorem dX1_expand_136 : decode cX1_expand 136 = .ok (.ifCond .ne 10, 3) := dk_154 0 10 (dk_at dksX1_expand_5 19 rfl rfl)
theorem dX1_expand_139 : decode cX1_expand 139 = .ok (.lload_n 3, 1) := dk_33 (dk_at dksX1_expand_5 22 rfl rfl)
theorem dX1_expand_140 : decode cX1_expand 140 = .ok (.lload 8, 2) := dk_22 8 (dk_at dksX1_expand_6 0 rfl rfl)
theorem dX1_expand_142 : decode cX1_expand 142 = .ok (.lmul, 1) := dk_105 (dk_at dksX1_expand_6 2 rfl rfl)
theorem dX1_expand_143 : decode cX1_expand 143 = .ok (.goto 8, 3) := dk_167 0 8 (dk_at dksX1_expand_6 3 rfl rfl)
theorem dX1_expand_146 : decode cX1_expand 146 = .ok (.lload_n 3, 1) := dk_33 (dk_at dksX1_expand_6 6 rfl rfl)
theorem dX1_expand_147 : decode cX1_expand 147 = .ok (.lneg, 1) := dk_117 (dk_at dksX1_expand_6 7 rfl rfl)
theorem dX1_expand_148 : decode cX1_expand 148 = .ok (.lload 8, 2) := dk_22 8 (dk_at dksX1_expand_6 8 rfl rfl)
theorem dX1_expand_150 : decode cX1_expand 150 = .ok (.lmul, 1) := dk_105 (dk_at dksX1_expand_6 10 rfl rfl)
theorem dX1_expand_151 : decode cX1_expand 151 = .ok (.iload 5, 2) := dk_21 5 (dk_at dksX1_expand_6 11 rfl rfl)
theorem dX1_expand_153 : decode cX1_expand 153 = .ok (.invokevirtual 304, 3) := dk_182 1 48 (dk_at dksX1_expand_6 13 rfl rfl)
theorem dX1_expand_156 : decode cX1_expand 156 = .ok (.iinc 6 1, 3) := dk_132 6 1 (dk_at dksX1_expand_6 16 rfl rfl)
theorem dX1_expand_159 : decode cX1_expand 159 = .ok (.iinc 7 1, 3) := dk_132 7 1 (dk_at dksX1_expand_6 19 rfl rfl)
theorem dX1_expand_162 : decode cX1_expand 162 = .ok (.goto (-79), 3) := dk_167 255 177 (dk_at dksX1_expand_7 0 rfl rfl)
theorem dX1_expand_165 : decode cX1_expand 165 = .ok (.return_, 1) := dk_177 (dk_at dksX1_expand_7 3 rfl rfl)
abbrev cX1_placeOf : ByteArray := prog_8_method_77_code
def yX1_placeOf : MethodName := ⟨RX1, "placeOf", "(I)I"⟩
def dkwX1_placeOf_1 : List UInt8 := [96, 61, 132, 3, 1, 167, 255, 231, 28, 172]
abbrev dktX1_placeOf_1 : List UInt8 := dkwX1_placeOf_1 ++ []
def dkwX1_placeOf_0 : List UInt8 := [3, 61, 3, 62, 29, 27, 162, 0, 26, 28, 42, 180, 0, 23, 29, 51, 153, 0, 7, 4, 167, 0, 4, 3]
abbrev dktX1_placeOf_0 : List UInt8 := dkwX1_placeOf_0 ++ dktX1_placeOf_1
theorem dksX1_placeOf_0 : cX1_placeOf.data.toList.drop 0 = dktX1_placeOf_0 := by decide +kernel
theorem dksX1_placeOf_1 : cX1_placeOf.data.toList.drop 24 = dktX1_placeOf_1 := dk_seg dksX1_placeOf_0 24 rfl rfl
theorem dX1_placeOf_0 : decode cX1_placeOf 0 = .ok (.iconst 0, 1) := dk_3 (dk_at dksX1_placeOf_0 0 rfl rfl)
theorem dX1_placeOf_1 : decode cX1_placeOf 1 = .ok (.istore_n 2, 1) := dk_61 (dk_at dksX1_placeOf_0 1 rfl rfl)
theorem dX1_placeOf_2 : decode cX1_placeOf 2 = .ok (.iconst 0, 1) := dk_3 (dk_at dksX1_placeOf_0 2 rfl rfl)
theorem dX1_placeOf_3 : decode cX1_placeOf 3 = .ok (.istore_n 3, 1) := dk_62 (dk_at dksX1_placeOf_0 3 rfl rfl)
theorem dX1_placeOf_4 : decode cX1_placeOf 4 = .ok (.iload_n 3, 1) := dk_29 (dk_at dksX1_placeOf_0 4 rfl rfl)
theorem dX1_placeOf_5 : decode cX1_placeOf 5 = .ok (.iload_n 1, 1) := dk_27 (dk_at dksX1_placeOf_0 5 rfl rfl)
theorem dX1_placeOf_6 : decode cX1_placeOf 6 = .ok (.if_icmp .ge 26, 3) := dk_162 0 26 (dk_at dksX1_placeOf_0 6 rfl rfl)
theorem dX1_placeOf_9 : decode cX1_placeOf 9 = .ok (.iload_n 2, 1) := dk_28 (dk_at dksX1_placeOf_0 9 rfl rfl)
theorem dX1_placeOf_10 : decode cX1_placeOf 10 = .ok (.aload_n 0, 1) := dk_42 (dk_at dksX1_placeOf_0 10 rfl rfl)
theorem dX1_placeOf_11 : decode cX1_placeOf 11 = .ok (.getfield 23, 3) := dk_180 0 23 (dk_at dksX1_placeOf_0 11 rfl rfl)
theorem dX1_placeOf_14 : decode cX1_placeOf 14 = .ok (.iload_n 3, 1) := dk_29 (dk_at dksX1_placeOf_0 14 rfl rfl)
theorem dX1_placeOf_15 : decode cX1_placeOf 15 = .ok (.baload, 1) := dk_51 (dk_at dksX1_placeOf_0 15 rfl rfl)
theorem dX1_placeOf_16 : decode cX1_placeOf 16 = .ok (.ifCond .eq 7, 3) := dk_153 0 7 (dk_at dksX1_placeOf_0 16 rfl rfl)
theorem dX1_placeOf_19 : decode cX1_placeOf 19 = .ok (.iconst 1, 1) := dk_4 (dk_at dksX1_placeOf_0 19 rfl rfl)
theorem dX1_placeOf_20 : decode cX1_placeOf 20 = .ok (.goto 4, 3) := dk_167 0 4 (dk_at dksX1_placeOf_0 20 rfl rfl)
theorem dX1_placeOf_23 : decode cX1_placeOf 23 = .ok (.iconst 0, 1) := dk_3 (dk_at dksX1_placeOf_0 23 rfl rfl)
theorem dX1_placeOf_24 : decode cX1_placeOf 24 = .ok (.iadd, 1) := dk_96 (dk_at dksX1_placeOf_1 0 rfl rfl)
theorem dX1_placeOf_25 : decode cX1_placeOf 25 = .ok (.istore_n 2, 1) := dk_61 (dk_at dksX1_placeOf_1 1 rfl rfl)
theorem dX1_placeOf_26 : decode cX1_placeOf 26 = .ok (.iinc 3 1, 3) := dk_132 3 1 (dk_at dksX1_placeOf_1 2 rfl rfl)
theorem dX1_placeOf_29 : decode cX1_placeOf 29 = .ok (.goto (-25), 3) := dk_167 255 231 (dk_at dksX1_placeOf_1 5 rfl rfl)
theorem dX1_placeOf_32 : decode cX1_placeOf 32 = .ok (.iload_n 2, 1) := dk_28 (dk_at dksX1_placeOf_1 8 rfl rfl)
theorem dX1_placeOf_33 : decode cX1_placeOf 33 = .ok (.ireturn, 1) := dk_172 (dk_at dksX1_placeOf_1 9 rfl rfl)
abbrev cX1_fraction : ByteArray := prog_8_method_9_code
def yX1_fraction : MethodName := ⟨RX1, "fraction", "(JJI)I"⟩
def dkwX1_fraction_2 : List UInt8 := [181, 0, 112, 42, 33, 22, 6, 109, 181, 0, 97, 21, 5, 172]
abbrev dktX1_fraction_2 : List UInt8 := dkwX1_fraction_2 ++ []
def dkwX1_fraction_1 : List UInt8 := [22, 6, 22, 8, 113, 55, 10, 22, 8, 55, 6, 22, 10, 55, 8, 167, 255, 234, 42, 31, 22, 6, 109]
abbrev dktX1_fraction_1 : List UInt8 := dkwX1_fraction_1 ++ dktX1_fraction_2
def dkwX1_fraction_0 : List UInt8 := [31, 9, 148, 156, 0, 8, 31, 117, 167, 0, 4, 31, 55, 6, 33, 55, 8, 22, 8, 9, 148, 153, 0, 21]
abbrev dktX1_fraction_0 : List UInt8 := dkwX1_fraction_0 ++ dktX1_fraction_1
theorem dksX1_fraction_0 : cX1_fraction.data.toList.drop 0 = dktX1_fraction_0 := by decide +kernel
theorem dksX1_fraction_1 : cX1_fraction.data.toList.drop 24 = dktX1_fraction_1 := dk_seg dksX1_fraction_0 24 rfl rfl
theorem dksX1_fraction_2 : cX1_fraction.data.toList.drop 47 = dktX1_fraction_2 := dk_seg dksX1_fraction_1 23 rfl rfl
theorem dX1_fraction_0 : decode cX1_fraction 0 = .ok (.lload_n 1, 1) := dk_31 (dk_at dksX1_fraction_0 0 rfl rfl)
theorem dX1_fraction_1 : decode cX1_fraction 1 = .ok (.lconst 0, 1) := dk_9 (dk_at dksX1_fraction_0 1 rfl rfl)
theorem dX1_fraction_2 : decode cX1_fraction 2 = .ok (.lcmp, 1) := dk_148 (dk_at dksX1_fraction_0 2 rfl rfl)
theorem dX1_fraction_3 : decode cX1_fraction 3 = .ok (.ifCond .ge 8, 3) := dk_156 0 8 (dk_at dksX1_fraction_0 3 rfl rfl)
theorem dX1_fraction_6 : decode cX1_fraction 6 = .ok (.lload_n 1, 1) := dk_31 (dk_at dksX1_fraction_0 6 rfl rfl)
theorem dX1_fraction_7 : decode cX1_fraction 7 = .ok (.lneg, 1) := dk_117 (dk_at dksX1_fraction_0 7 rfl rfl)
theorem dX1_fraction_8 : decode cX1_fraction 8 = .ok (.goto 4, 3) := dk_167 0 4 (dk_at dksX1_fraction_0 8 rfl rfl)
theorem dX1_fraction_11 : decode cX1_fraction 11 = .ok (.lload_n 1, 1) := dk_31 (dk_at dksX1_fraction_0 11 rfl rfl)
theorem dX1_fraction_12 : decode cX1_fraction 12 = .ok (.lstore 6, 2) := dk_55 6 (dk_at dksX1_fraction_0 12 rfl rfl)
theorem dX1_fraction_14 : decode cX1_fraction 14 = .ok (.lload_n 3, 1) := dk_33 (dk_at dksX1_fraction_0 14 rfl rfl)
theorem dX1_fraction_15 : decode cX1_fraction 15 = .ok (.lstore 8, 2) := dk_55 8 (dk_at dksX1_fraction_0 15 rfl rfl)
theorem dX1_fraction_17 : decode cX1_fraction 17 = .ok (.lload 8, 2) := dk_22 8 (dk_at dksX1_fraction_0 17 rfl rfl)
theorem dX1_fraction_19 : decode cX1_fraction 19 = .ok (.lconst 0, 1) := dk_9 (dk_at dksX1_fraction_0 19 rfl rfl)
theorem dX1_fraction_20 : decode cX1_fraction 20 = .ok (.lcmp, 1) := dk_148 (dk_at dksX1_fraction_0 20 rfl rfl)
theorem dX1_fraction_21 : decode cX1_fraction 21 = .ok (.ifCond .eq 21, 3) := dk_153 0 21 (dk_at dksX1_fraction_0 21 rfl rfl)
theorem dX1_fraction_24 : decode cX1_fraction 24 = .ok (.lload 6, 2) := dk_22 6 (dk_at dksX1_fraction_1 0 rfl rfl)
theorem dX1_fraction_26 : decode cX1_fraction 26 = .ok (.lload 8, 2) := dk_22 8 (dk_at dksX1_fraction_1 2 rfl rfl)
theorem dX1_fraction_28 : decode cX1_fraction 28 = .ok (.lrem, 1) := dk_113 (dk_at dksX1_fraction_1 4 rfl rfl)
theorem dX1_fraction_29 : decode cX1_fraction 29 = .ok (.lstore 10, 2) := dk_55 10 (dk_at dksX1_fraction_1 5 rfl rfl)
theorem dX1_fraction_31 : decode cX1_fraction 31 = .ok (.lload 8, 2) := dk_22 8 (dk_at dksX1_fraction_1 7 rfl rfl)
theorem dX1_fraction_33 : decode cX1_fraction 33 = .ok (.lstore 6, 2) := dk_55 6 (dk_at dksX1_fraction_1 9 rfl rfl)
theorem dX1_fraction_35 : decode cX1_fraction 35 = .ok (.lload 10, 2) := dk_22 10 (dk_at dksX1_fraction_1 11 rfl rfl)
theorem dX1_fraction_37 : decode cX1_fraction 37 = .ok (.lstore 8, 2) := dk_55 8 (dk_at dksX1_fraction_1 13 rfl rfl)
theorem dX1_fraction_39 : decode cX1_fraction 39 = .ok (.goto (-22), 3) := dk_167 255 234 (dk_at dksX1_fraction_1 15 rfl rfl)
theorem dX1_fraction_42 : decode cX1_fraction 42 = .ok (.aload_n 0, 1) := dk_42 (dk_at dksX1_fraction_1 18 rfl rfl)
theorem dX1_fraction_43 : decode cX1_fraction 43 = .ok (.lload_n 1, 1) := dk_31 (dk_at dksX1_fraction_1 19 rfl rfl)
theorem dX1_fraction_44 : decode cX1_fraction 44 = .ok (.lload 6, 2) := dk_22 6 (dk_at dksX1_fraction_1 20 rfl rfl)
theorem dX1_fraction_46 : decode cX1_fraction 46 = .ok (.ldiv, 1) := dk_109 (dk_at dksX1_fraction_1 22 rfl rfl)
theorem dX1_fraction_47 : decode cX1_fraction 47 = .ok (.putfield 112, 3) := dk_181 0 112 (dk_at dksX1_fraction_2 0 rfl rfl)
theorem dX1_fraction_50 : decode cX1_fraction 50 = .ok (.aload_n 0, 1) := dk_42 (dk_at dksX1_fraction_2 3 rfl rfl)
theorem dX1_fraction_51 : decode cX1_fraction 51 = .ok (.lload_n 3, 1) := dk_33 (dk_at dksX1_fraction_2 4 rfl rfl)
theorem dX1_fraction_52 : decode cX1_fraction 52 = .ok (.lload 6, 2) := dk_22 6 (dk_at dksX1_fraction_2 5 rfl rfl)
theorem dX1_fraction_54 : decode cX1_fraction 54 = .ok (.ldiv, 1) := dk_109 (dk_at dksX1_fraction_2 7 rfl rfl)
theorem dX1_fraction_55 : decode cX1_fraction 55 = .ok (.putfield 97, 3) := dk_181 0 97 (dk_at dksX1_fraction_2 8 rfl rfl)
theorem dX1_fraction_58 : decode cX1_fraction 58 = .ok (.iload 5, 2) := dk_21 5 (dk_at dksX1_fraction_2 11 rfl rfl)
theorem dX1_fraction_60 : decode cX1_fraction 60 = .ok (.ireturn, 1) := dk_172 (dk_at dksX1_fraction_2 13 rfl rfl)
abbrev cX1_terms : ByteArray := prog_8_method_83_code
def yX1_terms : MethodName := ⟨RX1, "terms", "(II)I"⟩
def dkwX1_terms_3 : List UInt8 := [17, 3, 232, 42, 180, 1, 42, 104, 42, 180, 1, 45, 96, 182, 0, 246, 172]
abbrev dktX1_terms_3 : List UInt8 := dkwX1_terms_3 ++ []
def dkwX1_terms_2 : List UInt8 := [42, 180, 1, 42, 153, 0, 10, 42, 180, 1, 45, 154, 0, 7, 4, 167, 0, 4, 5, 54, 4, 42, 21, 4]
abbrev dktX1_terms_2 : List UInt8 := dkwX1_terms_2 ++ dktX1_terms_3
def dkwX1_terms_1 : List UInt8 := [27, 182, 1, 64, 182, 1, 60, 88, 42, 180, 1, 42, 42, 180, 1, 45, 96, 154, 0, 7, 3, 167, 0, 22]
abbrev dktX1_terms_1 : List UInt8 := dkwX1_terms_1 ++ dktX1_terms_2
def dkwX1_terms_0 : List UInt8 := [42, 27, 28, 182, 1, 54, 62, 29, 156, 0, 5, 29, 172, 42, 182, 1, 57, 42, 42, 28, 182, 1, 64, 42]
abbrev dktX1_terms_0 : List UInt8 := dkwX1_terms_0 ++ dktX1_terms_1
theorem dksX1_terms_0 : cX1_terms.data.toList.drop 0 = dktX1_terms_0 := by decide +kernel
theorem dksX1_terms_1 : cX1_terms.data.toList.drop 24 = dktX1_terms_1 := dk_seg dksX1_terms_0 24 rfl rfl
theorem dksX1_terms_2 : cX1_terms.data.toList.drop 48 = dktX1_terms_2 := dk_seg dksX1_terms_1 24 rfl rfl
theorem dksX1_terms_3 : cX1_terms.data.toList.drop 72 = dktX1_terms_3 := dk_seg dksX1_terms_2 24 rfl rfl
theorem dX1_terms_0 : decode cX1_terms 0 = .ok (.aload_n 0, 1) := dk_42 (dk_at dksX1_terms_0 0 rfl rfl)
theorem dX1_terms_1 : decode cX1_terms 1 = .ok (.iload_n 1, 1) := dk_27 (dk_at dksX1_terms_0 1 rfl rfl)
theorem dX1_terms_2 : decode cX1_terms 2 = .ok (.iload_n 2, 1) := dk_28 (dk_at dksX1_terms_0 2 rfl rfl)
theorem dX1_terms_3 : decode cX1_terms 3 = .ok (.invokevirtual 310, 3) := dk_182 1 54 (dk_at dksX1_terms_0 3 rfl rfl)
theorem dX1_terms_6 : decode cX1_terms 6 = .ok (.istore_n 3, 1) := dk_62 (dk_at dksX1_terms_0 6 rfl rfl)
theorem dX1_terms_7 : decode cX1_terms 7 = .ok (.iload_n 3, 1) := dk_29 (dk_at dksX1_terms_0 7 rfl rfl)
theorem dX1_terms_8 : decode cX1_terms 8 = .ok (.ifCond .ge 5, 3) := dk_156 0 5 (dk_at dksX1_terms_0 8 rfl rfl)
theorem dX1_terms_11 : decode cX1_terms 11 = .ok (.iload_n 3, 1) := dk_29 (dk_at dksX1_terms_0 11 rfl rfl)
theorem dX1_terms_12 : decode cX1_terms 12 = .ok (.ireturn, 1) := dk_172 (dk_at dksX1_terms_0 12 rfl rfl)
theorem dX1_terms_13 : decode cX1_terms 13 = .ok (.aload_n 0, 1) := dk_42 (dk_at dksX1_terms_0 13 rfl rfl)
theorem dX1_terms_14 : decode cX1_terms 14 = .ok (.invokevirtual 313, 3) := dk_182 1 57 (dk_at dksX1_terms_0 14 rfl rfl)
theorem dX1_terms_17 : decode cX1_terms 17 = .ok (.aload_n 0, 1) := dk_42 (dk_at dksX1_terms_0 17 rfl rfl)
theorem dX1_terms_18 : decode cX1_terms 18 = .ok (.aload_n 0, 1) := dk_42 (dk_at dksX1_terms_0 18 rfl rfl)
theorem dX1_terms_19 : decode cX1_terms 19 = .ok (.iload_n 2, 1) := dk_28 (dk_at dksX1_terms_0 19 rfl rfl)
theorem dX1_terms_20 : decode cX1_terms 20 = .ok (.invokevirtual 320, 3) := dk_182 1 64 (dk_at dksX1_terms_0 20 rfl rfl)
theorem dX1_terms_23 : decode cX1_terms 23 = .ok (.aload_n 0, 1) := dk_42 (dk_at dksX1_terms_0 23 rfl rfl)
theorem dX1_terms_24 : decode cX1_terms 24 = .ok (.iload_n 1, 1) := dk_27 (dk_at dksX1_terms_1 0 rfl rfl)
theorem dX1_terms_25 : decode cX1_terms 25 = .ok (.invokevirtual 320, 3) := dk_182 1 64 (dk_at dksX1_terms_1 1 rfl rfl)
theorem dX1_terms_28 : decode cX1_terms 28 = .ok (.invokevirtual 316, 3) := dk_182 1 60 (dk_at dksX1_terms_1 4 rfl rfl)
theorem dX1_terms_31 : decode cX1_terms 31 = .ok (.pop2, 1) := dk_88 (dk_at dksX1_terms_1 7 rfl rfl)
theorem dX1_terms_32 : decode cX1_terms 32 = .ok (.aload_n 0, 1) := dk_42 (dk_at dksX1_terms_1 8 rfl rfl)
theorem dX1_terms_33 : decode cX1_terms 33 = .ok (.getfield 298, 3) := dk_180 1 42 (dk_at dksX1_terms_1 9 rfl rfl)
theorem dX1_terms_36 : decode cX1_terms 36 = .ok (.aload_n 0, 1) := dk_42 (dk_at dksX1_terms_1 12 rfl rfl)
theorem dX1_terms_37 : decode cX1_terms 37 = .ok (.getfield 301, 3) := dk_180 1 45 (dk_at dksX1_terms_1 13 rfl rfl)
theorem dX1_terms_40 : decode cX1_terms 40 = .ok (.iadd, 1) := dk_96 (dk_at dksX1_terms_1 16 rfl rfl)
theorem dX1_terms_41 : decode cX1_terms 41 = .ok (.ifCond .ne 7, 3) := dk_154 0 7 (dk_at dksX1_terms_1 17 rfl rfl)
theorem dX1_terms_44 : decode cX1_terms 44 = .ok (.iconst 0, 1) := dk_3 (dk_at dksX1_terms_1 20 rfl rfl)
theorem dX1_terms_45 : decode cX1_terms 45 = .ok (.goto 22, 3) := dk_167 0 22 (dk_at dksX1_terms_1 21 rfl rfl)
theorem dX1_terms_48 : decode cX1_terms 48 = .ok (.aload_n 0, 1) := dk_42 (dk_at dksX1_terms_2 0 rfl rfl)
theorem dX1_terms_49 : decode cX1_terms 49 = .ok (.getfield 298, 3) := dk_180 1 42 (dk_at dksX1_terms_2 1 rfl rfl)
theorem dX1_terms_52 : decode cX1_terms 52 = .ok (.ifCond .eq 10, 3) := dk_153 0 10 (dk_at dksX1_terms_2 4 rfl rfl)
theorem dX1_terms_55 : decode cX1_terms 55 = .ok (.aload_n 0, 1) := dk_42 (dk_at dksX1_terms_2 7 rfl rfl)
theorem dX1_terms_56 : decode cX1_terms 56 = .ok (.getfield 301, 3) := dk_180 1 45 (dk_at dksX1_terms_2 8 rfl rfl)
theorem dX1_terms_59 : decode cX1_terms 59 = .ok (.ifCond .ne 7, 3) := dk_154 0 7 (dk_at dksX1_terms_2 11 rfl rfl)
theorem dX1_terms_62 : decode cX1_terms 62 = .ok (.iconst 1, 1) := dk_4 (dk_at dksX1_terms_2 14 rfl rfl)
theorem dX1_terms_63 : decode cX1_terms 63 = .ok (.goto 4, 3) := dk_167 0 4 (dk_at dksX1_terms_2 15 rfl rfl)
theorem dX1_terms_66 : decode cX1_terms 66 = .ok (.iconst 2, 1) := dk_5 (dk_at dksX1_terms_2 18 rfl rfl)
theorem dX1_terms_67 : decode cX1_terms 67 = .ok (.istore 4, 2) := dk_54 4 (dk_at dksX1_terms_2 19 rfl rfl)
theorem dX1_terms_69 : decode cX1_terms 69 = .ok (.aload_n 0, 1) := dk_42 (dk_at dksX1_terms_2 21 rfl rfl)
theorem dX1_terms_70 : decode cX1_terms 70 = .ok (.iload 4, 2) := dk_21 4 (dk_at dksX1_terms_2 22 rfl rfl)
theorem dX1_terms_72 : decode cX1_terms 72 = .ok (.sipush 1000, 3) := dk_17 3 232 (dk_at dksX1_terms_3 0 rfl rfl)
theorem dX1_terms_75 : decode cX1_terms 75 = .ok (.aload_n 0, 1) := dk_42 (dk_at dksX1_terms_3 3 rfl rfl)
theorem dX1_terms_76 : decode cX1_terms 76 = .ok (.getfield 298, 3) := dk_180 1 42 (dk_at dksX1_terms_3 4 rfl rfl)
theorem dX1_terms_79 : decode cX1_terms 79 = .ok (.imul, 1) := dk_104 (dk_at dksX1_terms_3 7 rfl rfl)
theorem dX1_terms_80 : decode cX1_terms 80 = .ok (.aload_n 0, 1) := dk_42 (dk_at dksX1_terms_3 8 rfl rfl)
theorem dX1_terms_81 : decode cX1_terms 81 = .ok (.getfield 301, 3) := dk_180 1 45 (dk_at dksX1_terms_3 9 rfl rfl)
theorem dX1_terms_84 : decode cX1_terms 84 = .ok (.iadd, 1) := dk_96 (dk_at dksX1_terms_3 12 rfl rfl)
theorem dX1_terms_85 : decode cX1_terms 85 = .ok (.invokevirtual 246, 3) := dk_182 0 246 (dk_at dksX1_terms_3 13 rfl rfl)
theorem dX1_terms_88 : decode cX1_terms 88 = .ok (.ireturn, 1) := dk_172 (dk_at dksX1_terms_3 16 rfl rfl)
abbrev cX1_steady : ByteArray := prog_8_method_87_code
def yX1_steady : MethodName := ⟨RX1, "steady", "()I"⟩
def dkwX1_steady_10 : List UInt8 := [21, 9, 153, 0, 7, 4, 167, 0, 4, 3, 172]
abbrev dktX1_steady_10 : List UInt8 := dkwX1_steady_10 ++ []
def dkwX1_steady_9 : List UInt8 := [22, 5, 22, 5, 105, 31, 31, 105, 22, 7, 105, 97, 148, 158, 0, 7, 4, 167, 0, 4, 3, 54, 9]
abbrev dktX1_steady_9 : List UInt8 := dkwX1_steady_9 ++ dktX1_steady_10
def dkwX1_steady_8 : List UInt8 := [148, 158, 0, 43, 22, 5, 9, 148, 158, 0, 36, 22, 7, 9, 148, 158, 0, 29, 31, 33, 105, 22, 5, 105]
abbrev dktX1_steady_8 : List UInt8 := dkwX1_steady_8 ++ dktX1_steady_9
def dkwX1_steady_7 : List UInt8 := [158, 0, 16, 31, 33, 105, 22, 5, 148, 158, 0, 7, 4, 167, 0, 4, 3, 54, 9, 167, 0, 52, 31, 9]
abbrev dktX1_steady_7 : List UInt8 := dkwX1_steady_7 ++ dktX1_steady_8
def dkwX1_steady_6 : List UInt8 := [148, 158, 0, 7, 4, 167, 0, 4, 3, 54, 9, 167, 0, 84, 31, 9, 148, 158, 0, 23, 22, 5, 9, 148]
abbrev dktX1_steady_6 : List UInt8 := dkwX1_steady_6 ++ dktX1_steady_7
def dkwX1_steady_5 : List UInt8 := [31, 9, 148, 158, 0, 7, 4, 167, 0, 4, 3, 54, 9, 167, 0, 106, 31, 9, 148, 158, 0, 13, 33, 9]
abbrev dktX1_steady_5 : List UInt8 := dkwX1_steady_5 ++ dktX1_steady_6
def dkwX1_steady_4 : List UInt8 := [170, 0, 0, 0, 0, 0, 97, 0, 0, 0, 1, 0, 0, 0, 3, 0, 0, 0, 27, 0, 0, 0, 43, 0, 0, 0, 65]
abbrev dktX1_steady_4 : List UInt8 := dkwX1_steady_4 ++ dktX1_steady_5
def dkwX1_steady_3 : List UInt8 := [182, 1, 78, 167, 0, 4, 9, 55, 7, 42, 180, 1, 36]
abbrev dktX1_steady_3 : List UInt8 := dkwX1_steady_3 ++ dktX1_steady_4
def dkwX1_steady_2 : List UInt8 := [164, 0, 11, 42, 6, 182, 1, 78, 167, 0, 4, 9, 55, 5, 42, 180, 1, 36, 6, 164, 0, 11, 42, 7]
abbrev dktX1_steady_2 : List UInt8 := dkwX1_steady_2 ++ dktX1_steady_3
def dkwX1_steady_1 : List UInt8 := [64, 42, 180, 1, 36, 4, 164, 0, 11, 42, 5, 182, 1, 78, 167, 0, 4, 9, 66, 42, 180, 1, 36, 5]
abbrev dktX1_steady_1 : List UInt8 := dkwX1_steady_1 ++ dktX1_steady_2
def dkwX1_steady_0 : List UInt8 := [42, 182, 1, 57, 42, 180, 1, 36, 4, 7, 184, 0, 105, 154, 0, 6, 16, 252, 172, 42, 4, 182, 1, 78]
abbrev dktX1_steady_0 : List UInt8 := dkwX1_steady_0 ++ dktX1_steady_1
theorem dksX1_steady_0 : cX1_steady.data.toList.drop 0 = dktX1_steady_0 := by decide +kernel
theorem dksX1_steady_1 : cX1_steady.data.toList.drop 24 = dktX1_steady_1 := dk_seg dksX1_steady_0 24 rfl rfl
theorem dksX1_steady_2 : cX1_steady.data.toList.drop 48 = dktX1_steady_2 := dk_seg dksX1_steady_1 24 rfl rfl
theorem dksX1_steady_3 : cX1_steady.data.toList.drop 72 = dktX1_steady_3 := dk_seg dksX1_steady_2 24 rfl rfl
theorem dksX1_steady_4 : cX1_steady.data.toList.drop 85 = dktX1_steady_4 := dk_seg dksX1_steady_3 13 rfl rfl
theorem dksX1_steady_5 : cX1_steady.data.toList.drop 112 = dktX1_steady_5 := dk_seg dksX1_steady_4 27 rfl rfl
theorem dksX1_steady_6 : cX1_steady.data.toList.drop 136 = dktX1_steady_6 := dk_seg dksX1_steady_5 24 rfl rfl
theorem dksX1_steady_7 : cX1_steady.data.toList.drop 160 = dktX1_steady_7 := dk_seg dksX1_steady_6 24 rfl rfl
theorem dksX1_steady_8 : cX1_steady.data.toList.drop 184 = dktX1_steady_8 := dk_seg dksX1_steady_7 24 rfl rfl
theorem dksX1_steady_9 : cX1_steady.data.toList.drop 208 = dktX1_steady_9 := dk_seg dksX1_steady_8 24 rfl rfl
theorem dksX1_steady_10 : cX1_steady.data.toList.drop 231 = dktX1_steady_10 := dk_seg dksX1_steady_9 23 rfl rfl
theorem dX1_steady_0 : decode cX1_steady 0 = .ok (.aload_n 0, 1) := dk_42 (dk_at dksX1_steady_0 0 rfl rfl)
theorem dX1_steady_1 : decode cX1_steady 1 = .ok (.invokevirtual 313, 3) := dk_182 1 57 (dk_at dksX1_steady_0 1 rfl rfl)
theorem dX1_steady_4 : decode cX1_steady 4 = .ok (.aload_n 0, 1) := dk_42 (dk_at dksX1_steady_0 4 rfl rfl)
theorem dX1_steady_5 : decode cX1_steady 5 = .ok (.getfield 292, 3) := dk_180 1 36 (dk_at dksX1_steady_0 5 rfl rfl)
theorem dX1_steady_8 : decode cX1_steady 8 = .ok (.iconst 1, 1) := dk_4 (dk_at dksX1_steady_0 8 rfl rfl)
theorem dX1_steady_9 : decode cX1_steady 9 = .ok (.iconst 4, 1) := dk_7 (dk_at dksX1_steady_0 9 rfl rfl)
theorem dX1_steady_10 : decode cX1_steady 10 = .ok (.invokestatic 105, 3) := dk_184 0 105 (dk_at dksX1_steady_0 10 rfl rfl)
theorem dX1_steady_13 : decode cX1_steady 13 = .ok (.ifCond .ne 6, 3) := dk_154 0 6 (dk_at dksX1_steady_0 13 rfl rfl)
theorem dX1_steady_16 : decode cX1_steady 16 = .ok (.bipush (-4), 2) := dk_16 252 (dk_at dksX1_steady_0 16 rfl rfl)
theorem dX1_steady_18 : decode cX1_steady 18 = .ok (.ireturn, 1) := dk_172 (dk_at dksX1_steady_0 18 rfl rfl)
theorem dX1_steady_19 : decode cX1_steady 19 = .ok (.aload_n 0, 1) := dk_42 (dk_at dksX1_steady_0 19 rfl rfl)
theorem dX1_steady_20 : decode cX1_steady 20 = .ok (.iconst 1, 1) := dk_4 (dk_at dksX1_steady_0 20 rfl rfl)
theorem dX1_steady_21 : decode cX1_steady 21 = .ok (.invokevirtual 334, 3) := dk_182 1 78 (dk_at dksX1_steady_0 21 rfl rfl)
theorem dX1_steady_24 : decode cX1_steady 24 = .ok (.lstore_n 1, 1) := dk_64 (dk_at dksX1_steady_1 0 rfl rfl)
theorem dX1_steady_25 : decode cX1_steady 25 = .ok (.aload_n 0, 1) := dk_42 (dk_at dksX1_steady_1 1 rfl rfl)
theorem dX1_steady_26 : decode cX1_steady 26 = .ok (.getfield 292, 3) := dk_180 1 36 (dk_at dksX1_steady_1 2 rfl rfl)
theorem dX1_steady_29 : decode cX1_steady 29 = .ok (.iconst 1, 1) := dk_4 (dk_at dksX1_steady_1 5 rfl rfl)
theorem dX1_steady_30 : decode cX1_steady 30 = .ok (.if_icmp .le 11, 3) := dk_164 0 11 (dk_at dksX1_steady_1 6 rfl rfl)
theorem dX1_steady_33 : decode cX1_steady 33 = .ok (.aload_n 0, 1) := dk_42 (dk_at dksX1_steady_1 9 rfl rfl)
theorem dX1_steady_34 : decode cX1_steady 34 = .ok (.iconst 2, 1) := dk_5 (dk_at dksX1_steady_1 10 rfl rfl)
theorem dX1_steady_35 : decode cX1_steady 35 = .ok (.invokevirtual 334, 3) := dk_182 1 78 (dk_at dksX1_steady_1 11 rfl rfl)
theorem dX1_steady_38 : decode cX1_steady 38 = .ok (.goto 4, 3) := dk_167 0 4 (dk_at dksX1_steady_1 14 rfl rfl)
theorem dX1_steady_41 : decode cX1_steady 41 = .ok (.lconst 0, 1) := dk_9 (dk_at dksX1_steady_1 17 rfl rfl)
theorem dX1_steady_42 : decode cX1_steady 42 = .ok (.lstore_n 3, 1) := dk_66 (dk_at dksX1_steady_1 18 rfl rfl)
theorem dX1_steady_43 : decode cX1_steady 43 = .ok (.aload_n 0, 1) := dk_42 (dk_at dksX1_steady_1 19 rfl rfl)
theorem dX1_steady_44 : decode cX1_steady 44 = .ok (.getfield 292, 3) := dk_180 1 36 (dk_at dksX1_steady_1 20 rfl rfl)
theorem dX1_steady_47 : decode cX1_steady 47 = .ok (.iconst 2, 1) := dk_5 (dk_at dksX1_steady_1 23 rfl rfl)
theorem dX1_steady_48 : decode cX1_steady 48 = .ok (.if_icmp .le 11, 3) := dk_164 0 11 (dk_at dksX1_steady_2 0 rfl rfl)
theorem dX1_steady_51 : decode cX1_steady 51 = .ok (.aload_n 0, 1) := dk_42 (dk_at dksX1_steady_2 3 rfl rfl)
theorem dX1_steady_52 : decode cX1_steady 52 = .ok (.iconst 3, 1) := dk_6 (dk_at dksX1_steady_2 4 rfl rfl)
theorem dX1_steady_53 : decode cX1_steady 53 = .ok (.invokevirtual 334, 3) := dk_182 1 78 (dk_at dksX1_steady_2 5 rfl rfl)
theorem dX1_steady_56 : decode cX1_steady 56 = .ok (.goto 4, 3) := dk_167 0 4 (dk_at dksX1_steady_2 8 rfl rfl)
theorem dX1_steady_59 : decode cX1_steady 59 = .ok (.lconst 0, 1) := dk_9 (dk_at dksX1_steady_2 11 rfl rfl)
theorem dX1_steady_60 : decode cX1_steady 60 = .ok (.lstore 5, 2) := dk_55 5 (dk_at dksX1_steady_2 12 rfl rfl)
theorem dX1_steady_62 : decode cX1_steady 62 = .ok (.aload_n 0, 1) := dk_42 (dk_at dksX1_steady_2 14 rfl rfl)
theorem dX1_steady_63 : decode cX1_steady 63 = .ok (.getfield 292, 3) := dk_180 1 36 (dk_at dksX1_steady_2 15 rfl rfl)
theorem dX1_steady_66 : decode cX1_steady 66 = .ok (.iconst 3, 1) := dk_6 (dk_at dksX1_steady_2 18 rfl rfl)
theorem dX1_steady_67 : decode cX1_steady 67 = .ok (.if_icmp .le 11, 3) := dk_164 0 11 (dk_at dksX1_steady_2 19 rfl rfl)
theorem dX1_steady_70 : decode cX1_steady 70 = .ok (.aload_n 0, 1) := dk_42 (dk_at dksX1_steady_2 22 rfl rfl)
theorem dX1_steady_71 : decode cX1_steady 71 = .ok (.iconst 4, 1) := dk_7 (dk_at dksX1_steady_2 23 rfl rfl)
theorem dX1_steady_72 : decode cX1_steady 72 = .ok (.invokevirtual 334, 3) := dk_182 1 78 (dk_at dksX1_steady_3 0 rfl rfl)
theorem dX1_steady_75 : decode cX1_steady 75 = .ok (.goto 4, 3) := dk_167 0 4 (dk_at dksX1_steady_3 3 rfl rfl)
theorem dX1_steady_78 : decode cX1_steady 78 = .ok (.lconst 0, 1) := dk_9 (dk_at dksX1_steady_3 6 rfl rfl)
theorem dX1_steady_79 : decode cX1_steady 79 = .ok (.lstore 7, 2) := dk_55 7 (dk_at dksX1_steady_3 7 rfl rfl)
theorem dX1_steady_81 : decode cX1_steady 81 = .ok (.aload_n 0, 1) := dk_42 (dk_at dksX1_steady_3 9 rfl rfl)
theorem dX1_steady_82 : decode cX1_steady 82 = .ok (.getfield 292, 3) := dk_180 1 36 (dk_at dksX1_steady_3 10 rfl rfl)
theorem dX1_steady_85 : decode cX1_steady 85 = .ok (.tableswitch 97 1 3 #[27, 43, 65], 27) := by decide +kernel
theorem dX1_steady_112 : decode cX1_steady 112 = .ok (.lload_n 1, 1) := dk_31 (dk_at dksX1_steady_5 0 rfl rfl)
theorem dX1_steady_113 : decode cX1_steady 113 = .ok (.lconst 0, 1) := dk_9 (dk_at dksX1_steady_5 1 rfl rfl)
theorem dX1_steady_114 : decode cX1_steady 114 = .ok (.lcmp, 1) := dk_148 (dk_at dksX1_steady_5 2 rfl rfl)
theorem dX1_steady_115 : decode cX1_steady 115 = .ok (.ifCond .le 7, 3) := dk_158 0 7 (dk_at dksX1_steady_5 3 rfl rfl)
theorem dX1_steady_118 : decode cX1_steady 118 = .ok (.iconst 1, 1) := dk_4 (dk_at dksX1_steady_5 6 rfl rfl)
theorem dX1_steady_119 : decode cX1_steady 119 = .ok (.goto 4, 3) := dk_167 0 4 (dk_at dksX1_steady_5 7 rfl rfl)
theorem dX1_steady_122 : decode cX1_steady 122 = .ok (.iconst 0, 1) := dk_3 (dk_at dksX1_steady_5 10 rfl rfl)
theorem dX1_steady_123 : decode cX1_steady 123 = .ok (.istore 9, 2) := dk_54 9 (dk_at dksX1_steady_5 11 rfl rfl)
theorem dX1_steady_125 : decode cX1_steady 125 = .ok (.goto 106, 3) := dk_167 0 106 (dk_at dksX1_steady_5 13 rfl rfl)
theorem dX1_steady_128 : decode cX1_steady 128 = .ok (.lload_n 1, 1) := dk_31 (dk_at dksX1_steady_5 16 rfl rfl)
theorem dX1_steady_129 : decode cX1_steady 129 = .ok (.lconst 0, 1) := dk_9 (dk_at dksX1_steady_5 17 rfl rfl)
theorem dX1_steady_130 : decode cX1_steady 130 = .ok (.lcmp, 1) := dk_148 (dk_at dksX1_steady_5 18 rfl rfl)
theorem dX1_steady_131 : decode cX1_steady 131 = .ok (.ifCond .le 13, 3) := dk_158 0 13 (dk_at dksX1_steady_5 19 rfl rfl)
theorem dX1_steady_134 : decode cX1_steady 134 = .ok (.lload_n 3, 1) := dk_33 (dk_at dksX1_steady_5 22 rfl rfl)
theorem dX1_steady_135 : decode cX1_steady 135 = .ok (.lconst 0, 1) := dk_9 (dk_at dksX1_steady_5 23 rfl rfl)
theorem dX1_steady_136 : decode cX1_steady 136 = .ok (.lcmp, 1) := dk_148 (dk_at dksX1_steady_6 0 rfl rfl)
theorem dX1_steady_137 : decode cX1_steady 137 = .ok (.ifCond .le 7, 3) := dk_158 0 7 (dk_at dksX1_steady_6 1 rfl rfl)
theorem dX1_steady_140 : decode cX1_steady 140 = .ok (.iconst 1, 1) := dk_4 (dk_at dksX1_steady_6 4 rfl rfl)
theorem dX1_steady_141 : decode cX1_steady 141 = .ok (.goto 4, 3) := dk_167 0 4 (dk_at dksX1_steady_6 5 rfl rfl)
theorem dX1_steady_144 : decode cX1_steady 144 = .ok (.iconst 0, 1) := dk_3 (dk_at dksX1_steady_6 8 rfl rfl)
theorem dX1_steady_145 : decode cX1_steady 145 = .ok (.istore 9, 2) := dk_54 9 (dk_at dksX1_steady_6 9 rfl rfl)
theorem dX1_steady_147 : decode cX1_steady 147 = .ok (.goto 84, 3) := dk_167 0 84 (dk_at dksX1_steady_6 11 rfl rfl)
theorem dX1_steady_150 : decode cX1_steady 150 = .ok (.lload_n 1, 1) := dk_31 (dk_at dksX1_steady_6 14 rfl rfl)
theorem dX1_steady_151 : decode cX1_steady 151 = .ok (.lconst 0, 1) := dk_9 (dk_at dksX1_steady_6 15 rfl rfl)
theorem dX1_steady_152 : decode cX1_steady 152 = .ok (.lcmp, 1) := dk_148 (dk_at dksX1_steady_6 16 rfl rfl)
theorem dX1_steady_153 : decode cX1_steady 153 = .ok (.ifCond .le 23, 3) := dk_158 0 23 (dk_at dksX1_steady_6 17 rfl rfl)
theorem dX1_steady_156 : decode cX1_steady 156 = .ok (.lload 5, 2) := dk_22 5 (dk_at dksX1_steady_6 20 rfl rfl)
theorem dX1_steady_158 : decode cX1_steady 158 = .ok (.lconst 0, 1) := dk_9 (dk_at dksX1_steady_6 22 rfl rfl)
theorem dX1_steady_159 : decode cX1_steady 159 = .ok (.lcmp, 1) := dk_148 (dk_at dksX1_steady_6 23 rfl rfl)
theorem dX1_steady_160 : decode cX1_steady 160 = .ok (.ifCond .le 16, 3) := dk_158 0 16 (dk_at dksX1_steady_7 0 rfl rfl)
theorem dX1_steady_163 : decode cX1_steady 163 = .ok (.lload_n 1, 1) := dk_31 (dk_at dksX1_steady_7 3 rfl rfl)
theorem dX1_steady_164 : decode cX1_steady 164 = .ok (.lload_n 3, 1) := dk_33 (dk_at dksX1_steady_7 4 rfl rfl)
theorem dX1_steady_165 : decode cX1_steady 165 = .ok (.lmul, 1) := dk_105 (dk_at dksX1_steady_7 5 rfl rfl)
theorem dX1_steady_166 : decode cX1_steady 166 = .ok (.lload 5, 2) := dk_22 5 (dk_at dksX1_steady_7 6 rfl rfl)
theorem dX1_steady_168 : decode cX1_steady 168 = .ok (.lcmp, 1) := dk_148 (dk_at dksX1_steady_7 8 rfl rfl)
theorem dX1_steady_169 : decode cX1_steady 169 = .ok (.ifCond .le 7, 3) := dk_158 0 7 (dk_at dksX1_steady_7 9 rfl rfl)
theorem dX1_steady_172 : decode cX1_steady 172 = .ok (.iconst 1, 1) := dk_4 (dk_at dksX1_steady_7 12 rfl rfl)
theorem dX1_steady_173 : decode cX1_steady 173 = .ok (.goto 4, 3) := dk_167 0 4 (dk_at dksX1_steady_7 13 rfl rfl)
theorem dX1_steady_176 : decode cX1_steady 176 = .ok (.iconst 0, 1) := dk_3 (dk_at dksX1_steady_7 16 rfl rfl)
theorem dX1_steady_177 : decode cX1_steady 177 = .ok (.istore 9, 2) := dk_54 9 (dk_at dksX1_steady_7 17 rfl rfl)
theorem dX1_steady_179 : decode cX1_steady 179 = .ok (.goto 52, 3) := dk_167 0 52 (dk_at dksX1_steady_7 19 rfl rfl)
theorem dX1_steady_182 : decode cX1_steady 182 = .ok (.lload_n 1, 1) := dk_31 (dk_at dksX1_steady_7 22 rfl rfl)
theorem dX1_steady_183 : decode cX1_steady 183 = .ok (.lconst 0, 1) := dk_9 (dk_at dksX1_steady_7 23 rfl rfl)
theorem dX1_steady_184 : decode cX1_steady 184 = .ok (.lcmp, 1) := dk_148 (dk_at dksX1_steady_8 0 rfl rfl)
theorem dX1_steady_185 : decode cX1_steady 185 = .ok (.ifCond .le 43, 3) := dk_158 0 43 (dk_at dksX1_steady_8 1 rfl rfl)
theorem dX1_steady_188 : decode cX1_steady 188 = .ok (.lload 5, 2) := dk_22 5 (dk_at dksX1_steady_8 4 rfl rfl)
theorem dX1_steady_190 : decode cX1_steady 190 = .ok (.lconst 0, 1) := dk_9 (dk_at dksX1_steady_8 6 rfl rfl)
theorem dX1_steady_191 : decode cX1_steady 191 = .ok (.lcmp, 1) := dk_148 (dk_at dksX1_steady_8 7 rfl rfl)
theorem dX1_steady_192 : decode cX1_steady 192 = .ok (.ifCond .le 36, 3) := dk_158 0 36 (dk_at dksX1_steady_8 8 rfl rfl)
theorem dX1_steady_195 : decode cX1_steady 195 = .ok (.lload 7, 2) := dk_22 7 (dk_at dksX1_steady_8 11 rfl rfl)
theorem dX1_steady_197 : decode cX1_steady 197 = .ok (.lconst 0, 1) := dk_9 (dk_at dksX1_steady_8 13 rfl rfl)
theorem dX1_steady_198 : decode cX1_steady 198 = .ok (.lcmp, 1) := dk_148 (dk_at dksX1_steady_8 14 rfl rfl)
theorem dX1_steady_199 : decode cX1_steady 199 = .ok (.ifCond .le 29, 3) := dk_158 0 29 (dk_at dksX1_steady_8 15 rfl rfl)
theorem dX1_steady_202 : decode cX1_steady 202 = .ok (.lload_n 1, 1) := dk_31 (dk_at dksX1_steady_8 18 rfl rfl)
theorem dX1_steady_203 : decode cX1_steady 203 = .ok (.lload_n 3, 1) := dk_33 (dk_at dksX1_steady_8 19 rfl rfl)
theorem dX1_steady_204 : decode cX1_steady 204 = .ok (.lmul, 1) := dk_105 (dk_at dksX1_steady_8 20 rfl rfl)
theorem dX1_steady_205 : decode cX1_steady 205 = .ok (.lload 5, 2) := dk_22 5 (dk_at dksX1_steady_8 21 rfl rfl)
theorem dX1_steady_207 : decode cX1_steady 207 = .ok (.lmul, 1) := dk_105 (dk_at dksX1_steady_8 23 rfl rfl)
theorem dX1_steady_208 : decode cX1_steady 208 = .ok (.lload 5, 2) := dk_22 5 (dk_at dksX1_steady_9 0 rfl rfl)
theorem dX1_steady_210 : decode cX1_steady 210 = .ok (.lload 5, 2) := dk_22 5 (dk_at dksX1_steady_9 2 rfl rfl)
theorem dX1_steady_212 : decode cX1_steady 212 = .ok (.lmul, 1) := dk_105 (dk_at dksX1_steady_9 4 rfl rfl)
theorem dX1_steady_213 : decode cX1_steady 213 = .ok (.lload_n 1, 1) := dk_31 (dk_at dksX1_steady_9 5 rfl rfl)
theorem dX1_steady_214 : decode cX1_steady 214 = .ok (.lload_n 1, 1) := dk_31 (dk_at dksX1_steady_9 6 rfl rfl)
theorem dX1_steady_215 : decode cX1_steady 215 = .ok (.lmul, 1) := dk_105 (dk_at dksX1_steady_9 7 rfl rfl)
theorem dX1_steady_216 : decode cX1_steady 216 = .ok (.lload 7, 2) := dk_22 7 (dk_at dksX1_steady_9 8 rfl rfl)
theorem dX1_steady_218 : decode cX1_steady 218 = .ok (.lmul, 1) := dk_105 (dk_at dksX1_steady_9 10 rfl rfl)
theorem dX1_steady_219 : decode cX1_steady 219 = .ok (.ladd, 1) := dk_97 (dk_at dksX1_steady_9 11 rfl rfl)
theorem dX1_steady_220 : decode cX1_steady 220 = .ok (.lcmp, 1) := dk_148 (dk_at dksX1_steady_9 12 rfl rfl)
theorem dX1_steady_221 : decode cX1_steady 221 = .ok (.ifCond .le 7, 3) := dk_158 0 7 (dk_at dksX1_steady_9 13 rfl rfl)
theorem dX1_steady_224 : decode cX1_steady 224 = .ok (.iconst 1, 1) := dk_4 (dk_at dksX1_steady_9 16 rfl rfl)
theorem dX1_steady_225 : decode cX1_steady 225 = .ok (.goto 4, 3) := dk_167 0 4 (dk_at dksX1_steady_9 17 rfl rfl)
theorem dX1_steady_228 : decode cX1_steady 228 = .ok (.iconst 0, 1) := dk_3 (dk_at dksX1_steady_9 20 rfl rfl)
theorem dX1_steady_229 : decode cX1_steady 229 = .ok (.istore 9, 2) := dk_54 9 (dk_at dksX1_steady_9 21 rfl rfl)
theorem dX1_steady_231 : decode cX1_steady 231 = .ok (.iload 9, 2) := dk_21 9 (dk_at dksX1_steady_10 0 rfl rfl)
theorem dX1_steady_233 : decode cX1_steady 233 = .ok (.ifCond .eq 7, 3) := dk_153 0 7 (dk_at dksX1_steady_10 2 rfl rfl)
theorem dX1_steady_236 : decode cX1_steady 236 = .ok (.iconst 1, 1) := dk_4 (dk_at dksX1_steady_10 5 rfl rfl)
theorem dX1_steady_237 : decode cX1_steady 237 = .ok (.goto 4, 3) := dk_167 0 4 (dk_at dksX1_steady_10 6 rfl rfl)
theorem dX1_steady_240 : decode cX1_steady 240 = .ok (.iconst 0, 1) := dk_3 (dk_at dksX1_steady_10 9 rfl rfl)
theorem dX1_steady_241 : decode cX1_steady 241 = .ok (.ireturn, 1) := dk_172 (dk_at dksX1_steady_10 10 rfl rfl)
abbrev cX1_minors : ByteArray := prog_8_method_84_code
def yX1_minors : MethodName := ⟨RX1, "minors", "(I)J"⟩
def dkwX1_minors_1 : List UInt8 := [160, 0, 13, 32, 42, 21, 4, 27, 182, 1, 71, 97, 65, 132, 4, 1, 167, 255, 223, 32, 173]
abbrev dktX1_minors_1 : List UInt8 := dkwX1_minors_1 ++ []
def dkwX1_minors_0 : List UInt8 := [9, 65, 3, 54, 4, 21, 4, 4, 42, 180, 1, 36, 120, 162, 0, 28, 21, 4, 184, 1, 2, 27]
abbrev dktX1_minors_0 : List UInt8 := dkwX1_minors_0 ++ dktX1_minors_1
theorem dksX1_minors_0 : cX1_minors.data.toList.drop 0 = dktX1_minors_0 := by decide +kernel
theorem dksX1_minors_1 : cX1_minors.data.toList.drop 22 = dktX1_minors_1 := dk_seg dksX1_minors_0 22 rfl rfl
theorem dX1_minors_0 : decode cX1_minors 0 = .ok (.lconst 0, 1) := dk_9 (dk_at dksX1_minors_0 0 rfl rfl)
theorem dX1_minors_1 : decode cX1_minors 1 = .ok (.lstore_n 2, 1) := dk_65 (dk_at dksX1_minors_0 1 rfl rfl)
theorem dX1_minors_2 : decode cX1_minors 2 = .ok (.iconst 0, 1) := dk_3 (dk_at dksX1_minors_0 2 rfl rfl)
theorem dX1_minors_3 : decode cX1_minors 3 = .ok (.istore 4, 2) := dk_54 4 (dk_at dksX1_minors_0 3 rfl rfl)
theorem dX1_minors_5 : decode cX1_minors 5 = .ok (.iload 4, 2) := dk_21 4 (dk_at dksX1_minors_0 5 rfl rfl)
theorem dX1_minors_7 : decode cX1_minors 7 = .ok (.iconst 1, 1) := dk_4 (dk_at dksX1_minors_0 7 rfl rfl)
theorem dX1_minors_8 : decode cX1_minors 8 = .ok (.aload_n 0, 1) := dk_42 (dk_at dksX1_minors_0 8 rfl rfl)
theorem dX1_minors_9 : decode cX1_minors 9 = .ok (.getfield 292, 3) := dk_180 1 36 (dk_at dksX1_minors_0 9 rfl rfl)
theorem dX1_minors_12 : decode cX1_minors 12 = .ok (.ishl, 1) := dk_120 (dk_at dksX1_minors_0 12 rfl rfl)
theorem dX1_minors_13 : decode cX1_minors 13 = .ok (.if_icmp .ge 28, 3) := dk_162 0 28 (dk_at dksX1_minors_0 13 rfl rfl)
theorem dX1_minors_16 : decode cX1_minors 16 = .ok (.iload 4, 2) := dk_21 4 (dk_at dksX1_minors_0 16 rfl rfl)
theorem dX1_minors_18 : decode cX1_minors 18 = .ok (.invokestatic 258, 3) := dk_184 1 2 (dk_at dksX1_minors_0 18 rfl rfl)
theorem dX1_minors_21 : decode cX1_minors 21 = .ok (.iload_n 1, 1) := dk_27 (dk_at dksX1_minors_0 21 rfl rfl)
theorem dX1_minors_22 : decode cX1_minors 22 = .ok (.if_icmp .ne 13, 3) := dk_160 0 13 (dk_at dksX1_minors_1 0 rfl rfl)
theorem dX1_minors_25 : decode cX1_minors 25 = .ok (.lload_n 2, 1) := dk_32 (dk_at dksX1_minors_1 3 rfl rfl)
theorem dX1_minors_26 : decode cX1_minors 26 = .ok (.aload_n 0, 1) := dk_42 (dk_at dksX1_minors_1 4 rfl rfl)
theorem dX1_minors_27 : decode cX1_minors 27 = .ok (.iload 4, 2) := dk_21 4 (dk_at dksX1_minors_1 5 rfl rfl)
theorem dX1_minors_29 : decode cX1_minors 29 = .ok (.iload_n 1, 1) := dk_27 (dk_at dksX1_minors_1 7 rfl rfl)
theorem dX1_minors_30 : decode cX1_minors 30 = .ok (.invokevirtual 327, 3) := dk_182 1 71 (dk_at dksX1_minors_1 8 rfl rfl)
theorem dX1_minors_33 : decode cX1_minors 33 = .ok (.ladd, 1) := dk_97 (dk_at dksX1_minors_1 11 rfl rfl)
theorem dX1_minors_34 : decode cX1_minors 34 = .ok (.lstore_n 2, 1) := dk_65 (dk_at dksX1_minors_1 12 rfl rfl)
theorem dX1_minors_35 : decode cX1_minors 35 = .ok (.iinc 4 1, 3) := dk_132 4 1 (dk_at dksX1_minors_1 13 rfl rfl)
theorem dX1_minors_38 : decode cX1_minors 38 = .ok (.goto (-33), 3) := dk_167 255 223 (dk_at dksX1_minors_1 16 rfl rfl)
theorem dX1_minors_41 : decode cX1_minors 41 = .ok (.lload_n 2, 1) := dk_32 (dk_at dksX1_minors_1 19 rfl rfl)
theorem dX1_minors_42 : decode cX1_minors 42 = .ok (.lreturn, 1) := dk_173 (dk_at dksX1_minors_1 20 rfl rfl)
abbrev cX1_minorOf : ByteArray := prog_8_method_85_code
def yX1_minorOf : MethodName := ⟨RX1, "minorOf", "(II)J"⟩
def dkwX1_minorOf_4 : List UInt8 := [132, 5, 1, 167, 255, 212, 132, 4, 1, 167, 255, 197, 42, 3, 3, 28, 182, 1, 74, 173]
abbrev dktX1_minorOf_4 : List UInt8 := dkwX1_minorOf_4 ++ []
def dkwX1_minorOf_3 : List UInt8 := [180, 0, 88, 16, 8, 42, 180, 0, 91, 21, 4, 46, 104, 42, 180, 0, 91, 21, 5, 46, 96, 47, 80]
abbrev dktX1_minorOf_3 : List UInt8 := dkwX1_minorOf_3 ++ dktX1_minorOf_4
def dkwX1_minorOf_2 : List UInt8 := [162, 0, 59, 3, 54, 5, 21, 5, 28, 162, 0, 44, 42, 180, 0, 94, 7, 21, 4, 104, 21, 5, 96, 42]
abbrev dktX1_minorOf_2 : List UInt8 := dkwX1_minorOf_2 ++ dktX1_minorOf_3
def dkwX1_minorOf_1 : List UInt8 := [180, 0, 91, 29, 21, 4, 79, 132, 3, 1, 132, 4, 1, 167, 255, 224, 3, 54, 4, 21, 4, 28]
abbrev dktX1_minorOf_1 : List UInt8 := dkwX1_minorOf_1 ++ dktX1_minorOf_2
def dkwX1_minorOf_0 : List UInt8 := [3, 62, 3, 54, 4, 21, 4, 42, 180, 1, 36, 162, 0, 29, 27, 21, 4, 184, 0, 240, 153, 0, 14, 42]
abbrev dktX1_minorOf_0 : List UInt8 := dkwX1_minorOf_0 ++ dktX1_minorOf_1
theorem dksX1_minorOf_0 : cX1_minorOf.data.toList.drop 0 = dktX1_minorOf_0 := by decide +kernel
theorem dksX1_minorOf_1 : cX1_minorOf.data.toList.drop 24 = dktX1_minorOf_1 := dk_seg dksX1_minorOf_0 24 rfl rfl
theorem dksX1_minorOf_2 : cX1_minorOf.data.toList.drop 46 = dktX1_minorOf_2 := dk_seg dksX1_minorOf_1 22 rfl rfl
theorem dksX1_minorOf_3 : cX1_minorOf.data.toList.drop 70 = dktX1_minorOf_3 := dk_seg dksX1_minorOf_2 24 rfl rfl
theorem dksX1_minorOf_4 : cX1_minorOf.data.toList.drop 93 = dktX1_minorOf_4 := dk_seg dksX1_minorOf_3 23 rfl rfl
theorem dX1_minorOf_0 : decode cX1_minorOf 0 = .ok (.iconst 0, 1) := dk_3 (dk_at dksX1_minorOf_0 0 rfl rfl)
theorem dX1_minorOf_1 : decode cX1_minorOf 1 = .ok (.istore_n 3, 1) := dk_62 (dk_at dksX1_minorOf_0 1 rfl rfl)
theorem dX1_minorOf_2 : decode cX1_minorOf 2 = .ok (.iconst 0, 1) := dk_3 (dk_at dksX1_minorOf_0 2 rfl rfl)
theorem dX1_minorOf_3 : decode cX1_minorOf 3 = .ok (.istore 4, 2) := dk_54 4 (dk_at dksX1_minorOf_0 3 rfl rfl)
theorem dX1_minorOf_5 : decode cX1_minorOf 5 = .ok (.iload 4, 2) := dk_21 4 (dk_at dksX1_minorOf_0 5 rfl rfl)
theorem dX1_minorOf_7 : decode cX1_minorOf 7 = .ok (.aload_n 0, 1) := dk_42 (dk_at dksX1_minorOf_0 7 rfl rfl)
theorem dX1_minorOf_8 : decode cX1_minorOf 8 = .ok (.getfield 292, 3) := dk_180 1 36 (dk_at dksX1_minorOf_0 8 rfl rfl)
theorem dX1_minorOf_11 : decode cX1_minorOf 11 = .ok (.if_icmp .ge 29, 3) := dk_162 0 29 (dk_at dksX1_minorOf_0 11 rfl rfl)
theorem dX1_minorOf_14 : decode cX1_minorOf 14 = .ok (.iload_n 1, 1) := dk_27 (dk_at dksX1_minorOf_0 14 rfl rfl)
theorem dX1_minorOf_15 : decode cX1_minorOf 15 = .ok (.iload 4, 2) := dk_21 4 (dk_at dksX1_minorOf_0 15 rfl rfl)
theorem dX1_minorOf_17 : decode cX1_minorOf 17 = .ok (.invokestatic 240, 3) := dk_184 0 240 (dk_at dksX1_minorOf_0 17 rfl rfl)
theorem dX1_minorOf_20 : decode cX1_minorOf 20 = .ok (.ifCond .eq 14, 3) := dk_153 0 14 (dk_at dksX1_minorOf_0 20 rfl rfl)
theorem dX1_minorOf_23 : decode cX1_minorOf 23 = .ok (.aload_n 0, 1) := dk_42 (dk_at dksX1_minorOf_0 23 rfl rfl)
theorem dX1_minorOf_24 : decode cX1_minorOf 24 = .ok (.getfield 91, 3) := dk_180 0 91 (dk_at dksX1_minorOf_1 0 rfl rfl)
theorem dX1_minorOf_27 : decode cX1_minorOf 27 = .ok (.iload_n 3, 1) := dk_29 (dk_at dksX1_minorOf_1 3 rfl rfl)
theorem dX1_minorOf_28 : decode cX1_minorOf 28 = .ok (.iload 4, 2) := dk_21 4 (dk_at dksX1_minorOf_1 4 rfl rfl)
theorem dX1_minorOf_30 : decode cX1_minorOf 30 = .ok (.iastore, 1) := dk_79 (dk_at dksX1_minorOf_1 6 rfl rfl)
theorem dX1_minorOf_31 : decode cX1_minorOf 31 = .ok (.iinc 3 1, 3) := dk_132 3 1 (dk_at dksX1_minorOf_1 7 rfl rfl)
theorem dX1_minorOf_34 : decode cX1_minorOf 34 = .ok (.iinc 4 1, 3) := dk_132 4 1 (dk_at dksX1_minorOf_1 10 rfl rfl)
theorem dX1_minorOf_37 : decode cX1_minorOf 37 = .ok (.goto (-32), 3) := dk_167 255 224 (dk_at dksX1_minorOf_1 13 rfl rfl)
theorem dX1_minorOf_40 : decode cX1_minorOf 40 = .ok (.iconst 0, 1) := dk_3 (dk_at dksX1_minorOf_1 16 rfl rfl)
theorem dX1_minorOf_41 : decode cX1_minorOf 41 = .ok (.istore 4, 2) := dk_54 4 (dk_at dksX1_minorOf_1 17 rfl rfl)
theorem dX1_minorOf_43 : decode cX1_minorOf 43 = .ok (.iload 4, 2) := dk_21 4 (dk_at dksX1_minorOf_1 19 rfl rfl)
theorem dX1_minorOf_45 : decode cX1_minorOf 45 = .ok (.iload_n 2, 1) := dk_28 (dk_at dksX1_minorOf_1 21 rfl rfl)
theorem dX1_minorOf_46 : decode cX1_minorOf 46 = .ok (.if_icmp .ge 59, 3) := dk_162 0 59 (dk_at dksX1_minorOf_2 0 rfl rfl)
theorem dX1_minorOf_49 : decode cX1_minorOf 49 = .ok (.iconst 0, 1) := dk_3 (dk_at dksX1_minorOf_2 3 rfl rfl)
theorem dX1_minorOf_50 : decode cX1_minorOf 50 = .ok (.istore 5, 2) := dk_54 5 (dk_at dksX1_minorOf_2 4 rfl rfl)
theorem dX1_minorOf_52 : decode cX1_minorOf 52 = .ok (.iload 5, 2) := dk_21 5 (dk_at dksX1_minorOf_2 6 rfl rfl)
theorem dX1_minorOf_54 : decode cX1_minorOf 54 = .ok (.iload_n 2, 1) := dk_28 (dk_at dksX1_minorOf_2 8 rfl rfl)
theorem dX1_minorOf_55 : decode cX1_minorOf 55 = .ok (.if_icmp .ge 44, 3) := dk_162 0 44 (dk_at dksX1_minorOf_2 9 rfl rfl)
theorem dX1_minorOf_58 : decode cX1_minorOf 58 = .ok (.aload_n 0, 1) := dk_42 (dk_at dksX1_minorOf_2 12 rfl rfl)
theorem dX1_minorOf_59 : decode cX1_minorOf 59 = .ok (.getfield 94, 3) := dk_180 0 94 (dk_at dksX1_minorOf_2 13 rfl rfl)
theorem dX1_minorOf_62 : decode cX1_minorOf 62 = .ok (.iconst 4, 1) := dk_7 (dk_at dksX1_minorOf_2 16 rfl rfl)
theorem dX1_minorOf_63 : decode cX1_minorOf 63 = .ok (.iload 4, 2) := dk_21 4 (dk_at dksX1_minorOf_2 17 rfl rfl)
theorem dX1_minorOf_65 : decode cX1_minorOf 65 = .ok (.imul, 1) := dk_104 (dk_at dksX1_minorOf_2 19 rfl rfl)
theorem dX1_minorOf_66 : decode cX1_minorOf 66 = .ok (.iload 5, 2) := dk_21 5 (dk_at dksX1_minorOf_2 20 rfl rfl)
theorem dX1_minorOf_68 : decode cX1_minorOf 68 = .ok (.iadd, 1) := dk_96 (dk_at dksX1_minorOf_2 22 rfl rfl)
theorem dX1_minorOf_69 : decode cX1_minorOf 69 = .ok (.aload_n 0, 1) := dk_42 (dk_at dksX1_minorOf_2 23 rfl rfl)
theorem dX1_minorOf_70 : decode cX1_minorOf 70 = .ok (.getfield 88, 3) := dk_180 0 88 (dk_at dksX1_minorOf_3 0 rfl rfl)
theorem dX1_minorOf_73 : decode cX1_minorOf 73 = .ok (.bipush 8, 2) := dk_16 8 (dk_at dksX1_minorOf_3 3 rfl rfl)
theorem dX1_minorOf_75 : decode cX1_minorOf 75 = .ok (.aload_n 0, 1) := dk_42 (dk_at dksX1_minorOf_3 5 rfl rfl)
theorem dX1_minorOf_76 : decode cX1_minorOf 76 = .ok (.getfield 91, 3) := dk_180 0 91 (dk_at dksX1_minorOf_3 6 rfl rfl)
theorem dX1_minorOf_79 : decode cX1_minorOf 79 = .ok (.iload 4, 2) := dk_21 4 (dk_at dksX1_minorOf_3 9 rfl rfl)
theorem dX1_minorOf_81 : decode cX1_minorOf 81 = .ok (.iaload, 1) := dk_46 (dk_at dksX1_minorOf_3 11 rfl rfl)
theorem dX1_minorOf_82 : decode cX1_minorOf 82 = .ok (.imul, 1) := dk_104 (dk_at dksX1_minorOf_3 12 rfl rfl)
theorem dX1_minorOf_83 : decode cX1_minorOf 83 = .ok (.aload_n 0, 1) := dk_42 (dk_at dksX1_minorOf_3 13 rfl rfl)
theorem dX1_minorOf_84 : decode cX1_minorOf 84 = .ok (.getfield 91, 3) := dk_180 0 91 (dk_at dksX1_minorOf_3 14 rfl rfl)
theorem dX1_minorOf_87 : decode cX1_minorOf 87 = .ok (.iload 5, 2) := dk_21 5 (dk_at dksX1_minorOf_3 17 rfl rfl)
theorem dX1_minorOf_89 : decode cX1_minorOf 89 = .ok (.iaload, 1) := dk_46 (dk_at dksX1_minorOf_3 19 rfl rfl)
theorem dX1_minorOf_90 : decode cX1_minorOf 90 = .ok (.iadd, 1) := dk_96 (dk_at dksX1_minorOf_3 20 rfl rfl)
theorem dX1_minorOf_91 : decode cX1_minorOf 91 = .ok (.laload, 1) := dk_47 (dk_at dksX1_minorOf_3 21 rfl rfl)
theorem dX1_minorOf_92 : decode cX1_minorOf 92 = .ok (.lastore, 1) := dk_80 (dk_at dksX1_minorOf_3 22 rfl rfl)
theorem dX1_minorOf_93 : decode cX1_minorOf 93 = .ok (.iinc 5 1, 3) := dk_132 5 1 (dk_at dksX1_minorOf_4 0 rfl rfl)
theorem dX1_minorOf_96 : decode cX1_minorOf 96 = .ok (.goto (-44), 3) := dk_167 255 212 (dk_at dksX1_minorOf_4 3 rfl rfl)
theorem dX1_minorOf_99 : decode cX1_minorOf 99 = .ok (.iinc 4 1, 3) := dk_132 4 1 (dk_at dksX1_minorOf_4 6 rfl rfl)
theorem dX1_minorOf_102 : decode cX1_minorOf 102 = .ok (.goto (-59), 3) := dk_167 255 197 (dk_at dksX1_minorOf_4 9 rfl rfl)
theorem dX1_minorOf_105 : decode cX1_minorOf 105 = .ok (.aload_n 0, 1) := dk_42 (dk_at dksX1_minorOf_4 12 rfl rfl)
theorem dX1_minorOf_106 : decode cX1_minorOf 106 = .ok (.iconst 0, 1) := dk_3 (dk_at dksX1_minorOf_4 13 rfl rfl)
theorem dX1_minorOf_107 : decode cX1_minorOf 107 = .ok (.iconst 0, 1) := dk_3 (dk_at dksX1_minorOf_4 14 rfl rfl)
theorem dX1_minorOf_108 : decode cX1_minorOf 108 = .ok (.iload_n 2, 1) := dk_28 (dk_at dksX1_minorOf_4 15 rfl rfl)
theorem dX1_minorOf_109 : decode cX1_minorOf 109 = .ok (.invokevirtual 330, 3) := dk_182 1 74 (dk_at dksX1_minorOf_4 16 rfl rfl)
theorem dX1_minorOf_112 : decode cX1_minorOf 112 = .ok (.lreturn, 1) := dk_173 (dk_at dksX1_minorOf_4 19 rfl rfl)
abbrev cX1_smallWorth : ByteArray := prog_8_method_86_code
def yX1_smallWorth : MethodName := ⟨RX1, "smallWorth", "(III)J"⟩
def dkwX1_smallWorth_3 : List UInt8 := [167, 0, 6, 22, 8, 117, 97, 55, 4, 132, 6, 1, 132, 7, 1, 167, 255, 187, 22, 4, 173]
abbrev dktX1_smallWorth_3 : List UInt8 := dkwX1_smallWorth_3 ++ []
def dkwX1_smallWorth_2 : List UInt8 := [4, 21, 7, 120, 128, 29, 182, 1, 74, 105, 55, 8, 22, 4, 21, 6, 5, 112, 154, 0, 8, 22, 8]
abbrev dktX1_smallWorth_2 : List UInt8 := dkwX1_smallWorth_2 ++ dktX1_smallWorth_3
def dkwX1_smallWorth_1 : List UInt8 := [21, 7, 184, 0, 240, 154, 0, 54, 42, 180, 0, 94, 7, 27, 104, 21, 7, 96, 47, 42, 27, 4, 96, 28]
abbrev dktX1_smallWorth_1 : List UInt8 := dkwX1_smallWorth_1 ++ dktX1_smallWorth_2
def dkwX1_smallWorth_0 : List UInt8 := [27, 29, 160, 0, 5, 10, 173, 9, 55, 4, 3, 54, 6, 3, 54, 7, 21, 7, 29, 162, 0, 69, 28]
abbrev dktX1_smallWorth_0 : List UInt8 := dkwX1_smallWorth_0 ++ dktX1_smallWorth_1
theorem dksX1_smallWorth_0 : cX1_smallWorth.data.toList.drop 0 = dktX1_smallWorth_0 := by decide +kernel
theorem dksX1_smallWorth_1 : cX1_smallWorth.data.toList.drop 23 = dktX1_smallWorth_1 := dk_seg dksX1_smallWorth_0 23 rfl rfl
theorem dksX1_smallWorth_2 : cX1_smallWorth.data.toList.drop 47 = dktX1_smallWorth_2 := dk_seg dksX1_smallWorth_1 24 rfl rfl
theorem dksX1_smallWorth_3 : cX1_smallWorth.data.toList.drop 70 = dktX1_smallWorth_3 := dk_seg dksX1_smallWorth_2 23 rfl rfl
theorem dX1_smallWorth_0 : decode cX1_smallWorth 0 = .ok (.iload_n 1, 1) := dk_27 (dk_at dksX1_smallWorth_0 0 rfl rfl)
theorem dX1_smallWorth_1 : decode cX1_smallWorth 1 = .ok (.iload_n 3, 1) := dk_29 (dk_at dksX1_smallWorth_0 1 rfl rfl)
theorem dX1_smallWorth_2 : decode cX1_smallWorth 2 = .ok (.if_icmp .ne 5, 3) := dk_160 0 5 (dk_at dksX1_smallWorth_0 2 rfl rfl)
theorem dX1_smallWorth_5 : decode cX1_smallWorth 5 = .ok (.lconst 1, 1) := dk_10 (dk_at dksX1_smallWorth_0 5 rfl rfl)
theorem dX1_smallWorth_6 : decode cX1_smallWorth 6 = .ok (.lreturn, 1) := dk_173 (dk_at dksX1_smallWorth_0 6 rfl rfl)
theorem dX1_smallWorth_7 : decode cX1_smallWorth 7 = .ok (.lconst 0, 1) := dk_9 (dk_at dksX1_smallWorth_0 7 rfl rfl)
theorem dX1_smallWorth_8 : decode cX1_smallWorth 8 = .ok (.lstore 4, 2) := dk_55 4 (dk_at dksX1_smallWorth_0 8 rfl rfl)
theorem dX1_smallWorth_10 : decode cX1_smallWorth 10 = .ok (.iconst 0, 1) := dk_3 (dk_at dksX1_smallWorth_0 10 rfl rfl)
theorem dX1_smallWorth_11 : decode cX1_smallWorth 11 = .ok (.istore 6, 2) := dk_54 6 (dk_at dksX1_smallWorth_0 11 rfl rfl)
theorem dX1_smallWorth_13 : decode cX1_smallWorth 13 = .ok (.iconst 0, 1) := dk_3 (dk_at dksX1_smallWorth_0 13 rfl rfl)
theorem dX1_smallWorth_14 : decode cX1_smallWorth 14 = .ok (.istore 7, 2) := dk_54 7 (dk_at dksX1_smallWorth_0 14 rfl rfl)
theorem dX1_smallWorth_16 : decode cX1_smallWorth 16 = .ok (.iload 7, 2) := dk_21 7 (dk_at dksX1_smallWorth_0 16 rfl rfl)
theorem dX1_smallWorth_18 : decode cX1_smallWorth 18 = .ok (.iload_n 3, 1) := dk_29 (dk_at dksX1_smallWorth_0 18 rfl rfl)
theorem dX1_smallWorth_19 : decode cX1_smallWorth 19 = .ok (.if_icmp .ge 69, 3) := dk_162 0 69 (dk_at dksX1_smallWorth_0 19 rfl rfl)
theorem dX1_smallWorth_22 : decode cX1_smallWorth 22 = .ok (.iload_n 2, 1) := dk_28 (dk_at dksX1_smallWorth_0 22 rfl rfl)
theorem dX1_smallWorth_23 : decode cX1_smallWorth 23 = .ok (.iload 7, 2) := dk_21 7 (dk_at dksX1_smallWorth_1 0 rfl rfl)
theorem dX1_smallWorth_25 : decode cX1_smallWorth 25 = .ok (.invokestatic 240, 3) := dk_184 0 240 (dk_at dksX1_smallWorth_1 2 rfl rfl)
theorem dX1_smallWorth_28 : decode cX1_smallWorth 28 = .ok (.ifCond .ne 54, 3) := dk_154 0 54 (dk_at dksX1_smallWorth_1 5 rfl rfl)
theorem dX1_smallWorth_31 : decode cX1_smallWorth 31 = .ok (.aload_n 0, 1) := dk_42 (dk_at dksX1_smallWorth_1 8 rfl rfl)
theorem dX1_smallWorth_32 : decode cX1_smallWorth 32 = .ok (.getfield 94, 3) := dk_180 0 94 (dk_at dksX1_smallWorth_1 9 rfl rfl)
theorem dX1_smallWorth_35 : decode cX1_smallWorth 35 = .ok (.iconst 4, 1) := dk_7 (dk_at dksX1_smallWorth_1 12 rfl rfl)
theorem dX1_smallWorth_36 : decode cX1_smallWorth 36 = .ok (.iload_n 1, 1) := dk_27 (dk_at dksX1_smallWorth_1 13 rfl rfl)
theorem dX1_smallWorth_37 : decode cX1_smallWorth 37 = .ok (.imul, 1) := dk_104 (dk_at dksX1_smallWorth_1 14 rfl rfl)
theorem dX1_smallWorth_38 : decode cX1_smallWorth 38 = .ok (.iload 7, 2) := dk_21 7 (dk_at dksX1_smallWorth_1 15 rfl rfl)
theorem dX1_smallWorth_40 : decode cX1_smallWorth 40 = .ok (.iadd, 1) := dk_96 (dk_at dksX1_smallWorth_1 17 rfl rfl)
theorem dX1_smallWorth_41 : decode cX1_smallWorth 41 = .ok (.laload, 1) := dk_47 (dk_at dksX1_smallWorth_1 18 rfl rfl)
theorem dX1_smallWorth_42 : decode cX1_smallWorth 42 = .ok (.aload_n 0, 1) := dk_42 (dk_at dksX1_smallWorth_1 19 rfl rfl)
theorem dX1_smallWorth_43 : decode cX1_smallWorth 43 = .ok (.iload_n 1, 1) := dk_27 (dk_at dksX1_smallWorth_1 20 rfl rfl)
theorem dX1_smallWorth_44 : decode cX1_smallWorth 44 = .ok (.iconst 1, 1) := dk_4 (dk_at dksX1_smallWorth_1 21 rfl rfl)
theorem dX1_smallWorth_45 : decode cX1_smallWorth 45 = .ok (.iadd, 1) := dk_96 (dk_at dksX1_smallWorth_1 22 rfl rfl)
theorem dX1_smallWorth_46 : decode cX1_smallWorth 46 = .ok (.iload_n 2, 1) := dk_28 (dk_at dksX1_smallWorth_1 23 rfl rfl)
theorem dX1_smallWorth_47 : decode cX1_smallWorth 47 = .ok (.iconst 1, 1) := dk_4 (dk_at dksX1_smallWorth_2 0 rfl rfl)
theorem dX1_smallWorth_48 : decode cX1_smallWorth 48 = .ok (.iload 7, 2) := dk_21 7 (dk_at dksX1_smallWorth_2 1 rfl rfl)
theorem dX1_smallWorth_50 : decode cX1_smallWorth 50 = .ok (.ishl, 1) := dk_120 (dk_at dksX1_smallWorth_2 3 rfl rfl)
theorem dX1_smallWorth_51 : decode cX1_smallWorth 51 = .ok (.ior, 1) := dk_128 (dk_at dksX1_smallWorth_2 4 rfl rfl)
theorem dX1_smallWorth_52 : decode cX1_smallWorth 52 = .ok (.iload_n 3, 1) := dk_29 (dk_at dksX1_smallWorth_2 5 rfl rfl)
theorem dX1_smallWorth_53 : decode cX1_smallWorth 53 = .ok (.invokevirtual 330, 3) := dk_182 1 74 (dk_at dksX1_smallWorth_2 6 rfl rfl)
theorem dX1_smallWorth_56 : decode cX1_smallWorth 56 = .ok (.lmul, 1) := dk_105 (dk_at dksX1_smallWorth_2 9 rfl rfl)
theorem dX1_smallWorth_57 : decode cX1_smallWorth 57 = .ok (.lstore 8, 2) := dk_55 8 (dk_at dksX1_smallWorth_2 10 rfl rfl)
theorem dX1_smallWorth_59 : decode cX1_smallWorth 59 = .ok (.lload 4, 2) := dk_22 4 (dk_at dksX1_smallWorth_2 12 rfl rfl)
theorem dX1_smallWorth_61 : decode cX1_smallWorth 61 = .ok (.iload 6, 2) := dk_21 6 (dk_at dksX1_smallWorth_2 14 rfl rfl)
theorem dX1_smallWorth_63 : decode cX1_smallWorth 63 = .ok (.iconst 2, 1) := dk_5 (dk_at dksX1_smallWorth_2 16 rfl rfl)
theorem dX1_smallWorth_64 : decode cX1_smallWorth 64 = .ok (.irem, 1) := dk_112 (dk_at dksX1_smallWorth_2 17 rfl rfl)
theorem dX1_smallWorth_65 : decode cX1_smallWorth 65 = .ok (.ifCond .ne 8, 3) := dk_154 0 8 (dk_at dksX1_smallWorth_2 18 rfl rfl)
theorem dX1_smallWorth_68 : decode cX1_smallWorth 68 = .ok (.lload 8, 2) := dk_22 8 (dk_at dksX1_smallWorth_2 21 rfl rfl)
theorem dX1_smallWorth_70 : decode cX1_smallWorth 70 = .ok (.goto 6, 3) := dk_167 0 6 (dk_at dksX1_smallWorth_3 0 rfl rfl)
theorem dX1_smallWorth_73 : decode cX1_smallWorth 73 = .ok (.lload 8, 2) := dk_22 8 (dk_at dksX1_smallWorth_3 3 rfl rfl)
theorem dX1_smallWorth_75 : decode cX1_smallWorth 75 = .ok (.lneg, 1) := dk_117 (dk_at dksX1_smallWorth_3 5 rfl rfl)
theorem dX1_smallWorth_76 : decode cX1_smallWorth 76 = .ok (.ladd, 1) := dk_97 (dk_at dksX1_smallWorth_3 6 rfl rfl)
theorem dX1_smallWorth_77 : decode cX1_smallWorth 77 = .ok (.lstore 4, 2) := dk_55 4 (dk_at dksX1_smallWorth_3 7 rfl rfl)
theorem dX1_smallWorth_79 : decode cX1_smallWorth 79 = .ok (.iinc 6 1, 3) := dk_132 6 1 (dk_at dksX1_smallWorth_3 9 rfl rfl)
theorem dX1_smallWorth_82 : decode cX1_smallWorth 82 = .ok (.iinc 7 1, 3) := dk_132 7 1 (dk_at dksX1_smallWorth_3 12 rfl rfl)
theorem dX1_smallWorth_85 : decode cX1_smallWorth 85 = .ok (.goto (-69), 3) := dk_167 255 187 (dk_at dksX1_smallWorth_3 15 rfl rfl)
theorem dX1_smallWorth_88 : decode cX1_smallWorth 88 = .ok (.lload 4, 2) := dk_22 4 (dk_at dksX1_smallWorth_3 18 rfl rfl)
theorem dX1_smallWorth_90 : decode cX1_smallWorth 90 = .ok (.lreturn, 1) := dk_173 (dk_at dksX1_smallWorth_3 20 rfl rfl)
abbrev cX1_count : ByteArray := prog_8_method_89_code
def yX1_count : MethodName := ⟨RX1, "count", "(I)I"⟩
def dkwX1_count_0 : List UInt8 := [27, 3, 7, 184, 0, 105, 153, 0, 11, 42, 27, 182, 1, 82, 167, 0, 4, 2, 172]
abbrev dktX1_count_0 : List UInt8 := dkwX1_count_0 ++ []
theorem dksX1_count_0 : cX1_count.data.toList.drop 0 = dktX1_count_0 := by decide +kernel
theorem dX1_count_0 : decode cX1_count 0 = .ok (.iload_n 1, 1) := dk_27 (dk_at dksX1_count_0 0 rfl rfl)
theorem dX1_count_1 : decode cX1_count 1 = .ok (.iconst 0, 1) := dk_3 (dk_at dksX1_count_0 1 rfl rfl)
theorem dX1_count_2 : decode cX1_count 2 = .ok (.iconst 4, 1) := dk_7 (dk_at dksX1_count_0 2 rfl rfl)
theorem dX1_count_3 : decode cX1_count 3 = .ok (.invokestatic 105, 3) := dk_184 0 105 (dk_at dksX1_count_0 3 rfl rfl)
theorem dX1_count_6 : decode cX1_count 6 = .ok (.ifCond .eq 11, 3) := dk_153 0 11 (dk_at dksX1_count_0 6 rfl rfl)
theorem dX1_count_9 : decode cX1_count 9 = .ok (.aload_n 0, 1) := dk_42 (dk_at dksX1_count_0 9 rfl rfl)
theorem dX1_count_10 : decode cX1_count 10 = .ok (.iload_n 1, 1) := dk_27 (dk_at dksX1_count_0 10 rfl rfl)
theorem dX1_count_11 : decode cX1_count 11 = .ok (.invokevirtual 338, 3) := dk_182 1 82 (dk_at dksX1_count_0 11 rfl rfl)
theorem dX1_count_14 : decode cX1_count 14 = .ok (.goto 4, 3) := dk_167 0 4 (dk_at dksX1_count_0 14 rfl rfl)
theorem dX1_count_17 : decode cX1_count 17 = .ok (.iconst (-1), 1) := dk_2 (dk_at dksX1_count_0 17 rfl rfl)
theorem dX1_count_18 : decode cX1_count 18 = .ok (.ireturn, 1) := dk_172 (dk_at dksX1_count_0 18 rfl rfl)
abbrev cX1_tellsCount : ByteArray := prog_8_method_88_code
def yX1_tellsCount : MethodName := ⟨RX1, "tellsCount", "(I)I"⟩
def dkwX1_tellsCount_5 : List UInt8 := [132, 3, 1, 167, 255, 231, 28, 172]
abbrev dktX1_tellsCount_5 : List UInt8 := dkwX1_tellsCount_5 ++ []
def dkwX1_tellsCount_4 : List UInt8 := [3, 62, 29, 7, 162, 0, 26, 28, 42, 180, 0, 13, 29, 46, 156, 0, 7, 3, 167, 0, 4, 4, 96, 61]
abbrev dktX1_tellsCount_4 : List UInt8 := dkwX1_tellsCount_4 ++ dktX1_tellsCount_5
def dkwX1_tellsCount_3 : List UInt8 := [42, 180, 0, 54, 29, 46, 158, 0, 7, 4, 167, 0, 4, 3, 96, 61, 132, 3, 1, 167, 255, 230, 28, 172]
abbrev dktX1_tellsCount_3 : List UInt8 := dkwX1_tellsCount_3 ++ dktX1_tellsCount_4
def dkwX1_tellsCount_2 : List UInt8 := [42, 180, 0, 229, 172, 42, 182, 0, 200, 172, 42, 182, 0, 204, 172, 3, 62, 29, 16, 64, 162, 0, 26, 28]
abbrev dktX1_tellsCount_2 : List UInt8 := dkwX1_tellsCount_2 ++ dktX1_tellsCount_3
def dkwX1_tellsCount_1 : List UInt8 := [170, 0, 0, 0, 77, 0, 0, 0, 0, 0, 0, 0, 3, 0, 0, 0, 29, 0, 0, 0, 34, 0, 0, 0, 39, 0, 0, 0, 44]
abbrev dktX1_tellsCount_1 : List UInt8 := dkwX1_tellsCount_1 ++ dktX1_tellsCount_2
def dkwX1_tellsCount_0 : List UInt8 := [3, 61, 27]
abbrev dktX1_tellsCount_0 : List UInt8 := dkwX1_tellsCount_0 ++ dktX1_tellsCount_1
theorem dksX1_tellsCount_0 : cX1_tellsCount.data.toList.drop 0 = dktX1_tellsCount_0 := by decide +kernel
theorem dksX1_tellsCount_1 : cX1_tellsCount.data.toList.drop 3 = dktX1_tellsCount_1 := dk_seg dksX1_tellsCount_0 3 rfl rfl
theorem dksX1_tellsCount_2 : cX1_tellsCount.data.toList.drop 32 = dktX1_tellsCount_2 := dk_seg dksX1_tellsCount_1 29 rfl rfl
theorem dksX1_tellsCount_3 : cX1_tellsCount.data.toList.drop 56 = dktX1_tellsCount_3 := dk_seg dksX1_tellsCount_2 24 rfl rfl
theorem dksX1_tellsCount_4 : cX1_tellsCount.data.toList.drop 80 = dktX1_tellsCount_4 := dk_seg dksX1_tellsCount_3 24 rfl rfl
theorem dksX1_tellsCount_5 : cX1_tellsCount.data.toList.drop 104 = dktX1_tellsCount_5 := dk_seg dksX1_tellsCount_4 24 rfl rfl
theorem dX1_tellsCount_0 : decode cX1_tellsCount 0 = .ok (.iconst 0, 1) := dk_3 (dk_at dksX1_tellsCount_0 0 rfl rfl)
theorem dX1_tellsCount_1 : decode cX1_tellsCount 1 = .ok (.istore_n 2, 1) := dk_61 (dk_at dksX1_tellsCount_0 1 rfl rfl)
theorem dX1_tellsCount_2 : decode cX1_tellsCount 2 = .ok (.iload_n 1, 1) := dk_27 (dk_at dksX1_tellsCount_0 2 rfl rfl)
theorem dX1_tellsCount_3 : decode cX1_tellsCount 3 = .ok (.tableswitch 77 0 3 #[29, 34, 39, 44], 29) := by decide +kernel
theorem dX1_tellsCount_32 : decode cX1_tellsCount 32 = .ok (.aload_n 0, 1) := dk_42 (dk_at dksX1_tellsCount_2 0 rfl rfl)
theorem dX1_tellsCount_33 : decode cX1_tellsCount 33 = .ok (.getfield 229, 3) := dk_180 0 229 (dk_at dksX1_tellsCount_2 1 rfl rfl)
theorem dX1_tellsCount_36 : decode cX1_tellsCount 36 = .ok (.ireturn, 1) := dk_172 (dk_at dksX1_tellsCount_2 4 rfl rfl)
theorem dX1_tellsCount_37 : decode cX1_tellsCount 37 = .ok (.aload_n 0, 1) := dk_42 (dk_at dksX1_tellsCount_2 5 rfl rfl)
theorem dX1_tellsCount_38 : decode cX1_tellsCount 38 = .ok (.invokevirtual 200, 3) := dk_182 0 200 (dk_at dksX1_tellsCount_2 6 rfl rfl)
theorem dX1_tellsCount_41 : decode cX1_tellsCount 41 = .ok (.ireturn, 1) := dk_172 (dk_at dksX1_tellsCount_2 9 rfl rfl)
theorem dX1_tellsCount_42 : decode cX1_tellsCount 42 = .ok (.aload_n 0, 1) := dk_42 (dk_at dksX1_tellsCount_2 10 rfl rfl)
theorem dX1_tellsCount_43 : decode cX1_tellsCount 43 = .ok (.invokevirtual 204, 3) := dk_182 0 204 (dk_at dksX1_tellsCount_2 11 rfl rfl)
theorem dX1_tellsCount_46 : decode cX1_tellsCount 46 = .ok (.ireturn, 1) := dk_172 (dk_at dksX1_tellsCount_2 14 rfl rfl)
theorem dX1_tellsCount_47 : decode cX1_tellsCount 47 = .ok (.iconst 0, 1) := dk_3 (dk_at dksX1_tellsCount_2 15 rfl rfl)
theorem dX1_tellsCount_48 : decode cX1_tellsCount 48 = .ok (.istore_n 3, 1) := dk_62 (dk_at dksX1_tellsCount_2 16 rfl rfl)
theorem dX1_tellsCount_49 : decode cX1_tellsCount 49 = .ok (.iload_n 3, 1) := dk_29 (dk_at dksX1_tellsCount_2 17 rfl rfl)
theorem dX1_tellsCount_50 : decode cX1_tellsCount 50 = .ok (.bipush 64, 2) := dk_16 64 (dk_at dksX1_tellsCount_2 18 rfl rfl)
theorem dX1_tellsCount_52 : decode cX1_tellsCount 52 = .ok (.if_icmp .ge 26, 3) := dk_162 0 26 (dk_at dksX1_tellsCount_2 20 rfl rfl)
theorem dX1_tellsCount_55 : decode cX1_tellsCount 55 = .ok (.iload_n 2, 1) := dk_28 (dk_at dksX1_tellsCount_2 23 rfl rfl)
theorem dX1_tellsCount_56 : decode cX1_tellsCount 56 = .ok (.aload_n 0, 1) := dk_42 (dk_at dksX1_tellsCount_3 0 rfl rfl)
theorem dX1_tellsCount_57 : decode cX1_tellsCount 57 = .ok (.getfield 54, 3) := dk_180 0 54 (dk_at dksX1_tellsCount_3 1 rfl rfl)
theorem dX1_tellsCount_60 : decode cX1_tellsCount 60 = .ok (.iload_n 3, 1) := dk_29 (dk_at dksX1_tellsCount_3 4 rfl rfl)
theorem dX1_tellsCount_61 : decode cX1_tellsCount 61 = .ok (.iaload, 1) := dk_46 (dk_at dksX1_tellsCount_3 5 rfl rfl)
theorem dX1_tellsCount_62 : decode cX1_tellsCount 62 = .ok (.ifCond .le 7, 3) := dk_158 0 7 (dk_at dksX1_tellsCount_3 6 rfl rfl)
theorem dX1_tellsCount_65 : decode cX1_tellsCount 65 = .ok (.iconst 1, 1) := dk_4 (dk_at dksX1_tellsCount_3 9 rfl rfl)
theorem dX1_tellsCount_66 : decode cX1_tellsCount 66 = .ok (.goto 4, 3) := dk_167 0 4 (dk_at dksX1_tellsCount_3 10 rfl rfl)
theorem dX1_tellsCount_69 : decode cX1_tellsCount 69 = .ok (.iconst 0, 1) := dk_3 (dk_at dksX1_tellsCount_3 13 rfl rfl)
theorem dX1_tellsCount_70 : decode cX1_tellsCount 70 = .ok (.iadd, 1) := dk_96 (dk_at dksX1_tellsCount_3 14 rfl rfl)
theorem dX1_tellsCount_71 : decode cX1_tellsCount 71 = .ok (.istore_n 2, 1) := dk_61 (dk_at dksX1_tellsCount_3 15 rfl rfl)
theorem dX1_tellsCount_72 : decode cX1_tellsCount 72 = .ok (.iinc 3 1, 3) := dk_132 3 1 (dk_at dksX1_tellsCount_3 16 rfl rfl)
theorem dX1_tellsCount_75 : decode cX1_tellsCount 75 = .ok (.goto (-26), 3) := dk_167 255 230 (dk_at dksX1_tellsCount_3 19 rfl rfl)
theorem dX1_tellsCount_78 : decode cX1_tellsCount 78 = .ok (.iload_n 2, 1) := dk_28 (dk_at dksX1_tellsCount_3 22 rfl rfl)
theorem dX1_tellsCount_79 : decode cX1_tellsCount 79 = .ok (.ireturn, 1) := dk_172 (dk_at dksX1_tellsCount_3 23 rfl rfl)
theorem dX1_tellsCount_80 : decode cX1_tellsCount 80 = .ok (.iconst 0, 1) := dk_3 (dk_at dksX1_tellsCount_4 0 rfl rfl)
theorem dX1_tellsCount_81 : decode cX1_tellsCount 81 = .ok (.istore_n 3, 1) := dk_62 (dk_at dksX1_tellsCount_4 1 rfl rfl)
theorem dX1_tellsCount_82 : decode cX1_tellsCount 82 = .ok (.iload_n 3, 1) := dk_29 (dk_at dksX1_tellsCount_4 2 rfl rfl)
theorem dX1_tellsCount_83 : decode cX1_tellsCount 83 = .ok (.iconst 4, 1) := dk_7 (dk_at dksX1_tellsCount_4 3 rfl rfl)
theorem dX1_tellsCount_84 : decode cX1_tellsCount 84 = .ok (.if_icmp .ge 26, 3) := dk_162 0 26 (dk_at dksX1_tellsCount_4 4 rfl rfl)
theorem dX1_tellsCount_87 : decode cX1_tellsCount 87 = .ok (.iload_n 2, 1) := dk_28 (dk_at dksX1_tellsCount_4 7 rfl rfl)
theorem dX1_tellsCount_88 : decode cX1_tellsCount 88 = .ok (.aload_n 0, 1) := dk_42 (dk_at dksX1_tellsCount_4 8 rfl rfl)
theorem dX1_tellsCount_89 : decode cX1_tellsCount 89 = .ok (.getfield 13, 3) := dk_180 0 13 (dk_at dksX1_tellsCount_4 9 rfl rfl)
theorem dX1_tellsCount_92 : decode cX1_tellsCount 92 = .ok (.iload_n 3, 1) := dk_29 (dk_at dksX1_tellsCount_4 12 rfl rfl)
theorem dX1_tellsCount_93 : decode cX1_tellsCount 93 = .ok (.iaload, 1) := dk_46 (dk_at dksX1_tellsCount_4 13 rfl rfl)
theorem dX1_tellsCount_94 : decode cX1_tellsCount 94 = .ok (.ifCond .ge 7, 3) := dk_156 0 7 (dk_at dksX1_tellsCount_4 14 rfl rfl)
theorem dX1_tellsCount_97 : decode cX1_tellsCount 97 = .ok (.iconst 0, 1) := dk_3 (dk_at dksX1_tellsCount_4 17 rfl rfl)
theorem dX1_tellsCount_98 : decode cX1_tellsCount 98 = .ok (.goto 4, 3) := dk_167 0 4 (dk_at dksX1_tellsCount_4 18 rfl rfl)
theorem dX1_tellsCount_101 : decode cX1_tellsCount 101 = .ok (.iconst 1, 1) := dk_4 (dk_at dksX1_tellsCount_4 21 rfl rfl)
theorem dX1_tellsCount_102 : decode cX1_tellsCount 102 = .ok (.iadd, 1) := dk_96 (dk_at dksX1_tellsCount_4 22 rfl rfl)
theorem dX1_tellsCount_103 : decode cX1_tellsCount 103 = .ok (.istore_n 2, 1) := dk_61 (dk_at dksX1_tellsCount_4 23 rfl rfl)
theorem dX1_tellsCount_104 : decode cX1_tellsCount 104 = .ok (.iinc 3 1, 3) := dk_132 3 1 (dk_at dksX1_tellsCount_5 0 rfl rfl)
theorem dX1_tellsCount_107 : decode cX1_tellsCount 107 = .ok (.goto (-25), 3) := dk_167 255 231 (dk_at dksX1_tellsCount_5 3 rfl rfl)
theorem dX1_tellsCount_110 : decode cX1_tellsCount 110 = .ok (.iload_n 2, 1) := dk_28 (dk_at dksX1_tellsCount_5 6 rfl rfl)
theorem dX1_tellsCount_111 : decode cX1_tellsCount 111 = .ok (.ireturn, 1) := dk_172 (dk_at dksX1_tellsCount_5 7 rfl rfl)
abbrev cX1_digest : ByteArray := prog_8_method_92_code
def yX1_digest : MethodName := ⟨RX1, "digest", "()J"⟩
def dkwX1_digest_5 : List UInt8 := [133, 182, 1, 90, 132, 2, 1, 167, 255, 227, 132, 1, 1, 167, 255, 203, 42, 180, 1, 87, 173]
abbrev dktX1_digest_5 : List UInt8 := dkwX1_digest_5 ++ []
def dkwX1_digest_4 : List UInt8 := [3, 61, 28, 42, 180, 0, 13, 27, 46, 162, 0, 25, 42, 42, 180, 0, 16, 16, 60, 27, 104, 28, 96, 51]
abbrev dktX1_digest_4 : List UInt8 := dkwX1_digest_4 ++ dktX1_digest_5
def dkwX1_digest_3 : List UInt8 := [132, 1, 1, 167, 255, 223, 3, 60, 27, 7, 162, 0, 54, 42, 42, 180, 0, 13, 27, 46, 133, 182, 1, 90]
abbrev dktX1_digest_3 : List UInt8 := dkwX1_digest_3 ++ dktX1_digest_4
def dkwX1_digest_2 : List UInt8 := [180, 0, 23, 27, 51, 153, 0, 11, 42, 27, 182, 1, 96, 167, 0, 10, 42, 20, 1, 52, 182, 1, 90]
abbrev dktX1_digest_2 : List UInt8 := dkwX1_digest_2 ++ dktX1_digest_3
def dkwX1_digest_1 : List UInt8 := [132, 1, 1, 167, 255, 238, 42, 42, 180, 0, 237, 182, 1, 90, 3, 60, 27, 16, 8, 162, 0, 33, 42]
abbrev dktX1_digest_1 : List UInt8 := dkwX1_digest_1 ++ dktX1_digest_2
def dkwX1_digest_0 : List UInt8 := [42, 20, 1, 94, 181, 1, 87, 3, 60, 27, 8, 162, 0, 19, 42, 42, 27, 182, 1, 82, 133, 182, 1, 90]
abbrev dktX1_digest_0 : List UInt8 := dkwX1_digest_0 ++ dktX1_digest_1
theorem dksX1_digest_0 : cX1_digest.data.toList.drop 0 = dktX1_digest_0 := by decide +kernel
theorem dksX1_digest_1 : cX1_digest.data.toList.drop 24 = dktX1_digest_1 := dk_seg dksX1_digest_0 24 rfl rfl
theorem dksX1_digest_2 : cX1_digest.data.toList.drop 47 = dktX1_digest_2 := dk_seg dksX1_digest_1 23 rfl rfl
theorem dksX1_digest_3 : cX1_digest.data.toList.drop 70 = dktX1_digest_3 := dk_seg dksX1_digest_2 23 rfl rfl
theorem dksX1_digest_4 : cX1_digest.data.toList.drop 94 = dktX1_digest_4 := dk_seg dksX1_digest_3 24 rfl rfl
theorem dksX1_digest_5 : cX1_digest.data.toList.drop 118 = dktX1_digest_5 := dk_seg dksX1_digest_4 24 rfl rfl
theorem dX1_digest_0 : decode cX1_digest 0 = .ok (.aload_n 0, 1) := dk_42 (dk_at dksX1_digest_0 0 rfl rfl)
theorem dX1_digest_1 : decode cX1_digest 1 = .ok (.ldc2_w 350, 3) := dk_20 1 94 (dk_at dksX1_digest_0 1 rfl rfl)
theorem dX1_digest_4 : decode cX1_digest 4 = .ok (.putfield 343, 3) := dk_181 1 87 (dk_at dksX1_digest_0 4 rfl rfl)
theorem dX1_digest_7 : decode cX1_digest 7 = .ok (.iconst 0, 1) := dk_3 (dk_at dksX1_digest_0 7 rfl rfl)
theorem dX1_digest_8 : decode cX1_digest 8 = .ok (.istore_n 1, 1) := dk_60 (dk_at dksX1_digest_0 8 rfl rfl)
theorem dX1_digest_9 : decode cX1_digest 9 = .ok (.iload_n 1, 1) := dk_27 (dk_at dksX1_digest_0 9 rfl rfl)
theorem dX1_digest_10 : decode cX1_digest 10 = .ok (.iconst 5, 1) := dk_8 (dk_at dksX1_digest_0 10 rfl rfl)
theorem dX1_digest_11 : decode cX1_digest 11 = .ok (.if_icmp .ge 19, 3) := dk_162 0 19 (dk_at dksX1_digest_0 11 rfl rfl)
theorem dX1_digest_14 : decode cX1_digest 14 = .ok (.aload_n 0, 1) := dk_42 (dk_at dksX1_digest_0 14 rfl rfl)
theorem dX1_digest_15 : decode cX1_digest 15 = .ok (.aload_n 0, 1) := dk_42 (dk_at dksX1_digest_0 15 rfl rfl)
theorem dX1_digest_16 : decode cX1_digest 16 = .ok (.iload_n 1, 1) := dk_27 (dk_at dksX1_digest_0 16 rfl rfl)
theorem dX1_digest_17 : decode cX1_digest 17 = .ok (.invokevirtual 338, 3) := dk_182 1 82 (dk_at dksX1_digest_0 17 rfl rfl)
theorem dX1_digest_20 : decode cX1_digest 20 = .ok (.i2l, 1) := dk_133 (dk_at dksX1_digest_0 20 rfl rfl)
theorem dX1_digest_21 : decode cX1_digest 21 = .ok (.invokevirtual 346, 3) := dk_182 1 90 (dk_at dksX1_digest_0 21 rfl rfl)
theorem dX1_digest_24 : decode cX1_digest 24 = .ok (.iinc 1 1, 3) := dk_132 1 1 (dk_at dksX1_digest_1 0 rfl rfl)
theorem dX1_digest_27 : decode cX1_digest 27 = .ok (.goto (-18), 3) := dk_167 255 238 (dk_at dksX1_digest_1 3 rfl rfl)
theorem dX1_digest_30 : decode cX1_digest 30 = .ok (.aload_n 0, 1) := dk_42 (dk_at dksX1_digest_1 6 rfl rfl)
theorem dX1_digest_31 : decode cX1_digest 31 = .ok (.aload_n 0, 1) := dk_42 (dk_at dksX1_digest_1 7 rfl rfl)
theorem dX1_digest_32 : decode cX1_digest 32 = .ok (.getfield 237, 3) := dk_180 0 237 (dk_at dksX1_digest_1 8 rfl rfl)
theorem dX1_digest_35 : decode cX1_digest 35 = .ok (.invokevirtual 346, 3) := dk_182 1 90 (dk_at dksX1_digest_1 11 rfl rfl)
theorem dX1_digest_38 : decode cX1_digest 38 = .ok (.iconst 0, 1) := dk_3 (dk_at dksX1_digest_1 14 rfl rfl)
theorem dX1_digest_39 : decode cX1_digest 39 = .ok (.istore_n 1, 1) := dk_60 (dk_at dksX1_digest_1 15 rfl rfl)
theorem dX1_digest_40 : decode cX1_digest 40 = .ok (.iload_n 1, 1) := dk_27 (dk_at dksX1_digest_1 16 rfl rfl)
theorem dX1_digest_41 : decode cX1_digest 41 = .ok (.bipush 8, 2) := dk_16 8 (dk_at dksX1_digest_1 17 rfl rfl)
theorem dX1_digest_43 : decode cX1_digest 43 = .ok (.if_icmp .ge 33, 3) := dk_162 0 33 (dk_at dksX1_digest_1 19 rfl rfl)
theorem dX1_digest_46 : decode cX1_digest 46 = .ok (.aload_n 0, 1) := dk_42 (dk_at dksX1_digest_1 22 rfl rfl)
theorem dX1_digest_47 : decode cX1_digest 47 = .ok (.getfield 23, 3) := dk_180 0 23 (dk_at dksX1_digest_2 0 rfl rfl)
theorem dX1_digest_50 : decode cX1_digest 50 = .ok (.iload_n 1, 1) := dk_27 (dk_at dksX1_digest_2 3 rfl rfl)
theorem dX1_digest_51 : decode cX1_digest 51 = .ok (.baload, 1) := dk_51 (dk_at dksX1_digest_2 4 rfl rfl)
theorem dX1_digest_52 : decode cX1_digest 52 = .ok (.ifCond .eq 11, 3) := dk_153 0 11 (dk_at dksX1_digest_2 5 rfl rfl)
theorem dX1_digest_55 : decode cX1_digest 55 = .ok (.aload_n 0, 1) := dk_42 (dk_at dksX1_digest_2 8 rfl rfl)
theorem dX1_digest_56 : decode cX1_digest 56 = .ok (.iload_n 1, 1) := dk_27 (dk_at dksX1_digest_2 9 rfl rfl)
theorem dX1_digest_57 : decode cX1_digest 57 = .ok (.invokevirtual 352, 3) := dk_182 1 96 (dk_at dksX1_digest_2 10 rfl rfl)
theorem dX1_digest_60 : decode cX1_digest 60 = .ok (.goto 10, 3) := dk_167 0 10 (dk_at dksX1_digest_2 13 rfl rfl)
theorem dX1_digest_63 : decode cX1_digest 63 = .ok (.aload_n 0, 1) := dk_42 (dk_at dksX1_digest_2 16 rfl rfl)
theorem dX1_digest_64 : decode cX1_digest 64 = .ok (.ldc2_w 308, 3) := dk_20 1 52 (dk_at dksX1_digest_2 17 rfl rfl)
theorem dX1_digest_67 : decode cX1_digest 67 = .ok (.invokevirtual 346, 3) := dk_182 1 90 (dk_at dksX1_digest_2 20 rfl rfl)
theorem dX1_digest_70 : decode cX1_digest 70 = .ok (.iinc 1 1, 3) := dk_132 1 1 (dk_at dksX1_digest_3 0 rfl rfl)
theorem dX1_digest_73 : decode cX1_digest 73 = .ok (.goto (-33), 3) := dk_167 255 223 (dk_at dksX1_digest_3 3 rfl rfl)
theorem dX1_digest_76 : decode cX1_digest 76 = .ok (.iconst 0, 1) := dk_3 (dk_at dksX1_digest_3 6 rfl rfl)
theorem dX1_digest_77 : decode cX1_digest 77 = .ok (.istore_n 1, 1) := dk_60 (dk_at dksX1_digest_3 7 rfl rfl)
theorem dX1_digest_78 : decode cX1_digest 78 = .ok (.iload_n 1, 1) := dk_27 (dk_at dksX1_digest_3 8 rfl rfl)
theorem dX1_digest_79 : decode cX1_digest 79 = .ok (.iconst 4, 1) := dk_7 (dk_at dksX1_digest_3 9 rfl rfl)
theorem dX1_digest_80 : decode cX1_digest 80 = .ok (.if_icmp .ge 54, 3) := dk_162 0 54 (dk_at dksX1_digest_3 10 rfl rfl)
theorem dX1_digest_83 : decode cX1_digest 83 = .ok (.aload_n 0, 1) := dk_42 (dk_at dksX1_digest_3 13 rfl rfl)
theorem dX1_digest_84 : decode cX1_digest 84 = .ok (.aload_n 0, 1) := dk_42 (dk_at dksX1_digest_3 14 rfl rfl)
theorem dX1_digest_85 : decode cX1_digest 85 = .ok (.getfield 13, 3) := dk_180 0 13 (dk_at dksX1_digest_3 15 rfl rfl)
theorem dX1_digest_88 : decode cX1_digest 88 = .ok (.iload_n 1, 1) := dk_27 (dk_at dksX1_digest_3 18 rfl rfl)
theorem dX1_digest_89 : decode cX1_digest 89 = .ok (.iaload, 1) := dk_46 (dk_at dksX1_digest_3 19 rfl rfl)
theorem dX1_digest_90 : decode cX1_digest 90 = .ok (.i2l, 1) := dk_133 (dk_at dksX1_digest_3 20 rfl rfl)
theorem dX1_digest_91 : decode cX1_digest 91 = .ok (.invokevirtual 346, 3) := dk_182 1 90 (dk_at dksX1_digest_3 21 rfl rfl)
theorem dX1_digest_94 : decode cX1_digest 94 = .ok (.iconst 0, 1) := dk_3 (dk_at dksX1_digest_4 0 rfl rfl)
theorem dX1_digest_95 : decode cX1_digest 95 = .ok (.istore_n 2, 1) := dk_61 (dk_at dksX1_digest_4 1 rfl rfl)
theorem dX1_digest_96 : decode cX1_digest 96 = .ok (.iload_n 2, 1) := dk_28 (dk_at dksX1_digest_4 2 rfl rfl)
theorem dX1_digest_97 : decode cX1_digest 97 = .ok (.aload_n 0, 1) := dk_42 (dk_at dksX1_digest_4 3 rfl rfl)
theorem dX1_digest_98 : decode cX1_digest 98 = .ok (.getfield 13, 3) := dk_180 0 13 (dk_at dksX1_digest_4 4 rfl rfl)
theorem dX1_digest_101 : decode cX1_digest 101 = .ok (.iload_n 1, 1) := dk_27 (dk_at dksX1_digest_4 7 rfl rfl)
theorem dX1_digest_102 : decode cX1_digest 102 = .ok (.iaload, 1) := dk_46 (dk_at dksX1_digest_4 8 rfl rfl)
theorem dX1_digest_103 : decode cX1_digest 103 = .ok (.if_icmp .ge 25, 3) := dk_162 0 25 (dk_at dksX1_digest_4 9 rfl rfl)
theorem dX1_digest_106 : decode cX1_digest 106 = .ok (.aload_n 0, 1) := dk_42 (dk_at dksX1_digest_4 12 rfl rfl)
theorem dX1_digest_107 : decode cX1_digest 107 = .ok (.aload_n 0, 1) := dk_42 (dk_at dksX1_digest_4 13 rfl rfl)
theorem dX1_digest_108 : decode cX1_digest 108 = .ok (.getfield 16, 3) := dk_180 0 16 (dk_at dksX1_digest_4 14 rfl rfl)
theorem dX1_digest_111 : decode cX1_digest 111 = .ok (.bipush 60, 2) := dk_16 60 (dk_at dksX1_digest_4 17 rfl rfl)
theorem dX1_digest_113 : decode cX1_digest 113 = .ok (.iload_n 1, 1) := dk_27 (dk_at dksX1_digest_4 19 rfl rfl)
theorem dX1_digest_114 : decode cX1_digest 114 = .ok (.imul, 1) := dk_104 (dk_at dksX1_digest_4 20 rfl rfl)
theorem dX1_digest_115 : decode cX1_digest 115 = .ok (.iload_n 2, 1) := dk_28 (dk_at dksX1_digest_4 21 rfl rfl)
theorem dX1_digest_116 : decode cX1_digest 116 = .ok (.iadd, 1) := dk_96 (dk_at dksX1_digest_4 22 rfl rfl)
theorem dX1_digest_117 : decode cX1_digest 117 = .ok (.baload, 1) := dk_51 (dk_at dksX1_digest_4 23 rfl rfl)
theorem dX1_digest_118 : decode cX1_digest 118 = .ok (.i2l, 1) := dk_133 (dk_at dksX1_digest_5 0 rfl rfl)
theorem dX1_digest_119 : decode cX1_digest 119 = .ok (.invokevirtual 346, 3) := dk_182 1 90 (dk_at dksX1_digest_5 1 rfl rfl)
theorem dX1_digest_122 : decode cX1_digest 122 = .ok (.iinc 2 1, 3) := dk_132 2 1 (dk_at dksX1_digest_5 4 rfl rfl)
theorem dX1_digest_125 : decode cX1_digest 125 = .ok (.goto (-29), 3) := dk_167 255 227 (dk_at dksX1_digest_5 7 rfl rfl)
theorem dX1_digest_128 : decode cX1_digest 128 = .ok (.iinc 1 1, 3) := dk_132 1 1 (dk_at dksX1_digest_5 10 rfl rfl)
theorem dX1_digest_131 : decode cX1_digest 131 = .ok (.goto (-53), 3) := dk_167 255 203 (dk_at dksX1_digest_5 13 rfl rfl)
theorem dX1_digest_134 : decode cX1_digest 134 = .ok (.aload_n 0, 1) := dk_42 (dk_at dksX1_digest_5 16 rfl rfl)
theorem dX1_digest_135 : decode cX1_digest 135 = .ok (.getfield 343, 3) := dk_180 1 87 (dk_at dksX1_digest_5 17 rfl rfl)
theorem dX1_digest_138 : decode cX1_digest 138 = .ok (.lreturn, 1) := dk_173 (dk_at dksX1_digest_5 20 rfl rfl)
abbrev cX1_tell : ByteArray := prog_8_method_90_code
def yX1_tell : MethodName := ⟨RX1, "tell", "(J)V"⟩
def dkwX1_tell_0 : List UInt8 := [42, 20, 1, 85, 42, 180, 1, 87, 105, 31, 97, 181, 1, 87, 177]
abbrev dktX1_tell_0 : List UInt8 := dkwX1_tell_0 ++ []
theorem dksX1_tell_0 : cX1_tell.data.toList.drop 0 = dktX1_tell_0 := by decide +kernel
theorem dX1_tell_0 : decode cX1_tell 0 = .ok (.aload_n 0, 1) := dk_42 (dk_at dksX1_tell_0 0 rfl rfl)
theorem dX1_tell_1 : decode cX1_tell 1 = .ok (.ldc2_w 341, 3) := dk_20 1 85 (dk_at dksX1_tell_0 1 rfl rfl)
theorem dX1_tell_4 : decode cX1_tell 4 = .ok (.aload_n 0, 1) := dk_42 (dk_at dksX1_tell_0 4 rfl rfl)
theorem dX1_tell_5 : decode cX1_tell 5 = .ok (.getfield 343, 3) := dk_180 1 87 (dk_at dksX1_tell_0 5 rfl rfl)
theorem dX1_tell_8 : decode cX1_tell 8 = .ok (.lmul, 1) := dk_105 (dk_at dksX1_tell_0 8 rfl rfl)
theorem dX1_tell_9 : decode cX1_tell 9 = .ok (.lload_n 1, 1) := dk_31 (dk_at dksX1_tell_0 9 rfl rfl)
theorem dX1_tell_10 : decode cX1_tell 10 = .ok (.ladd, 1) := dk_97 (dk_at dksX1_tell_0 10 rfl rfl)
theorem dX1_tell_11 : decode cX1_tell 11 = .ok (.putfield 343, 3) := dk_181 1 87 (dk_at dksX1_tell_0 11 rfl rfl)
theorem dX1_tell_14 : decode cX1_tell 14 = .ok (.return_, 1) := dk_177 (dk_at dksX1_tell_0 14 rfl rfl)
abbrev cX1_tellBeing : ByteArray := prog_8_method_91_code
def yX1_tellBeing : MethodName := ⟨RX1, "tellBeing", "(I)V"⟩
def dkwX1_tellBeing_9 : List UInt8 := [167, 255, 222, 177]
abbrev dktX1_tellBeing_9 : List UInt8 := dkwX1_tellBeing_9 ++ []
def dkwX1_tellBeing_8 : List UInt8 := [28, 51, 153, 0, 19, 42, 42, 180, 0, 66, 16, 8, 27, 104, 28, 96, 46, 133, 182, 1, 90, 132, 2, 1]
abbrev dktX1_tellBeing_8 : List UInt8 := dkwX1_tellBeing_8 ++ dktX1_tellBeing_9
def dkwX1_tellBeing_7 : List UInt8 := [29, 46, 133, 182, 1, 90, 132, 2, 1, 167, 255, 198, 3, 61, 28, 16, 8, 162, 0, 34, 42, 180, 0, 23]
abbrev dktX1_tellBeing_7 : List UInt8 := dkwX1_tellBeing_7 ++ dktX1_tellBeing_8
def dkwX1_tellBeing_6 : List UInt8 := [180, 0, 54, 29, 46, 158, 0, 25, 42, 42, 180, 0, 57, 29, 46, 133, 182, 1, 90, 42, 42, 180, 0, 60]
abbrev dktX1_tellBeing_6 : List UInt8 := dkwX1_tellBeing_6 ++ dktX1_tellBeing_7
def dkwX1_tellBeing_5 : List UInt8 := [16, 8, 162, 0, 58, 16, 8, 27, 104, 28, 96, 62, 42, 42, 180, 0, 54, 29, 46, 133, 182, 1, 90, 42]
abbrev dktX1_tellBeing_5 : List UInt8 := dkwX1_tellBeing_5 ++ dktX1_tellBeing_6
def dkwX1_tellBeing_4 : List UInt8 := [42, 42, 180, 0, 63, 7, 27, 104, 28, 96, 46, 133, 182, 1, 90, 132, 2, 1, 167, 255, 233, 3, 61, 28]
abbrev dktX1_tellBeing_4 : List UInt8 := dkwX1_tellBeing_4 ++ dktX1_tellBeing_5
def dkwX1_tellBeing_3 : List UInt8 := [27, 46, 133, 182, 1, 90, 42, 42, 180, 0, 45, 27, 46, 133, 182, 1, 90, 3, 61, 28, 7, 162, 0, 24]
abbrev dktX1_tellBeing_3 : List UInt8 := dkwX1_tellBeing_3 ++ dktX1_tellBeing_4
def dkwX1_tellBeing_2 : List UInt8 := [42, 42, 180, 0, 39, 27, 46, 133, 182, 1, 90, 42, 27, 182, 0, 168, 153, 0, 25, 42, 42, 180, 0, 42]
abbrev dktX1_tellBeing_2 : List UInt8 := dkwX1_tellBeing_2 ++ dktX1_tellBeing_3
def dkwX1_tellBeing_1 : List UInt8 := [167, 255, 236, 42, 180, 0, 27, 27, 46, 4, 160, 0, 25, 42, 42, 180, 0, 36, 27, 46, 133, 182, 1, 90]
abbrev dktX1_tellBeing_1 : List UInt8 := dkwX1_tellBeing_1 ++ dktX1_tellBeing_2
def dkwX1_tellBeing_0 : List UInt8 := [3, 61, 28, 16, 6, 162, 0, 20, 42, 42, 27, 28, 182, 0, 197, 133, 182, 1, 90, 132, 2, 1]
abbrev dktX1_tellBeing_0 : List UInt8 := dkwX1_tellBeing_0 ++ dktX1_tellBeing_1
theorem dksX1_tellBeing_0 : cX1_tellBeing.data.toList.drop 0 = dktX1_tellBeing_0 := by decide +kernel
theorem dksX1_tellBeing_1 : cX1_tellBeing.data.toList.drop 22 = dktX1_tellBeing_1 := dk_seg dksX1_tellBeing_0 22 rfl rfl
theorem dksX1_tellBeing_2 : cX1_tellBeing.data.toList.drop 46 = dktX1_tellBeing_2 := dk_seg dksX1_tellBeing_1 24 rfl rfl
theorem dksX1_tellBeing_3 : cX1_tellBeing.data.toList.drop 70 = dktX1_tellBeing_3 := dk_seg dksX1_tellBeing_2 24 rfl rfl
theorem dksX1_tellBeing_4 : cX1_tellBeing.data.toList.drop 94 = dktX1_tellBeing_4 := dk_seg dksX1_tellBeing_3 24 rfl rfl
theorem dksX1_tellBeing_5 : cX1_tellBeing.data.toList.drop 118 = dktX1_tellBeing_5 := dk_seg dksX1_tellBeing_4 24 rfl rfl
theorem dksX1_tellBeing_6 : cX1_tellBeing.data.toList.drop 142 = dktX1_tellBeing_6 := dk_seg dksX1_tellBeing_5 24 rfl rfl
theorem dksX1_tellBeing_7 : cX1_tellBeing.data.toList.drop 166 = dktX1_tellBeing_7 := dk_seg dksX1_tellBeing_6 24 rfl rfl
theorem dksX1_tellBeing_8 : cX1_tellBeing.data.toList.drop 190 = dktX1_tellBeing_8 := dk_seg dksX1_tellBeing_7 24 rfl rfl
theorem dksX1_tellBeing_9 : cX1_tellBeing.data.toList.drop 214 = dktX1_tellBeing_9 := dk_seg dksX1_tellBeing_8 24 rfl rfl
theorem dX1_tellBeing_0 : decode cX1_tellBeing 0 = .ok (.iconst 0, 1) := dk_3 (dk_at dksX1_tellBeing_0 0 rfl rfl)
theorem dX1_tellBeing_1 : decode cX1_tellBeing 1 = .ok (.istore_n 2, 1) := dk_61 (dk_at dksX1_tellBeing_0 1 rfl rfl)
theorem dX1_tellBeing_2 : decode cX1_tellBeing 2 = .ok (.iload_n 2, 1) := dk_28 (dk_at dksX1_tellBeing_0 2 rfl rfl)
theorem dX1_tellBeing_3 : decode cX1_tellBeing 3 = .ok (.bipush 6, 2) := dk_16 6 (dk_at dksX1_tellBeing_0 3 rfl rfl)
theorem dX1_tellBeing_5 : decode cX1_tellBeing 5 = .ok (.if_icmp .ge 20, 3) := dk_162 0 20 (dk_at dksX1_tellBeing_0 5 rfl rfl)
theorem dX1_tellBeing_8 : decode cX1_tellBeing 8 = .ok (.aload_n 0, 1) := dk_42 (dk_at dksX1_tellBeing_0 8 rfl rfl)
theorem dX1_tellBeing_9 : decode cX1_tellBeing 9 = .ok (.aload_n 0, 1) := dk_42 (dk_at dksX1_tellBeing_0 9 rfl rfl)
theorem dX1_tellBeing_10 : decode cX1_tellBeing 10 = .ok (.iload_n 1, 1) := dk_27 (dk_at dksX1_tellBeing_0 10 rfl rfl)
theorem dX1_tellBeing_11 : decode cX1_tellBeing 11 = .ok (.iload_n 2, 1) := dk_28 (dk_at dksX1_tellBeing_0 11 rfl rfl)
theorem dX1_tellBeing_12 : decode cX1_tellBeing 12 = .ok (.invokevirtual 197, 3) := dk_182 0 197 (dk_at dksX1_tellBeing_0 12 rfl rfl)
theorem dX1_tellBeing_15 : decode cX1_tellBeing 15 = .ok (.i2l, 1) := dk_133 (dk_at dksX1_tellBeing_0 15 rfl rfl)
theorem dX1_tellBeing_16 : decode cX1_tellBeing 16 = .ok (.invokevirtual 346, 3) := dk_182 1 90 (dk_at dksX1_tellBeing_0 16 rfl rfl)
theorem dX1_tellBeing_19 : decode cX1_tellBeing 19 = .ok (.iinc 2 1, 3) := dk_132 2 1 (dk_at dksX1_tellBeing_0 19 rfl rfl)
theorem dX1_tellBeing_22 : decode cX1_tellBeing 22 = .ok (.goto (-20), 3) := dk_167 255 236 (dk_at dksX1_tellBeing_1 0 rfl rfl)
theorem dX1_tellBeing_25 : decode cX1_tellBeing 25 = .ok (.aload_n 0, 1) := dk_42 (dk_at dksX1_tellBeing_1 3 rfl rfl)
theorem dX1_tellBeing_26 : decode cX1_tellBeing 26 = .ok (.getfield 27, 3) := dk_180 0 27 (dk_at dksX1_tellBeing_1 4 rfl rfl)
theorem dX1_tellBeing_29 : decode cX1_tellBeing 29 = .ok (.iload_n 1, 1) := dk_27 (dk_at dksX1_tellBeing_1 7 rfl rfl)
theorem dX1_tellBeing_30 : decode cX1_tellBeing 30 = .ok (.iaload, 1) := dk_46 (dk_at dksX1_tellBeing_1 8 rfl rfl)
theorem dX1_tellBeing_31 : decode cX1_tellBeing 31 = .ok (.iconst 1, 1) := dk_4 (dk_at dksX1_tellBeing_1 9 rfl rfl)
theorem dX1_tellBeing_32 : decode cX1_tellBeing 32 = .ok (.if_icmp .ne 25, 3) := dk_160 0 25 (dk_at dksX1_tellBeing_1 10 rfl rfl)
theorem dX1_tellBeing_35 : decode cX1_tellBeing 35 = .ok (.aload_n 0, 1) := dk_42 (dk_at dksX1_tellBeing_1 13 rfl rfl)
theorem dX1_tellBeing_36 : decode cX1_tellBeing 36 = .ok (.aload_n 0, 1) := dk_42 (dk_at dksX1_tellBeing_1 14 rfl rfl)
theorem dX1_tellBeing_37 : decode cX1_tellBeing 37 = .ok (.getfield 36, 3) := dk_180 0 36 (dk_at dksX1_tellBeing_1 15 rfl rfl)
theorem dX1_tellBeing_40 : decode cX1_tellBeing 40 = .ok (.iload_n 1, 1) := dk_27 (dk_at dksX1_tellBeing_1 18 rfl rfl)
theorem dX1_tellBeing_41 : decode cX1_tellBeing 41 = .ok (.iaload, 1) := dk_46 (dk_at dksX1_tellBeing_1 19 rfl rfl)
theorem dX1_tellBeing_42 : decode cX1_tellBeing 42 = .ok (.i2l, 1) := dk_133 (dk_at dksX1_tellBeing_1 20 rfl rfl)
theorem dX1_tellBeing_43 : decode cX1_tellBeing 43 = .ok (.invokevirtual 346, 3) := dk_182 1 90 (dk_at dksX1_tellBeing_1 21 rfl rfl)
theorem dX1_tellBeing_46 : decode cX1_tellBeing 46 = .ok (.aload_n 0, 1) := dk_42 (dk_at dksX1_tellBeing_2 0 rfl rfl)
theorem dX1_tellBeing_47 : decode cX1_tellBeing 47 = .ok (.aload_n 0, 1) := dk_42 (dk_at dksX1_tellBeing_2 1 rfl rfl)
theorem dX1_tellBeing_48 : decode cX1_tellBeing 48 = .ok (.getfield 39, 3) := dk_180 0 39 (dk_at dksX1_tellBeing_2 2 rfl rfl)
theorem dX1_tellBeing_51 : decode cX1_tellBeing 51 = .ok (.iload_n 1, 1) := dk_27 (dk_at dksX1_tellBeing_2 5 rfl rfl)
theorem dX1_tellBeing_52 : decode cX1_tellBeing 52 = .ok (.iaload, 1) := dk_46 (dk_at dksX1_tellBeing_2 6 rfl rfl)
theorem dX1_tellBeing_53 : decode cX1_tellBeing 53 = .ok (.i2l, 1) := dk_133 (dk_at dksX1_tellBeing_2 7 rfl rfl)
theorem dX1_tellBeing_54 : decode cX1_tellBeing 54 = .ok (.invokevirtual 346, 3) := dk_182 1 90 (dk_at dksX1_tellBeing_2 8 rfl rfl)
theorem dX1_tellBeing_57 : decode cX1_tellBeing 57 = .ok (.aload_n 0, 1) := dk_42 (dk_at dksX1_tellBeing_2 11 rfl rfl)
theorem dX1_tellBeing_58 : decode cX1_tellBeing 58 = .ok (.iload_n 1, 1) := dk_27 (dk_at dksX1_tellBeing_2 12 rfl rfl)
theorem dX1_tellBeing_59 : decode cX1_tellBeing 59 = .ok (.invokevirtual 168, 3) := dk_182 0 168 (dk_at dksX1_tellBeing_2 13 rfl rfl)
theorem dX1_tellBeing_62 : decode cX1_tellBeing 62 = .ok (.ifCond .eq 25, 3) := dk_153 0 25 (dk_at dksX1_tellBeing_2 16 rfl rfl)
theorem dX1_tellBeing_65 : decode cX1_tellBeing 65 = .ok (.aload_n 0, 1) := dk_42 (dk_at dksX1_tellBeing_2 19 rfl rfl)
theorem dX1_tellBeing_66 : decode cX1_tellBeing 66 = .ok (.aload_n 0, 1) := dk_42 (dk_at dksX1_tellBeing_2 20 rfl rfl)
theorem dX1_tellBeing_67 : decode cX1_tellBeing 67 = .ok (.getfield 42, 3) := dk_180 0 42 (dk_at dksX1_tellBeing_2 21 rfl rfl)
theorem dX1_tellBeing_70 : decode cX1_tellBeing 70 = .ok (.iload_n 1, 1) := dk_27 (dk_at dksX1_tellBeing_3 0 rfl rfl)
theorem dX1_tellBeing_71 : decode cX1_tellBeing 71 = .ok (.iaload, 1) := dk_46 (dk_at dksX1_tellBeing_3 1 rfl rfl)
theorem dX1_tellBeing_72 : decode cX1_tellBeing 72 = .ok (.i2l, 1) := dk_133 (dk_at dksX1_tellBeing_3 2 rfl rfl)
theorem dX1_tellBeing_73 : decode cX1_tellBeing 73 = .ok (.invokevirtual 346, 3) := dk_182 1 90 (dk_at dksX1_tellBeing_3 3 rfl rfl)
theorem dX1_tellBeing_76 : decode cX1_tellBeing 76 = .ok (.aload_n 0, 1) := dk_42 (dk_at dksX1_tellBeing_3 6 rfl rfl)
theorem dX1_tellBeing_77 : decode cX1_tellBeing 77 = .ok (.aload_n 0, 1) := dk_42 (dk_at dksX1_tellBeing_3 7 rfl rfl)
theorem dX1_tellBeing_78 : decode cX1_tellBeing 78 = .ok (.getfield 45, 3) := dk_180 0 45 (dk_at dksX1_tellBeing_3 8 rfl rfl)
theorem dX1_tellBeing_81 : decode cX1_tellBeing 81 = .ok (.iload_n 1, 1) := dk_27 (dk_at dksX1_tellBeing_3 11 rfl rfl)
theorem dX1_tellBeing_82 : decode cX1_tellBeing 82 = .ok (.iaload, 1) := dk_46 (dk_at dksX1_tellBeing_3 12 rfl rfl)
theorem dX1_tellBeing_83 : decode cX1_tellBeing 83 = .ok (.i2l, 1) := dk_133 (dk_at dksX1_tellBeing_3 13 rfl rfl)
theorem dX1_tellBeing_84 : decode cX1_tellBeing 84 = .ok (.invokevirtual 346, 3) := dk_182 1 90 (dk_at dksX1_tellBeing_3 14 rfl rfl)
theorem dX1_tellBeing_87 : decode cX1_tellBeing 87 = .ok (.iconst 0, 1) := dk_3 (dk_at dksX1_tellBeing_3 17 rfl rfl)
theorem dX1_tellBeing_88 : decode cX1_tellBeing 88 = .ok (.istore_n 2, 1) := dk_61 (dk_at dksX1_tellBeing_3 18 rfl rfl)
theorem dX1_tellBeing_89 : decode cX1_tellBeing 89 = .ok (.iload_n 2, 1) := dk_28 (dk_at dksX1_tellBeing_3 19 rfl rfl)
theorem dX1_tellBeing_90 : decode cX1_tellBeing 90 = .ok (.iconst 4, 1) := dk_7 (dk_at dksX1_tellBeing_3 20 rfl rfl)
theorem dX1_tellBeing_91 : decode cX1_tellBeing 91 = .ok (.if_icmp .ge 24, 3) := dk_162 0 24 (dk_at dksX1_tellBeing_3 21 rfl rfl)
theorem dX1_tellBeing_94 : decode cX1_tellBeing 94 = .ok (.aload_n 0, 1) := dk_42 (dk_at dksX1_tellBeing_4 0 rfl rfl)
theorem dX1_tellBeing_95 : decode cX1_tellBeing 95 = .ok (.aload_n 0, 1) := dk_42 (dk_at dksX1_tellBeing_4 1 rfl rfl)
theorem dX1_tellBeing_96 : decode cX1_tellBeing 96 = .ok (.getfield 63, 3) := dk_180 0 63 (dk_at dksX1_tellBeing_4 2 rfl rfl)
theorem dX1_tellBeing_99 : decode cX1_tellBeing 99 = .ok (.iconst 4, 1) := dk_7 (dk_at dksX1_tellBeing_4 5 rfl rfl)
theorem dX1_tellBeing_100 : decode cX1_tellBeing 100 = .ok (.iload_n 1, 1) := dk_27 (dk_at dksX1_tellBeing_4 6 rfl rfl)
theorem dX1_tellBeing_101 : decode cX1_tellBeing 101 = .ok (.imul, 1) := dk_104 (dk_at dksX1_tellBeing_4 7 rfl rfl)
theorem dX1_tellBeing_102 : decode cX1_tellBeing 102 = .ok (.iload_n 2, 1) := dk_28 (dk_at dksX1_tellBeing_4 8 rfl rfl)
theorem dX1_tellBeing_103 : decode cX1_tellBeing 103 = .ok (.iadd, 1) := dk_96 (dk_at dksX1_tellBeing_4 9 rfl rfl)
theorem dX1_tellBeing_104 : decode cX1_tellBeing 104 = .ok (.iaload, 1) := dk_46 (dk_at dksX1_tellBeing_4 10 rfl rfl)
theorem dX1_tellBeing_105 : decode cX1_tellBeing 105 = .ok (.i2l, 1) := dk_133 (dk_at dksX1_tellBeing_4 11 rfl rfl)
theorem dX1_tellBeing_106 : decode cX1_tellBeing 106 = .ok (.invokevirtual 346, 3) := dk_182 1 90 (dk_at dksX1_tellBeing_4 12 rfl rfl)
theorem dX1_tellBeing_109 : decode cX1_tellBeing 109 = .ok (.iinc 2 1, 3) := dk_132 2 1 (dk_at dksX1_tellBeing_4 15 rfl rfl)
theorem dX1_tellBeing_112 : decode cX1_tellBeing 112 = .ok (.goto (-23), 3) := dk_167 255 233 (dk_at dksX1_tellBeing_4 18 rfl rfl)
theorem dX1_tellBeing_115 : decode cX1_tellBeing 115 = .ok (.iconst 0, 1) := dk_3 (dk_at dksX1_tellBeing_4 21 rfl rfl)
theorem dX1_tellBeing_116 : decode cX1_tellBeing 116 = .ok (.istore_n 2, 1) := dk_61 (dk_at dksX1_tellBeing_4 22 rfl rfl)
theorem dX1_tellBeing_117 : decode cX1_tellBeing 117 = .ok (.iload_n 2, 1) := dk_28 (dk_at dksX1_tellBeing_4 23 rfl rfl)
theorem dX1_tellBeing_118 : decode cX1_tellBeing 118 = .ok (.bipush 8, 2) := dk_16 8 (dk_at dksX1_tellBeing_5 0 rfl rfl)
theorem dX1_tellBeing_120 : decode cX1_tellBeing 120 = .ok (.if_icmp .ge 58, 3) := dk_162 0 58 (dk_at dksX1_tellBeing_5 2 rfl rfl)
theorem dX1_tellBeing_123 : decode cX1_tellBeing 123 = .ok (.bipush 8, 2) := dk_16 8 (dk_at dksX1_tellBeing_5 5 rfl rfl)
theorem dX1_tellBeing_125 : decode cX1_tellBeing 125 = .ok (.iload_n 1, 1) := dk_27 (dk_at dksX1_tellBeing_5 7 rfl rfl)
theorem dX1_tellBeing_126 : decode cX1_tellBeing 126 = .ok (.imul, 1) := dk_104 (dk_at dksX1_tellBeing_5 8 rfl rfl)
theorem dX1_tellBeing_127 : decode cX1_tellBeing 127 = .ok (.iload_n 2, 1) := dk_28 (dk_at dksX1_tellBeing_5 9 rfl rfl)
theorem dX1_tellBeing_128 : decode cX1_tellBeing 128 = .ok (.iadd, 1) := dk_96 (dk_at dksX1_tellBeing_5 10 rfl rfl)
theorem dX1_tellBeing_129 : decode cX1_tellBeing 129 = .ok (.istore_n 3, 1) := dk_62 (dk_at dksX1_tellBeing_5 11 rfl rfl)
theorem dX1_tellBeing_130 : decode cX1_tellBeing 130 = .ok (.aload_n 0, 1) := dk_42 (dk_at dksX1_tellBeing_5 12 rfl rfl)
theorem dX1_tellBeing_131 : decode cX1_tellBeing 131 = .ok (.aload_n 0, 1) := dk_42 (dk_at dksX1_tellBeing_5 13 rfl rfl)
theorem dX1_tellBeing_132 : decode cX1_tellBeing 132 = .ok (.getfield 54, 3) := dk_180 0 54 (dk_at dksX1_tellBeing_5 14 rfl rfl)
theorem dX1_tellBeing_135 : decode cX1_tellBeing 135 = .ok (.iload_n 3, 1) := dk_29 (dk_at dksX1_tellBeing_5 17 rfl rfl)
theorem dX1_tellBeing_136 : decode cX1_tellBeing 136 = .ok (.iaload, 1) := dk_46 (dk_at dksX1_tellBeing_5 18 rfl rfl)
theorem dX1_tellBeing_137 : decode cX1_tellBeing 137 = .ok (.i2l, 1) := dk_133 (dk_at dksX1_tellBeing_5 19 rfl rfl)
theorem dX1_tellBeing_138 : decode cX1_tellBeing 138 = .ok (.invokevirtual 346, 3) := dk_182 1 90 (dk_at dksX1_tellBeing_5 20 rfl rfl)
theorem dX1_tellBeing_141 : decode cX1_tellBeing 141 = .ok (.aload_n 0, 1) := dk_42 (dk_at dksX1_tellBeing_5 23 rfl rfl)
theorem dX1_tellBeing_142 : decode cX1_tellBeing 142 = .ok (.getfield 54, 3) := dk_180 0 54 (dk_at dksX1_tellBeing_6 0 rfl rfl)
theorem dX1_tellBeing_145 : decode cX1_tellBeing 145 = .ok (.iload_n 3, 1) := dk_29 (dk_at dksX1_tellBeing_6 3 rfl rfl)
theorem dX1_tellBeing_146 : decode cX1_tellBeing 146 = .ok (.iaload, 1) := dk_46 (dk_at dksX1_tellBeing_6 4 rfl rfl)
theorem dX1_tellBeing_147 : decode cX1_tellBeing 147 = .ok (.ifCond .le 25, 3) := dk_158 0 25 (dk_at dksX1_tellBeing_6 5 rfl rfl)
theorem dX1_tellBeing_150 : decode cX1_tellBeing 150 = .ok (.aload_n 0, 1) := dk_42 (dk_at dksX1_tellBeing_6 8 rfl rfl)
theorem dX1_tellBeing_151 : decode cX1_tellBeing 151 = .ok (.aload_n 0, 1) := dk_42 (dk_at dksX1_tellBeing_6 9 rfl rfl)
theorem dX1_tellBeing_152 : decode cX1_tellBeing 152 = .ok (.getfield 57, 3) := dk_180 0 57 (dk_at dksX1_tellBeing_6 10 rfl rfl)
theorem dX1_tellBeing_155 : decode cX1_tellBeing 155 = .ok (.iload_n 3, 1) := dk_29 (dk_at dksX1_tellBeing_6 13 rfl rfl)
theorem dX1_tellBeing_156 : decode cX1_tellBeing 156 = .ok (.iaload, 1) := dk_46 (dk_at dksX1_tellBeing_6 14 rfl rfl)
theorem dX1_tellBeing_157 : decode cX1_tellBeing 157 = .ok (.i2l, 1) := dk_133 (dk_at dksX1_tellBeing_6 15 rfl rfl)
theorem dX1_tellBeing_158 : decode cX1_tellBeing 158 = .ok (.invokevirtual 346, 3) := dk_182 1 90 (dk_at dksX1_tellBeing_6 16 rfl rfl)
theorem dX1_tellBeing_161 : decode cX1_tellBeing 161 = .ok (.aload_n 0, 1) := dk_42 (dk_at dksX1_tellBeing_6 19 rfl rfl)
theorem dX1_tellBeing_162 : decode cX1_tellBeing 162 = .ok (.aload_n 0, 1) := dk_42 (dk_at dksX1_tellBeing_6 20 rfl rfl)
theorem dX1_tellBeing_163 : decode cX1_tellBeing 163 = .ok (.getfield 60, 3) := dk_180 0 60 (dk_at dksX1_tellBeing_6 21 rfl rfl)
theorem dX1_tellBeing_166 : decode cX1_tellBeing 166 = .ok (.iload_n 3, 1) := dk_29 (dk_at dksX1_tellBeing_7 0 rfl rfl)
theorem dX1_tellBeing_167 : decode cX1_tellBeing 167 = .ok (.iaload, 1) := dk_46 (dk_at dksX1_tellBeing_7 1 rfl rfl)
theorem dX1_tellBeing_168 : decode cX1_tellBeing 168 = .ok (.i2l, 1) := dk_133 (dk_at dksX1_tellBeing_7 2 rfl rfl)
theorem dX1_tellBeing_169 : decode cX1_tellBeing 169 = .ok (.invokevirtual 346, 3) := dk_182 1 90 (dk_at dksX1_tellBeing_7 3 rfl rfl)
theorem dX1_tellBeing_172 : decode cX1_tellBeing 172 = .ok (.iinc 2 1, 3) := dk_132 2 1 (dk_at dksX1_tellBeing_7 6 rfl rfl)
theorem dX1_tellBeing_175 : decode cX1_tellBeing 175 = .ok (.goto (-58), 3) := dk_167 255 198 (dk_at dksX1_tellBeing_7 9 rfl rfl)
theorem dX1_tellBeing_178 : decode cX1_tellBeing 178 = .ok (.iconst 0, 1) := dk_3 (dk_at dksX1_tellBeing_7 12 rfl rfl)
theorem dX1_tellBeing_179 : decode cX1_tellBeing 179 = .ok (.istore_n 2, 1) := dk_61 (dk_at dksX1_tellBeing_7 13 rfl rfl)
theorem dX1_tellBeing_180 : decode cX1_tellBeing 180 = .ok (.iload_n 2, 1) := dk_28 (dk_at dksX1_tellBeing_7 14 rfl rfl)
theorem dX1_tellBeing_181 : decode cX1_tellBeing 181 = .ok (.bipush 8, 2) := dk_16 8 (dk_at dksX1_tellBeing_7 15 rfl rfl)
theorem dX1_tellBeing_183 : decode cX1_tellBeing 183 = .ok (.if_icmp .ge 34, 3) := dk_162 0 34 (dk_at dksX1_tellBeing_7 17 rfl rfl)
theorem dX1_tellBeing_186 : decode cX1_tellBeing 186 = .ok (.aload_n 0, 1) := dk_42 (dk_at dksX1_tellBeing_7 20 rfl rfl)
theorem dX1_tellBeing_187 : decode cX1_tellBeing 187 = .ok (.getfield 23, 3) := dk_180 0 23 (dk_at dksX1_tellBeing_7 21 rfl rfl)
theorem dX1_tellBeing_190 : decode cX1_tellBeing 190 = .ok (.iload_n 2, 1) := dk_28 (dk_at dksX1_tellBeing_8 0 rfl rfl)
theorem dX1_tellBeing_191 : decode cX1_tellBeing 191 = .ok (.baload, 1) := dk_51 (dk_at dksX1_tellBeing_8 1 rfl rfl)
theorem dX1_tellBeing_192 : decode cX1_tellBeing 192 = .ok (.ifCond .eq 19, 3) := dk_153 0 19 (dk_at dksX1_tellBeing_8 2 rfl rfl)
theorem dX1_tellBeing_195 : decode cX1_tellBeing 195 = .ok (.aload_n 0, 1) := dk_42 (dk_at dksX1_tellBeing_8 5 rfl rfl)
theorem dX1_tellBeing_196 : decode cX1_tellBeing 196 = .ok (.aload_n 0, 1) := dk_42 (dk_at dksX1_tellBeing_8 6 rfl rfl)
theorem dX1_tellBeing_197 : decode cX1_tellBeing 197 = .ok (.getfield 66, 3) := dk_180 0 66 (dk_at dksX1_tellBeing_8 7 rfl rfl)
theorem dX1_tellBeing_200 : decode cX1_tellBeing 200 = .ok (.bipush 8, 2) := dk_16 8 (dk_at dksX1_tellBeing_8 10 rfl rfl)
theorem dX1_tellBeing_202 : decode cX1_tellBeing 202 = .ok (.iload_n 1, 1) := dk_27 (dk_at dksX1_tellBeing_8 12 rfl rfl)
theorem dX1_tellBeing_203 : decode cX1_tellBeing 203 = .ok (.imul, 1) := dk_104 (dk_at dksX1_tellBeing_8 13 rfl rfl)
theorem dX1_tellBeing_204 : decode cX1_tellBeing 204 = .ok (.iload_n 2, 1) := dk_28 (dk_at dksX1_tellBeing_8 14 rfl rfl)
theorem dX1_tellBeing_205 : decode cX1_tellBeing 205 = .ok (.iadd, 1) := dk_96 (dk_at dksX1_tellBeing_8 15 rfl rfl)
theorem dX1_tellBeing_206 : decode cX1_tellBeing 206 = .ok (.iaload, 1) := dk_46 (dk_at dksX1_tellBeing_8 16 rfl rfl)
theorem dX1_tellBeing_207 : decode cX1_tellBeing 207 = .ok (.i2l, 1) := dk_133 (dk_at dksX1_tellBeing_8 17 rfl rfl)
theorem dX1_tellBeing_208 : decode cX1_tellBeing 208 = .ok (.invokevirtual 346, 3) := dk_182 1 90 (dk_at dksX1_tellBeing_8 18 rfl rfl)
theorem dX1_tellBeing_211 : decode cX1_tellBeing 211 = .ok (.iinc 2 1, 3) := dk_132 2 1 (dk_at dksX1_tellBeing_8 21 rfl rfl)
theorem dX1_tellBeing_214 : decode cX1_tellBeing 214 = .ok (.goto (-34), 3) := dk_167 255 222 (dk_at dksX1_tellBeing_9 0 rfl rfl)
theorem dX1_tellBeing_217 : decode cX1_tellBeing 217 = .ok (.return_, 1) := dk_177 (dk_at dksX1_tellBeing_9 3 rfl rfl)
theorem q85 : (Jvm.Cond.initialized "EaterWebsModel") ∈ lw_all := lw_g (lw_at lw_m1 2 rfl) rfl
theorem q914 : (Jvm.Cond.instantiable "EaterWebsModel" (52 : Nat)) ∈ lw_all := lw_g (lw_at lw_m4 111 rfl) rfl
theorem q916 : (Jvm.Cond.instanceMethod ({ cls := "EaterWebsModel", name := "<init>", desc := "()V" } : Jvm.MethodName)) ∈ lw_all := lw_g (lw_at lw_m4 113 rfl) rfl
theorem q917 : (Jvm.Cond.code ({ cls := "EaterWebsModel", name := "<init>", desc := "()V" } : Jvm.MethodName) prog_8_method_1_code (2 : Nat) (Option.none : Option Jvm.ClassFile.FieldType)) ∈ lw_all := lw_g (lw_at lw_m4 114 rfl) rfl
theorem q918 : (Jvm.Cond.methodLink "EaterWebsModel" (1 : Nat) ({ cls := "java/lang/Object", name := "<init>", desc := "()V" } : Jvm.MethodName)) ∈ lw_all := lw_g (lw_at lw_m4 115 rfl) rfl
theorem q919 : (Jvm.Cond.fieldLink "EaterWebsModel" (101 : Nat) "EaterWebsModel" "latest" "I") ∈ lw_all := lw_g (lw_at lw_m4 116 rfl) rfl
theorem q920 : (Jvm.Cond.fieldLink "EaterWebsModel" (7 : Nat) "EaterWebsModel" "came" "[I") ∈ lw_all := lw_g (lw_at lw_m4 117 rfl) rfl
theorem q921 : (Jvm.Cond.fieldLink "EaterWebsModel" (109 : Nat) "EaterWebsModel" "asked" "I") ∈ lw_all := lw_g (lw_at lw_m4 118 rfl) rfl
theorem q922 : (Jvm.Cond.fieldLink "EaterWebsModel" (112 : Nat) "EaterWebsModel" "upper" "J") ∈ lw_all := lw_g (lw_at lw_m4 119 rfl) rfl
theorem q923 : (Jvm.Cond.fieldLink "EaterWebsModel" (97 : Nat) "EaterWebsModel" "lower" "J") ∈ lw_all := lw_g (lw_at lw_m4 120 rfl) rfl
theorem q924 : (Jvm.Cond.fieldLink "EaterWebsModel" (13 : Nat) "EaterWebsModel" "sizes" "[I") ∈ lw_all := lw_g (lw_at lw_m4 121 rfl) rfl
theorem q925 : (Jvm.Cond.fieldLink "EaterWebsModel" (16 : Nat) "EaterWebsModel" "bytes" "[B") ∈ lw_all := lw_g (lw_at lw_m4 122 rfl) rfl
theorem q926 : (Jvm.Cond.fieldLink "EaterWebsModel" (20 : Nat) "EaterWebsModel" "copied" "[B") ∈ lw_all := lw_g (lw_at lw_m4 123 rfl) rfl
theorem q927 : (Jvm.Cond.fieldLink "EaterWebsModel" (140 : Nat) "EaterWebsModel" "itemWhat" "I") ∈ lw_all := lw_g (lw_at lw_m4 124 rfl) rfl
theorem q928 : (Jvm.Cond.fieldLink "EaterWebsModel" (137 : Nat) "EaterWebsModel" "itemBeing" "I") ∈ lw_all := lw_g (lw_at lw_m4 125 rfl) rfl
theorem q929 : (Jvm.Cond.fieldLink "EaterWebsModel" (146 : Nat) "EaterWebsModel" "itemOther" "I") ∈ lw_all := lw_g (lw_at lw_m4 126 rfl) rfl
theorem q930 : (Jvm.Cond.fieldLink "EaterWebsModel" (143 : Nat) "EaterWebsModel" "itemNumber" "I") ∈ lw_all := lw_g (lw_at lw_m4 127 rfl) rfl
theorem q931 : (Jvm.Cond.fieldLink "EaterWebsModel" (127 : Nat) "EaterWebsModel" "itemEnd" "I") ∈ lw_all := lw_g (lw_at lw_m4 128 rfl) rfl
theorem q932 : (Jvm.Cond.fieldLink "EaterWebsModel" (23 : Nat) "EaterWebsModel" "isThere" "[Z") ∈ lw_all := lw_g (lw_at lw_m4 129 rfl) rfl
theorem q933 : (Jvm.Cond.fieldLink "EaterWebsModel" (27 : Nat) "EaterWebsModel" "kindOf" "[I") ∈ lw_all := lw_g (lw_at lw_m4 130 rfl) rfl
theorem q934 : (Jvm.Cond.fieldLink "EaterWebsModel" (30 : Nat) "EaterWebsModel" "stocks" "[I") ∈ lw_all := lw_g (lw_at lw_m4 131 rfl) rfl
theorem q935 : (Jvm.Cond.fieldLink "EaterWebsModel" (33 : Nat) "EaterWebsModel" "taken" "[I") ∈ lw_all := lw_g (lw_at lw_m4 132 rfl) rfl
theorem q936 : (Jvm.Cond.fieldLink "EaterWebsModel" (36 : Nat) "EaterWebsModel" "rates" "[I") ∈ lw_all := lw_g (lw_at lw_m4 133 rfl) rfl
theorem q937 : (Jvm.Cond.fieldLink "EaterWebsModel" (39 : Nat) "EaterWebsModel" "caps" "[I") ∈ lw_all := lw_g (lw_at lw_m4 134 rfl) rfl
theorem q938 : (Jvm.Cond.fieldLink "EaterWebsModel" (42 : Nat) "EaterWebsModel" "losses" "[I") ∈ lw_all := lw_g (lw_at lw_m4 135 rfl) rfl
theorem q939 : (Jvm.Cond.fieldLink "EaterWebsModel" (45 : Nat) "EaterWebsModel" "gains" "[I") ∈ lw_all := lw_g (lw_at lw_m4 136 rfl) rfl
theorem q940 : (Jvm.Cond.fieldLink "EaterWebsModel" (48 : Nat) "EaterWebsModel" "fellIn" "[I") ∈ lw_all := lw_g (lw_at lw_m4 137 rfl) rfl
theorem q941 : (Jvm.Cond.fieldLink "EaterWebsModel" (51 : Nat) "EaterWebsModel" "weeksThere" "[I") ∈ lw_all := lw_g (lw_at lw_m4 138 rfl) rfl
theorem q942 : (Jvm.Cond.fieldLink "EaterWebsModel" (54 : Nat) "EaterWebsModel" "links" "[I") ∈ lw_all := lw_g (lw_at lw_m4 139 rfl) rfl
theorem q943 : (Jvm.Cond.fieldLink "EaterWebsModel" (57 : Nat) "EaterWebsModel" "leasts" "[I") ∈ lw_all := lw_g (lw_at lw_m4 140 rfl) rfl
theorem q944 : (Jvm.Cond.fieldLink "EaterWebsModel" (60 : Nat) "EaterWebsModel" "mosts" "[I") ∈ lw_all := lw_g (lw_at lw_m4 141 rfl) rfl
theorem q945 : (Jvm.Cond.fieldLink "EaterWebsModel" (63 : Nat) "EaterWebsModel" "doors" "[I") ∈ lw_all := lw_g (lw_at lw_m4 142 rfl) rfl
theorem q946 : (Jvm.Cond.fieldLink "EaterWebsModel" (66 : Nat) "EaterWebsModel" "effects" "[I") ∈ lw_all := lw_g (lw_at lw_m4 143 rfl) rfl
theorem q947 : (Jvm.Cond.fieldLink "EaterWebsModel" (229 : Nat) "EaterWebsModel" "now" "I") ∈ lw_all := lw_g (lw_at lw_m4 144 rfl) rfl
theorem q948 : (Jvm.Cond.fieldLink "EaterWebsModel" (237 : Nat) "EaterWebsModel" "caught" "J") ∈ lw_all := lw_g (lw_at lw_m4 145 rfl) rfl
theorem q949 : (Jvm.Cond.fieldLink "EaterWebsModel" (69 : Nat) "EaterWebsModel" "wants" "[J") ∈ lw_all := lw_g (lw_at lw_m4 146 rfl) rfl
theorem q950 : (Jvm.Cond.fieldLink "EaterWebsModel" (73 : Nat) "EaterWebsModel" "changes" "[J") ∈ lw_all := lw_g (lw_at lw_m4 147 rfl) rfl
theorem q951 : (Jvm.Cond.fieldLink "EaterWebsModel" (76 : Nat) "EaterWebsModel" "catches" "[I") ∈ lw_all := lw_g (lw_at lw_m4 148 rfl) rfl
theorem q952 : (Jvm.Cond.fieldLink "EaterWebsModel" (226 : Nat) "EaterWebsModel" "fellSet" "I") ∈ lw_all := lw_g (lw_at lw_m4 149 rfl) rfl
theorem q953 : (Jvm.Cond.fieldLink "EaterWebsModel" (79 : Nat) "EaterWebsModel" "trial" "[I") ∈ lw_all := lw_g (lw_at lw_m4 150 rfl) rfl
theorem q954 : (Jvm.Cond.fieldLink "EaterWebsModel" (82 : Nat) "EaterWebsModel" "past" "[I") ∈ lw_all := lw_g (lw_at lw_m4 151 rfl) rfl
theorem q955 : (Jvm.Cond.fieldLink "EaterWebsModel" (249 : Nat) "EaterWebsModel" "caughtBy" "J") ∈ lw_all := lw_g (lw_at lw_m4 152 rfl) rfl
theorem q956 : (Jvm.Cond.fieldLink "EaterWebsModel" (265 : Nat) "EaterWebsModel" "inLeast" "I") ∈ lw_all := lw_g (lw_at lw_m4 153 rfl) rfl
theorem q957 : (Jvm.Cond.fieldLink "EaterWebsModel" (268 : Nat) "EaterWebsModel" "inMost" "I") ∈ lw_all := lw_g (lw_at lw_m4 154 rfl) rfl
theorem q958 : (Jvm.Cond.fieldLink "EaterWebsModel" (271 : Nat) "EaterWebsModel" "outLeast" "I") ∈ lw_all := lw_g (lw_at lw_m4 155 rfl) rfl
theorem q959 : (Jvm.Cond.fieldLink "EaterWebsModel" (274 : Nat) "EaterWebsModel" "outMost" "I") ∈ lw_all := lw_g (lw_at lw_m4 156 rfl) rfl
theorem q960 : (Jvm.Cond.fieldLink "EaterWebsModel" (283 : Nat) "EaterWebsModel" "rangeLeast" "I") ∈ lw_all := lw_g (lw_at lw_m4 157 rfl) rfl
theorem q961 : (Jvm.Cond.fieldLink "EaterWebsModel" (286 : Nat) "EaterWebsModel" "rangeMost" "I") ∈ lw_all := lw_g (lw_at lw_m4 158 rfl) rfl
theorem q962 : (Jvm.Cond.fieldLink "EaterWebsModel" (292 : Nat) "EaterWebsModel" "wide" "I") ∈ lw_all := lw_g (lw_at lw_m4 159 rfl) rfl
theorem q963 : (Jvm.Cond.fieldLink "EaterWebsModel" (85 : Nat) "EaterWebsModel" "ones" "[I") ∈ lw_all := lw_g (lw_at lw_m4 160 rfl) rfl
theorem q964 : (Jvm.Cond.fieldLink "EaterWebsModel" (88 : Nat) "EaterWebsModel" "table" "[J") ∈ lw_all := lw_g (lw_at lw_m4 161 rfl) rfl
theorem q965 : (Jvm.Cond.fieldLink "EaterWebsModel" (295 : Nat) "EaterWebsModel" "sumOf" "J") ∈ lw_all := lw_g (lw_at lw_m4 162 rfl) rfl
theorem q966 : (Jvm.Cond.fieldLink "EaterWebsModel" (298 : Nat) "EaterWebsModel" "above" "I") ∈ lw_all := lw_g (lw_at lw_m4 163 rfl) rfl
theorem q967 : (Jvm.Cond.fieldLink "EaterWebsModel" (301 : Nat) "EaterWebsModel" "below" "I") ∈ lw_all := lw_g (lw_at lw_m4 164 rfl) rfl
theorem q968 : (Jvm.Cond.fieldLink "EaterWebsModel" (91 : Nat) "EaterWebsModel" "picks" "[I") ∈ lw_all := lw_g (lw_at lw_m4 165 rfl) rfl
theorem q969 : (Jvm.Cond.fieldLink "EaterWebsModel" (94 : Nat) "EaterWebsModel" "small" "[J") ∈ lw_all := lw_g (lw_at lw_m4 166 rfl) rfl
theorem q970 : (Jvm.Cond.fieldLink "EaterWebsModel" (343 : Nat) "EaterWebsModel" "mix" "J") ∈ lw_all := lw_g (lw_at lw_m4 167 rfl) rfl
theorem q971 : (Jvm.Cond.lays "EaterWebsModel" "EaterWebsModel" "latest" "I") ∈ lw_all := lw_g (lw_at lw_m4 168 rfl) rfl
theorem q972 : (Jvm.Cond.soleField "EaterWebsModel" "latest") ∈ lw_all := lw_g (lw_at lw_m4 169 rfl) rfl
theorem q973 : (Jvm.Cond.laysFinal "EaterWebsModel" "EaterWebsModel" "came" "[I") ∈ lw_all := lw_g (lw_at lw_m4 170 rfl) rfl
theorem q974 : (Jvm.Cond.soleField "EaterWebsModel" "came") ∈ lw_all := lw_g (lw_at lw_m4 171 rfl) rfl
theorem q975 : (Jvm.Cond.lays "EaterWebsModel" "EaterWebsModel" "asked" "I") ∈ lw_all := lw_g (lw_at lw_m4 172 rfl) rfl
theorem q976 : (Jvm.Cond.soleField "EaterWebsModel" "asked") ∈ lw_all := lw_g (lw_at lw_m4 173 rfl) rfl
theorem q977 : (Jvm.Cond.lays "EaterWebsModel" "EaterWebsModel" "upper" "J") ∈ lw_all := lw_g (lw_at lw_m4 174 rfl) rfl
theorem q978 : (Jvm.Cond.soleField "EaterWebsModel" "upper") ∈ lw_all := lw_g (lw_at lw_m4 175 rfl) rfl
theorem q979 : (Jvm.Cond.lays "EaterWebsModel" "EaterWebsModel" "lower" "J") ∈ lw_all := lw_g (lw_at lw_m4 176 rfl) rfl
theorem q980 : (Jvm.Cond.soleField "EaterWebsModel" "lower") ∈ lw_all := lw_g (lw_at lw_m4 177 rfl) rfl
theorem q981 : (Jvm.Cond.laysFinal "EaterWebsModel" "EaterWebsModel" "sizes" "[I") ∈ lw_all := lw_g (lw_at lw_m4 178 rfl) rfl
theorem q982 : (Jvm.Cond.soleField "EaterWebsModel" "sizes") ∈ lw_all := lw_g (lw_at lw_m4 179 rfl) rfl
theorem q983 : (Jvm.Cond.laysFinal "EaterWebsModel" "EaterWebsModel" "bytes" "[B") ∈ lw_all := lw_g (lw_at lw_m4 180 rfl) rfl
theorem q984 : (Jvm.Cond.soleField "EaterWebsModel" "bytes") ∈ lw_all := lw_g (lw_at lw_m4 181 rfl) rfl
theorem q985 : (Jvm.Cond.laysFinal "EaterWebsModel" "EaterWebsModel" "copied" "[B") ∈ lw_all := lw_g (lw_at lw_m4 182 rfl) rfl
theorem q986 : (Jvm.Cond.soleField "EaterWebsModel" "copied") ∈ lw_all := lw_g (lw_at lw_m4 183 rfl) rfl
theorem q987 : (Jvm.Cond.lays "EaterWebsModel" "EaterWebsModel" "itemWhat" "I") ∈ lw_all := lw_g (lw_at lw_m4 184 rfl) rfl
theorem q988 : (Jvm.Cond.soleField "EaterWebsModel" "itemWhat") ∈ lw_all := lw_g (lw_at lw_m4 185 rfl) rfl
theorem q989 : (Jvm.Cond.lays "EaterWebsModel" "EaterWebsModel" "itemBeing" "I") ∈ lw_all := lw_g (lw_at lw_m4 186 rfl) rfl
theorem q990 : (Jvm.Cond.soleField "EaterWebsModel" "itemBeing") ∈ lw_all := lw_g (lw_at lw_m4 187 rfl) rfl
theorem q991 : (Jvm.Cond.lays "EaterWebsModel" "EaterWebsModel" "itemOther" "I") ∈ lw_all := lw_g (lw_at lw_m4 188 rfl) rfl
theorem q992 : (Jvm.Cond.soleField "EaterWebsModel" "itemOther") ∈ lw_all := lw_g (lw_at lw_m4 189 rfl) rfl
theorem q993 : (Jvm.Cond.lays "EaterWebsModel" "EaterWebsModel" "itemNumber" "I") ∈ lw_all := lw_g (lw_at lw_m4 190 rfl) rfl
theorem q994 : (Jvm.Cond.soleField "EaterWebsModel" "itemNumber") ∈ lw_all := lw_g (lw_at lw_m4 191 rfl) rfl
theorem q995 : (Jvm.Cond.lays "EaterWebsModel" "EaterWebsModel" "itemEnd" "I") ∈ lw_all := lw_g (lw_at lw_m4 192 rfl) rfl
theorem q996 : (Jvm.Cond.soleField "EaterWebsModel" "itemEnd") ∈ lw_all := lw_g (lw_at lw_m4 193 rfl) rfl
theorem q997 : (Jvm.Cond.laysFinal "EaterWebsModel" "EaterWebsModel" "isThere" "[Z") ∈ lw_all := lw_g (lw_at lw_m4 194 rfl) rfl
theorem q998 : (Jvm.Cond.soleField "EaterWebsModel" "isThere") ∈ lw_all := lw_g (lw_at lw_m4 195 rfl) rfl
theorem q999 : (Jvm.Cond.laysFinal "EaterWebsModel" "EaterWebsModel" "kindOf" "[I") ∈ lw_all := lw_g (lw_at lw_m4 196 rfl) rfl
theorem q1000 : (Jvm.Cond.soleField "EaterWebsModel" "kindOf") ∈ lw_all := lw_g (lw_at lw_m4 197 rfl) rfl
theorem q1001 : (Jvm.Cond.laysFinal "EaterWebsModel" "EaterWebsModel" "stocks" "[I") ∈ lw_all := lw_g (lw_at lw_m4 198 rfl) rfl
theorem q1002 : (Jvm.Cond.soleField "EaterWebsModel" "stocks") ∈ lw_all := lw_g (lw_at lw_m4 199 rfl) rfl
theorem q1003 : (Jvm.Cond.laysFinal "EaterWebsModel" "EaterWebsModel" "taken" "[I") ∈ lw_all := lw_g (lw_at lw_m4 200 rfl) rfl
theorem q1004 : (Jvm.Cond.soleField "EaterWebsModel" "taken") ∈ lw_all := lw_g (lw_at lw_m4 201 rfl) rfl
theorem q1005 : (Jvm.Cond.laysFinal "EaterWebsModel" "EaterWebsModel" "rates" "[I") ∈ lw_all := lw_g (lw_at lw_m4 202 rfl) rfl
theorem q1006 : (Jvm.Cond.soleField "EaterWebsModel" "rates") ∈ lw_all := lw_g (lw_at lw_m4 203 rfl) rfl
theorem q1007 : (Jvm.Cond.laysFinal "EaterWebsModel" "EaterWebsModel" "caps" "[I") ∈ lw_all := lw_g (lw_at lw_m4 204 rfl) rfl
theorem q1008 : (Jvm.Cond.soleField "EaterWebsModel" "caps") ∈ lw_all := lw_g (lw_at lw_m4 205 rfl) rfl
theorem q1009 : (Jvm.Cond.laysFinal "EaterWebsModel" "EaterWebsModel" "losses" "[I") ∈ lw_all := lw_g (lw_at lw_m4 206 rfl) rfl
theorem q1010 : (Jvm.Cond.soleField "EaterWebsModel" "losses") ∈ lw_all := lw_g (lw_at lw_m4 207 rfl) rfl
theorem q1011 : (Jvm.Cond.laysFinal "EaterWebsModel" "EaterWebsModel" "gains" "[I") ∈ lw_all := lw_g (lw_at lw_m4 208 rfl) rfl
theorem q1012 : (Jvm.Cond.soleField "EaterWebsModel" "gains") ∈ lw_all := lw_g (lw_at lw_m4 209 rfl) rfl
theorem q1013 : (Jvm.Cond.laysFinal "EaterWebsModel" "EaterWebsModel" "fellIn" "[I") ∈ lw_all := lw_g (lw_at lw_m4 210 rfl) rfl
theorem q1014 : (Jvm.Cond.soleField "EaterWebsModel" "fellIn") ∈ lw_all := lw_g (lw_at lw_m4 211 rfl) rfl
theorem q1015 : (Jvm.Cond.laysFinal "EaterWebsModel" "EaterWebsModel" "weeksThere" "[I") ∈ lw_all := lw_g (lw_at lw_m4 212 rfl) rfl
theorem q1016 : (Jvm.Cond.soleField "EaterWebsModel" "weeksThere") ∈ lw_all := lw_g (lw_at lw_m4 213 rfl) rfl
theorem q1017 : (Jvm.Cond.laysFinal "EaterWebsModel" "EaterWebsModel" "links" "[I") ∈ lw_all := lw_g (lw_at lw_m4 214 rfl) rfl
theorem q1018 : (Jvm.Cond.soleField "EaterWebsModel" "links") ∈ lw_all := lw_g (lw_at lw_m4 215 rfl) rfl
theorem q1019 : (Jvm.Cond.laysFinal "EaterWebsModel" "EaterWebsModel" "leasts" "[I") ∈ lw_all := lw_g (lw_at lw_m4 216 rfl) rfl
theorem q1020 : (Jvm.Cond.soleField "EaterWebsModel" "leasts") ∈ lw_all := lw_g (lw_at lw_m4 217 rfl) rfl
theorem q1021 : (Jvm.Cond.laysFinal "EaterWebsModel" "EaterWebsModel" "mosts" "[I") ∈ lw_all := lw_g (lw_at lw_m4 218 rfl) rfl
theorem q1022 : (Jvm.Cond.soleField "EaterWebsModel" "mosts") ∈ lw_all := lw_g (lw_at lw_m4 219 rfl) rfl
theorem q1023 : (Jvm.Cond.laysFinal "EaterWebsModel" "EaterWebsModel" "doors" "[I") ∈ lw_all := lw_g (lw_at lw_m4 220 rfl) rfl
theorem q1024 : (Jvm.Cond.soleField "EaterWebsModel" "doors") ∈ lw_all := lw_g (lw_at lw_m4 221 rfl) rfl
theorem q1025 : (Jvm.Cond.laysFinal "EaterWebsModel" "EaterWebsModel" "effects" "[I") ∈ lw_all := lw_g (lw_at lw_m4 222 rfl) rfl
theorem q1026 : (Jvm.Cond.soleField "EaterWebsModel" "effects") ∈ lw_all := lw_g (lw_at lw_m4 223 rfl) rfl
theorem q1027 : (Jvm.Cond.lays "EaterWebsModel" "EaterWebsModel" "now" "I") ∈ lw_all := lw_g (lw_at lw_m4 224 rfl) rfl
theorem q1028 : (Jvm.Cond.soleField "EaterWebsModel" "now") ∈ lw_all := lw_g (lw_at lw_m4 225 rfl) rfl
theorem q1029 : (Jvm.Cond.lays "EaterWebsModel" "EaterWebsModel" "caught" "J") ∈ lw_all := lw_g (lw_at lw_m4 226 rfl) rfl
theorem q1030 : (Jvm.Cond.soleField "EaterWebsModel" "caught") ∈ lw_all := lw_g (lw_at lw_m4 227 rfl) rfl
theorem q1031 : (Jvm.Cond.laysFinal "EaterWebsModel" "EaterWebsModel" "wants" "[J") ∈ lw_all := lw_g (lw_at lw_m4 228 rfl) rfl
theorem q1032 : (Jvm.Cond.soleField "EaterWebsModel" "wants") ∈ lw_all := lw_g (lw_at lw_m4 229 rfl) rfl
theorem q1033 : (Jvm.Cond.laysFinal "EaterWebsModel" "EaterWebsModel" "changes" "[J") ∈ lw_all := lw_g (lw_at lw_m4 230 rfl) rfl
theorem q1034 : (Jvm.Cond.soleField "EaterWebsModel" "changes") ∈ lw_all := lw_g (lw_at lw_m4 231 rfl) rfl
theorem q1035 : (Jvm.Cond.laysFinal "EaterWebsModel" "EaterWebsModel" "catches" "[I") ∈ lw_all := lw_g (lw_at lw_m4 232 rfl) rfl
theorem q1036 : (Jvm.Cond.soleField "EaterWebsModel" "catches") ∈ lw_all := lw_g (lw_at lw_m4 233 rfl) rfl
theorem q1037 : (Jvm.Cond.lays "EaterWebsModel" "EaterWebsModel" "fellSet" "I") ∈ lw_all := lw_g (lw_at lw_m4 234 rfl) rfl
theorem q1038 : (Jvm.Cond.soleField "EaterWebsModel" "fellSet") ∈ lw_all := lw_g (lw_at lw_m4 235 rfl) rfl
theorem q1039 : (Jvm.Cond.laysFinal "EaterWebsModel" "EaterWebsModel" "trial" "[I") ∈ lw_all := lw_g (lw_at lw_m4 236 rfl) rfl
theorem q1040 : (Jvm.Cond.soleField "EaterWebsModel" "trial") ∈ lw_all := lw_g (lw_at lw_m4 237 rfl) rfl
theorem q1041 : (Jvm.Cond.laysFinal "EaterWebsModel" "EaterWebsModel" "past" "[I") ∈ lw_all := lw_g (lw_at lw_m4 238 rfl) rfl
theorem q1042 : (Jvm.Cond.soleField "EaterWebsModel" "past") ∈ lw_all := lw_g (lw_at lw_m4 239 rfl) rfl
theorem q1043 : (Jvm.Cond.lays "EaterWebsModel" "EaterWebsModel" "caughtBy" "J") ∈ lw_all := lw_g (lw_at lw_m5 0 rfl) rfl
theorem q1044 : (Jvm.Cond.soleField "EaterWebsModel" "caughtBy") ∈ lw_all := lw_g (lw_at lw_m5 1 rfl) rfl
theorem q1045 : (Jvm.Cond.lays "EaterWebsModel" "EaterWebsModel" "inLeast" "I") ∈ lw_all := lw_g (lw_at lw_m5 2 rfl) rfl
theorem q1046 : (Jvm.Cond.soleField "EaterWebsModel" "inLeast") ∈ lw_all := lw_g (lw_at lw_m5 3 rfl) rfl
theorem q1047 : (Jvm.Cond.lays "EaterWebsModel" "EaterWebsModel" "inMost" "I") ∈ lw_all := lw_g (lw_at lw_m5 4 rfl) rfl
theorem q1048 : (Jvm.Cond.soleField "EaterWebsModel" "inMost") ∈ lw_all := lw_g (lw_at lw_m5 5 rfl) rfl
theorem q1049 : (Jvm.Cond.lays "EaterWebsModel" "EaterWebsModel" "outLeast" "I") ∈ lw_all := lw_g (lw_at lw_m5 6 rfl) rfl
theorem q1050 : (Jvm.Cond.soleField "EaterWebsModel" "outLeast") ∈ lw_all := lw_g (lw_at lw_m5 7 rfl) rfl
theorem q1051 : (Jvm.Cond.lays "EaterWebsModel" "EaterWebsModel" "outMost" "I") ∈ lw_all := lw_g (lw_at lw_m5 8 rfl) rfl
theorem q1052 : (Jvm.Cond.soleField "EaterWebsModel" "outMost") ∈ lw_all := lw_g (lw_at lw_m5 9 rfl) rfl
theorem q1053 : (Jvm.Cond.lays "EaterWebsModel" "EaterWebsModel" "rangeLeast" "I") ∈ lw_all := lw_g (lw_at lw_m5 10 rfl) rfl
theorem q1054 : (Jvm.Cond.soleField "EaterWebsModel" "rangeLeast") ∈ lw_all := lw_g (lw_at lw_m5 11 rfl) rfl
theorem q1055 : (Jvm.Cond.lays "EaterWebsModel" "EaterWebsModel" "rangeMost" "I") ∈ lw_all := lw_g (lw_at lw_m5 12 rfl) rfl
theorem q1056 : (Jvm.Cond.soleField "EaterWebsModel" "rangeMost") ∈ lw_all := lw_g (lw_at lw_m5 13 rfl) rfl
theorem q1057 : (Jvm.Cond.lays "EaterWebsModel" "EaterWebsModel" "wide" "I") ∈ lw_all := lw_g (lw_at lw_m5 14 rfl) rfl
theorem q1058 : (Jvm.Cond.soleField "EaterWebsModel" "wide") ∈ lw_all := lw_g (lw_at lw_m5 15 rfl) rfl
theorem q1059 : (Jvm.Cond.laysFinal "EaterWebsModel" "EaterWebsModel" "ones" "[I") ∈ lw_all := lw_g (lw_at lw_m5 16 rfl) rfl
theorem q1060 : (Jvm.Cond.soleField "EaterWebsModel" "ones") ∈ lw_all := lw_g (lw_at lw_m5 17 rfl) rfl
theorem q1061 : (Jvm.Cond.laysFinal "EaterWebsModel" "EaterWebsModel" "table" "[J") ∈ lw_all := lw_g (lw_at lw_m5 18 rfl) rfl
theorem q1062 : (Jvm.Cond.soleField "EaterWebsModel" "table") ∈ lw_all := lw_g (lw_at lw_m5 19 rfl) rfl
theorem q1063 : (Jvm.Cond.lays "EaterWebsModel" "EaterWebsModel" "sumOf" "J") ∈ lw_all := lw_g (lw_at lw_m5 20 rfl) rfl
theorem q1064 : (Jvm.Cond.soleField "EaterWebsModel" "sumOf") ∈ lw_all := lw_g (lw_at lw_m5 21 rfl) rfl
theorem q1065 : (Jvm.Cond.lays "EaterWebsModel" "EaterWebsModel" "above" "I") ∈ lw_all := lw_g (lw_at lw_m5 22 rfl) rfl
theorem q1066 : (Jvm.Cond.soleField "EaterWebsModel" "above") ∈ lw_all := lw_g (lw_at lw_m5 23 rfl) rfl
theorem q1067 : (Jvm.Cond.lays "EaterWebsModel" "EaterWebsModel" "below" "I") ∈ lw_all := lw_g (lw_at lw_m5 24 rfl) rfl
theorem q1068 : (Jvm.Cond.soleField "EaterWebsModel" "below") ∈ lw_all := lw_g (lw_at lw_m5 25 rfl) rfl
theorem q1069 : (Jvm.Cond.laysFinal "EaterWebsModel" "EaterWebsModel" "picks" "[I") ∈ lw_all := lw_g (lw_at lw_m5 26 rfl) rfl
theorem q1070 : (Jvm.Cond.soleField "EaterWebsModel" "picks") ∈ lw_all := lw_g (lw_at lw_m5 27 rfl) rfl
theorem q1071 : (Jvm.Cond.laysFinal "EaterWebsModel" "EaterWebsModel" "small" "[J") ∈ lw_all := lw_g (lw_at lw_m5 28 rfl) rfl
theorem q1072 : (Jvm.Cond.soleField "EaterWebsModel" "small") ∈ lw_all := lw_g (lw_at lw_m5 29 rfl) rfl
theorem q1073 : (Jvm.Cond.lays "EaterWebsModel" "EaterWebsModel" "mix" "J") ∈ lw_all := lw_g (lw_at lw_m5 30 rfl) rfl
theorem q1074 : (Jvm.Cond.soleField "EaterWebsModel" "mix") ∈ lw_all := lw_g (lw_at lw_m5 31 rfl) rfl
theorem q1075 : (Jvm.Cond.superclass "EaterWebsModel" "java/lang/Object") ∈ lw_all := lw_g (lw_at lw_m5 32 rfl) rfl
theorem q1078 : (Jvm.Cond.instanceMethod ({ cls := "EaterWebsModel", name := "finding", desc := "()I" } : Jvm.MethodName)) ∈ lw_all := lw_g (lw_at lw_m5 35 rfl) rfl
theorem q1079 : (Jvm.Cond.selects "EaterWebsModel" ({ cls := "EaterWebsModel", name := "finding", desc := "()I" } : Jvm.MethodName) ({ cls := "EaterWebsModel", name := "finding", desc := "()I" } : Jvm.MethodName)) ∈ lw_all := lw_g (lw_at lw_m5 36 rfl) rfl
theorem q1080 : (Jvm.Cond.code ({ cls := "EaterWebsModel", name := "finding", desc := "()I" } : Jvm.MethodName) prog_8_method_5_code (1 : Nat) (Option.some Jvm.ClassFile.FieldType.int)) ∈ lw_all := lw_g (lw_at lw_m5 37 rfl) rfl
theorem q1082 : (Jvm.Cond.instanceMethod ({ cls := "EaterWebsModel", name := "findings", desc := "(I)I" } : Jvm.MethodName)) ∈ lw_all := lw_g (lw_at lw_m5 39 rfl) rfl
theorem q1083 : (Jvm.Cond.selects "EaterWebsModel" ({ cls := "EaterWebsModel", name := "findings", desc := "(I)I" } : Jvm.MethodName) ({ cls := "EaterWebsModel", name := "findings", desc := "(I)I" } : Jvm.MethodName)) ∈ lw_all := lw_g (lw_at lw_m5 40 rfl) rfl
theorem q1084 : (Jvm.Cond.code ({ cls := "EaterWebsModel", name := "findings", desc := "(I)I" } : Jvm.MethodName) prog_8_method_6_code (2 : Nat) (Option.some Jvm.ClassFile.FieldType.int)) ∈ lw_all := lw_g (lw_at lw_m5 41 rfl) rfl
theorem q1085 : (Jvm.Cond.methodLink "EaterWebsModel" (105 : Nat) ({ cls := "EaterWebsModel", name := "in", desc := "(III)Z" } : Jvm.MethodName)) ∈ lw_all := lw_g (lw_at lw_m5 42 rfl) rfl
theorem q1086 : (Jvm.Cond.static ({ cls := "EaterWebsModel", name := "in", desc := "(III)Z" } : Jvm.MethodName)) ∈ lw_all := lw_g (lw_at lw_m5 43 rfl) rfl
theorem q1087 : (Jvm.Cond.code ({ cls := "EaterWebsModel", name := "in", desc := "(III)Z" } : Jvm.MethodName) prog_8_method_2_code (3 : Nat) (Option.some Jvm.ClassFile.FieldType.boolean)) ∈ lw_all := lw_g (lw_at lw_m5 44 rfl) rfl
theorem q1089 : (Jvm.Cond.instanceMethod ({ cls := "EaterWebsModel", name := "asked", desc := "()I" } : Jvm.MethodName)) ∈ lw_all := lw_g (lw_at lw_m5 46 rfl) rfl
theorem q1090 : (Jvm.Cond.selects "EaterWebsModel" ({ cls := "EaterWebsModel", name := "asked", desc := "()I" } : Jvm.MethodName) ({ cls := "EaterWebsModel", name := "asked", desc := "()I" } : Jvm.MethodName)) ∈ lw_all := lw_g (lw_at lw_m5 47 rfl) rfl
theorem q1091 : (Jvm.Cond.code ({ cls := "EaterWebsModel", name := "asked", desc := "()I" } : Jvm.MethodName) prog_8_method_8_code (1 : Nat) (Option.some Jvm.ClassFile.FieldType.int)) ∈ lw_all := lw_g (lw_at lw_m5 48 rfl) rfl
theorem q1093 : (Jvm.Cond.instanceMethod ({ cls := "EaterWebsModel", name := "upper", desc := "()J" } : Jvm.MethodName)) ∈ lw_all := lw_g (lw_at lw_m5 50 rfl) rfl
theorem q1094 : (Jvm.Cond.selects "EaterWebsModel" ({ cls := "EaterWebsModel", name := "upper", desc := "()J" } : Jvm.MethodName) ({ cls := "EaterWebsModel", name := "upper", desc := "()J" } : Jvm.MethodName)) ∈ lw_all := lw_g (lw_at lw_m5 51 rfl) rfl
theorem q1095 : (Jvm.Cond.code ({ cls := "EaterWebsModel", name := "upper", desc := "()J" } : Jvm.MethodName) prog_8_method_10_code (1 : Nat) (Option.some Jvm.ClassFile.FieldType.long)) ∈ lw_all := lw_g (lw_at lw_m5 52 rfl) rfl
theorem q1097 : (Jvm.Cond.instanceMethod ({ cls := "EaterWebsModel", name := "lower", desc := "()J" } : Jvm.MethodName)) ∈ lw_all := lw_g (lw_at lw_m5 54 rfl) rfl
theorem q1098 : (Jvm.Cond.selects "EaterWebsModel" ({ cls := "EaterWebsModel", name := "lower", desc := "()J" } : Jvm.MethodName) ({ cls := "EaterWebsModel", name := "lower", desc := "()J" } : Jvm.MethodName)) ∈ lw_all := lw_g (lw_at lw_m5 55 rfl) rfl
theorem q1099 : (Jvm.Cond.code ({ cls := "EaterWebsModel", name := "lower", desc := "()J" } : Jvm.MethodName) prog_8_method_11_code (1 : Nat) (Option.some Jvm.ClassFile.FieldType.long)) ∈ lw_all := lw_g (lw_at lw_m5 56 rfl) rfl
theorem q1101 : (Jvm.Cond.instanceMethod ({ cls := "EaterWebsModel", name := "text", desc := "(II)I" } : Jvm.MethodName)) ∈ lw_all := lw_g (lw_at lw_m5 58 rfl) rfl
theorem q1102 : (Jvm.Cond.selects "EaterWebsModel" ({ cls := "EaterWebsModel", name := "text", desc := "(II)I" } : Jvm.MethodName) ({ cls := "EaterWebsModel", name := "text", desc := "(II)I" } : Jvm.MethodName)) ∈ lw_all := lw_g (lw_at lw_m5 59 rfl) rfl
theorem q1103 : (Jvm.Cond.code ({ cls := "EaterWebsModel", name := "text", desc := "(II)I" } : Jvm.MethodName) prog_8_method_13_code (4 : Nat) (Option.some Jvm.ClassFile.FieldType.int)) ∈ lw_all := lw_g (lw_at lw_m5 60 rfl) rfl
theorem q1104 : (Jvm.Cond.methodLink "EaterWebsModel" (115 : Nat) ({ cls := "EaterWebsModel", name := "isText", desc := "(I)Z" } : Jvm.MethodName)) ∈ lw_all := lw_g (lw_at lw_m5 61 rfl) rfl
theorem q1105 : (Jvm.Cond.static ({ cls := "EaterWebsModel", name := "isText", desc := "(I)Z" } : Jvm.MethodName)) ∈ lw_all := lw_g (lw_at lw_m5 62 rfl) rfl
theorem q1106 : (Jvm.Cond.code ({ cls := "EaterWebsModel", name := "isText", desc := "(I)Z" } : Jvm.MethodName) prog_8_method_12_code (1 : Nat) (Option.some Jvm.ClassFile.FieldType.boolean)) ∈ lw_all := lw_g (lw_at lw_m5 63 rfl) rfl
theorem q1107 : (Jvm.Cond.methodLink "EaterWebsModel" (119 : Nat) ({ cls := "EaterWebsModel", name := "meets", desc := "(I)I" } : Jvm.MethodName)) ∈ lw_all := lw_g (lw_at lw_m5 64 rfl) rfl
theorem q1108 : (Jvm.Cond.privateMethod ({ cls := "EaterWebsModel", name := "meets", desc := "(I)I" } : Jvm.MethodName)) ∈ lw_tbl := lw_at lw_m5 65 rfl
theorem q1109 : (Jvm.Cond.instanceMethod ({ cls := "EaterWebsModel", name := "meets", desc := "(I)I" } : Jvm.MethodName)) ∈ lw_all := lw_g (lw_at lw_m5 66 rfl) rfl
theorem q1110 : (Jvm.Cond.code ({ cls := "EaterWebsModel", name := "meets", desc := "(I)I" } : Jvm.MethodName) prog_8_method_4_code (2 : Nat) (Option.some Jvm.ClassFile.FieldType.int)) ∈ lw_all := lw_g (lw_at lw_m5 67 rfl) rfl
theorem q1112 : (Jvm.Cond.instanceMethod ({ cls := "EaterWebsModel", name := "lay", desc := "(III)I" } : Jvm.MethodName)) ∈ lw_all := lw_g (lw_at lw_m5 69 rfl) rfl
theorem q1113 : (Jvm.Cond.selects "EaterWebsModel" ({ cls := "EaterWebsModel", name := "lay", desc := "(III)I" } : Jvm.MethodName) ({ cls := "EaterWebsModel", name := "lay", desc := "(III)I" } : Jvm.MethodName)) ∈ lw_all := lw_g (lw_at lw_m5 70 rfl) rfl
theorem q1114 : (Jvm.Cond.code ({ cls := "EaterWebsModel", name := "lay", desc := "(III)I" } : Jvm.MethodName) prog_8_method_14_code (5 : Nat) (Option.some Jvm.ClassFile.FieldType.int)) ∈ lw_all := lw_g (lw_at lw_m5 71 rfl) rfl
theorem q1116 : (Jvm.Cond.instanceMethod ({ cls := "EaterWebsModel", name := "burn", desc := "(I)I" } : Jvm.MethodName)) ∈ lw_all := lw_g (lw_at lw_m5 73 rfl) rfl
theorem q1117 : (Jvm.Cond.selects "EaterWebsModel" ({ cls := "EaterWebsModel", name := "burn", desc := "(I)I" } : Jvm.MethodName) ({ cls := "EaterWebsModel", name := "burn", desc := "(I)I" } : Jvm.MethodName)) ∈ lw_all := lw_g (lw_at lw_m5 74 rfl) rfl
theorem q1118 : (Jvm.Cond.code ({ cls := "EaterWebsModel", name := "burn", desc := "(I)I" } : Jvm.MethodName) prog_8_method_15_code (2 : Nat) (Option.some Jvm.ClassFile.FieldType.int)) ∈ lw_all := lw_g (lw_at lw_m5 75 rfl) rfl
theorem q1120 : (Jvm.Cond.instanceMethod ({ cls := "EaterWebsModel", name := "copy", desc := "(IIIII)I" } : Jvm.MethodName)) ∈ lw_all := lw_g (lw_at lw_m5 77 rfl) rfl
theorem q1121 : (Jvm.Cond.selects "EaterWebsModel" ({ cls := "EaterWebsModel", name := "copy", desc := "(IIIII)I" } : Jvm.MethodName) ({ cls := "EaterWebsModel", name := "copy", desc := "(IIIII)I" } : Jvm.MethodName)) ∈ lw_all := lw_g (lw_at lw_m5 78 rfl) rfl
theorem q1122 : (Jvm.Cond.code ({ cls := "EaterWebsModel", name := "copy", desc := "(IIIII)I" } : Jvm.MethodName) prog_8_method_16_code (7 : Nat) (Option.some Jvm.ClassFile.FieldType.int)) ∈ lw_all := lw_g (lw_at lw_m5 79 rfl) rfl
theorem q1124 : (Jvm.Cond.instanceMethod ({ cls := "EaterWebsModel", name := "fault", desc := "(I)I" } : Jvm.MethodName)) ∈ lw_all := lw_g (lw_at lw_m5 81 rfl) rfl
theorem q1125 : (Jvm.Cond.selects "EaterWebsModel" ({ cls := "EaterWebsModel", name := "fault", desc := "(I)I" } : Jvm.MethodName) ({ cls := "EaterWebsModel", name := "fault", desc := "(I)I" } : Jvm.MethodName)) ∈ lw_all := lw_g (lw_at lw_m5 82 rfl) rfl
theorem q1126 : (Jvm.Cond.code ({ cls := "EaterWebsModel", name := "fault", desc := "(I)I" } : Jvm.MethodName) prog_8_method_23_code (2 : Nat) (Option.some Jvm.ClassFile.FieldType.int)) ∈ lw_all := lw_g (lw_at lw_m5 83 rfl) rfl
theorem q1127 : (Jvm.Cond.methodLink "EaterWebsModel" (157 : Nat) ({ cls := "EaterWebsModel", name := "faultOf", desc := "(I)I" } : Jvm.MethodName)) ∈ lw_all := lw_g (lw_at lw_m5 84 rfl) rfl
theorem q1128 : (Jvm.Cond.privateMethod ({ cls := "EaterWebsModel", name := "faultOf", desc := "(I)I" } : Jvm.MethodName)) ∈ lw_tbl := lw_at lw_m5 85 rfl
theorem q1129 : (Jvm.Cond.instanceMethod ({ cls := "EaterWebsModel", name := "faultOf", desc := "(I)I" } : Jvm.MethodName)) ∈ lw_all := lw_g (lw_at lw_m5 86 rfl) rfl
theorem q1130 : (Jvm.Cond.code ({ cls := "EaterWebsModel", name := "faultOf", desc := "(I)I" } : Jvm.MethodName) prog_8_method_22_code (4 : Nat) (Option.some Jvm.ClassFile.FieldType.int)) ∈ lw_all := lw_g (lw_at lw_m5 87 rfl) rfl
theorem q1131 : (Jvm.Cond.methodLink "EaterWebsModel" (123 : Nat) ({ cls := "EaterWebsModel", name := "at", desc := "(II)I" } : Jvm.MethodName)) ∈ lw_all := lw_g (lw_at lw_m5 88 rfl) rfl
theorem q1132 : (Jvm.Cond.privateMethod ({ cls := "EaterWebsModel", name := "at", desc := "(II)I" } : Jvm.MethodName)) ∈ lw_tbl := lw_at lw_m5 89 rfl
theorem q1133 : (Jvm.Cond.instanceMethod ({ cls := "EaterWebsModel", name := "at", desc := "(II)I" } : Jvm.MethodName)) ∈ lw_all := lw_g (lw_at lw_m5 90 rfl) rfl
theorem q1134 : (Jvm.Cond.code ({ cls := "EaterWebsModel", name := "at", desc := "(II)I" } : Jvm.MethodName) prog_8_method_17_code (3 : Nat) (Option.some Jvm.ClassFile.FieldType.int)) ∈ lw_all := lw_g (lw_at lw_m5 91 rfl) rfl
theorem q1135 : (Jvm.Cond.methodLink "EaterWebsModel" (154 : Nat) ({ cls := "EaterWebsModel", name := "item", desc := "(II)I" } : Jvm.MethodName)) ∈ lw_all := lw_g (lw_at lw_m5 92 rfl) rfl
theorem q1136 : (Jvm.Cond.privateMethod ({ cls := "EaterWebsModel", name := "item", desc := "(II)I" } : Jvm.MethodName)) ∈ lw_tbl := lw_at lw_m5 93 rfl
theorem q1137 : (Jvm.Cond.instanceMethod ({ cls := "EaterWebsModel", name := "item", desc := "(II)I" } : Jvm.MethodName)) ∈ lw_all := lw_g (lw_at lw_m5 94 rfl) rfl
theorem q1138 : (Jvm.Cond.code ({ cls := "EaterWebsModel", name := "item", desc := "(II)I" } : Jvm.MethodName) prog_8_method_21_code (5 : Nat) (Option.some Jvm.ClassFile.FieldType.int)) ∈ lw_all := lw_g (lw_at lw_m5 95 rfl) rfl
theorem q1139 : (Jvm.Cond.methodLink "EaterWebsModel" (134 : Nat) ({ cls := "EaterWebsModel", name := "isLetter", desc := "(II)Z" } : Jvm.MethodName)) ∈ lw_all := lw_g (lw_at lw_m5 96 rfl) rfl
theorem q1140 : (Jvm.Cond.privateMethod ({ cls := "EaterWebsModel", name := "isLetter", desc := "(II)Z" } : Jvm.MethodName)) ∈ lw_tbl := lw_at lw_m5 97 rfl
theorem q1141 : (Jvm.Cond.instanceMethod ({ cls := "EaterWebsModel", name := "isLetter", desc := "(II)Z" } : Jvm.MethodName)) ∈ lw_all := lw_g (lw_at lw_m5 98 rfl) rfl
theorem q1142 : (Jvm.Cond.code ({ cls := "EaterWebsModel", name := "isLetter", desc := "(II)Z" } : Jvm.MethodName) prog_8_method_18_code (3 : Nat) (Option.some Jvm.ClassFile.FieldType.boolean)) ∈ lw_all := lw_g (lw_at lw_m5 99 rfl) rfl
theorem q1143 : (Jvm.Cond.methodLink "EaterWebsModel" (149 : Nat) ({ cls := "EaterWebsModel", name := "digits", desc := "(III)I" } : Jvm.MethodName)) ∈ lw_all := lw_g (lw_at lw_m5 100 rfl) rfl
theorem q1144 : (Jvm.Cond.privateMethod ({ cls := "EaterWebsModel", name := "digits", desc := "(III)I" } : Jvm.MethodName)) ∈ lw_tbl := lw_at lw_m5 101 rfl
theorem q1145 : (Jvm.Cond.instanceMethod ({ cls := "EaterWebsModel", name := "digits", desc := "(III)I" } : Jvm.MethodName)) ∈ lw_all := lw_g (lw_at lw_m5 102 rfl) rfl
theorem q1146 : (Jvm.Cond.code ({ cls := "EaterWebsModel", name := "digits", desc := "(III)I" } : Jvm.MethodName) prog_8_method_20_code (5 : Nat) (Option.some Jvm.ClassFile.FieldType.int)) ∈ lw_all := lw_g (lw_at lw_m5 103 rfl) rfl
theorem q1147 : (Jvm.Cond.methodLink "EaterWebsModel" (130 : Nat) ({ cls := "EaterWebsModel", name := "isDigit", desc := "(II)Z" } : Jvm.MethodName)) ∈ lw_all := lw_g (lw_at lw_m5 104 rfl) rfl
theorem q1148 : (Jvm.Cond.privateMethod ({ cls := "EaterWebsModel", name := "isDigit", desc := "(II)Z" } : Jvm.MethodName)) ∈ lw_tbl := lw_at lw_m5 105 rfl
theorem q1149 : (Jvm.Cond.instanceMethod ({ cls := "EaterWebsModel", name := "isDigit", desc := "(II)Z" } : Jvm.MethodName)) ∈ lw_all := lw_g (lw_at lw_m5 106 rfl) rfl
theorem q1150 : (Jvm.Cond.code ({ cls := "EaterWebsModel", name := "isDigit", desc := "(II)Z" } : Jvm.MethodName) prog_8_method_19_code (3 : Nat) (Option.some Jvm.ClassFile.FieldType.boolean)) ∈ lw_all := lw_g (lw_at lw_m5 107 rfl) rfl
theorem q1151 : (Jvm.Cond.constant "EaterWebsModel" (153 : Nat) (100000 : Int32)) ∈ lw_all := lw_g (lw_at lw_m5 108 rfl) rfl
theorem q1153 : (Jvm.Cond.instanceMethod ({ cls := "EaterWebsModel", name := "read", desc := "(I)I" } : Jvm.MethodName)) ∈ lw_all := lw_g (lw_at lw_m5 110 rfl) rfl
theorem q1154 : (Jvm.Cond.selects "EaterWebsModel" ({ cls := "EaterWebsModel", name := "read", desc := "(I)I" } : Jvm.MethodName) ({ cls := "EaterWebsModel", name := "read", desc := "(I)I" } : Jvm.MethodName)) ∈ lw_all := lw_g (lw_at lw_m5 111 rfl) rfl
theorem q1155 : (Jvm.Cond.code ({ cls := "EaterWebsModel", name := "read", desc := "(I)I" } : Jvm.MethodName) prog_8_method_24_code (4 : Nat) (Option.some Jvm.ClassFile.FieldType.int)) ∈ lw_all := lw_g (lw_at lw_m5 112 rfl) rfl
theorem q1156 : (Jvm.Cond.methodLink "EaterWebsModel" (160 : Nat) ({ cls := "EaterWebsModel", name := "doItem", desc := "()Z" } : Jvm.MethodName)) ∈ lw_all := lw_g (lw_at lw_m5 113 rfl) rfl
theorem q1157 : (Jvm.Cond.privateMethod ({ cls := "EaterWebsModel", name := "doItem", desc := "()Z" } : Jvm.MethodName)) ∈ lw_tbl := lw_at lw_m5 114 rfl
theorem q1158 : (Jvm.Cond.instanceMethod ({ cls := "EaterWebsModel", name := "doItem", desc := "()Z" } : Jvm.MethodName)) ∈ lw_all := lw_g (lw_at lw_m5 115 rfl) rfl
theorem q1159 : (Jvm.Cond.code ({ cls := "EaterWebsModel", name := "doItem", desc := "()Z" } : Jvm.MethodName) prog_8_method_25_code (1 : Nat) (Option.some Jvm.ClassFile.FieldType.boolean)) ∈ lw_all := lw_g (lw_at lw_m5 116 rfl) rfl
theorem q1160 : (Jvm.Cond.methodLink "EaterWebsModel" (164 : Nat) ({ cls := "EaterWebsModel", name := "begin", desc := "(II)V" } : Jvm.MethodName)) ∈ lw_all := lw_g (lw_at lw_m5 117 rfl) rfl
theorem q1161 : (Jvm.Cond.privateMethod ({ cls := "EaterWebsModel", name := "begin", desc := "(II)V" } : Jvm.MethodName)) ∈ lw_tbl := lw_at lw_m5 118 rfl
theorem q1162 : (Jvm.Cond.instanceMethod ({ cls := "EaterWebsModel", name := "begin", desc := "(II)V" } : Jvm.MethodName)) ∈ lw_all := lw_g (lw_at lw_m5 119 rfl) rfl
theorem q1163 : (Jvm.Cond.code ({ cls := "EaterWebsModel", name := "begin", desc := "(II)V" } : Jvm.MethodName) prog_8_method_30_code (4 : Nat) (Option.none : Option Jvm.ClassFile.FieldType)) ∈ lw_all := lw_g (lw_at lw_m5 120 rfl) rfl
theorem q1164 : (Jvm.Cond.methodLink "EaterWebsModel" (175 : Nat) ({ cls := "EaterWebsModel", name := "unlink", desc := "(I)V" } : Jvm.MethodName)) ∈ lw_all := lw_g (lw_at lw_m5 121 rfl) rfl
theorem q1165 : (Jvm.Cond.privateMethod ({ cls := "EaterWebsModel", name := "unlink", desc := "(I)V" } : Jvm.MethodName)) ∈ lw_tbl := lw_at lw_m5 122 rfl
theorem q1166 : (Jvm.Cond.instanceMethod ({ cls := "EaterWebsModel", name := "unlink", desc := "(I)V" } : Jvm.MethodName)) ∈ lw_all := lw_g (lw_at lw_m5 123 rfl) rfl
theorem q1167 : (Jvm.Cond.code ({ cls := "EaterWebsModel", name := "unlink", desc := "(I)V" } : Jvm.MethodName) prog_8_method_29_code (3 : Nat) (Option.none : Option Jvm.ClassFile.FieldType)) ∈ lw_all := lw_g (lw_at lw_m5 124 rfl) rfl
theorem q1168 : (Jvm.Cond.methodLink "EaterWebsModel" (171 : Nat) ({ cls := "EaterWebsModel", name := "layLink", desc := "(III)V" } : Jvm.MethodName)) ∈ lw_all := lw_g (lw_at lw_m5 125 rfl) rfl
theorem q1169 : (Jvm.Cond.privateMethod ({ cls := "EaterWebsModel", name := "layLink", desc := "(III)V" } : Jvm.MethodName)) ∈ lw_tbl := lw_at lw_m5 126 rfl
theorem q1170 : (Jvm.Cond.instanceMethod ({ cls := "EaterWebsModel", name := "layLink", desc := "(III)V" } : Jvm.MethodName)) ∈ lw_all := lw_g (lw_at lw_m5 127 rfl) rfl
theorem q1171 : (Jvm.Cond.code ({ cls := "EaterWebsModel", name := "layLink", desc := "(III)V" } : Jvm.MethodName) prog_8_method_28_code (6 : Nat) (Option.none : Option Jvm.ClassFile.FieldType)) ∈ lw_all := lw_g (lw_at lw_m5 128 rfl) rfl
theorem q1172 : (Jvm.Cond.methodLink "EaterWebsModel" (168 : Nat) ({ cls := "EaterWebsModel", name := "eats", desc := "(I)Z" } : Jvm.MethodName)) ∈ lw_all := lw_g (lw_at lw_m5 129 rfl) rfl
theorem q1173 : (Jvm.Cond.privateMethod ({ cls := "EaterWebsModel", name := "eats", desc := "(I)Z" } : Jvm.MethodName)) ∈ lw_tbl := lw_at lw_m5 130 rfl
theorem q1174 : (Jvm.Cond.instanceMethod ({ cls := "EaterWebsModel", name := "eats", desc := "(I)Z" } : Jvm.MethodName)) ∈ lw_all := lw_g (lw_at lw_m5 131 rfl) rfl
theorem q1175 : (Jvm.Cond.code ({ cls := "EaterWebsModel", name := "eats", desc := "(I)Z" } : Jvm.MethodName) prog_8_method_27_code (2 : Nat) (Option.some Jvm.ClassFile.FieldType.boolean)) ∈ lw_all := lw_g (lw_at lw_m5 132 rfl) rfl
theorem q1177 : (Jvm.Cond.instanceMethod ({ cls := "EaterWebsModel", name := "being", desc := "(II)I" } : Jvm.MethodName)) ∈ lw_all := lw_g (lw_at lw_m5 134 rfl) rfl
theorem q1178 : (Jvm.Cond.selects "EaterWebsModel" ({ cls := "EaterWebsModel", name := "being", desc := "(II)I" } : Jvm.MethodName) ({ cls := "EaterWebsModel", name := "being", desc := "(II)I" } : Jvm.MethodName)) ∈ lw_all := lw_g (lw_at lw_m5 135 rfl) rfl
theorem q1179 : (Jvm.Cond.code ({ cls := "EaterWebsModel", name := "being", desc := "(II)I" } : Jvm.MethodName) prog_8_method_31_code (4 : Nat) (Option.some Jvm.ClassFile.FieldType.int)) ∈ lw_all := lw_g (lw_at lw_m5 136 rfl) rfl
theorem q1180 : (Jvm.Cond.methodLink "EaterWebsModel" (179 : Nat) ({ cls := "EaterWebsModel", name := "isPlace", desc := "(I)Z" } : Jvm.MethodName)) ∈ lw_all := lw_g (lw_at lw_m5 137 rfl) rfl
theorem q1181 : (Jvm.Cond.static ({ cls := "EaterWebsModel", name := "isPlace", desc := "(I)Z" } : Jvm.MethodName)) ∈ lw_all := lw_g (lw_at lw_m5 138 rfl) rfl
theorem q1182 : (Jvm.Cond.code ({ cls := "EaterWebsModel", name := "isPlace", desc := "(I)Z" } : Jvm.MethodName) prog_8_method_26_code (1 : Nat) (Option.some Jvm.ClassFile.FieldType.boolean)) ∈ lw_all := lw_g (lw_at lw_m5 139 rfl) rfl
theorem q1184 : (Jvm.Cond.instanceMethod ({ cls := "EaterWebsModel", name := "drop", desc := "(I)I" } : Jvm.MethodName)) ∈ lw_all := lw_g (lw_at lw_m5 141 rfl) rfl
theorem q1185 : (Jvm.Cond.selects "EaterWebsModel" ({ cls := "EaterWebsModel", name := "drop", desc := "(I)I" } : Jvm.MethodName) ({ cls := "EaterWebsModel", name := "drop", desc := "(I)I" } : Jvm.MethodName)) ∈ lw_all := lw_g (lw_at lw_m5 142 rfl) rfl
theorem q1186 : (Jvm.Cond.code ({ cls := "EaterWebsModel", name := "drop", desc := "(I)I" } : Jvm.MethodName) prog_8_method_34_code (3 : Nat) (Option.some Jvm.ClassFile.FieldType.int)) ∈ lw_all := lw_g (lw_at lw_m5 143 rfl) rfl
theorem q1187 : (Jvm.Cond.methodLink "EaterWebsModel" (182 : Nat) ({ cls := "EaterWebsModel", name := "need", desc := "(ZI)I" } : Jvm.MethodName)) ∈ lw_all := lw_g (lw_at lw_m5 144 rfl) rfl
theorem q1188 : (Jvm.Cond.privateMethod ({ cls := "EaterWebsModel", name := "need", desc := "(ZI)I" } : Jvm.MethodName)) ∈ lw_tbl := lw_at lw_m5 145 rfl
theorem q1189 : (Jvm.Cond.instanceMethod ({ cls := "EaterWebsModel", name := "need", desc := "(ZI)I" } : Jvm.MethodName)) ∈ lw_all := lw_g (lw_at lw_m5 146 rfl) rfl
theorem q1190 : (Jvm.Cond.code ({ cls := "EaterWebsModel", name := "need", desc := "(ZI)I" } : Jvm.MethodName) prog_8_method_32_code (3 : Nat) (Option.some Jvm.ClassFile.FieldType.int)) ∈ lw_all := lw_g (lw_at lw_m5 147 rfl) rfl
theorem q1192 : (Jvm.Cond.instanceMethod ({ cls := "EaterWebsModel", name := "stock", desc := "(II)I" } : Jvm.MethodName)) ∈ lw_all := lw_g (lw_at lw_m5 149 rfl) rfl
theorem q1193 : (Jvm.Cond.selects "EaterWebsModel" ({ cls := "EaterWebsModel", name := "stock", desc := "(II)I" } : Jvm.MethodName) ({ cls := "EaterWebsModel", name := "stock", desc := "(II)I" } : Jvm.MethodName)) ∈ lw_all := lw_g (lw_at lw_m5 150 rfl) rfl
theorem q1194 : (Jvm.Cond.code ({ cls := "EaterWebsModel", name := "stock", desc := "(II)I" } : Jvm.MethodName) prog_8_method_35_code (5 : Nat) (Option.some Jvm.ClassFile.FieldType.int)) ∈ lw_all := lw_g (lw_at lw_m5 151 rfl) rfl
theorem q1196 : (Jvm.Cond.instanceMethod ({ cls := "EaterWebsModel", name := "plant", desc := "(III)I" } : Jvm.MethodName)) ∈ lw_all := lw_g (lw_at lw_m5 153 rfl) rfl
theorem q1197 : (Jvm.Cond.selects "EaterWebsModel" ({ cls := "EaterWebsModel", name := "plant", desc := "(III)I" } : Jvm.MethodName) ({ cls := "EaterWebsModel", name := "plant", desc := "(III)I" } : Jvm.MethodName)) ∈ lw_all := lw_g (lw_at lw_m5 154 rfl) rfl
theorem q1198 : (Jvm.Cond.code ({ cls := "EaterWebsModel", name := "plant", desc := "(III)I" } : Jvm.MethodName) prog_8_method_36_code (5 : Nat) (Option.some Jvm.ClassFile.FieldType.int)) ∈ lw_all := lw_g (lw_at lw_m5 155 rfl) rfl
theorem q1200 : (Jvm.Cond.instanceMethod ({ cls := "EaterWebsModel", name := "eater", desc := "(III)I" } : Jvm.MethodName)) ∈ lw_all := lw_g (lw_at lw_m5 157 rfl) rfl
theorem q1201 : (Jvm.Cond.selects "EaterWebsModel" ({ cls := "EaterWebsModel", name := "eater", desc := "(III)I" } : Jvm.MethodName) ({ cls := "EaterWebsModel", name := "eater", desc := "(III)I" } : Jvm.MethodName)) ∈ lw_all := lw_g (lw_at lw_m5 158 rfl) rfl
theorem q1202 : (Jvm.Cond.code ({ cls := "EaterWebsModel", name := "eater", desc := "(III)I" } : Jvm.MethodName) prog_8_method_37_code (5 : Nat) (Option.some Jvm.ClassFile.FieldType.int)) ∈ lw_all := lw_g (lw_at lw_m5 159 rfl) rfl
theorem q1204 : (Jvm.Cond.instanceMethod ({ cls := "EaterWebsModel", name := "link", desc := "(III)I" } : Jvm.MethodName)) ∈ lw_all := lw_g (lw_at lw_m5 161 rfl) rfl
theorem q1205 : (Jvm.Cond.selects "EaterWebsModel" ({ cls := "EaterWebsModel", name := "link", desc := "(III)I" } : Jvm.MethodName) ({ cls := "EaterWebsModel", name := "link", desc := "(III)I" } : Jvm.MethodName)) ∈ lw_all := lw_g (lw_at lw_m5 162 rfl) rfl
theorem q1206 : (Jvm.Cond.code ({ cls := "EaterWebsModel", name := "link", desc := "(III)I" } : Jvm.MethodName) prog_8_method_38_code (6 : Nat) (Option.some Jvm.ClassFile.FieldType.int)) ∈ lw_all := lw_g (lw_at lw_m5 163 rfl) rfl
theorem q1207 : (Jvm.Cond.methodLink "EaterWebsModel" (186 : Nat) ({ cls := "EaterWebsModel", name := "needTwo", desc := "(ZII)I" } : Jvm.MethodName)) ∈ lw_all := lw_g (lw_at lw_m5 164 rfl) rfl
theorem q1208 : (Jvm.Cond.privateMethod ({ cls := "EaterWebsModel", name := "needTwo", desc := "(ZII)I" } : Jvm.MethodName)) ∈ lw_tbl := lw_at lw_m5 165 rfl
theorem q1209 : (Jvm.Cond.instanceMethod ({ cls := "EaterWebsModel", name := "needTwo", desc := "(ZII)I" } : Jvm.MethodName)) ∈ lw_all := lw_g (lw_at lw_m5 166 rfl) rfl
theorem q1210 : (Jvm.Cond.code ({ cls := "EaterWebsModel", name := "needTwo", desc := "(ZII)I" } : Jvm.MethodName) prog_8_method_33_code (4 : Nat) (Option.some Jvm.ClassFile.FieldType.int)) ∈ lw_all := lw_g (lw_at lw_m5 167 rfl) rfl
theorem q1212 : (Jvm.Cond.instanceMethod ({ cls := "EaterWebsModel", name := "take", desc := "(II)I" } : Jvm.MethodName)) ∈ lw_all := lw_g (lw_at lw_m5 169 rfl) rfl
theorem q1213 : (Jvm.Cond.selects "EaterWebsModel" ({ cls := "EaterWebsModel", name := "take", desc := "(II)I" } : Jvm.MethodName) ({ cls := "EaterWebsModel", name := "take", desc := "(II)I" } : Jvm.MethodName)) ∈ lw_all := lw_g (lw_at lw_m5 170 rfl) rfl
theorem q1214 : (Jvm.Cond.code ({ cls := "EaterWebsModel", name := "take", desc := "(II)I" } : Jvm.MethodName) prog_8_method_39_code (5 : Nat) (Option.some Jvm.ClassFile.FieldType.int)) ∈ lw_all := lw_g (lw_at lw_m5 171 rfl) rfl
theorem q1216 : (Jvm.Cond.instanceMethod ({ cls := "EaterWebsModel", name := "told", desc := "(II)I" } : Jvm.MethodName)) ∈ lw_all := lw_g (lw_at lw_m5 173 rfl) rfl
theorem q1217 : (Jvm.Cond.selects "EaterWebsModel" ({ cls := "EaterWebsModel", name := "told", desc := "(II)I" } : Jvm.MethodName) ({ cls := "EaterWebsModel", name := "told", desc := "(II)I" } : Jvm.MethodName)) ∈ lw_all := lw_g (lw_at lw_m5 174 rfl) rfl
theorem q1218 : (Jvm.Cond.code ({ cls := "EaterWebsModel", name := "told", desc := "(II)I" } : Jvm.MethodName) prog_8_method_43_code (4 : Nat) (Option.some Jvm.ClassFile.FieldType.int)) ∈ lw_all := lw_g (lw_at lw_m5 175 rfl) rfl
theorem q1219 : (Jvm.Cond.methodLink "EaterWebsModel" (197 : Nat) ({ cls := "EaterWebsModel", name := "toldOf", desc := "(II)I" } : Jvm.MethodName)) ∈ lw_all := lw_g (lw_at lw_m5 176 rfl) rfl
theorem q1220 : (Jvm.Cond.privateMethod ({ cls := "EaterWebsModel", name := "toldOf", desc := "(II)I" } : Jvm.MethodName)) ∈ lw_tbl := lw_at lw_m5 177 rfl
theorem q1221 : (Jvm.Cond.instanceMethod ({ cls := "EaterWebsModel", name := "toldOf", desc := "(II)I" } : Jvm.MethodName)) ∈ lw_all := lw_g (lw_at lw_m5 178 rfl) rfl
theorem q1222 : (Jvm.Cond.code ({ cls := "EaterWebsModel", name := "toldOf", desc := "(II)I" } : Jvm.MethodName) prog_8_method_42_code (3 : Nat) (Option.some Jvm.ClassFile.FieldType.int)) ∈ lw_all := lw_g (lw_at lw_m5 179 rfl) rfl
theorem q1223 : (Jvm.Cond.methodLink "EaterWebsModel" (193 : Nat) ({ cls := "EaterWebsModel", name := "linksOf", desc := "(IZ)I" } : Jvm.MethodName)) ∈ lw_all := lw_g (lw_at lw_m5 180 rfl) rfl
theorem q1224 : (Jvm.Cond.privateMethod ({ cls := "EaterWebsModel", name := "linksOf", desc := "(IZ)I" } : Jvm.MethodName)) ∈ lw_tbl := lw_at lw_m5 181 rfl
theorem q1225 : (Jvm.Cond.instanceMethod ({ cls := "EaterWebsModel", name := "linksOf", desc := "(IZ)I" } : Jvm.MethodName)) ∈ lw_all := lw_g (lw_at lw_m5 182 rfl) rfl
theorem q1226 : (Jvm.Cond.code ({ cls := "EaterWebsModel", name := "linksOf", desc := "(IZ)I" } : Jvm.MethodName) prog_8_method_41_code (5 : Nat) (Option.some Jvm.ClassFile.FieldType.int)) ∈ lw_all := lw_g (lw_at lw_m5 183 rfl) rfl
theorem q1227 : (Jvm.Cond.methodLink "EaterWebsModel" (190 : Nat) ({ cls := "EaterWebsModel", name := "isLink", desc := "(II)Z" } : Jvm.MethodName)) ∈ lw_all := lw_g (lw_at lw_m5 184 rfl) rfl
theorem q1228 : (Jvm.Cond.privateMethod ({ cls := "EaterWebsModel", name := "isLink", desc := "(II)Z" } : Jvm.MethodName)) ∈ lw_tbl := lw_at lw_m5 185 rfl
theorem q1229 : (Jvm.Cond.instanceMethod ({ cls := "EaterWebsModel", name := "isLink", desc := "(II)Z" } : Jvm.MethodName)) ∈ lw_all := lw_g (lw_at lw_m5 186 rfl) rfl
theorem q1230 : (Jvm.Cond.code ({ cls := "EaterWebsModel", name := "isLink", desc := "(II)Z" } : Jvm.MethodName) prog_8_method_40_code (3 : Nat) (Option.some Jvm.ClassFile.FieldType.boolean)) ∈ lw_all := lw_g (lw_at lw_m5 187 rfl) rfl
theorem q1232 : (Jvm.Cond.instanceMethod ({ cls := "EaterWebsModel", name := "mark", desc := "(II)I" } : Jvm.MethodName)) ∈ lw_all := lw_g (lw_at lw_m5 189 rfl) rfl
theorem q1233 : (Jvm.Cond.selects "EaterWebsModel" ({ cls := "EaterWebsModel", name := "mark", desc := "(II)I" } : Jvm.MethodName) ({ cls := "EaterWebsModel", name := "mark", desc := "(II)I" } : Jvm.MethodName)) ∈ lw_all := lw_g (lw_at lw_m5 190 rfl) rfl
theorem q1234 : (Jvm.Cond.code ({ cls := "EaterWebsModel", name := "mark", desc := "(II)I" } : Jvm.MethodName) prog_8_method_44_code (5 : Nat) (Option.some Jvm.ClassFile.FieldType.int)) ∈ lw_all := lw_g (lw_at lw_m5 191 rfl) rfl
theorem q1236 : (Jvm.Cond.instanceMethod ({ cls := "EaterWebsModel", name := "mean", desc := "()I" } : Jvm.MethodName)) ∈ lw_all := lw_g (lw_at lw_m5 193 rfl) rfl
theorem q1237 : (Jvm.Cond.selects "EaterWebsModel" ({ cls := "EaterWebsModel", name := "mean", desc := "()I" } : Jvm.MethodName) ({ cls := "EaterWebsModel", name := "mean", desc := "()I" } : Jvm.MethodName)) ∈ lw_all := lw_g (lw_at lw_m5 194 rfl) rfl
theorem q1238 : (Jvm.Cond.code ({ cls := "EaterWebsModel", name := "mean", desc := "()I" } : Jvm.MethodName) prog_8_method_47_code (1 : Nat) (Option.some Jvm.ClassFile.FieldType.int)) ∈ lw_all := lw_g (lw_at lw_m5 195 rfl) rfl
theorem q1239 : (Jvm.Cond.methodLink "EaterWebsModel" (200 : Nat) ({ cls := "EaterWebsModel", name := "there", desc := "()I" } : Jvm.MethodName)) ∈ lw_all := lw_g (lw_at lw_m5 196 rfl) rfl
theorem q1240 : (Jvm.Cond.privateMethod ({ cls := "EaterWebsModel", name := "there", desc := "()I" } : Jvm.MethodName)) ∈ lw_tbl := lw_at lw_m5 197 rfl
theorem q1241 : (Jvm.Cond.instanceMethod ({ cls := "EaterWebsModel", name := "there", desc := "()I" } : Jvm.MethodName)) ∈ lw_all := lw_g (lw_at lw_m5 198 rfl) rfl
theorem q1242 : (Jvm.Cond.code ({ cls := "EaterWebsModel", name := "there", desc := "()I" } : Jvm.MethodName) prog_8_method_45_code (3 : Nat) (Option.some Jvm.ClassFile.FieldType.int)) ∈ lw_all := lw_g (lw_at lw_m5 199 rfl) rfl
theorem q1243 : (Jvm.Cond.methodLink "EaterWebsModel" (204 : Nat) ({ cls := "EaterWebsModel", name := "allStocks", desc := "()I" } : Jvm.MethodName)) ∈ lw_all := lw_g (lw_at lw_m5 200 rfl) rfl
theorem q1244 : (Jvm.Cond.privateMethod ({ cls := "EaterWebsModel", name := "allStocks", desc := "()I" } : Jvm.MethodName)) ∈ lw_tbl := lw_at lw_m5 201 rfl
theorem q1245 : (Jvm.Cond.instanceMethod ({ cls := "EaterWebsModel", name := "allStocks", desc := "()I" } : Jvm.MethodName)) ∈ lw_all := lw_g (lw_at lw_m5 202 rfl) rfl
theorem q1246 : (Jvm.Cond.code ({ cls := "EaterWebsModel", name := "allStocks", desc := "()I" } : Jvm.MethodName) prog_8_method_46_code (3 : Nat) (Option.some Jvm.ClassFile.FieldType.int)) ∈ lw_all := lw_g (lw_at lw_m5 203 rfl) rfl
theorem q1248 : (Jvm.Cond.instanceMethod ({ cls := "EaterWebsModel", name := "pass", desc := "(I)I" } : Jvm.MethodName)) ∈ lw_all := lw_g (lw_at lw_m5 205 rfl) rfl
theorem q1249 : (Jvm.Cond.selects "EaterWebsModel" ({ cls := "EaterWebsModel", name := "pass", desc := "(I)I" } : Jvm.MethodName) ({ cls := "EaterWebsModel", name := "pass", desc := "(I)I" } : Jvm.MethodName)) ∈ lw_all := lw_g (lw_at lw_m5 206 rfl) rfl
theorem q1250 : (Jvm.Cond.code ({ cls := "EaterWebsModel", name := "pass", desc := "(I)I" } : Jvm.MethodName) prog_8_method_52_code (4 : Nat) (Option.some Jvm.ClassFile.FieldType.int)) ∈ lw_all := lw_g (lw_at lw_m5 207 rfl) rfl
theorem q1251 : (Jvm.Cond.constant "EaterWebsModel" (232 : Nat) (1000000 : Int32)) ∈ lw_all := lw_g (lw_at lw_m5 208 rfl) rfl
theorem q1252 : (Jvm.Cond.methodLink "EaterWebsModel" (233 : Nat) ({ cls := "EaterWebsModel", name := "week", desc := "([III)V" } : Jvm.MethodName)) ∈ lw_all := lw_g (lw_at lw_m5 209 rfl) rfl
theorem q1253 : (Jvm.Cond.privateMethod ({ cls := "EaterWebsModel", name := "week", desc := "([III)V" } : Jvm.MethodName)) ∈ lw_tbl := lw_at lw_m5 210 rfl
theorem q1254 : (Jvm.Cond.instanceMethod ({ cls := "EaterWebsModel", name := "week", desc := "([III)V" } : Jvm.MethodName)) ∈ lw_all := lw_g (lw_at lw_m5 211 rfl) rfl
theorem q1255 : (Jvm.Cond.code ({ cls := "EaterWebsModel", name := "week", desc := "([III)V" } : Jvm.MethodName) prog_8_method_51_code (9 : Nat) (Option.none : Option Jvm.ClassFile.FieldType)) ∈ lw_all := lw_g (lw_at lw_m5 212 rfl) rfl
theorem q1256 : (Jvm.Cond.methodLink "EaterWebsModel" (219 : Nat) ({ cls := "EaterWebsModel", name := "layWants", desc := "([I)V" } : Jvm.MethodName)) ∈ lw_all := lw_g (lw_at lw_m5 213 rfl) rfl
theorem q1257 : (Jvm.Cond.privateMethod ({ cls := "EaterWebsModel", name := "layWants", desc := "([I)V" } : Jvm.MethodName)) ∈ lw_tbl := lw_at lw_m5 214 rfl
theorem q1258 : (Jvm.Cond.instanceMethod ({ cls := "EaterWebsModel", name := "layWants", desc := "([I)V" } : Jvm.MethodName)) ∈ lw_all := lw_g (lw_at lw_m5 215 rfl) rfl
theorem q1259 : (Jvm.Cond.code ({ cls := "EaterWebsModel", name := "layWants", desc := "([I)V" } : Jvm.MethodName) prog_8_method_49_code (6 : Nat) (Option.none : Option Jvm.ClassFile.FieldType)) ∈ lw_all := lw_g (lw_at lw_m5 216 rfl) rfl
theorem q1260 : (Jvm.Cond.methodLink "EaterWebsModel" (209 : Nat) ({ cls := "EaterWebsModel", name := "wantOf", desc := "(II[I)J" } : Jvm.MethodName)) ∈ lw_all := lw_g (lw_at lw_m5 217 rfl) rfl
theorem q1261 : (Jvm.Cond.privateMethod ({ cls := "EaterWebsModel", name := "wantOf", desc := "(II[I)J" } : Jvm.MethodName)) ∈ lw_tbl := lw_at lw_m5 218 rfl
theorem q1262 : (Jvm.Cond.instanceMethod ({ cls := "EaterWebsModel", name := "wantOf", desc := "(II[I)J" } : Jvm.MethodName)) ∈ lw_all := lw_g (lw_at lw_m5 219 rfl) rfl
theorem q1263 : (Jvm.Cond.code ({ cls := "EaterWebsModel", name := "wantOf", desc := "(II[I)J" } : Jvm.MethodName) prog_8_method_48_code (4 : Nat) (Option.some Jvm.ClassFile.FieldType.long)) ∈ lw_all := lw_g (lw_at lw_m5 220 rfl) rfl
theorem q1264 : (Jvm.Cond.constantLong "EaterWebsModel" (207 : Nat) (100000 : Int64)) ∈ lw_all := lw_g (lw_at lw_m5 221 rfl) rfl
theorem q1265 : (Jvm.Cond.methodLink "EaterWebsModel" (223 : Nat) ({ cls := "EaterWebsModel", name := "layChanges", desc := "([I)V" } : Jvm.MethodName)) ∈ lw_all := lw_g (lw_at lw_m5 222 rfl) rfl
theorem q1266 : (Jvm.Cond.privateMethod ({ cls := "EaterWebsModel", name := "layChanges", desc := "([I)V" } : Jvm.MethodName)) ∈ lw_tbl := lw_at lw_m5 223 rfl
theorem q1267 : (Jvm.Cond.instanceMethod ({ cls := "EaterWebsModel", name := "layChanges", desc := "([I)V" } : Jvm.MethodName)) ∈ lw_all := lw_g (lw_at lw_m5 224 rfl) rfl
theorem q1268 : (Jvm.Cond.code ({ cls := "EaterWebsModel", name := "layChanges", desc := "([I)V" } : Jvm.MethodName) prog_8_method_50_code (14 : Nat) (Option.none : Option Jvm.ClassFile.FieldType)) ∈ lw_all := lw_g (lw_at lw_m5 225 rfl) rfl
theorem q1269 : (Jvm.Cond.constantLong "EaterWebsModel" (213 : Nat) (1000 : Int64)) ∈ lw_all := lw_g (lw_at lw_m5 226 rfl) rfl
theorem q1270 : (Jvm.Cond.constantLong "EaterWebsModel" (215 : Nat) (100 : Int64)) ∈ lw_all := lw_g (lw_at lw_m5 227 rfl) rfl
theorem q1271 : (Jvm.Cond.constantLong "EaterWebsModel" (217 : Nat) (999 : Int64)) ∈ lw_all := lw_g (lw_at lw_m5 228 rfl) rfl
theorem q1272 : (Jvm.Cond.methodLink "EaterWebsModel" (240 : Nat) ({ cls := "EaterWebsModel", name := "has", desc := "(II)Z" } : Jvm.MethodName)) ∈ lw_all := lw_g (lw_at lw_m5 229 rfl) rfl
theorem q1273 : (Jvm.Cond.static ({ cls := "EaterWebsModel", name := "has", desc := "(II)Z" } : Jvm.MethodName)) ∈ lw_all := lw_g (lw_at lw_m5 230 rfl) rfl
theorem q1274 : (Jvm.Cond.code ({ cls := "EaterWebsModel", name := "has", desc := "(II)Z" } : Jvm.MethodName) prog_8_method_3_code (2 : Nat) (Option.some Jvm.ClassFile.FieldType.boolean)) ∈ lw_all := lw_g (lw_at lw_m5 231 rfl) rfl
theorem q1276 : (Jvm.Cond.instanceMethod ({ cls := "EaterWebsModel", name := "caught", desc := "()J" } : Jvm.MethodName)) ∈ lw_all := lw_g (lw_at lw_m5 233 rfl) rfl
theorem q1277 : (Jvm.Cond.selects "EaterWebsModel" ({ cls := "EaterWebsModel", name := "caught", desc := "()J" } : Jvm.MethodName) ({ cls := "EaterWebsModel", name := "caught", desc := "()J" } : Jvm.MethodName)) ∈ lw_all := lw_g (lw_at lw_m5 234 rfl) rfl
theorem q1278 : (Jvm.Cond.code ({ cls := "EaterWebsModel", name := "caught", desc := "()J" } : Jvm.MethodName) prog_8_method_53_code (1 : Nat) (Option.some Jvm.ClassFile.FieldType.long)) ∈ lw_all := lw_g (lw_at lw_m5 235 rfl) rfl
theorem q1280 : (Jvm.Cond.instanceMethod ({ cls := "EaterWebsModel", name := "swings", desc := "(I)I" } : Jvm.MethodName)) ∈ lw_all := lw_g (lw_at lw_m5 237 rfl) rfl
theorem q1281 : (Jvm.Cond.selects "EaterWebsModel" ({ cls := "EaterWebsModel", name := "swings", desc := "(I)I" } : Jvm.MethodName) ({ cls := "EaterWebsModel", name := "swings", desc := "(I)I" } : Jvm.MethodName)) ∈ lw_all := lw_g (lw_at lw_m5 238 rfl) rfl
theorem q1282 : (Jvm.Cond.code ({ cls := "EaterWebsModel", name := "swings", desc := "(I)I" } : Jvm.MethodName) prog_8_method_55_code (6 : Nat) (Option.some Jvm.ClassFile.FieldType.int)) ∈ lw_all := lw_g (lw_at lw_m5 239 rfl) rfl
theorem q1283 : (Jvm.Cond.methodLink "EaterWebsModel" (243 : Nat) ({ cls := "EaterWebsModel", name := "beginTrial", desc := "()V" } : Jvm.MethodName)) ∈ lw_all := lw_g (lw_at lw_m6 0 rfl) rfl
theorem q1284 : (Jvm.Cond.privateMethod ({ cls := "EaterWebsModel", name := "beginTrial", desc := "()V" } : Jvm.MethodName)) ∈ lw_tbl := lw_at lw_m6 1 rfl
theorem q1285 : (Jvm.Cond.instanceMethod ({ cls := "EaterWebsModel", name := "beginTrial", desc := "()V" } : Jvm.MethodName)) ∈ lw_all := lw_g (lw_at lw_m6 2 rfl) rfl
theorem q1286 : (Jvm.Cond.code ({ cls := "EaterWebsModel", name := "beginTrial", desc := "()V" } : Jvm.MethodName) prog_8_method_54_code (2 : Nat) (Option.none : Option Jvm.ClassFile.FieldType)) ∈ lw_all := lw_g (lw_at lw_m6 3 rfl) rfl
theorem q1287 : (Jvm.Cond.methodLink "EaterWebsModel" (246 : Nat) ({ cls := "EaterWebsModel", name := "tells", desc := "(II)I" } : Jvm.MethodName)) ∈ lw_all := lw_g (lw_at lw_m6 4 rfl) rfl
theorem q1288 : (Jvm.Cond.privateMethod ({ cls := "EaterWebsModel", name := "tells", desc := "(II)I" } : Jvm.MethodName)) ∈ lw_tbl := lw_at lw_m6 5 rfl
theorem q1289 : (Jvm.Cond.instanceMethod ({ cls := "EaterWebsModel", name := "tells", desc := "(II)I" } : Jvm.MethodName)) ∈ lw_all := lw_g (lw_at lw_m6 6 rfl) rfl
theorem q1290 : (Jvm.Cond.code ({ cls := "EaterWebsModel", name := "tells", desc := "(II)I" } : Jvm.MethodName) prog_8_method_7_code (3 : Nat) (Option.some Jvm.ClassFile.FieldType.int)) ∈ lw_all := lw_g (lw_at lw_m6 7 rfl) rfl
theorem q1292 : (Jvm.Cond.instanceMethod ({ cls := "EaterWebsModel", name := "bestTake", desc := "(III)I" } : Jvm.MethodName)) ∈ lw_all := lw_g (lw_at lw_m6 9 rfl) rfl
theorem q1293 : (Jvm.Cond.selects "EaterWebsModel" ({ cls := "EaterWebsModel", name := "bestTake", desc := "(III)I" } : Jvm.MethodName) ({ cls := "EaterWebsModel", name := "bestTake", desc := "(III)I" } : Jvm.MethodName)) ∈ lw_all := lw_g (lw_at lw_m6 10 rfl) rfl
theorem q1294 : (Jvm.Cond.code ({ cls := "EaterWebsModel", name := "bestTake", desc := "(III)I" } : Jvm.MethodName) prog_8_method_56_code (13 : Nat) (Option.some Jvm.ClassFile.FieldType.int)) ∈ lw_all := lw_g (lw_at lw_m6 11 rfl) rfl
theorem q1296 : (Jvm.Cond.instanceMethod ({ cls := "EaterWebsModel", name := "caughtBy", desc := "()J" } : Jvm.MethodName)) ∈ lw_all := lw_g (lw_at lw_m6 13 rfl) rfl
theorem q1297 : (Jvm.Cond.selects "EaterWebsModel" ({ cls := "EaterWebsModel", name := "caughtBy", desc := "()J" } : Jvm.MethodName) ({ cls := "EaterWebsModel", name := "caughtBy", desc := "()J" } : Jvm.MethodName)) ∈ lw_all := lw_g (lw_at lw_m6 14 rfl) rfl
theorem q1298 : (Jvm.Cond.code ({ cls := "EaterWebsModel", name := "caughtBy", desc := "()J" } : Jvm.MethodName) prog_8_method_57_code (1 : Nat) (Option.some Jvm.ClassFile.FieldType.long)) ∈ lw_all := lw_g (lw_at lw_m6 15 rfl) rfl
theorem q1300 : (Jvm.Cond.instanceMethod ({ cls := "EaterWebsModel", name := "without", desc := "(I)I" } : Jvm.MethodName)) ∈ lw_all := lw_g (lw_at lw_m6 17 rfl) rfl
theorem q1301 : (Jvm.Cond.selects "EaterWebsModel" ({ cls := "EaterWebsModel", name := "without", desc := "(I)I" } : Jvm.MethodName) ({ cls := "EaterWebsModel", name := "without", desc := "(I)I" } : Jvm.MethodName)) ∈ lw_all := lw_g (lw_at lw_m6 18 rfl) rfl
theorem q1302 : (Jvm.Cond.code ({ cls := "EaterWebsModel", name := "without", desc := "(I)I" } : Jvm.MethodName) prog_8_method_61_code (3 : Nat) (Option.some Jvm.ClassFile.FieldType.int)) ∈ lw_all := lw_g (lw_at lw_m6 19 rfl) rfl
theorem q1303 : (Jvm.Cond.methodLink "EaterWebsModel" (255 : Nat) ({ cls := "EaterWebsModel", name := "goneWithout", desc := "(I)I" } : Jvm.MethodName)) ∈ lw_all := lw_g (lw_at lw_m6 20 rfl) rfl
theorem q1304 : (Jvm.Cond.privateMethod ({ cls := "EaterWebsModel", name := "goneWithout", desc := "(I)I" } : Jvm.MethodName)) ∈ lw_tbl := lw_at lw_m6 21 rfl
theorem q1305 : (Jvm.Cond.instanceMethod ({ cls := "EaterWebsModel", name := "goneWithout", desc := "(I)I" } : Jvm.MethodName)) ∈ lw_all := lw_g (lw_at lw_m6 22 rfl) rfl
theorem q1306 : (Jvm.Cond.code ({ cls := "EaterWebsModel", name := "goneWithout", desc := "(I)I" } : Jvm.MethodName) prog_8_method_59_code (7 : Nat) (Option.some Jvm.ClassFile.FieldType.int)) ∈ lw_all := lw_g (lw_at lw_m6 23 rfl) rfl
theorem q1307 : (Jvm.Cond.methodLink "EaterWebsModel" (252 : Nat) ({ cls := "EaterWebsModel", name := "thereSet", desc := "()I" } : Jvm.MethodName)) ∈ lw_all := lw_g (lw_at lw_m6 24 rfl) rfl
theorem q1308 : (Jvm.Cond.privateMethod ({ cls := "EaterWebsModel", name := "thereSet", desc := "()I" } : Jvm.MethodName)) ∈ lw_tbl := lw_at lw_m6 25 rfl
theorem q1309 : (Jvm.Cond.instanceMethod ({ cls := "EaterWebsModel", name := "thereSet", desc := "()I" } : Jvm.MethodName)) ∈ lw_all := lw_g (lw_at lw_m6 26 rfl) rfl
theorem q1310 : (Jvm.Cond.code ({ cls := "EaterWebsModel", name := "thereSet", desc := "()I" } : Jvm.MethodName) prog_8_method_58_code (3 : Nat) (Option.some Jvm.ClassFile.FieldType.int)) ∈ lw_all := lw_g (lw_at lw_m6 27 rfl) rfl
theorem q1311 : (Jvm.Cond.methodLink "EaterWebsModel" (258 : Nat) ({ cls := "EaterWebsModel", name := "bitsOf", desc := "(I)I" } : Jvm.MethodName)) ∈ lw_all := lw_g (lw_at lw_m6 28 rfl) rfl
theorem q1312 : (Jvm.Cond.static ({ cls := "EaterWebsModel", name := "bitsOf", desc := "(I)I" } : Jvm.MethodName)) ∈ lw_all := lw_g (lw_at lw_m6 29 rfl) rfl
theorem q1313 : (Jvm.Cond.code ({ cls := "EaterWebsModel", name := "bitsOf", desc := "(I)I" } : Jvm.MethodName) prog_8_method_60_code (3 : Nat) (Option.some Jvm.ClassFile.FieldType.int)) ∈ lw_all := lw_g (lw_at lw_m6 30 rfl) rfl
theorem q1315 : (Jvm.Cond.instanceMethod ({ cls := "EaterWebsModel", name := "worst", desc := "(I)I" } : Jvm.MethodName)) ∈ lw_all := lw_g (lw_at lw_m6 32 rfl) rfl
theorem q1316 : (Jvm.Cond.selects "EaterWebsModel" ({ cls := "EaterWebsModel", name := "worst", desc := "(I)I" } : Jvm.MethodName) ({ cls := "EaterWebsModel", name := "worst", desc := "(I)I" } : Jvm.MethodName)) ∈ lw_all := lw_g (lw_at lw_m6 33 rfl) rfl
theorem q1317 : (Jvm.Cond.code ({ cls := "EaterWebsModel", name := "worst", desc := "(I)I" } : Jvm.MethodName) prog_8_method_62_code (6 : Nat) (Option.some Jvm.ClassFile.FieldType.int)) ∈ lw_all := lw_g (lw_at lw_m6 34 rfl) rfl
theorem q1319 : (Jvm.Cond.instanceMethod ({ cls := "EaterWebsModel", name := "needs", desc := "(II)I" } : Jvm.MethodName)) ∈ lw_all := lw_g (lw_at lw_m6 36 rfl) rfl
theorem q1320 : (Jvm.Cond.selects "EaterWebsModel" ({ cls := "EaterWebsModel", name := "needs", desc := "(II)I" } : Jvm.MethodName) ({ cls := "EaterWebsModel", name := "needs", desc := "(II)I" } : Jvm.MethodName)) ∈ lw_all := lw_g (lw_at lw_m6 37 rfl) rfl
theorem q1321 : (Jvm.Cond.code ({ cls := "EaterWebsModel", name := "needs", desc := "(II)I" } : Jvm.MethodName) prog_8_method_63_code (4 : Nat) (Option.some Jvm.ClassFile.FieldType.int)) ∈ lw_all := lw_g (lw_at lw_m6 38 rfl) rfl
theorem q1323 : (Jvm.Cond.instanceMethod ({ cls := "EaterWebsModel", name := "rung", desc := "(I)I" } : Jvm.MethodName)) ∈ lw_all := lw_g (lw_at lw_m6 40 rfl) rfl
theorem q1324 : (Jvm.Cond.selects "EaterWebsModel" ({ cls := "EaterWebsModel", name := "rung", desc := "(I)I" } : Jvm.MethodName) ({ cls := "EaterWebsModel", name := "rung", desc := "(I)I" } : Jvm.MethodName)) ∈ lw_all := lw_g (lw_at lw_m6 41 rfl) rfl
theorem q1325 : (Jvm.Cond.code ({ cls := "EaterWebsModel", name := "rung", desc := "(I)I" } : Jvm.MethodName) prog_8_method_64_code (8 : Nat) (Option.some Jvm.ClassFile.FieldType.int)) ∈ lw_all := lw_g (lw_at lw_m6 42 rfl) rfl
theorem q1327 : (Jvm.Cond.instanceMethod ({ cls := "EaterWebsModel", name := "rings", desc := "(I)I" } : Jvm.MethodName)) ∈ lw_all := lw_g (lw_at lw_m6 44 rfl) rfl
theorem q1328 : (Jvm.Cond.selects "EaterWebsModel" ({ cls := "EaterWebsModel", name := "rings", desc := "(I)I" } : Jvm.MethodName) ({ cls := "EaterWebsModel", name := "rings", desc := "(I)I" } : Jvm.MethodName)) ∈ lw_all := lw_g (lw_at lw_m6 45 rfl) rfl
theorem q1329 : (Jvm.Cond.code ({ cls := "EaterWebsModel", name := "rings", desc := "(I)I" } : Jvm.MethodName) prog_8_method_66_code (4 : Nat) (Option.some Jvm.ClassFile.FieldType.int)) ∈ lw_all := lw_g (lw_at lw_m6 46 rfl) rfl
theorem q1330 : (Jvm.Cond.methodLink "EaterWebsModel" (261 : Nat) ({ cls := "EaterWebsModel", name := "ringsFrom", desc := "(IIII)I" } : Jvm.MethodName)) ∈ lw_all := lw_g (lw_at lw_m6 47 rfl) rfl
theorem q1331 : (Jvm.Cond.privateMethod ({ cls := "EaterWebsModel", name := "ringsFrom", desc := "(IIII)I" } : Jvm.MethodName)) ∈ lw_tbl := lw_at lw_m6 48 rfl
theorem q1332 : (Jvm.Cond.instanceMethod ({ cls := "EaterWebsModel", name := "ringsFrom", desc := "(IIII)I" } : Jvm.MethodName)) ∈ lw_all := lw_g (lw_at lw_m6 49 rfl) rfl
theorem q1333 : (Jvm.Cond.code ({ cls := "EaterWebsModel", name := "ringsFrom", desc := "(IIII)I" } : Jvm.MethodName) prog_8_method_65_code (7 : Nat) (Option.some Jvm.ClassFile.FieldType.int)) ∈ lw_all := lw_g (lw_at lw_m6 50 rfl) rfl
theorem q1335 : (Jvm.Cond.instanceMethod ({ cls := "EaterWebsModel", name := "span", desc := "(IIII)I" } : Jvm.MethodName)) ∈ lw_all := lw_g (lw_at lw_m6 52 rfl) rfl
theorem q1336 : (Jvm.Cond.selects "EaterWebsModel" ({ cls := "EaterWebsModel", name := "span", desc := "(IIII)I" } : Jvm.MethodName) ({ cls := "EaterWebsModel", name := "span", desc := "(IIII)I" } : Jvm.MethodName)) ∈ lw_all := lw_g (lw_at lw_m6 53 rfl) rfl
theorem q1337 : (Jvm.Cond.code ({ cls := "EaterWebsModel", name := "span", desc := "(IIII)I" } : Jvm.MethodName) prog_8_method_69_code (6 : Nat) (Option.some Jvm.ClassFile.FieldType.int)) ∈ lw_all := lw_g (lw_at lw_m6 54 rfl) rfl
theorem q1339 : (Jvm.Cond.instanceMethod ({ cls := "EaterWebsModel", name := "door", desc := "(IZII)I" } : Jvm.MethodName)) ∈ lw_all := lw_g (lw_at lw_m6 56 rfl) rfl
theorem q1340 : (Jvm.Cond.selects "EaterWebsModel" ({ cls := "EaterWebsModel", name := "door", desc := "(IZII)I" } : Jvm.MethodName) ({ cls := "EaterWebsModel", name := "door", desc := "(IZII)I" } : Jvm.MethodName)) ∈ lw_all := lw_g (lw_at lw_m6 57 rfl) rfl
theorem q1341 : (Jvm.Cond.code ({ cls := "EaterWebsModel", name := "door", desc := "(IZII)I" } : Jvm.MethodName) prog_8_method_70_code (6 : Nat) (Option.some Jvm.ClassFile.FieldType.int)) ∈ lw_all := lw_g (lw_at lw_m6 58 rfl) rfl
theorem q1343 : (Jvm.Cond.instanceMethod ({ cls := "EaterWebsModel", name := "balanced", desc := "()I" } : Jvm.MethodName)) ∈ lw_all := lw_g (lw_at lw_m6 60 rfl) rfl
theorem q1344 : (Jvm.Cond.selects "EaterWebsModel" ({ cls := "EaterWebsModel", name := "balanced", desc := "()I" } : Jvm.MethodName) ({ cls := "EaterWebsModel", name := "balanced", desc := "()I" } : Jvm.MethodName)) ∈ lw_all := lw_g (lw_at lw_m6 61 rfl) rfl
theorem q1345 : (Jvm.Cond.code ({ cls := "EaterWebsModel", name := "balanced", desc := "()I" } : Jvm.MethodName) prog_8_method_71_code (1 : Nat) (Option.some Jvm.ClassFile.FieldType.int)) ∈ lw_all := lw_g (lw_at lw_m6 62 rfl) rfl
theorem q1346 : (Jvm.Cond.methodLink "EaterWebsModel" (280 : Nat) ({ cls := "EaterWebsModel", name := "quarrelSet", desc := "()I" } : Jvm.MethodName)) ∈ lw_all := lw_g (lw_at lw_m6 63 rfl) rfl
theorem q1347 : (Jvm.Cond.privateMethod ({ cls := "EaterWebsModel", name := "quarrelSet", desc := "()I" } : Jvm.MethodName)) ∈ lw_tbl := lw_at lw_m6 64 rfl
theorem q1348 : (Jvm.Cond.instanceMethod ({ cls := "EaterWebsModel", name := "quarrelSet", desc := "()I" } : Jvm.MethodName)) ∈ lw_all := lw_g (lw_at lw_m6 65 rfl) rfl
theorem q1349 : (Jvm.Cond.code ({ cls := "EaterWebsModel", name := "quarrelSet", desc := "()I" } : Jvm.MethodName) prog_8_method_68_code (4 : Nat) (Option.some Jvm.ClassFile.FieldType.int)) ∈ lw_all := lw_g (lw_at lw_m6 66 rfl) rfl
theorem q1350 : (Jvm.Cond.methodLink "EaterWebsModel" (277 : Nat) ({ cls := "EaterWebsModel", name := "layRim", desc := "(I)V" } : Jvm.MethodName)) ∈ lw_all := lw_g (lw_at lw_m6 67 rfl) rfl
theorem q1351 : (Jvm.Cond.privateMethod ({ cls := "EaterWebsModel", name := "layRim", desc := "(I)V" } : Jvm.MethodName)) ∈ lw_tbl := lw_at lw_m6 68 rfl
theorem q1352 : (Jvm.Cond.instanceMethod ({ cls := "EaterWebsModel", name := "layRim", desc := "(I)V" } : Jvm.MethodName)) ∈ lw_all := lw_g (lw_at lw_m6 69 rfl) rfl
theorem q1353 : (Jvm.Cond.code ({ cls := "EaterWebsModel", name := "layRim", desc := "(I)V" } : Jvm.MethodName) prog_8_method_67_code (5 : Nat) (Option.none : Option Jvm.ClassFile.FieldType)) ∈ lw_all := lw_g (lw_at lw_m6 70 rfl) rfl
theorem q1355 : (Jvm.Cond.instanceMethod ({ cls := "EaterWebsModel", name := "quarrel", desc := "()I" } : Jvm.MethodName)) ∈ lw_all := lw_g (lw_at lw_m6 72 rfl) rfl
theorem q1356 : (Jvm.Cond.selects "EaterWebsModel" ({ cls := "EaterWebsModel", name := "quarrel", desc := "()I" } : Jvm.MethodName) ({ cls := "EaterWebsModel", name := "quarrel", desc := "()I" } : Jvm.MethodName)) ∈ lw_all := lw_g (lw_at lw_m6 73 rfl) rfl
theorem q1357 : (Jvm.Cond.code ({ cls := "EaterWebsModel", name := "quarrel", desc := "()I" } : Jvm.MethodName) prog_8_method_72_code (1 : Nat) (Option.some Jvm.ClassFile.FieldType.int)) ∈ lw_all := lw_g (lw_at lw_m6 74 rfl) rfl
theorem q1359 : (Jvm.Cond.instanceMethod ({ cls := "EaterWebsModel", name := "range", desc := "(IIZ)I" } : Jvm.MethodName)) ∈ lw_all := lw_g (lw_at lw_m6 76 rfl) rfl
theorem q1360 : (Jvm.Cond.selects "EaterWebsModel" ({ cls := "EaterWebsModel", name := "range", desc := "(IIZ)I" } : Jvm.MethodName) ({ cls := "EaterWebsModel", name := "range", desc := "(IIZ)I" } : Jvm.MethodName)) ∈ lw_all := lw_g (lw_at lw_m6 77 rfl) rfl
theorem q1361 : (Jvm.Cond.code ({ cls := "EaterWebsModel", name := "range", desc := "(IIZ)I" } : Jvm.MethodName) prog_8_method_74_code (5 : Nat) (Option.some Jvm.ClassFile.FieldType.int)) ∈ lw_all := lw_g (lw_at lw_m6 78 rfl) rfl
theorem q1362 : (Jvm.Cond.methodLink "EaterWebsModel" (289 : Nat) ({ cls := "EaterWebsModel", name := "layRange", desc := "(II)V" } : Jvm.MethodName)) ∈ lw_all := lw_g (lw_at lw_m6 79 rfl) rfl
theorem q1363 : (Jvm.Cond.privateMethod ({ cls := "EaterWebsModel", name := "layRange", desc := "(II)V" } : Jvm.MethodName)) ∈ lw_tbl := lw_at lw_m6 80 rfl
theorem q1364 : (Jvm.Cond.instanceMethod ({ cls := "EaterWebsModel", name := "layRange", desc := "(II)V" } : Jvm.MethodName)) ∈ lw_all := lw_g (lw_at lw_m6 81 rfl) rfl
theorem q1365 : (Jvm.Cond.code ({ cls := "EaterWebsModel", name := "layRange", desc := "(II)V" } : Jvm.MethodName) prog_8_method_73_code (8 : Nat) (Option.none : Option Jvm.ClassFile.FieldType)) ∈ lw_all := lw_g (lw_at lw_m6 82 rfl) rfl
theorem q1367 : (Jvm.Cond.instanceMethod ({ cls := "EaterWebsModel", name := "nextSight", desc := "()I" } : Jvm.MethodName)) ∈ lw_all := lw_g (lw_at lw_m6 84 rfl) rfl
theorem q1368 : (Jvm.Cond.selects "EaterWebsModel" ({ cls := "EaterWebsModel", name := "nextSight", desc := "()I" } : Jvm.MethodName) ({ cls := "EaterWebsModel", name := "nextSight", desc := "()I" } : Jvm.MethodName)) ∈ lw_all := lw_g (lw_at lw_m6 85 rfl) rfl
theorem q1369 : (Jvm.Cond.code ({ cls := "EaterWebsModel", name := "nextSight", desc := "()I" } : Jvm.MethodName) prog_8_method_75_code (5 : Nat) (Option.some Jvm.ClassFile.FieldType.int)) ∈ lw_all := lw_g (lw_at lw_m6 86 rfl) rfl
theorem q1371 : (Jvm.Cond.instanceMethod ({ cls := "EaterWebsModel", name := "effect", desc := "(III)I" } : Jvm.MethodName)) ∈ lw_all := lw_g (lw_at lw_m6 88 rfl) rfl
theorem q1372 : (Jvm.Cond.selects "EaterWebsModel" ({ cls := "EaterWebsModel", name := "effect", desc := "(III)I" } : Jvm.MethodName) ({ cls := "EaterWebsModel", name := "effect", desc := "(III)I" } : Jvm.MethodName)) ∈ lw_all := lw_g (lw_at lw_m6 89 rfl) rfl
theorem q1373 : (Jvm.Cond.code ({ cls := "EaterWebsModel", name := "effect", desc := "(III)I" } : Jvm.MethodName) prog_8_method_80_code (6 : Nat) (Option.some Jvm.ClassFile.FieldType.int)) ∈ lw_all := lw_g (lw_at lw_m6 90 rfl) rfl
theorem q1375 : (Jvm.Cond.instanceMethod ({ cls := "EaterWebsModel", name := "push", desc := "(II)I" } : Jvm.MethodName)) ∈ lw_all := lw_g (lw_at lw_m6 92 rfl) rfl
theorem q1376 : (Jvm.Cond.selects "EaterWebsModel" ({ cls := "EaterWebsModel", name := "push", desc := "(II)I" } : Jvm.MethodName) ({ cls := "EaterWebsModel", name := "push", desc := "(II)I" } : Jvm.MethodName)) ∈ lw_all := lw_g (lw_at lw_m6 93 rfl) rfl
theorem q1377 : (Jvm.Cond.code ({ cls := "EaterWebsModel", name := "push", desc := "(II)I" } : Jvm.MethodName) prog_8_method_82_code (8 : Nat) (Option.some Jvm.ClassFile.FieldType.int)) ∈ lw_all := lw_g (lw_at lw_m6 94 rfl) rfl
theorem q1378 : (Jvm.Cond.methodLink "EaterWebsModel" (310 : Nat) ({ cls := "EaterWebsModel", name := "needPush", desc := "(II)I" } : Jvm.MethodName)) ∈ lw_all := lw_g (lw_at lw_m6 95 rfl) rfl
theorem q1379 : (Jvm.Cond.privateMethod ({ cls := "EaterWebsModel", name := "needPush", desc := "(II)I" } : Jvm.MethodName)) ∈ lw_tbl := lw_at lw_m6 96 rfl
theorem q1380 : (Jvm.Cond.instanceMethod ({ cls := "EaterWebsModel", name := "needPush", desc := "(II)I" } : Jvm.MethodName)) ∈ lw_all := lw_g (lw_at lw_m6 97 rfl) rfl
theorem q1381 : (Jvm.Cond.code ({ cls := "EaterWebsModel", name := "needPush", desc := "(II)I" } : Jvm.MethodName) prog_8_method_81_code (4 : Nat) (Option.some Jvm.ClassFile.FieldType.int)) ∈ lw_all := lw_g (lw_at lw_m6 98 rfl) rfl
theorem q1382 : (Jvm.Cond.methodLink "EaterWebsModel" (313 : Nat) ({ cls := "EaterWebsModel", name := "layTable", desc := "()V" } : Jvm.MethodName)) ∈ lw_all := lw_g (lw_at lw_m6 99 rfl) rfl
theorem q1383 : (Jvm.Cond.privateMethod ({ cls := "EaterWebsModel", name := "layTable", desc := "()V" } : Jvm.MethodName)) ∈ lw_tbl := lw_at lw_m6 100 rfl
theorem q1384 : (Jvm.Cond.instanceMethod ({ cls := "EaterWebsModel", name := "layTable", desc := "()V" } : Jvm.MethodName)) ∈ lw_all := lw_g (lw_at lw_m6 101 rfl) rfl
theorem q1385 : (Jvm.Cond.code ({ cls := "EaterWebsModel", name := "layTable", desc := "()V" } : Jvm.MethodName) prog_8_method_76_code (3 : Nat) (Option.none : Option Jvm.ClassFile.FieldType)) ∈ lw_all := lw_g (lw_at lw_m6 102 rfl) rfl
theorem q1386 : (Jvm.Cond.methodLink "EaterWebsModel" (316 : Nat) ({ cls := "EaterWebsModel", name := "worth", desc := "(II)J" } : Jvm.MethodName)) ∈ lw_all := lw_g (lw_at lw_m6 103 rfl) rfl
theorem q1387 : (Jvm.Cond.privateMethod ({ cls := "EaterWebsModel", name := "worth", desc := "(II)J" } : Jvm.MethodName)) ∈ lw_tbl := lw_at lw_m6 104 rfl
theorem q1388 : (Jvm.Cond.instanceMethod ({ cls := "EaterWebsModel", name := "worth", desc := "(II)J" } : Jvm.MethodName)) ∈ lw_all := lw_g (lw_at lw_m6 105 rfl) rfl
theorem q1389 : (Jvm.Cond.code ({ cls := "EaterWebsModel", name := "worth", desc := "(II)J" } : Jvm.MethodName) prog_8_method_79_code (4 : Nat) (Option.some Jvm.ClassFile.FieldType.long)) ∈ lw_all := lw_g (lw_at lw_m6 106 rfl) rfl
theorem q1390 : (Jvm.Cond.constantLong "EaterWebsModel" (308 : Nat) (-1 : Int64)) ∈ lw_all := lw_g (lw_at lw_m6 107 rfl) rfl
theorem q1391 : (Jvm.Cond.methodLink "EaterWebsModel" (304 : Nat) ({ cls := "EaterWebsModel", name := "expand", desc := "(IIJI)V" } : Jvm.MethodName)) ∈ lw_all := lw_g (lw_at lw_m6 108 rfl) rfl
theorem q1392 : (Jvm.Cond.privateMethod ({ cls := "EaterWebsModel", name := "expand", desc := "(IIJI)V" } : Jvm.MethodName)) ∈ lw_tbl := lw_at lw_m6 109 rfl
theorem q1393 : (Jvm.Cond.instanceMethod ({ cls := "EaterWebsModel", name := "expand", desc := "(IIJI)V" } : Jvm.MethodName)) ∈ lw_all := lw_g (lw_at lw_m6 110 rfl) rfl
theorem q1394 : (Jvm.Cond.code ({ cls := "EaterWebsModel", name := "expand", desc := "(IIJI)V" } : Jvm.MethodName) prog_8_method_78_code (10 : Nat) (Option.none : Option Jvm.ClassFile.FieldType)) ∈ lw_all := lw_g (lw_at lw_m6 111 rfl) rfl
theorem q1395 : (Jvm.Cond.methodLink "EaterWebsModel" (320 : Nat) ({ cls := "EaterWebsModel", name := "placeOf", desc := "(I)I" } : Jvm.MethodName)) ∈ lw_all := lw_g (lw_at lw_m6 112 rfl) rfl
theorem q1396 : (Jvm.Cond.privateMethod ({ cls := "EaterWebsModel", name := "placeOf", desc := "(I)I" } : Jvm.MethodName)) ∈ lw_tbl := lw_at lw_m6 113 rfl
theorem q1397 : (Jvm.Cond.instanceMethod ({ cls := "EaterWebsModel", name := "placeOf", desc := "(I)I" } : Jvm.MethodName)) ∈ lw_all := lw_g (lw_at lw_m6 114 rfl) rfl
theorem q1398 : (Jvm.Cond.code ({ cls := "EaterWebsModel", name := "placeOf", desc := "(I)I" } : Jvm.MethodName) prog_8_method_77_code (4 : Nat) (Option.some Jvm.ClassFile.FieldType.int)) ∈ lw_all := lw_g (lw_at lw_m6 115 rfl) rfl
theorem q1399 : (Jvm.Cond.methodLink "EaterWebsModel" (323 : Nat) ({ cls := "EaterWebsModel", name := "fraction", desc := "(JJI)I" } : Jvm.MethodName)) ∈ lw_all := lw_g (lw_at lw_m6 116 rfl) rfl
theorem q1400 : (Jvm.Cond.privateMethod ({ cls := "EaterWebsModel", name := "fraction", desc := "(JJI)I" } : Jvm.MethodName)) ∈ lw_tbl := lw_at lw_m6 117 rfl
theorem q1401 : (Jvm.Cond.instanceMethod ({ cls := "EaterWebsModel", name := "fraction", desc := "(JJI)I" } : Jvm.MethodName)) ∈ lw_all := lw_g (lw_at lw_m6 118 rfl) rfl
theorem q1402 : (Jvm.Cond.code ({ cls := "EaterWebsModel", name := "fraction", desc := "(JJI)I" } : Jvm.MethodName) prog_8_method_9_code (12 : Nat) (Option.some Jvm.ClassFile.FieldType.int)) ∈ lw_all := lw_g (lw_at lw_m6 119 rfl) rfl
theorem q1404 : (Jvm.Cond.instanceMethod ({ cls := "EaterWebsModel", name := "terms", desc := "(II)I" } : Jvm.MethodName)) ∈ lw_all := lw_g (lw_at lw_m6 121 rfl) rfl
theorem q1405 : (Jvm.Cond.selects "EaterWebsModel" ({ cls := "EaterWebsModel", name := "terms", desc := "(II)I" } : Jvm.MethodName) ({ cls := "EaterWebsModel", name := "terms", desc := "(II)I" } : Jvm.MethodName)) ∈ lw_all := lw_g (lw_at lw_m6 122 rfl) rfl
theorem q1406 : (Jvm.Cond.code ({ cls := "EaterWebsModel", name := "terms", desc := "(II)I" } : Jvm.MethodName) prog_8_method_83_code (5 : Nat) (Option.some Jvm.ClassFile.FieldType.int)) ∈ lw_all := lw_g (lw_at lw_m6 123 rfl) rfl
theorem q1408 : (Jvm.Cond.instanceMethod ({ cls := "EaterWebsModel", name := "steady", desc := "()I" } : Jvm.MethodName)) ∈ lw_all := lw_g (lw_at lw_m6 125 rfl) rfl
theorem q1409 : (Jvm.Cond.selects "EaterWebsModel" ({ cls := "EaterWebsModel", name := "steady", desc := "()I" } : Jvm.MethodName) ({ cls := "EaterWebsModel", name := "steady", desc := "()I" } : Jvm.MethodName)) ∈ lw_all := lw_g (lw_at lw_m6 126 rfl) rfl
theorem q1410 : (Jvm.Cond.code ({ cls := "EaterWebsModel", name := "steady", desc := "()I" } : Jvm.MethodName) prog_8_method_87_code (10 : Nat) (Option.some Jvm.ClassFile.FieldType.int)) ∈ lw_all := lw_g (lw_at lw_m6 127 rfl) rfl
theorem q1411 : (Jvm.Cond.methodLink "EaterWebsModel" (334 : Nat) ({ cls := "EaterWebsModel", name := "minors", desc := "(I)J" } : Jvm.MethodName)) ∈ lw_all := lw_g (lw_at lw_m6 128 rfl) rfl
theorem q1412 : (Jvm.Cond.privateMethod ({ cls := "EaterWebsModel", name := "minors", desc := "(I)J" } : Jvm.MethodName)) ∈ lw_tbl := lw_at lw_m6 129 rfl
theorem q1413 : (Jvm.Cond.instanceMethod ({ cls := "EaterWebsModel", name := "minors", desc := "(I)J" } : Jvm.MethodName)) ∈ lw_all := lw_g (lw_at lw_m6 130 rfl) rfl
theorem q1414 : (Jvm.Cond.code ({ cls := "EaterWebsModel", name := "minors", desc := "(I)J" } : Jvm.MethodName) prog_8_method_84_code (5 : Nat) (Option.some Jvm.ClassFile.FieldType.long)) ∈ lw_all := lw_g (lw_at lw_m6 131 rfl) rfl
theorem q1415 : (Jvm.Cond.methodLink "EaterWebsModel" (327 : Nat) ({ cls := "EaterWebsModel", name := "minorOf", desc := "(II)J" } : Jvm.MethodName)) ∈ lw_all := lw_g (lw_at lw_m6 132 rfl) rfl
theorem q1416 : (Jvm.Cond.privateMethod ({ cls := "EaterWebsModel", name := "minorOf", desc := "(II)J" } : Jvm.MethodName)) ∈ lw_tbl := lw_at lw_m6 133 rfl
theorem q1417 : (Jvm.Cond.instanceMethod ({ cls := "EaterWebsModel", name := "minorOf", desc := "(II)J" } : Jvm.MethodName)) ∈ lw_all := lw_g (lw_at lw_m6 134 rfl) rfl
theorem q1418 : (Jvm.Cond.code ({ cls := "EaterWebsModel", name := "minorOf", desc := "(II)J" } : Jvm.MethodName) prog_8_method_85_code (6 : Nat) (Option.some Jvm.ClassFile.FieldType.long)) ∈ lw_all := lw_g (lw_at lw_m6 135 rfl) rfl
theorem q1419 : (Jvm.Cond.methodLink "EaterWebsModel" (330 : Nat) ({ cls := "EaterWebsModel", name := "smallWorth", desc := "(III)J" } : Jvm.MethodName)) ∈ lw_all := lw_g (lw_at lw_m6 136 rfl) rfl
theorem q1420 : (Jvm.Cond.privateMethod ({ cls := "EaterWebsModel", name := "smallWorth", desc := "(III)J" } : Jvm.MethodName)) ∈ lw_tbl := lw_at lw_m6 137 rfl
theorem q1421 : (Jvm.Cond.instanceMethod ({ cls := "EaterWebsModel", name := "smallWorth", desc := "(III)J" } : Jvm.MethodName)) ∈ lw_all := lw_g (lw_at lw_m6 138 rfl) rfl
theorem q1422 : (Jvm.Cond.code ({ cls := "EaterWebsModel", name := "smallWorth", desc := "(III)J" } : Jvm.MethodName) prog_8_method_86_code (10 : Nat) (Option.some Jvm.ClassFile.FieldType.long)) ∈ lw_all := lw_g (lw_at lw_m6 139 rfl) rfl
theorem q1424 : (Jvm.Cond.instanceMethod ({ cls := "EaterWebsModel", name := "count", desc := "(I)I" } : Jvm.MethodName)) ∈ lw_all := lw_g (lw_at lw_m6 141 rfl) rfl
theorem q1425 : (Jvm.Cond.selects "EaterWebsModel" ({ cls := "EaterWebsModel", name := "count", desc := "(I)I" } : Jvm.MethodName) ({ cls := "EaterWebsModel", name := "count", desc := "(I)I" } : Jvm.MethodName)) ∈ lw_all := lw_g (lw_at lw_m6 142 rfl) rfl
theorem q1426 : (Jvm.Cond.code ({ cls := "EaterWebsModel", name := "count", desc := "(I)I" } : Jvm.MethodName) prog_8_method_89_code (2 : Nat) (Option.some Jvm.ClassFile.FieldType.int)) ∈ lw_all := lw_g (lw_at lw_m6 143 rfl) rfl
theorem q1427 : (Jvm.Cond.methodLink "EaterWebsModel" (338 : Nat) ({ cls := "EaterWebsModel", name := "tellsCount", desc := "(I)I" } : Jvm.MethodName)) ∈ lw_all := lw_g (lw_at lw_m6 144 rfl) rfl
theorem q1428 : (Jvm.Cond.privateMethod ({ cls := "EaterWebsModel", name := "tellsCount", desc := "(I)I" } : Jvm.MethodName)) ∈ lw_tbl := lw_at lw_m6 145 rfl
theorem q1429 : (Jvm.Cond.instanceMethod ({ cls := "EaterWebsModel", name := "tellsCount", desc := "(I)I" } : Jvm.MethodName)) ∈ lw_all := lw_g (lw_at lw_m6 146 rfl) rfl
theorem q1430 : (Jvm.Cond.code ({ cls := "EaterWebsModel", name := "tellsCount", desc := "(I)I" } : Jvm.MethodName) prog_8_method_88_code (4 : Nat) (Option.some Jvm.ClassFile.FieldType.int)) ∈ lw_all := lw_g (lw_at lw_m6 147 rfl) rfl
theorem q1432 : (Jvm.Cond.instanceMethod ({ cls := "EaterWebsModel", name := "digest", desc := "()J" } : Jvm.MethodName)) ∈ lw_all := lw_g (lw_at lw_m6 149 rfl) rfl
theorem q1433 : (Jvm.Cond.selects "EaterWebsModel" ({ cls := "EaterWebsModel", name := "digest", desc := "()J" } : Jvm.MethodName) ({ cls := "EaterWebsModel", name := "digest", desc := "()J" } : Jvm.MethodName)) ∈ lw_all := lw_g (lw_at lw_m6 150 rfl) rfl
theorem q1434 : (Jvm.Cond.code ({ cls := "EaterWebsModel", name := "digest", desc := "()J" } : Jvm.MethodName) prog_8_method_92_code (3 : Nat) (Option.some Jvm.ClassFile.FieldType.long)) ∈ lw_all := lw_g (lw_at lw_m6 151 rfl) rfl
theorem q1435 : (Jvm.Cond.constantLong "EaterWebsModel" (350 : Nat) (17 : Int64)) ∈ lw_all := lw_g (lw_at lw_m6 152 rfl) rfl
theorem q1436 : (Jvm.Cond.methodLink "EaterWebsModel" (346 : Nat) ({ cls := "EaterWebsModel", name := "tell", desc := "(J)V" } : Jvm.MethodName)) ∈ lw_all := lw_g (lw_at lw_m6 153 rfl) rfl
theorem q1437 : (Jvm.Cond.privateMethod ({ cls := "EaterWebsModel", name := "tell", desc := "(J)V" } : Jvm.MethodName)) ∈ lw_tbl := lw_at lw_m6 154 rfl
theorem q1438 : (Jvm.Cond.instanceMethod ({ cls := "EaterWebsModel", name := "tell", desc := "(J)V" } : Jvm.MethodName)) ∈ lw_all := lw_g (lw_at lw_m6 155 rfl) rfl
theorem q1439 : (Jvm.Cond.code ({ cls := "EaterWebsModel", name := "tell", desc := "(J)V" } : Jvm.MethodName) prog_8_method_90_code (3 : Nat) (Option.none : Option Jvm.ClassFile.FieldType)) ∈ lw_all := lw_g (lw_at lw_m6 156 rfl) rfl
theorem q1440 : (Jvm.Cond.constantLong "EaterWebsModel" (341 : Nat) (31 : Int64)) ∈ lw_all := lw_g (lw_at lw_m6 157 rfl) rfl
theorem q1441 : (Jvm.Cond.methodLink "EaterWebsModel" (352 : Nat) ({ cls := "EaterWebsModel", name := "tellBeing", desc := "(I)V" } : Jvm.MethodName)) ∈ lw_all := lw_g (lw_at lw_m6 158 rfl) rfl
theorem q1442 : (Jvm.Cond.privateMethod ({ cls := "EaterWebsModel", name := "tellBeing", desc := "(I)V" } : Jvm.MethodName)) ∈ lw_tbl := lw_at lw_m6 159 rfl
theorem q1443 : (Jvm.Cond.instanceMethod ({ cls := "EaterWebsModel", name := "tellBeing", desc := "(I)V" } : Jvm.MethodName)) ∈ lw_all := lw_g (lw_at lw_m6 160 rfl) rfl
theorem q1444 : (Jvm.Cond.code ({ cls := "EaterWebsModel", name := "tellBeing", desc := "(I)V" } : Jvm.MethodName) prog_8_method_91_code (4 : Nat) (Option.none : Option Jvm.ClassFile.FieldType)) ∈ lw_all := lw_g (lw_at lw_m6 161 rfl) rfl
theorem in_X1 : ∀ w ∈ wsX10, w ∈ lw_all := lw_in wsX10 [971, 973, 975, 977, 979, 981, 983, 985, 987, 989, 991, 993, 995, 997, 999, 1001, 1003, 1005, 1007, 1009, 1011, 1013, 1015, 1017, 1019, 1021, 1023, 1025, 1027, 1029, 1031, 1033, 1035, 1037, 1039, 1041, 1043, 1045, 1047, 1049, 1051, 1053, 1055, 1057, 1059, 1061, 1063, 1065, 1067, 1069, 1071, 1073] (by decide +kernel) (by decide +kernel)
