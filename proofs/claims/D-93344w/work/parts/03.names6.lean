/-! HadForVoiceModel -/
set_option maxRecDepth 100000
def RX6 : String := "HadForVoiceModel"
def TX6 : u_T := fun k => match k with
  | 0 => ("HadForVoiceModel", "s", "[I", true)
  | 1 => ("HadForVoiceModel", "kept", "[I", true)
  | 2 => ("HadForVoiceModel", "other", "[I", true)
  | 3 => ("HadForVoiceModel", "isKept", "Z", false)
  | 4 => ("HadForVoiceModel", "absent", "I", false)
  | 5 => ("HadForVoiceModel", "stack", "[I", true)
  | 6 => ("HadForVoiceModel", "gave", "I", false)
  | 7 => ("HadForVoiceModel", "paid", "I", false)
  | 8 => ("HadForVoiceModel", "row", "[I", true)
  | 9 => ("HadForVoiceModel", "shortest", "[I", true)
  | 10 => ("HadForVoiceModel", "cheap", "[I", true)
  | 11 => ("HadForVoiceModel", "doneMany", "I", false)
  | 12 => ("HadForVoiceModel", "mostWhole", "I", false)
  | 13 => ("HadForVoiceModel", "shortestLong", "I", false)
  | 14 => ("HadForVoiceModel", "cheapCost", "I", false)
  | 15 => ("HadForVoiceModel", "cheapLong", "I", false)
  | 16 => ("HadForVoiceModel", "circle", "[I", true)
  | 17 => ("HadForVoiceModel", "firstCircle", "[I", true)
  | 18 => ("HadForVoiceModel", "ringMany", "I", false)
  | 19 => ("HadForVoiceModel", "comesTo", "I", false)
  | 20 => ("HadForVoiceModel", "fitMany", "I", false)
  | 21 => ("HadForVoiceModel", "fitTimes", "I", false)
  | 22 => ("HadForVoiceModel", "fitFee", "I", false)
  | 23 => ("HadForVoiceModel", "rows", "[I", true)
  | 24 => ("HadForVoiceModel", "rowMany", "I", false)
  | 25 => ("HadForVoiceModel", "tape", "[I", true)
  | 26 => ("HadForVoiceModel", "taped", "I", false)
  | 27 => ("HadForVoiceModel", "from", "I", false)
  | 28 => ("HadForVoiceModel", "to", "I", false)
  | 29 => ("HadForVoiceModel", "value", "I", false)
  | 30 => ("HadForVoiceModel", "open", "I", false)
  | 31 => ("HadForVoiceModel", "coded", "I", false)
  | 32 => ("HadForVoiceModel", "isWrong", "Z", false)
  | 33 => ("HadForVoiceModel", "sortOf", "[I", true)
  | 34 => ("HadForVoiceModel", "sizes", "[I", true)
  | 35 => ("HadForVoiceModel", "items", "[I", true)
  | 36 => ("HadForVoiceModel", "lies", "[I", true)
  | 37 => ("HadForVoiceModel", "liesNumber", "[I", true)
  | 38 => ("HadForVoiceModel", "liesSort", "[I", true)
  | 39 => ("HadForVoiceModel", "ran", "[I", true)
  | 40 => ("HadForVoiceModel", "bodies", "I", false)
  | 41 => ("HadForVoiceModel", "acting", "I", false)
  | 42 => ("HadForVoiceModel", "about", "I", false)
  | 43 => ("HadForVoiceModel", "kindActing", "I", false)
  | _ => ("HadForVoiceModel", "isParted", "Z", false)
def tyX6 : Nat → FieldType := fun k => match k with
  | 0 => .array .int
  | 1 => .array .int
  | 2 => .array .int
  | 3 => .boolean
  | 4 => .int
  | 5 => .array .int
  | 6 => .int
  | 7 => .int
  | 8 => .array .int
  | 9 => .array .int
  | 10 => .array .int
  | 11 => .int
  | 12 => .int
  | 13 => .int
  | 14 => .int
  | 15 => .int
  | 16 => .array .int
  | 17 => .array .int
  | 18 => .int
  | 19 => .int
  | 20 => .int
  | 21 => .int
  | 22 => .int
  | 23 => .array .int
  | 24 => .int
  | 25 => .array .int
  | 26 => .int
  | 27 => .int
  | 28 => .int
  | 29 => .int
  | 30 => .int
  | 31 => .int
  | 32 => .boolean
  | 33 => .array .int
  | 34 => .array .int
  | 35 => .array .int
  | 36 => .array .int
  | 37 => .array .int
  | 38 => .array .int
  | 39 => .array .int
  | 40 => .int
  | 41 => .int
  | 42 => .int
  | 43 => .int
  | _ => .boolean
abbrev wsX60 : List Cond := u_ws RX6 TX6 45
set_option maxRecDepth 100000 in
theorem nmX6 : ∀ a, a < 45 → ∀ b, b < 45 → a ≠ b → (TX6 a).2.1 ≠ (TX6 b).2.1 := by decide +kernel
set_option maxRecDepth 100000 in
theorem tyX6_ok : ∀ k, k < 45 → parseFieldDescriptor (TX6 k).2.2.1 = some (tyX6 k) := by decide +kernel
abbrev cX6_init : ByteArray := prog_26_method_1_code
def yX6_init : MethodName := ⟨RX6, "<init>", "()V"⟩
def dkwX6_init_7 : List UInt8 := [188, 10, 181, 0, 65, 42, 180, 0, 7, 8, 4, 79, 177]
abbrev dktX6_init_7 : List UInt8 := dkwX6_init_7 ++ []
def dkwX6_init_6 : List UInt8 := [7, 188, 10, 181, 0, 56, 42, 7, 188, 10, 181, 0, 59, 42, 7, 188, 10, 181, 0, 62, 42, 16, 30]
abbrev dktX6_init_6 : List UInt8 := dkwX6_init_6 ++ dktX6_init_7
def dkwX6_init_5 : List UInt8 := [89, 6, 2, 79, 181, 0, 47, 42, 7, 188, 10, 181, 0, 50, 42, 17, 0, 160, 188, 10, 181, 0, 53, 42]
abbrev dktX6_init_5 : List UInt8 := dkwX6_init_5 ++ dktX6_init_6
def dkwX6_init_4 : List UInt8 := [17, 0, 200, 188, 10, 181, 0, 44, 42, 7, 188, 10, 89, 3, 2, 79, 89, 4, 2, 79, 89, 5, 2, 79]
abbrev dktX6_init_4 : List UInt8 := dkwX6_init_4 ++ dktX6_init_5
def dkwX6_init_3 : List UInt8 := [16, 6, 188, 10, 181, 0, 35, 42, 16, 6, 188, 10, 181, 0, 38, 42, 16, 18, 188, 10, 181, 0, 41, 42]
abbrev dktX6_init_3 : List UInt8 := dkwX6_init_3 ++ dktX6_init_4
def dkwX6_init_2 : List UInt8 := [16, 6, 188, 10, 181, 0, 26, 42, 16, 6, 188, 10, 181, 0, 29, 42, 16, 6, 188, 10, 181, 0, 32, 42]
abbrev dktX6_init_2 : List UInt8 := dkwX6_init_2 ++ dktX6_init_3
def dkwX6_init_1 : List UInt8 := [17, 1, 84, 188, 10, 181, 0, 16, 42, 2, 181, 0, 19, 42, 17, 0, 200, 188, 10, 181, 0, 23, 42]
abbrev dktX6_init_1 : List UInt8 := dkwX6_init_1 ++ dktX6_init_2
def dkwX6_init_0 : List UInt8 := [42, 183, 0, 1, 42, 17, 1, 84, 188, 10, 181, 0, 7, 42, 17, 1, 84, 188, 10, 181, 0, 13, 42]
abbrev dktX6_init_0 : List UInt8 := dkwX6_init_0 ++ dktX6_init_1
theorem dksX6_init_0 : cX6_init.data.toList.drop 0 = dktX6_init_0 := by decide +kernel
theorem dksX6_init_1 : cX6_init.data.toList.drop 23 = dktX6_init_1 := dk_seg dksX6_init_0 23 rfl rfl
theorem dksX6_init_2 : cX6_init.data.toList.drop 46 = dktX6_init_2 := dk_seg dksX6_init_1 23 rfl rfl
theorem dksX6_init_3 : cX6_init.data.toList.drop 70 = dktX6_init_3 := dk_seg dksX6_init_2 24 rfl rfl
theorem dksX6_init_4 : cX6_init.data.toList.drop 94 = dktX6_init_4 := dk_seg dksX6_init_3 24 rfl rfl
theorem dksX6_init_5 : cX6_init.data.toList.drop 118 = dktX6_init_5 := dk_seg dksX6_init_4 24 rfl rfl
theorem dksX6_init_6 : cX6_init.data.toList.drop 142 = dktX6_init_6 := dk_seg dksX6_init_5 24 rfl rfl
theorem dksX6_init_7 : cX6_init.data.toList.drop 165 = dktX6_init_7 := dk_seg dksX6_init_6 23 rfl rfl
theorem dX6_init_0 : decode cX6_init 0 = .ok (.aload_n 0, 1) := dk_42 (dk_at dksX6_init_0 0 rfl rfl)
theorem dX6_init_1 : decode cX6_init 1 = .ok (.invokespecial 1, 3) := dk_183 0 1 (dk_at dksX6_init_0 1 rfl rfl)
theorem dX6_init_4 : decode cX6_init 4 = .ok (.aload_n 0, 1) := dk_42 (dk_at dksX6_init_0 4 rfl rfl)
theorem dX6_init_5 : decode cX6_init 5 = .ok (.sipush 340, 3) := dk_17 1 84 (dk_at dksX6_init_0 5 rfl rfl)
theorem dX6_init_8 : decode cX6_init 8 = .ok (.newarray .int, 2) := dk_188_10 (dk_at dksX6_init_0 8 rfl rfl)
theorem dX6_init_10 : decode cX6_init 10 = .ok (.putfield 7, 3) := dk_181 0 7 (dk_at dksX6_init_0 10 rfl rfl)
theorem dX6_init_13 : decode cX6_init 13 = .ok (.aload_n 0, 1) := dk_42 (dk_at dksX6_init_0 13 rfl rfl)
theorem dX6_init_14 : decode cX6_init 14 = .ok (.sipush 340, 3) := dk_17 1 84 (dk_at dksX6_init_0 14 rfl rfl)
theorem dX6_init_17 : decode cX6_init 17 = .ok (.newarray .int, 2) := dk_188_10 (dk_at dksX6_init_0 17 rfl rfl)
theorem dX6_init_19 : decode cX6_init 19 = .ok (.putfield 13, 3) := dk_181 0 13 (dk_at dksX6_init_0 19 rfl rfl)
theorem dX6_init_22 : decode cX6_init 22 = .ok (.aload_n 0, 1) := dk_42 (dk_at dksX6_init_0 22 rfl rfl)
theorem dX6_init_23 : decode cX6_init 23 = .ok (.sipush 340, 3) := dk_17 1 84 (dk_at dksX6_init_1 0 rfl rfl)
theorem dX6_init_26 : decode cX6_init 26 = .ok (.newarray .int, 2) := dk_188_10 (dk_at dksX6_init_1 3 rfl rfl)
theorem dX6_init_28 : decode cX6_init 28 = .ok (.putfield 16, 3) := dk_181 0 16 (dk_at dksX6_init_1 5 rfl rfl)
theorem dX6_init_31 : decode cX6_init 31 = .ok (.aload_n 0, 1) := dk_42 (dk_at dksX6_init_1 8 rfl rfl)
theorem dX6_init_32 : decode cX6_init 32 = .ok (.iconst (-1), 1) := dk_2 (dk_at dksX6_init_1 9 rfl rfl)
theorem dX6_init_33 : decode cX6_init 33 = .ok (.putfield 19, 3) := dk_181 0 19 (dk_at dksX6_init_1 10 rfl rfl)
theorem dX6_init_36 : decode cX6_init 36 = .ok (.aload_n 0, 1) := dk_42 (dk_at dksX6_init_1 13 rfl rfl)
theorem dX6_init_37 : decode cX6_init 37 = .ok (.sipush 200, 3) := dk_17 0 200 (dk_at dksX6_init_1 14 rfl rfl)
theorem dX6_init_40 : decode cX6_init 40 = .ok (.newarray .int, 2) := dk_188_10 (dk_at dksX6_init_1 17 rfl rfl)
theorem dX6_init_42 : decode cX6_init 42 = .ok (.putfield 23, 3) := dk_181 0 23 (dk_at dksX6_init_1 19 rfl rfl)
theorem dX6_init_45 : decode cX6_init 45 = .ok (.aload_n 0, 1) := dk_42 (dk_at dksX6_init_1 22 rfl rfl)
theorem dX6_init_46 : decode cX6_init 46 = .ok (.bipush 6, 2) := dk_16 6 (dk_at dksX6_init_2 0 rfl rfl)
theorem dX6_init_48 : decode cX6_init 48 = .ok (.newarray .int, 2) := dk_188_10 (dk_at dksX6_init_2 2 rfl rfl)
theorem dX6_init_50 : decode cX6_init 50 = .ok (.putfield 26, 3) := dk_181 0 26 (dk_at dksX6_init_2 4 rfl rfl)
theorem dX6_init_53 : decode cX6_init 53 = .ok (.aload_n 0, 1) := dk_42 (dk_at dksX6_init_2 7 rfl rfl)
theorem dX6_init_54 : decode cX6_init 54 = .ok (.bipush 6, 2) := dk_16 6 (dk_at dksX6_init_2 8 rfl rfl)
theorem dX6_init_56 : decode cX6_init 56 = .ok (.newarray .int, 2) := dk_188_10 (dk_at dksX6_init_2 10 rfl rfl)
theorem dX6_init_58 : decode cX6_init 58 = .ok (.putfield 29, 3) := dk_181 0 29 (dk_at dksX6_init_2 12 rfl rfl)
theorem dX6_init_61 : decode cX6_init 61 = .ok (.aload_n 0, 1) := dk_42 (dk_at dksX6_init_2 15 rfl rfl)
theorem dX6_init_62 : decode cX6_init 62 = .ok (.bipush 6, 2) := dk_16 6 (dk_at dksX6_init_2 16 rfl rfl)
theorem dX6_init_64 : decode cX6_init 64 = .ok (.newarray .int, 2) := dk_188_10 (dk_at dksX6_init_2 18 rfl rfl)
theorem dX6_init_66 : decode cX6_init 66 = .ok (.putfield 32, 3) := dk_181 0 32 (dk_at dksX6_init_2 20 rfl rfl)
theorem dX6_init_69 : decode cX6_init 69 = .ok (.aload_n 0, 1) := dk_42 (dk_at dksX6_init_2 23 rfl rfl)
theorem dX6_init_70 : decode cX6_init 70 = .ok (.bipush 6, 2) := dk_16 6 (dk_at dksX6_init_3 0 rfl rfl)
theorem dX6_init_72 : decode cX6_init 72 = .ok (.newarray .int, 2) := dk_188_10 (dk_at dksX6_init_3 2 rfl rfl)
theorem dX6_init_74 : decode cX6_init 74 = .ok (.putfield 35, 3) := dk_181 0 35 (dk_at dksX6_init_3 4 rfl rfl)
theorem dX6_init_77 : decode cX6_init 77 = .ok (.aload_n 0, 1) := dk_42 (dk_at dksX6_init_3 7 rfl rfl)
theorem dX6_init_78 : decode cX6_init 78 = .ok (.bipush 6, 2) := dk_16 6 (dk_at dksX6_init_3 8 rfl rfl)
theorem dX6_init_80 : decode cX6_init 80 = .ok (.newarray .int, 2) := dk_188_10 (dk_at dksX6_init_3 10 rfl rfl)
theorem dX6_init_82 : decode cX6_init 82 = .ok (.putfield 38, 3) := dk_181 0 38 (dk_at dksX6_init_3 12 rfl rfl)
theorem dX6_init_85 : decode cX6_init 85 = .ok (.aload_n 0, 1) := dk_42 (dk_at dksX6_init_3 15 rfl rfl)
theorem dX6_init_86 : decode cX6_init 86 = .ok (.bipush 18, 2) := dk_16 18 (dk_at dksX6_init_3 16 rfl rfl)
theorem dX6_init_88 : decode cX6_init 88 = .ok (.newarray .int, 2) := dk_188_10 (dk_at dksX6_init_3 18 rfl rfl)
theorem dX6_init_90 : decode cX6_init 90 = .ok (.putfield 41, 3) := dk_181 0 41 (dk_at dksX6_init_3 20 rfl rfl)
theorem dX6_init_93 : decode cX6_init 93 = .ok (.aload_n 0, 1) := dk_42 (dk_at dksX6_init_3 23 rfl rfl)
theorem dX6_init_94 : decode cX6_init 94 = .ok (.sipush 200, 3) := dk_17 0 200 (dk_at dksX6_init_4 0 rfl rfl)
theorem dX6_init_97 : decode cX6_init 97 = .ok (.newarray .int, 2) := dk_188_10 (dk_at dksX6_init_4 3 rfl rfl)
theorem dX6_init_99 : decode cX6_init 99 = .ok (.putfield 44, 3) := dk_181 0 44 (dk_at dksX6_init_4 5 rfl rfl)
theorem dX6_init_102 : decode cX6_init 102 = .ok (.aload_n 0, 1) := dk_42 (dk_at dksX6_init_4 8 rfl rfl)
theorem dX6_init_103 : decode cX6_init 103 = .ok (.iconst 4, 1) := dk_7 (dk_at dksX6_init_4 9 rfl rfl)
theorem dX6_init_104 : decode cX6_init 104 = .ok (.newarray .int, 2) := dk_188_10 (dk_at dksX6_init_4 10 rfl rfl)
theorem dX6_init_106 : decode cX6_init 106 = .ok (.dup, 1) := dk_89 (dk_at dksX6_init_4 12 rfl rfl)
theorem dX6_init_107 : decode cX6_init 107 = .ok (.iconst 0, 1) := dk_3 (dk_at dksX6_init_4 13 rfl rfl)
theorem dX6_init_108 : decode cX6_init 108 = .ok (.iconst (-1), 1) := dk_2 (dk_at dksX6_init_4 14 rfl rfl)
theorem dX6_init_109 : decode cX6_init 109 = .ok (.iastore, 1) := dk_79 (dk_at dksX6_init_4 15 rfl rfl)
theorem dX6_init_110 : decode cX6_init 110 = .ok (.dup, 1) := dk_89 (dk_at dksX6_init_4 16 rfl rfl)
theorem dX6_init_111 : decode cX6_init 111 = .ok (.iconst 1, 1) := dk_4 (dk_at dksX6_init_4 17 rfl rfl)
theorem dX6_init_112 : decode cX6_init 112 = .ok (.iconst (-1), 1) := dk_2 (dk_at dksX6_init_4 18 rfl rfl)
theorem dX6_init_113 : decode cX6_init 113 = .ok (.iastore, 1) := dk_79 (dk_at dksX6_init_4 19 rfl rfl)
theorem dX6_init_114 : decode cX6_init 114 = .ok (.dup, 1) := dk_89 (dk_at dksX6_init_4 20 rfl rfl)
theorem dX6_init_115 : decode cX6_init 115 = .ok (.iconst 2, 1) := dk_5 (dk_at dksX6_init_4 21 rfl rfl)
theorem dX6_init_116 : decode cX6_init 116 = .ok (.iconst (-1), 1) := dk_2 (dk_at dksX6_init_4 22 rfl rfl)
theorem dX6_init_117 : decode cX6_init 117 = .ok (.iastore, 1) := dk_79 (dk_at dksX6_init_4 23 rfl rfl)
theorem dX6_init_118 : decode cX6_init 118 = .ok (.dup, 1) := dk_89 (dk_at dksX6_init_5 0 rfl rfl)
theorem dX6_init_119 : decode cX6_init 119 = .ok (.iconst 3, 1) := dk_6 (dk_at dksX6_init_5 1 rfl rfl)
theorem dX6_init_120 : decode cX6_init 120 = .ok (.iconst (-1), 1) := dk_2 (dk_at dksX6_init_5 2 rfl rfl)
theorem dX6_init_121 : decode cX6_init 121 = .ok (.iastore, 1) := dk_79 (dk_at dksX6_init_5 3 rfl rfl)
theorem dX6_init_122 : decode cX6_init 122 = .ok (.putfield 47, 3) := dk_181 0 47 (dk_at dksX6_init_5 4 rfl rfl)
theorem dX6_init_125 : decode cX6_init 125 = .ok (.aload_n 0, 1) := dk_42 (dk_at dksX6_init_5 7 rfl rfl)
theorem dX6_init_126 : decode cX6_init 126 = .ok (.iconst 4, 1) := dk_7 (dk_at dksX6_init_5 8 rfl rfl)
theorem dX6_init_127 : decode cX6_init 127 = .ok (.newarray .int, 2) := dk_188_10 (dk_at dksX6_init_5 9 rfl rfl)
theorem dX6_init_129 : decode cX6_init 129 = .ok (.putfield 50, 3) := dk_181 0 50 (dk_at dksX6_init_5 11 rfl rfl)
theorem dX6_init_132 : decode cX6_init 132 = .ok (.aload_n 0, 1) := dk_42 (dk_at dksX6_init_5 14 rfl rfl)
theorem dX6_init_133 : decode cX6_init 133 = .ok (.sipush 160, 3) := dk_17 0 160 (dk_at dksX6_init_5 15 rfl rfl)
theorem dX6_init_136 : decode cX6_init 136 = .ok (.newarray .int, 2) := dk_188_10 (dk_at dksX6_init_5 18 rfl rfl)
theorem dX6_init_138 : decode cX6_init 138 = .ok (.putfield 53, 3) := dk_181 0 53 (dk_at dksX6_init_5 20 rfl rfl)
theorem dX6_init_141 : decode cX6_init 141 = .ok (.aload_n 0, 1) := dk_42 (dk_at dksX6_init_5 23 rfl rfl)
theorem dX6_init_142 : decode cX6_init 142 = .ok (.iconst 4, 1) := dk_7 (dk_at dksX6_init_6 0 rfl rfl)
theorem dX6_init_143 : decode cX6_init 143 = .ok (.newarray .int, 2) := dk_188_10 (dk_at dksX6_init_6 1 rfl rfl)
theorem dX6_init_145 : decode cX6_init 145 = .ok (.putfield 56, 3) := dk_181 0 56 (dk_at dksX6_init_6 3 rfl rfl)
theorem dX6_init_148 : decode cX6_init 148 = .ok (.aload_n 0, 1) := dk_42 (dk_at dksX6_init_6 6 rfl rfl)
theorem dX6_init_149 : decode cX6_init 149 = .ok (.iconst 4, 1) := dk_7 (dk_at dksX6_init_6 7 rfl rfl)
theorem dX6_init_150 : decode cX6_init 150 = .ok (.newarray .int, 2) := dk_188_10 (dk_at dksX6_init_6 8 rfl rfl)
theorem dX6_init_152 : decode cX6_init 152 = .ok (.putfield 59, 3) := dk_181 0 59 (dk_at dksX6_init_6 10 rfl rfl)
theorem dX6_init_155 : decode cX6_init 155 = .ok (.aload_n 0, 1) := dk_42 (dk_at dksX6_init_6 13 rfl rfl)
theorem dX6_init_156 : decode cX6_init 156 = .ok (.iconst 4, 1) := dk_7 (dk_at dksX6_init_6 14 rfl rfl)
theorem dX6_init_157 : decode cX6_init 157 = .ok (.newarray .int, 2) := dk_188_10 (dk_at dksX6_init_6 15 rfl rfl)
theorem dX6_init_159 : decode cX6_init 159 = .ok (.putfield 62, 3) := dk_181 0 62 (dk_at dksX6_init_6 17 rfl rfl)
theorem dX6_init_162 : decode cX6_init 162 = .ok (.aload_n 0, 1) := dk_42 (dk_at dksX6_init_6 20 rfl rfl)
theorem dX6_init_163 : decode cX6_init 163 = .ok (.bipush 30, 2) := dk_16 30 (dk_at dksX6_init_6 21 rfl rfl)
theorem dX6_init_165 : decode cX6_init 165 = .ok (.newarray .int, 2) := dk_188_10 (dk_at dksX6_init_7 0 rfl rfl)
theorem dX6_init_167 : decode cX6_init 167 = .ok (.putfield 65, 3) := dk_181 0 65 (dk_at dksX6_init_7 2 rfl rfl)
theorem dX6_init_170 : decode cX6_init 170 = .ok (.aload_n 0, 1) := dk_42 (dk_at dksX6_init_7 5 rfl rfl)
theorem dX6_init_171 : decode cX6_init 171 = .ok (.getfield 7, 3) := dk_180 0 7 (dk_at dksX6_init_7 6 rfl rfl)
theorem dX6_init_174 : decode cX6_init 174 = .ok (.iconst 5, 1) := dk_8 (dk_at dksX6_init_7 9 rfl rfl)
theorem dX6_init_175 : decode cX6_init 175 = .ok (.iconst 1, 1) := dk_4 (dk_at dksX6_init_7 10 rfl rfl)
theorem dX6_init_176 : decode cX6_init 176 = .ok (.iastore, 1) := dk_79 (dk_at dksX6_init_7 11 rfl rfl)
theorem dX6_init_177 : decode cX6_init 177 = .ok (.return_, 1) := dk_177 (dk_at dksX6_init_7 12 rfl rfl)
abbrev cX6_person : ByteArray := prog_26_method_12_code
def yX6_person : MethodName := ⟨RX6, "person", "(IIII)I"⟩
def dkwX6_person_5 : List UInt8 := [180, 0, 7, 3, 92, 46, 4, 96, 79, 21, 5, 172]
abbrev dktX6_person_5 : List UInt8 := dkwX6_person_5 ++ []
def dkwX6_person_4 : List UInt8 := [21, 5, 6, 184, 0, 74, 21, 4, 79, 42, 180, 0, 7, 21, 5, 7, 184, 0, 74, 3, 79, 42]
abbrev dktX6_person_4 : List UInt8 := dkwX6_person_4 ++ dktX6_person_5
def dkwX6_person_3 : List UInt8 := [21, 5, 4, 184, 0, 74, 28, 79, 42, 180, 0, 7, 21, 5, 5, 184, 0, 74, 29, 79, 42, 180, 0, 7]
abbrev dktX6_person_3 : List UInt8 := dkwX6_person_3 ++ dktX6_person_4
def dkwX6_person_2 : List UInt8 := [180, 0, 7, 3, 46, 54, 5, 42, 180, 0, 7, 21, 5, 3, 184, 0, 74, 27, 79, 42, 180, 0, 7]
abbrev dktX6_person_2 : List UInt8 := dkwX6_person_2 ++ dktX6_person_3
def dkwX6_person_1 : List UInt8 := [184, 0, 89, 154, 0, 5, 2, 172, 42, 180, 0, 7, 3, 46, 16, 6, 160, 0, 6, 16, 254, 172, 42]
abbrev dktX6_person_1 : List UInt8 := dkwX6_person_1 ++ dktX6_person_2
def dkwX6_person_0 : List UInt8 := [27, 184, 0, 86, 153, 0, 26, 28, 184, 0, 80, 153, 0, 19, 29, 184, 0, 80, 153, 0, 12, 6, 21, 4]
abbrev dktX6_person_0 : List UInt8 := dkwX6_person_0 ++ dktX6_person_1
theorem dksX6_person_0 : cX6_person.data.toList.drop 0 = dktX6_person_0 := by decide +kernel
theorem dksX6_person_1 : cX6_person.data.toList.drop 24 = dktX6_person_1 := dk_seg dksX6_person_0 24 rfl rfl
theorem dksX6_person_2 : cX6_person.data.toList.drop 47 = dktX6_person_2 := dk_seg dksX6_person_1 23 rfl rfl
theorem dksX6_person_3 : cX6_person.data.toList.drop 70 = dktX6_person_3 := dk_seg dksX6_person_2 23 rfl rfl
theorem dksX6_person_4 : cX6_person.data.toList.drop 94 = dktX6_person_4 := dk_seg dksX6_person_3 24 rfl rfl
theorem dksX6_person_5 : cX6_person.data.toList.drop 116 = dktX6_person_5 := dk_seg dksX6_person_4 22 rfl rfl
theorem dX6_person_0 : decode cX6_person 0 = .ok (.iload_n 1, 1) := dk_27 (dk_at dksX6_person_0 0 rfl rfl)
theorem dX6_person_1 : decode cX6_person 1 = .ok (.invokestatic 86, 3) := dk_184 0 86 (dk_at dksX6_person_0 1 rfl rfl)
theorem dX6_person_4 : decode cX6_person 4 = .ok (.ifCond .eq 26, 3) := dk_153 0 26 (dk_at dksX6_person_0 4 rfl rfl)
theorem dX6_person_7 : decode cX6_person 7 = .ok (.iload_n 2, 1) := dk_28 (dk_at dksX6_person_0 7 rfl rfl)
theorem dX6_person_8 : decode cX6_person 8 = .ok (.invokestatic 80, 3) := dk_184 0 80 (dk_at dksX6_person_0 8 rfl rfl)
theorem dX6_person_11 : decode cX6_person 11 = .ok (.ifCond .eq 19, 3) := dk_153 0 19 (dk_at dksX6_person_0 11 rfl rfl)
theorem dX6_person_14 : decode cX6_person 14 = .ok (.iload_n 3, 1) := dk_29 (dk_at dksX6_person_0 14 rfl rfl)
theorem dX6_person_15 : decode cX6_person 15 = .ok (.invokestatic 80, 3) := dk_184 0 80 (dk_at dksX6_person_0 15 rfl rfl)
theorem dX6_person_18 : decode cX6_person 18 = .ok (.ifCond .eq 12, 3) := dk_153 0 12 (dk_at dksX6_person_0 18 rfl rfl)
theorem dX6_person_21 : decode cX6_person 21 = .ok (.iconst 3, 1) := dk_6 (dk_at dksX6_person_0 21 rfl rfl)
theorem dX6_person_22 : decode cX6_person 22 = .ok (.iload 4, 2) := dk_21 4 (dk_at dksX6_person_0 22 rfl rfl)
theorem dX6_person_24 : decode cX6_person 24 = .ok (.invokestatic 89, 3) := dk_184 0 89 (dk_at dksX6_person_1 0 rfl rfl)
theorem dX6_person_27 : decode cX6_person 27 = .ok (.ifCond .ne 5, 3) := dk_154 0 5 (dk_at dksX6_person_1 3 rfl rfl)
theorem dX6_person_30 : decode cX6_person 30 = .ok (.iconst (-1), 1) := dk_2 (dk_at dksX6_person_1 6 rfl rfl)
theorem dX6_person_31 : decode cX6_person 31 = .ok (.ireturn, 1) := dk_172 (dk_at dksX6_person_1 7 rfl rfl)
theorem dX6_person_32 : decode cX6_person 32 = .ok (.aload_n 0, 1) := dk_42 (dk_at dksX6_person_1 8 rfl rfl)
theorem dX6_person_33 : decode cX6_person 33 = .ok (.getfield 7, 3) := dk_180 0 7 (dk_at dksX6_person_1 9 rfl rfl)
theorem dX6_person_36 : decode cX6_person 36 = .ok (.iconst 0, 1) := dk_3 (dk_at dksX6_person_1 12 rfl rfl)
theorem dX6_person_37 : decode cX6_person 37 = .ok (.iaload, 1) := dk_46 (dk_at dksX6_person_1 13 rfl rfl)
theorem dX6_person_38 : decode cX6_person 38 = .ok (.bipush 6, 2) := dk_16 6 (dk_at dksX6_person_1 14 rfl rfl)
theorem dX6_person_40 : decode cX6_person 40 = .ok (.if_icmp .ne 6, 3) := dk_160 0 6 (dk_at dksX6_person_1 16 rfl rfl)
theorem dX6_person_43 : decode cX6_person 43 = .ok (.bipush (-2), 2) := dk_16 254 (dk_at dksX6_person_1 19 rfl rfl)
theorem dX6_person_45 : decode cX6_person 45 = .ok (.ireturn, 1) := dk_172 (dk_at dksX6_person_1 21 rfl rfl)
theorem dX6_person_46 : decode cX6_person 46 = .ok (.aload_n 0, 1) := dk_42 (dk_at dksX6_person_1 22 rfl rfl)
theorem dX6_person_47 : decode cX6_person 47 = .ok (.getfield 7, 3) := dk_180 0 7 (dk_at dksX6_person_2 0 rfl rfl)
theorem dX6_person_50 : decode cX6_person 50 = .ok (.iconst 0, 1) := dk_3 (dk_at dksX6_person_2 3 rfl rfl)
theorem dX6_person_51 : decode cX6_person 51 = .ok (.iaload, 1) := dk_46 (dk_at dksX6_person_2 4 rfl rfl)
theorem dX6_person_52 : decode cX6_person 52 = .ok (.istore 5, 2) := dk_54 5 (dk_at dksX6_person_2 5 rfl rfl)
theorem dX6_person_54 : decode cX6_person 54 = .ok (.aload_n 0, 1) := dk_42 (dk_at dksX6_person_2 7 rfl rfl)
theorem dX6_person_55 : decode cX6_person 55 = .ok (.getfield 7, 3) := dk_180 0 7 (dk_at dksX6_person_2 8 rfl rfl)
theorem dX6_person_58 : decode cX6_person 58 = .ok (.iload 5, 2) := dk_21 5 (dk_at dksX6_person_2 11 rfl rfl)
theorem dX6_person_60 : decode cX6_person 60 = .ok (.iconst 0, 1) := dk_3 (dk_at dksX6_person_2 13 rfl rfl)
theorem dX6_person_61 : decode cX6_person 61 = .ok (.invokestatic 74, 3) := dk_184 0 74 (dk_at dksX6_person_2 14 rfl rfl)
theorem dX6_person_64 : decode cX6_person 64 = .ok (.iload_n 1, 1) := dk_27 (dk_at dksX6_person_2 17 rfl rfl)
theorem dX6_person_65 : decode cX6_person 65 = .ok (.iastore, 1) := dk_79 (dk_at dksX6_person_2 18 rfl rfl)
theorem dX6_person_66 : decode cX6_person 66 = .ok (.aload_n 0, 1) := dk_42 (dk_at dksX6_person_2 19 rfl rfl)
theorem dX6_person_67 : decode cX6_person 67 = .ok (.getfield 7, 3) := dk_180 0 7 (dk_at dksX6_person_2 20 rfl rfl)
theorem dX6_person_70 : decode cX6_person 70 = .ok (.iload 5, 2) := dk_21 5 (dk_at dksX6_person_3 0 rfl rfl)
theorem dX6_person_72 : decode cX6_person 72 = .ok (.iconst 1, 1) := dk_4 (dk_at dksX6_person_3 2 rfl rfl)
theorem dX6_person_73 : decode cX6_person 73 = .ok (.invokestatic 74, 3) := dk_184 0 74 (dk_at dksX6_person_3 3 rfl rfl)
theorem dX6_person_76 : decode cX6_person 76 = .ok (.iload_n 2, 1) := dk_28 (dk_at dksX6_person_3 6 rfl rfl)
theorem dX6_person_77 : decode cX6_person 77 = .ok (.iastore, 1) := dk_79 (dk_at dksX6_person_3 7 rfl rfl)
theorem dX6_person_78 : decode cX6_person 78 = .ok (.aload_n 0, 1) := dk_42 (dk_at dksX6_person_3 8 rfl rfl)
theorem dX6_person_79 : decode cX6_person 79 = .ok (.getfield 7, 3) := dk_180 0 7 (dk_at dksX6_person_3 9 rfl rfl)
theorem dX6_person_82 : decode cX6_person 82 = .ok (.iload 5, 2) := dk_21 5 (dk_at dksX6_person_3 12 rfl rfl)
theorem dX6_person_84 : decode cX6_person 84 = .ok (.iconst 2, 1) := dk_5 (dk_at dksX6_person_3 14 rfl rfl)
theorem dX6_person_85 : decode cX6_person 85 = .ok (.invokestatic 74, 3) := dk_184 0 74 (dk_at dksX6_person_3 15 rfl rfl)
theorem dX6_person_88 : decode cX6_person 88 = .ok (.iload_n 3, 1) := dk_29 (dk_at dksX6_person_3 18 rfl rfl)
theorem dX6_person_89 : decode cX6_person 89 = .ok (.iastore, 1) := dk_79 (dk_at dksX6_person_3 19 rfl rfl)
theorem dX6_person_90 : decode cX6_person 90 = .ok (.aload_n 0, 1) := dk_42 (dk_at dksX6_person_3 20 rfl rfl)
theorem dX6_person_91 : decode cX6_person 91 = .ok (.getfield 7, 3) := dk_180 0 7 (dk_at dksX6_person_3 21 rfl rfl)
theorem dX6_person_94 : decode cX6_person 94 = .ok (.iload 5, 2) := dk_21 5 (dk_at dksX6_person_4 0 rfl rfl)
theorem dX6_person_96 : decode cX6_person 96 = .ok (.iconst 3, 1) := dk_6 (dk_at dksX6_person_4 2 rfl rfl)
theorem dX6_person_97 : decode cX6_person 97 = .ok (.invokestatic 74, 3) := dk_184 0 74 (dk_at dksX6_person_4 3 rfl rfl)
theorem dX6_person_100 : decode cX6_person 100 = .ok (.iload 4, 2) := dk_21 4 (dk_at dksX6_person_4 6 rfl rfl)
theorem dX6_person_102 : decode cX6_person 102 = .ok (.iastore, 1) := dk_79 (dk_at dksX6_person_4 8 rfl rfl)
theorem dX6_person_103 : decode cX6_person 103 = .ok (.aload_n 0, 1) := dk_42 (dk_at dksX6_person_4 9 rfl rfl)
theorem dX6_person_104 : decode cX6_person 104 = .ok (.getfield 7, 3) := dk_180 0 7 (dk_at dksX6_person_4 10 rfl rfl)
theorem dX6_person_107 : decode cX6_person 107 = .ok (.iload 5, 2) := dk_21 5 (dk_at dksX6_person_4 13 rfl rfl)
theorem dX6_person_109 : decode cX6_person 109 = .ok (.iconst 4, 1) := dk_7 (dk_at dksX6_person_4 15 rfl rfl)
theorem dX6_person_110 : decode cX6_person 110 = .ok (.invokestatic 74, 3) := dk_184 0 74 (dk_at dksX6_person_4 16 rfl rfl)
theorem dX6_person_113 : decode cX6_person 113 = .ok (.iconst 0, 1) := dk_3 (dk_at dksX6_person_4 19 rfl rfl)
theorem dX6_person_114 : decode cX6_person 114 = .ok (.iastore, 1) := dk_79 (dk_at dksX6_person_4 20 rfl rfl)
theorem dX6_person_115 : decode cX6_person 115 = .ok (.aload_n 0, 1) := dk_42 (dk_at dksX6_person_4 21 rfl rfl)
theorem dX6_person_116 : decode cX6_person 116 = .ok (.getfield 7, 3) := dk_180 0 7 (dk_at dksX6_person_5 0 rfl rfl)
theorem dX6_person_119 : decode cX6_person 119 = .ok (.iconst 0, 1) := dk_3 (dk_at dksX6_person_5 3 rfl rfl)
theorem dX6_person_120 : decode cX6_person 120 = .ok (.dup2, 1) := dk_92 (dk_at dksX6_person_5 4 rfl rfl)
theorem dX6_person_121 : decode cX6_person 121 = .ok (.iaload, 1) := dk_46 (dk_at dksX6_person_5 5 rfl rfl)
theorem dX6_person_122 : decode cX6_person 122 = .ok (.iconst 1, 1) := dk_4 (dk_at dksX6_person_5 6 rfl rfl)
theorem dX6_person_123 : decode cX6_person 123 = .ok (.iadd, 1) := dk_96 (dk_at dksX6_person_5 7 rfl rfl)
theorem dX6_person_124 : decode cX6_person 124 = .ok (.iastore, 1) := dk_79 (dk_at dksX6_person_5 8 rfl rfl)
theorem dX6_person_125 : decode cX6_person 125 = .ok (.iload 5, 2) := dk_21 5 (dk_at dksX6_person_5 9 rfl rfl)
theorem dX6_person_127 : decode cX6_person 127 = .ok (.ireturn, 1) := dk_172 (dk_at dksX6_person_5 11 rfl rfl)
abbrev cX6_isKind : ByteArray := prog_26_method_10_code
def yX6_isKind : MethodName := ⟨RX6, "isKind", "(I)Z"⟩
def dkwX6_isKind_0 : List UInt8 := [26, 133, 10, 20, 0, 78, 184, 0, 68, 172]
abbrev dktX6_isKind_0 : List UInt8 := dkwX6_isKind_0 ++ []
theorem dksX6_isKind_0 : cX6_isKind.data.toList.drop 0 = dktX6_isKind_0 := by decide +kernel
theorem dX6_isKind_0 : decode cX6_isKind 0 = .ok (.iload_n 0, 1) := dk_26 (dk_at dksX6_isKind_0 0 rfl rfl)
theorem dX6_isKind_1 : decode cX6_isKind 1 = .ok (.i2l, 1) := dk_133 (dk_at dksX6_isKind_0 1 rfl rfl)
theorem dX6_isKind_2 : decode cX6_isKind 2 = .ok (.lconst 1, 1) := dk_10 (dk_at dksX6_isKind_0 2 rfl rfl)
theorem dX6_isKind_3 : decode cX6_isKind 3 = .ok (.ldc2_w 78, 3) := dk_20 0 78 (dk_at dksX6_isKind_0 3 rfl rfl)
theorem dX6_isKind_6 : decode cX6_isKind 6 = .ok (.invokestatic 68, 3) := dk_184 0 68 (dk_at dksX6_isKind_0 6 rfl rfl)
theorem dX6_isKind_9 : decode cX6_isKind 9 = .ok (.ireturn, 1) := dk_172 (dk_at dksX6_isKind_0 9 rfl rfl)
abbrev cX6_in : ByteArray := prog_26_method_2_code
def yX6_in : MethodName := ⟨RX6, "in", "(JJJ)Z"⟩
def dkwX6_in_0 : List UInt8 := [30, 32, 148, 155, 0, 14, 30, 22, 4, 148, 157, 0, 7, 4, 167, 0, 4, 3, 172]
abbrev dktX6_in_0 : List UInt8 := dkwX6_in_0 ++ []
theorem dksX6_in_0 : cX6_in.data.toList.drop 0 = dktX6_in_0 := by decide +kernel
theorem dX6_in_0 : decode cX6_in 0 = .ok (.lload_n 0, 1) := dk_30 (dk_at dksX6_in_0 0 rfl rfl)
theorem dX6_in_1 : decode cX6_in 1 = .ok (.lload_n 2, 1) := dk_32 (dk_at dksX6_in_0 1 rfl rfl)
theorem dX6_in_2 : decode cX6_in 2 = .ok (.lcmp, 1) := dk_148 (dk_at dksX6_in_0 2 rfl rfl)
theorem dX6_in_3 : decode cX6_in 3 = .ok (.ifCond .lt 14, 3) := dk_155 0 14 (dk_at dksX6_in_0 3 rfl rfl)
theorem dX6_in_6 : decode cX6_in 6 = .ok (.lload_n 0, 1) := dk_30 (dk_at dksX6_in_0 6 rfl rfl)
theorem dX6_in_7 : decode cX6_in 7 = .ok (.lload 4, 2) := dk_22 4 (dk_at dksX6_in_0 7 rfl rfl)
theorem dX6_in_9 : decode cX6_in 9 = .ok (.lcmp, 1) := dk_148 (dk_at dksX6_in_0 9 rfl rfl)
theorem dX6_in_10 : decode cX6_in 10 = .ok (.ifCond .gt 7, 3) := dk_157 0 7 (dk_at dksX6_in_0 10 rfl rfl)
theorem dX6_in_13 : decode cX6_in 13 = .ok (.iconst 1, 1) := dk_4 (dk_at dksX6_in_0 13 rfl rfl)
theorem dX6_in_14 : decode cX6_in 14 = .ok (.goto 4, 3) := dk_167 0 4 (dk_at dksX6_in_0 14 rfl rfl)
theorem dX6_in_17 : decode cX6_in 17 = .ok (.iconst 0, 1) := dk_3 (dk_at dksX6_in_0 17 rfl rfl)
theorem dX6_in_18 : decode cX6_in 18 = .ok (.ireturn, 1) := dk_172 (dk_at dksX6_in_0 18 rfl rfl)
abbrev cX6_isThing : ByteArray := prog_26_method_4_code
def yX6_isThing : MethodName := ⟨RX6, "isThing", "(I)Z"⟩
def dkwX6_isThing_0 : List UInt8 := [26, 133, 9, 20, 0, 72, 184, 0, 68, 172]
abbrev dktX6_isThing_0 : List UInt8 := dkwX6_isThing_0 ++ []
theorem dksX6_isThing_0 : cX6_isThing.data.toList.drop 0 = dktX6_isThing_0 := by decide +kernel
theorem dX6_isThing_0 : decode cX6_isThing 0 = .ok (.iload_n 0, 1) := dk_26 (dk_at dksX6_isThing_0 0 rfl rfl)
theorem dX6_isThing_1 : decode cX6_isThing 1 = .ok (.i2l, 1) := dk_133 (dk_at dksX6_isThing_0 1 rfl rfl)
theorem dX6_isThing_2 : decode cX6_isThing 2 = .ok (.lconst 0, 1) := dk_9 (dk_at dksX6_isThing_0 2 rfl rfl)
theorem dX6_isThing_3 : decode cX6_isThing 3 = .ok (.ldc2_w 72, 3) := dk_20 0 72 (dk_at dksX6_isThing_0 3 rfl rfl)
theorem dX6_isThing_6 : decode cX6_isThing 6 = .ok (.invokestatic 68, 3) := dk_184 0 68 (dk_at dksX6_isThing_0 6 rfl rfl)
theorem dX6_isThing_9 : decode cX6_isThing 9 = .ok (.ireturn, 1) := dk_172 (dk_at dksX6_isThing_0 9 rfl rfl)
abbrev cX6_isPart : ByteArray := prog_26_method_11_code
def yX6_isPart : MethodName := ⟨RX6, "isPart", "(II)Z"⟩
def dkwX6_isPart_1 : List UInt8 := [9, 20, 0, 84, 184, 0, 68, 153, 0, 7, 4, 167, 0, 4, 3, 172]
abbrev dktX6_isPart_1 : List UInt8 := dkwX6_isPart_1 ++ []
def dkwX6_isPart_0 : List UInt8 := [26, 4, 159, 0, 8, 26, 5, 160, 0, 10, 27, 184, 0, 80, 154, 0, 20, 26, 6, 160, 0, 19, 27, 133]
abbrev dktX6_isPart_0 : List UInt8 := dkwX6_isPart_0 ++ dktX6_isPart_1
theorem dksX6_isPart_0 : cX6_isPart.data.toList.drop 0 = dktX6_isPart_0 := by decide +kernel
theorem dksX6_isPart_1 : cX6_isPart.data.toList.drop 24 = dktX6_isPart_1 := dk_seg dksX6_isPart_0 24 rfl rfl
theorem dX6_isPart_0 : decode cX6_isPart 0 = .ok (.iload_n 0, 1) := dk_26 (dk_at dksX6_isPart_0 0 rfl rfl)
theorem dX6_isPart_1 : decode cX6_isPart 1 = .ok (.iconst 1, 1) := dk_4 (dk_at dksX6_isPart_0 1 rfl rfl)
theorem dX6_isPart_2 : decode cX6_isPart 2 = .ok (.if_icmp .eq 8, 3) := dk_159 0 8 (dk_at dksX6_isPart_0 2 rfl rfl)
theorem dX6_isPart_5 : decode cX6_isPart 5 = .ok (.iload_n 0, 1) := dk_26 (dk_at dksX6_isPart_0 5 rfl rfl)
theorem dX6_isPart_6 : decode cX6_isPart 6 = .ok (.iconst 2, 1) := dk_5 (dk_at dksX6_isPart_0 6 rfl rfl)
theorem dX6_isPart_7 : decode cX6_isPart 7 = .ok (.if_icmp .ne 10, 3) := dk_160 0 10 (dk_at dksX6_isPart_0 7 rfl rfl)
theorem dX6_isPart_10 : decode cX6_isPart 10 = .ok (.iload_n 1, 1) := dk_27 (dk_at dksX6_isPart_0 10 rfl rfl)
theorem dX6_isPart_11 : decode cX6_isPart 11 = .ok (.invokestatic 80, 3) := dk_184 0 80 (dk_at dksX6_isPart_0 11 rfl rfl)
theorem dX6_isPart_14 : decode cX6_isPart 14 = .ok (.ifCond .ne 20, 3) := dk_154 0 20 (dk_at dksX6_isPart_0 14 rfl rfl)
theorem dX6_isPart_17 : decode cX6_isPart 17 = .ok (.iload_n 0, 1) := dk_26 (dk_at dksX6_isPart_0 17 rfl rfl)
theorem dX6_isPart_18 : decode cX6_isPart 18 = .ok (.iconst 3, 1) := dk_6 (dk_at dksX6_isPart_0 18 rfl rfl)
theorem dX6_isPart_19 : decode cX6_isPart 19 = .ok (.if_icmp .ne 19, 3) := dk_160 0 19 (dk_at dksX6_isPart_0 19 rfl rfl)
theorem dX6_isPart_22 : decode cX6_isPart 22 = .ok (.iload_n 1, 1) := dk_27 (dk_at dksX6_isPart_0 22 rfl rfl)
theorem dX6_isPart_23 : decode cX6_isPart 23 = .ok (.i2l, 1) := dk_133 (dk_at dksX6_isPart_0 23 rfl rfl)
theorem dX6_isPart_24 : decode cX6_isPart 24 = .ok (.lconst 0, 1) := dk_9 (dk_at dksX6_isPart_1 0 rfl rfl)
theorem dX6_isPart_25 : decode cX6_isPart 25 = .ok (.ldc2_w 84, 3) := dk_20 0 84 (dk_at dksX6_isPart_1 1 rfl rfl)
theorem dX6_isPart_28 : decode cX6_isPart 28 = .ok (.invokestatic 68, 3) := dk_184 0 68 (dk_at dksX6_isPart_1 4 rfl rfl)
theorem dX6_isPart_31 : decode cX6_isPart 31 = .ok (.ifCond .eq 7, 3) := dk_153 0 7 (dk_at dksX6_isPart_1 7 rfl rfl)
theorem dX6_isPart_34 : decode cX6_isPart 34 = .ok (.iconst 1, 1) := dk_4 (dk_at dksX6_isPart_1 10 rfl rfl)
theorem dX6_isPart_35 : decode cX6_isPart 35 = .ok (.goto 4, 3) := dk_167 0 4 (dk_at dksX6_isPart_1 11 rfl rfl)
theorem dX6_isPart_38 : decode cX6_isPart 38 = .ok (.iconst 0, 1) := dk_3 (dk_at dksX6_isPart_1 14 rfl rfl)
theorem dX6_isPart_39 : decode cX6_isPart 39 = .ok (.ireturn, 1) := dk_172 (dk_at dksX6_isPart_1 15 rfl rfl)
abbrev cX6_at : ByteArray := prog_26_method_8_code
def yX6_at : MethodName := ⟨RX6, "at", "(II)I"⟩
def dkwX6_at_0 : List UInt8 := [16, 22, 8, 26, 104, 96, 27, 96, 172]
abbrev dktX6_at_0 : List UInt8 := dkwX6_at_0 ++ []
theorem dksX6_at_0 : cX6_at.data.toList.drop 0 = dktX6_at_0 := by decide +kernel
theorem dX6_at_0 : decode cX6_at 0 = .ok (.bipush 22, 2) := dk_16 22 (dk_at dksX6_at_0 0 rfl rfl)
theorem dX6_at_2 : decode cX6_at 2 = .ok (.iconst 5, 1) := dk_8 (dk_at dksX6_at_0 2 rfl rfl)
theorem dX6_at_3 : decode cX6_at 3 = .ok (.iload_n 0, 1) := dk_26 (dk_at dksX6_at_0 3 rfl rfl)
theorem dX6_at_4 : decode cX6_at 4 = .ok (.imul, 1) := dk_104 (dk_at dksX6_at_0 4 rfl rfl)
theorem dX6_at_5 : decode cX6_at 5 = .ok (.iadd, 1) := dk_96 (dk_at dksX6_at_0 5 rfl rfl)
theorem dX6_at_6 : decode cX6_at 6 = .ok (.iload_n 1, 1) := dk_27 (dk_at dksX6_at_0 6 rfl rfl)
theorem dX6_at_7 : decode cX6_at 7 = .ok (.iadd, 1) := dk_96 (dk_at dksX6_at_0 7 rfl rfl)
theorem dX6_at_8 : decode cX6_at 8 = .ok (.ireturn, 1) := dk_172 (dk_at dksX6_at_0 8 rfl rfl)
abbrev cX6_personOf : ByteArray := prog_26_method_23_code
def yX6_personOf : MethodName := ⟨RX6, "personOf", "(II)I"⟩
def dkwX6_personOf_3 : List UInt8 := [172]
abbrev dktX6_personOf_3 : List UInt8 := dkwX6_personOf_3 ++ []
def dkwX6_personOf_2 : List UInt8 := [4, 167, 0, 23, 3, 167, 0, 19, 42, 27, 28, 16, 6, 160, 0, 7, 7, 167, 0, 4, 28, 182, 0, 93]
abbrev dktX6_personOf_2 : List UInt8 := dkwX6_personOf_2 ++ dktX6_personOf_3
def dkwX6_personOf_1 : List UInt8 := [160, 0, 11, 42, 27, 182, 0, 128, 167, 0, 40, 28, 8, 160, 0, 19, 42, 27, 182, 0, 96, 153, 0, 7]
abbrev dktX6_personOf_1 : List UInt8 := dkwX6_personOf_1 ++ dktX6_personOf_2
def dkwX6_personOf_0 : List UInt8 := [42, 27, 182, 0, 123, 153, 0, 15, 28, 133, 9, 20, 0, 126, 184, 0, 68, 154, 0, 5, 2, 172, 28, 7]
abbrev dktX6_personOf_0 : List UInt8 := dkwX6_personOf_0 ++ dktX6_personOf_1
theorem dksX6_personOf_0 : cX6_personOf.data.toList.drop 0 = dktX6_personOf_0 := by decide +kernel
theorem dksX6_personOf_1 : cX6_personOf.data.toList.drop 24 = dktX6_personOf_1 := dk_seg dksX6_personOf_0 24 rfl rfl
theorem dksX6_personOf_2 : cX6_personOf.data.toList.drop 48 = dktX6_personOf_2 := dk_seg dksX6_personOf_1 24 rfl rfl
theorem dksX6_personOf_3 : cX6_personOf.data.toList.drop 72 = dktX6_personOf_3 := dk_seg dksX6_personOf_2 24 rfl rfl
theorem dX6_personOf_0 : decode cX6_personOf 0 = .ok (.aload_n 0, 1) := dk_42 (dk_at dksX6_personOf_0 0 rfl rfl)
theorem dX6_personOf_1 : decode cX6_personOf 1 = .ok (.iload_n 1, 1) := dk_27 (dk_at dksX6_personOf_0 1 rfl rfl)
theorem dX6_personOf_2 : decode cX6_personOf 2 = .ok (.invokevirtual 123, 3) := dk_182 0 123 (dk_at dksX6_personOf_0 2 rfl rfl)
theorem dX6_personOf_5 : decode cX6_personOf 5 = .ok (.ifCond .eq 15, 3) := dk_153 0 15 (dk_at dksX6_personOf_0 5 rfl rfl)
theorem dX6_personOf_8 : decode cX6_personOf 8 = .ok (.iload_n 2, 1) := dk_28 (dk_at dksX6_personOf_0 8 rfl rfl)
theorem dX6_personOf_9 : decode cX6_personOf 9 = .ok (.i2l, 1) := dk_133 (dk_at dksX6_personOf_0 9 rfl rfl)
theorem dX6_personOf_10 : decode cX6_personOf 10 = .ok (.lconst 0, 1) := dk_9 (dk_at dksX6_personOf_0 10 rfl rfl)
theorem dX6_personOf_11 : decode cX6_personOf 11 = .ok (.ldc2_w 126, 3) := dk_20 0 126 (dk_at dksX6_personOf_0 11 rfl rfl)
theorem dX6_personOf_14 : decode cX6_personOf 14 = .ok (.invokestatic 68, 3) := dk_184 0 68 (dk_at dksX6_personOf_0 14 rfl rfl)
theorem dX6_personOf_17 : decode cX6_personOf 17 = .ok (.ifCond .ne 5, 3) := dk_154 0 5 (dk_at dksX6_personOf_0 17 rfl rfl)
theorem dX6_personOf_20 : decode cX6_personOf 20 = .ok (.iconst (-1), 1) := dk_2 (dk_at dksX6_personOf_0 20 rfl rfl)
theorem dX6_personOf_21 : decode cX6_personOf 21 = .ok (.ireturn, 1) := dk_172 (dk_at dksX6_personOf_0 21 rfl rfl)
theorem dX6_personOf_22 : decode cX6_personOf 22 = .ok (.iload_n 2, 1) := dk_28 (dk_at dksX6_personOf_0 22 rfl rfl)
theorem dX6_personOf_23 : decode cX6_personOf 23 = .ok (.iconst 4, 1) := dk_7 (dk_at dksX6_personOf_0 23 rfl rfl)
theorem dX6_personOf_24 : decode cX6_personOf 24 = .ok (.if_icmp .ne 11, 3) := dk_160 0 11 (dk_at dksX6_personOf_1 0 rfl rfl)
theorem dX6_personOf_27 : decode cX6_personOf 27 = .ok (.aload_n 0, 1) := dk_42 (dk_at dksX6_personOf_1 3 rfl rfl)
theorem dX6_personOf_28 : decode cX6_personOf 28 = .ok (.iload_n 1, 1) := dk_27 (dk_at dksX6_personOf_1 4 rfl rfl)
theorem dX6_personOf_29 : decode cX6_personOf 29 = .ok (.invokevirtual 128, 3) := dk_182 0 128 (dk_at dksX6_personOf_1 5 rfl rfl)
theorem dX6_personOf_32 : decode cX6_personOf 32 = .ok (.goto 40, 3) := dk_167 0 40 (dk_at dksX6_personOf_1 8 rfl rfl)
theorem dX6_personOf_35 : decode cX6_personOf 35 = .ok (.iload_n 2, 1) := dk_28 (dk_at dksX6_personOf_1 11 rfl rfl)
theorem dX6_personOf_36 : decode cX6_personOf 36 = .ok (.iconst 5, 1) := dk_8 (dk_at dksX6_personOf_1 12 rfl rfl)
theorem dX6_personOf_37 : decode cX6_personOf 37 = .ok (.if_icmp .ne 19, 3) := dk_160 0 19 (dk_at dksX6_personOf_1 13 rfl rfl)
theorem dX6_personOf_40 : decode cX6_personOf 40 = .ok (.aload_n 0, 1) := dk_42 (dk_at dksX6_personOf_1 16 rfl rfl)
theorem dX6_personOf_41 : decode cX6_personOf 41 = .ok (.iload_n 1, 1) := dk_27 (dk_at dksX6_personOf_1 17 rfl rfl)
theorem dX6_personOf_42 : decode cX6_personOf 42 = .ok (.invokevirtual 96, 3) := dk_182 0 96 (dk_at dksX6_personOf_1 18 rfl rfl)
theorem dX6_personOf_45 : decode cX6_personOf 45 = .ok (.ifCond .eq 7, 3) := dk_153 0 7 (dk_at dksX6_personOf_1 21 rfl rfl)
theorem dX6_personOf_48 : decode cX6_personOf 48 = .ok (.iconst 1, 1) := dk_4 (dk_at dksX6_personOf_2 0 rfl rfl)
theorem dX6_personOf_49 : decode cX6_personOf 49 = .ok (.goto 23, 3) := dk_167 0 23 (dk_at dksX6_personOf_2 1 rfl rfl)
theorem dX6_personOf_52 : decode cX6_personOf 52 = .ok (.iconst 0, 1) := dk_3 (dk_at dksX6_personOf_2 4 rfl rfl)
theorem dX6_personOf_53 : decode cX6_personOf 53 = .ok (.goto 19, 3) := dk_167 0 19 (dk_at dksX6_personOf_2 5 rfl rfl)
theorem dX6_personOf_56 : decode cX6_personOf 56 = .ok (.aload_n 0, 1) := dk_42 (dk_at dksX6_personOf_2 8 rfl rfl)
theorem dX6_personOf_57 : decode cX6_personOf 57 = .ok (.iload_n 1, 1) := dk_27 (dk_at dksX6_personOf_2 9 rfl rfl)
theorem dX6_personOf_58 : decode cX6_personOf 58 = .ok (.iload_n 2, 1) := dk_28 (dk_at dksX6_personOf_2 10 rfl rfl)
theorem dX6_personOf_59 : decode cX6_personOf 59 = .ok (.bipush 6, 2) := dk_16 6 (dk_at dksX6_personOf_2 11 rfl rfl)
theorem dX6_personOf_61 : decode cX6_personOf 61 = .ok (.if_icmp .ne 7, 3) := dk_160 0 7 (dk_at dksX6_personOf_2 13 rfl rfl)
theorem dX6_personOf_64 : decode cX6_personOf 64 = .ok (.iconst 4, 1) := dk_7 (dk_at dksX6_personOf_2 16 rfl rfl)
theorem dX6_personOf_65 : decode cX6_personOf 65 = .ok (.goto 4, 3) := dk_167 0 4 (dk_at dksX6_personOf_2 17 rfl rfl)
theorem dX6_personOf_68 : decode cX6_personOf 68 = .ok (.iload_n 2, 1) := dk_28 (dk_at dksX6_personOf_2 20 rfl rfl)
theorem dX6_personOf_69 : decode cX6_personOf 69 = .ok (.invokevirtual 93, 3) := dk_182 0 93 (dk_at dksX6_personOf_2 21 rfl rfl)
theorem dX6_personOf_72 : decode cX6_personOf 72 = .ok (.ireturn, 1) := dk_172 (dk_at dksX6_personOf_3 0 rfl rfl)
abbrev cX6_isPerson : ByteArray := prog_26_method_3_code
def yX6_isPerson : MethodName := ⟨RX6, "isPerson", "(I)Z"⟩
def dkwX6_isPerson_0 : List UInt8 := [27, 133, 9, 42, 180, 0, 7, 3, 46, 4, 100, 133, 184, 0, 68, 172]
abbrev dktX6_isPerson_0 : List UInt8 := dkwX6_isPerson_0 ++ []
theorem dksX6_isPerson_0 : cX6_isPerson.data.toList.drop 0 = dktX6_isPerson_0 := by decide +kernel
theorem dX6_isPerson_0 : decode cX6_isPerson 0 = .ok (.iload_n 1, 1) := dk_27 (dk_at dksX6_isPerson_0 0 rfl rfl)
theorem dX6_isPerson_1 : decode cX6_isPerson 1 = .ok (.i2l, 1) := dk_133 (dk_at dksX6_isPerson_0 1 rfl rfl)
theorem dX6_isPerson_2 : decode cX6_isPerson 2 = .ok (.lconst 0, 1) := dk_9 (dk_at dksX6_isPerson_0 2 rfl rfl)
theorem dX6_isPerson_3 : decode cX6_isPerson 3 = .ok (.aload_n 0, 1) := dk_42 (dk_at dksX6_isPerson_0 3 rfl rfl)
theorem dX6_isPerson_4 : decode cX6_isPerson 4 = .ok (.getfield 7, 3) := dk_180 0 7 (dk_at dksX6_isPerson_0 4 rfl rfl)
theorem dX6_isPerson_7 : decode cX6_isPerson 7 = .ok (.iconst 0, 1) := dk_3 (dk_at dksX6_isPerson_0 7 rfl rfl)
theorem dX6_isPerson_8 : decode cX6_isPerson 8 = .ok (.iaload, 1) := dk_46 (dk_at dksX6_isPerson_0 8 rfl rfl)
theorem dX6_isPerson_9 : decode cX6_isPerson 9 = .ok (.iconst 1, 1) := dk_4 (dk_at dksX6_isPerson_0 9 rfl rfl)
theorem dX6_isPerson_10 : decode cX6_isPerson 10 = .ok (.isub, 1) := dk_100 (dk_at dksX6_isPerson_0 10 rfl rfl)
theorem dX6_isPerson_11 : decode cX6_isPerson 11 = .ok (.i2l, 1) := dk_133 (dk_at dksX6_isPerson_0 11 rfl rfl)
theorem dX6_isPerson_12 : decode cX6_isPerson 12 = .ok (.invokestatic 68, 3) := dk_184 0 68 (dk_at dksX6_isPerson_0 12 rfl rfl)
theorem dX6_isPerson_15 : decode cX6_isPerson 15 = .ok (.ireturn, 1) := dk_172 (dk_at dksX6_isPerson_0 15 rfl rfl)
abbrev cX6_asked : ByteArray := prog_26_method_22_code
def yX6_asked : MethodName := ⟨RX6, "asked", "(I)I"⟩
def dkwX6_asked_13 : List UInt8 := [172, 5, 21, 7, 104, 16, 7, 100, 184, 0, 120, 172, 21, 7, 172]
abbrev dktX6_asked_13 : List UInt8 := dkwX6_asked_13 ++ []
def dkwX6_asked_12 : List UInt8 := [21, 8, 172, 42, 182, 0, 99, 154, 0, 10, 21, 8, 5, 108, 167, 0, 5, 21, 8, 172, 5, 21, 7, 104]
abbrev dktX6_asked_12 : List UInt8 := dkwX6_asked_12 ++ dktX6_asked_13
def dkwX6_asked_11 : List UInt8 := [170, 0, 0, 0, 0, 0, 67, 0, 0, 0, 2, 0, 0, 0, 5, 0, 0, 0, 31, 0, 0, 0, 34, 0, 0, 0, 51, 0, 0, 0, 56]
abbrev dktX6_asked_11 : List UInt8 := dkwX6_asked_11 ++ dktX6_asked_12
def dkwX6_asked_10 : List UInt8 := [184, 0, 120, 54, 8, 28]
abbrev dktX6_asked_10 : List UInt8 := dkwX6_asked_10 ++ dktX6_asked_11
def dkwX6_asked_9 : List UInt8 := [160, 0, 7, 3, 167, 0, 5, 21, 7, 54, 7, 21, 7, 42, 27, 6, 182, 0, 93, 16, 10, 108, 100]
abbrev dktX6_asked_9 : List UInt8 := dkwX6_asked_9 ++ dktX6_asked_10
def dkwX6_asked_8 : List UInt8 := [167, 0, 32, 21, 5, 4, 160, 0, 14, 21, 7, 21, 6, 100, 184, 0, 120, 167, 0, 15, 21, 5, 5]
abbrev dktX6_asked_8 : List UInt8 := dkwX6_asked_8 ++ dktX6_asked_9
def dkwX6_asked_7 : List UInt8 := [184, 0, 120, 42, 180, 0, 7, 5, 46, 96, 54, 7, 21, 5, 154, 0, 11, 21, 7, 21, 6, 96]
abbrev dktX6_asked_7 : List UInt8 := dkwX6_asked_7 ++ dktX6_asked_8
def dkwX6_asked_6 : List UInt8 := [27, 5, 182, 0, 93, 96, 46, 42, 180, 0, 7, 16, 6, 42, 27, 4, 182, 0, 93, 96, 46, 100]
abbrev dktX6_asked_6 : List UInt8 := dkwX6_asked_6 ++ dktX6_asked_7
def dkwX6_asked_5 : List UInt8 := [156, 0, 7, 3, 167, 0, 11, 42, 180, 0, 7, 29, 5, 96, 46, 54, 6, 42, 180, 0, 7, 16, 6, 42]
abbrev dktX6_asked_5 : List UInt8 := dkwX6_asked_5 ++ dktX6_asked_6
def dkwX6_asked_4 : List UInt8 := [167, 255, 176, 29, 156, 0, 7, 2, 167, 0, 11, 42, 180, 0, 7, 29, 4, 96, 46, 54, 5, 29]
abbrev dktX6_asked_4 : List UInt8 := dkwX6_asked_4 ++ dktX6_asked_5
def dkwX6_asked_3 : List UInt8 := [153, 0, 8, 21, 6, 167, 0, 4, 2, 62, 42, 180, 0, 7, 21, 6, 6, 96, 46, 54, 4, 132, 5, 1]
abbrev dktX6_asked_3 : List UInt8 := dkwX6_asked_3 ++ dktX6_asked_4
def dkwX6_asked_2 : List UInt8 := [96, 46, 184, 0, 114, 153, 0, 27, 42, 21, 4, 42, 180, 0, 7, 21, 6, 6, 96, 46, 27, 182, 0, 117]
abbrev dktX6_asked_2 : List UInt8 := dkwX6_asked_2 ++ dktX6_asked_3
def dkwX6_asked_1 : List UInt8 := [162, 0, 75, 29, 156, 0, 71, 16, 106, 7, 21, 5, 104, 96, 54, 6, 28, 42, 180, 0, 7, 21, 6, 3]
abbrev dktX6_asked_1 : List UInt8 := dkwX6_asked_1 ++ dktX6_asked_2
def dkwX6_asked_0 : List UInt8 := [42, 27, 3, 182, 0, 93, 61, 2, 62, 3, 54, 4, 3, 54, 5, 21, 5, 42, 180, 0, 7, 4, 46]
abbrev dktX6_asked_0 : List UInt8 := dkwX6_asked_0 ++ dktX6_asked_1
theorem dksX6_asked_0 : cX6_asked.data.toList.drop 0 = dktX6_asked_0 := by decide +kernel
theorem dksX6_asked_1 : cX6_asked.data.toList.drop 23 = dktX6_asked_1 := dk_seg dksX6_asked_0 23 rfl rfl
theorem dksX6_asked_2 : cX6_asked.data.toList.drop 47 = dktX6_asked_2 := dk_seg dksX6_asked_1 24 rfl rfl
theorem dksX6_asked_3 : cX6_asked.data.toList.drop 71 = dktX6_asked_3 := dk_seg dksX6_asked_2 24 rfl rfl
theorem dksX6_asked_4 : cX6_asked.data.toList.drop 95 = dktX6_asked_4 := dk_seg dksX6_asked_3 24 rfl rfl
theorem dksX6_asked_5 : cX6_asked.data.toList.drop 117 = dktX6_asked_5 := dk_seg dksX6_asked_4 22 rfl rfl
theorem dksX6_asked_6 : cX6_asked.data.toList.drop 141 = dktX6_asked_6 := dk_seg dksX6_asked_5 24 rfl rfl
theorem dksX6_asked_7 : cX6_asked.data.toList.drop 163 = dktX6_asked_7 := dk_seg dksX6_asked_6 22 rfl rfl
theorem dksX6_asked_8 : cX6_asked.data.toList.drop 185 = dktX6_asked_8 := dk_seg dksX6_asked_7 22 rfl rfl
theorem dksX6_asked_9 : cX6_asked.data.toList.drop 208 = dktX6_asked_9 := dk_seg dksX6_asked_8 23 rfl rfl
theorem dksX6_asked_10 : cX6_asked.data.toList.drop 231 = dktX6_asked_10 := dk_seg dksX6_asked_9 23 rfl rfl
theorem dksX6_asked_11 : cX6_asked.data.toList.drop 237 = dktX6_asked_11 := dk_seg dksX6_asked_10 6 rfl rfl
theorem dksX6_asked_12 : cX6_asked.data.toList.drop 268 = dktX6_asked_12 := dk_seg dksX6_asked_11 31 rfl rfl
theorem dksX6_asked_13 : cX6_asked.data.toList.drop 292 = dktX6_asked_13 := dk_seg dksX6_asked_12 24 rfl rfl
theorem dX6_asked_0 : decode cX6_asked 0 = .ok (.aload_n 0, 1) := dk_42 (dk_at dksX6_asked_0 0 rfl rfl)
theorem dX6_asked_1 : decode cX6_asked 1 = .ok (.iload_n 1, 1) := dk_27 (dk_at dksX6_asked_0 1 rfl rfl)
theorem dX6_asked_2 : decode cX6_asked 2 = .ok (.iconst 0, 1) := dk_3 (dk_at dksX6_asked_0 2 rfl rfl)
theorem dX6_asked_3 : decode cX6_asked 3 = .ok (.invokevirtual 93, 3) := dk_182 0 93 (dk_at dksX6_asked_0 3 rfl rfl)
theorem dX6_asked_6 : decode cX6_asked 6 = .ok (.istore_n 2, 1) := dk_61 (dk_at dksX6_asked_0 6 rfl rfl)
theorem dX6_asked_7 : decode cX6_asked 7 = .ok (.iconst (-1), 1) := dk_2 (dk_at dksX6_asked_0 7 rfl rfl)
theorem dX6_asked_8 : decode cX6_asked 8 = .ok (.istore_n 3, 1) := dk_62 (dk_at dksX6_asked_0 8 rfl rfl)
theorem dX6_asked_9 : decode cX6_asked 9 = .ok (.iconst 0, 1) := dk_3 (dk_at dksX6_asked_0 9 rfl rfl)
theorem dX6_asked_10 : decode cX6_asked 10 = .ok (.istore 4, 2) := dk_54 4 (dk_at dksX6_asked_0 10 rfl rfl)
theorem dX6_asked_12 : decode cX6_asked 12 = .ok (.iconst 0, 1) := dk_3 (dk_at dksX6_asked_0 12 rfl rfl)
theorem dX6_asked_13 : decode cX6_asked 13 = .ok (.istore 5, 2) := dk_54 5 (dk_at dksX6_asked_0 13 rfl rfl)
theorem dX6_asked_15 : decode cX6_asked 15 = .ok (.iload 5, 2) := dk_21 5 (dk_at dksX6_asked_0 15 rfl rfl)
theorem dX6_asked_17 : decode cX6_asked 17 = .ok (.aload_n 0, 1) := dk_42 (dk_at dksX6_asked_0 17 rfl rfl)
theorem dX6_asked_18 : decode cX6_asked 18 = .ok (.getfield 7, 3) := dk_180 0 7 (dk_at dksX6_asked_0 18 rfl rfl)
theorem dX6_asked_21 : decode cX6_asked 21 = .ok (.iconst 1, 1) := dk_4 (dk_at dksX6_asked_0 21 rfl rfl)
theorem dX6_asked_22 : decode cX6_asked 22 = .ok (.iaload, 1) := dk_46 (dk_at dksX6_asked_0 22 rfl rfl)
theorem dX6_asked_23 : decode cX6_asked 23 = .ok (.if_icmp .ge 75, 3) := dk_162 0 75 (dk_at dksX6_asked_1 0 rfl rfl)
theorem dX6_asked_26 : decode cX6_asked 26 = .ok (.iload_n 3, 1) := dk_29 (dk_at dksX6_asked_1 3 rfl rfl)
theorem dX6_asked_27 : decode cX6_asked 27 = .ok (.ifCond .ge 71, 3) := dk_156 0 71 (dk_at dksX6_asked_1 4 rfl rfl)
theorem dX6_asked_30 : decode cX6_asked 30 = .ok (.bipush 106, 2) := dk_16 106 (dk_at dksX6_asked_1 7 rfl rfl)
theorem dX6_asked_32 : decode cX6_asked 32 = .ok (.iconst 4, 1) := dk_7 (dk_at dksX6_asked_1 9 rfl rfl)
theorem dX6_asked_33 : decode cX6_asked 33 = .ok (.iload 5, 2) := dk_21 5 (dk_at dksX6_asked_1 10 rfl rfl)
theorem dX6_asked_35 : decode cX6_asked 35 = .ok (.imul, 1) := dk_104 (dk_at dksX6_asked_1 12 rfl rfl)
theorem dX6_asked_36 : decode cX6_asked 36 = .ok (.iadd, 1) := dk_96 (dk_at dksX6_asked_1 13 rfl rfl)
theorem dX6_asked_37 : decode cX6_asked 37 = .ok (.istore 6, 2) := dk_54 6 (dk_at dksX6_asked_1 14 rfl rfl)
theorem dX6_asked_39 : decode cX6_asked 39 = .ok (.iload_n 2, 1) := dk_28 (dk_at dksX6_asked_1 16 rfl rfl)
theorem dX6_asked_40 : decode cX6_asked 40 = .ok (.aload_n 0, 1) := dk_42 (dk_at dksX6_asked_1 17 rfl rfl)
theorem dX6_asked_41 : decode cX6_asked 41 = .ok (.getfield 7, 3) := dk_180 0 7 (dk_at dksX6_asked_1 18 rfl rfl)
theorem dX6_asked_44 : decode cX6_asked 44 = .ok (.iload 6, 2) := dk_21 6 (dk_at dksX6_asked_1 21 rfl rfl)
theorem dX6_asked_46 : decode cX6_asked 46 = .ok (.iconst 0, 1) := dk_3 (dk_at dksX6_asked_1 23 rfl rfl)
theorem dX6_asked_47 : decode cX6_asked 47 = .ok (.iadd, 1) := dk_96 (dk_at dksX6_asked_2 0 rfl rfl)
theorem dX6_asked_48 : decode cX6_asked 48 = .ok (.iaload, 1) := dk_46 (dk_at dksX6_asked_2 1 rfl rfl)
theorem dX6_asked_49 : decode cX6_asked 49 = .ok (.invokestatic 114, 3) := dk_184 0 114 (dk_at dksX6_asked_2 2 rfl rfl)
theorem dX6_asked_52 : decode cX6_asked 52 = .ok (.ifCond .eq 27, 3) := dk_153 0 27 (dk_at dksX6_asked_2 5 rfl rfl)
theorem dX6_asked_55 : decode cX6_asked 55 = .ok (.aload_n 0, 1) := dk_42 (dk_at dksX6_asked_2 8 rfl rfl)
theorem dX6_asked_56 : decode cX6_asked 56 = .ok (.iload 4, 2) := dk_21 4 (dk_at dksX6_asked_2 9 rfl rfl)
theorem dX6_asked_58 : decode cX6_asked 58 = .ok (.aload_n 0, 1) := dk_42 (dk_at dksX6_asked_2 11 rfl rfl)
theorem dX6_asked_59 : decode cX6_asked 59 = .ok (.getfield 7, 3) := dk_180 0 7 (dk_at dksX6_asked_2 12 rfl rfl)
theorem dX6_asked_62 : decode cX6_asked 62 = .ok (.iload 6, 2) := dk_21 6 (dk_at dksX6_asked_2 15 rfl rfl)
theorem dX6_asked_64 : decode cX6_asked 64 = .ok (.iconst 3, 1) := dk_6 (dk_at dksX6_asked_2 17 rfl rfl)
theorem dX6_asked_65 : decode cX6_asked 65 = .ok (.iadd, 1) := dk_96 (dk_at dksX6_asked_2 18 rfl rfl)
theorem dX6_asked_66 : decode cX6_asked 66 = .ok (.iaload, 1) := dk_46 (dk_at dksX6_asked_2 19 rfl rfl)
theorem dX6_asked_67 : decode cX6_asked 67 = .ok (.iload_n 1, 1) := dk_27 (dk_at dksX6_asked_2 20 rfl rfl)
theorem dX6_asked_68 : decode cX6_asked 68 = .ok (.invokevirtual 117, 3) := dk_182 0 117 (dk_at dksX6_asked_2 21 rfl rfl)
theorem dX6_asked_71 : decode cX6_asked 71 = .ok (.ifCond .eq 8, 3) := dk_153 0 8 (dk_at dksX6_asked_3 0 rfl rfl)
theorem dX6_asked_74 : decode cX6_asked 74 = .ok (.iload 6, 2) := dk_21 6 (dk_at dksX6_asked_3 3 rfl rfl)
theorem dX6_asked_76 : decode cX6_asked 76 = .ok (.goto 4, 3) := dk_167 0 4 (dk_at dksX6_asked_3 5 rfl rfl)
theorem dX6_asked_79 : decode cX6_asked 79 = .ok (.iconst (-1), 1) := dk_2 (dk_at dksX6_asked_3 8 rfl rfl)
theorem dX6_asked_80 : decode cX6_asked 80 = .ok (.istore_n 3, 1) := dk_62 (dk_at dksX6_asked_3 9 rfl rfl)
theorem dX6_asked_81 : decode cX6_asked 81 = .ok (.aload_n 0, 1) := dk_42 (dk_at dksX6_asked_3 10 rfl rfl)
theorem dX6_asked_82 : decode cX6_asked 82 = .ok (.getfield 7, 3) := dk_180 0 7 (dk_at dksX6_asked_3 11 rfl rfl)
theorem dX6_asked_85 : decode cX6_asked 85 = .ok (.iload 6, 2) := dk_21 6 (dk_at dksX6_asked_3 14 rfl rfl)
theorem dX6_asked_87 : decode cX6_asked 87 = .ok (.iconst 3, 1) := dk_6 (dk_at dksX6_asked_3 16 rfl rfl)
theorem dX6_asked_88 : decode cX6_asked 88 = .ok (.iadd, 1) := dk_96 (dk_at dksX6_asked_3 17 rfl rfl)
theorem dX6_asked_89 : decode cX6_asked 89 = .ok (.iaload, 1) := dk_46 (dk_at dksX6_asked_3 18 rfl rfl)
theorem dX6_asked_90 : decode cX6_asked 90 = .ok (.istore 4, 2) := dk_54 4 (dk_at dksX6_asked_3 19 rfl rfl)
theorem dX6_asked_92 : decode cX6_asked 92 = .ok (.iinc 5 1, 3) := dk_132 5 1 (dk_at dksX6_asked_3 21 rfl rfl)
theorem dX6_asked_95 : decode cX6_asked 95 = .ok (.goto (-80), 3) := dk_167 255 176 (dk_at dksX6_asked_4 0 rfl rfl)
theorem dX6_asked_98 : decode cX6_asked 98 = .ok (.iload_n 3, 1) := dk_29 (dk_at dksX6_asked_4 3 rfl rfl)
theorem dX6_asked_99 : decode cX6_asked 99 = .ok (.ifCond .ge 7, 3) := dk_156 0 7 (dk_at dksX6_asked_4 4 rfl rfl)
theorem dX6_asked_102 : decode cX6_asked 102 = .ok (.iconst (-1), 1) := dk_2 (dk_at dksX6_asked_4 7 rfl rfl)
theorem dX6_asked_103 : decode cX6_asked 103 = .ok (.goto 11, 3) := dk_167 0 11 (dk_at dksX6_asked_4 8 rfl rfl)
theorem dX6_asked_106 : decode cX6_asked 106 = .ok (.aload_n 0, 1) := dk_42 (dk_at dksX6_asked_4 11 rfl rfl)
theorem dX6_asked_107 : decode cX6_asked 107 = .ok (.getfield 7, 3) := dk_180 0 7 (dk_at dksX6_asked_4 12 rfl rfl)
theorem dX6_asked_110 : decode cX6_asked 110 = .ok (.iload_n 3, 1) := dk_29 (dk_at dksX6_asked_4 15 rfl rfl)
theorem dX6_asked_111 : decode cX6_asked 111 = .ok (.iconst 1, 1) := dk_4 (dk_at dksX6_asked_4 16 rfl rfl)
theorem dX6_asked_112 : decode cX6_asked 112 = .ok (.iadd, 1) := dk_96 (dk_at dksX6_asked_4 17 rfl rfl)
theorem dX6_asked_113 : decode cX6_asked 113 = .ok (.iaload, 1) := dk_46 (dk_at dksX6_asked_4 18 rfl rfl)
theorem dX6_asked_114 : decode cX6_asked 114 = .ok (.istore 5, 2) := dk_54 5 (dk_at dksX6_asked_4 19 rfl rfl)
theorem dX6_asked_116 : decode cX6_asked 116 = .ok (.iload_n 3, 1) := dk_29 (dk_at dksX6_asked_4 21 rfl rfl)
theorem dX6_asked_117 : decode cX6_asked 117 = .ok (.ifCond .ge 7, 3) := dk_156 0 7 (dk_at dksX6_asked_5 0 rfl rfl)
theorem dX6_asked_120 : decode cX6_asked 120 = .ok (.iconst 0, 1) := dk_3 (dk_at dksX6_asked_5 3 rfl rfl)
theorem dX6_asked_121 : decode cX6_asked 121 = .ok (.goto 11, 3) := dk_167 0 11 (dk_at dksX6_asked_5 4 rfl rfl)
theorem dX6_asked_124 : decode cX6_asked 124 = .ok (.aload_n 0, 1) := dk_42 (dk_at dksX6_asked_5 7 rfl rfl)
theorem dX6_asked_125 : decode cX6_asked 125 = .ok (.getfield 7, 3) := dk_180 0 7 (dk_at dksX6_asked_5 8 rfl rfl)
theorem dX6_asked_128 : decode cX6_asked 128 = .ok (.iload_n 3, 1) := dk_29 (dk_at dksX6_asked_5 11 rfl rfl)
theorem dX6_asked_129 : decode cX6_asked 129 = .ok (.iconst 2, 1) := dk_5 (dk_at dksX6_asked_5 12 rfl rfl)
theorem dX6_asked_130 : decode cX6_asked 130 = .ok (.iadd, 1) := dk_96 (dk_at dksX6_asked_5 13 rfl rfl)
theorem dX6_asked_131 : decode cX6_asked 131 = .ok (.iaload, 1) := dk_46 (dk_at dksX6_asked_5 14 rfl rfl)
theorem dX6_asked_132 : decode cX6_asked 132 = .ok (.istore 6, 2) := dk_54 6 (dk_at dksX6_asked_5 15 rfl rfl)
theorem dX6_asked_134 : decode cX6_asked 134 = .ok (.aload_n 0, 1) := dk_42 (dk_at dksX6_asked_5 17 rfl rfl)
theorem dX6_asked_135 : decode cX6_asked 135 = .ok (.getfield 7, 3) := dk_180 0 7 (dk_at dksX6_asked_5 18 rfl rfl)
theorem dX6_asked_138 : decode cX6_asked 138 = .ok (.bipush 6, 2) := dk_16 6 (dk_at dksX6_asked_5 21 rfl rfl)
theorem dX6_asked_140 : decode cX6_asked 140 = .ok (.aload_n 0, 1) := dk_42 (dk_at dksX6_asked_5 23 rfl rfl)
theorem dX6_asked_141 : decode cX6_asked 141 = .ok (.iload_n 1, 1) := dk_27 (dk_at dksX6_asked_6 0 rfl rfl)
theorem dX6_asked_142 : decode cX6_asked 142 = .ok (.iconst 2, 1) := dk_5 (dk_at dksX6_asked_6 1 rfl rfl)
theorem dX6_asked_143 : decode cX6_asked 143 = .ok (.invokevirtual 93, 3) := dk_182 0 93 (dk_at dksX6_asked_6 2 rfl rfl)
theorem dX6_asked_146 : decode cX6_asked 146 = .ok (.iadd, 1) := dk_96 (dk_at dksX6_asked_6 5 rfl rfl)
theorem dX6_asked_147 : decode cX6_asked 147 = .ok (.iaload, 1) := dk_46 (dk_at dksX6_asked_6 6 rfl rfl)
theorem dX6_asked_148 : decode cX6_asked 148 = .ok (.aload_n 0, 1) := dk_42 (dk_at dksX6_asked_6 7 rfl rfl)
theorem dX6_asked_149 : decode cX6_asked 149 = .ok (.getfield 7, 3) := dk_180 0 7 (dk_at dksX6_asked_6 8 rfl rfl)
theorem dX6_asked_152 : decode cX6_asked 152 = .ok (.bipush 6, 2) := dk_16 6 (dk_at dksX6_asked_6 11 rfl rfl)
theorem dX6_asked_154 : decode cX6_asked 154 = .ok (.aload_n 0, 1) := dk_42 (dk_at dksX6_asked_6 13 rfl rfl)
theorem dX6_asked_155 : decode cX6_asked 155 = .ok (.iload_n 1, 1) := dk_27 (dk_at dksX6_asked_6 14 rfl rfl)
theorem dX6_asked_156 : decode cX6_asked 156 = .ok (.iconst 1, 1) := dk_4 (dk_at dksX6_asked_6 15 rfl rfl)
theorem dX6_asked_157 : decode cX6_asked 157 = .ok (.invokevirtual 93, 3) := dk_182 0 93 (dk_at dksX6_asked_6 16 rfl rfl)
theorem dX6_asked_160 : decode cX6_asked 160 = .ok (.iadd, 1) := dk_96 (dk_at dksX6_asked_6 19 rfl rfl)
theorem dX6_asked_161 : decode cX6_asked 161 = .ok (.iaload, 1) := dk_46 (dk_at dksX6_asked_6 20 rfl rfl)
theorem dX6_asked_162 : decode cX6_asked 162 = .ok (.isub, 1) := dk_100 (dk_at dksX6_asked_6 21 rfl rfl)
theorem dX6_asked_163 : decode cX6_asked 163 = .ok (.invokestatic 120, 3) := dk_184 0 120 (dk_at dksX6_asked_7 0 rfl rfl)
theorem dX6_asked_166 : decode cX6_asked 166 = .ok (.aload_n 0, 1) := dk_42 (dk_at dksX6_asked_7 3 rfl rfl)
theorem dX6_asked_167 : decode cX6_asked 167 = .ok (.getfield 7, 3) := dk_180 0 7 (dk_at dksX6_asked_7 4 rfl rfl)
theorem dX6_asked_170 : decode cX6_asked 170 = .ok (.iconst 2, 1) := dk_5 (dk_at dksX6_asked_7 7 rfl rfl)
theorem dX6_asked_171 : decode cX6_asked 171 = .ok (.iaload, 1) := dk_46 (dk_at dksX6_asked_7 8 rfl rfl)
theorem dX6_asked_172 : decode cX6_asked 172 = .ok (.iadd, 1) := dk_96 (dk_at dksX6_asked_7 9 rfl rfl)
theorem dX6_asked_173 : decode cX6_asked 173 = .ok (.istore 7, 2) := dk_54 7 (dk_at dksX6_asked_7 10 rfl rfl)
theorem dX6_asked_175 : decode cX6_asked 175 = .ok (.iload 5, 2) := dk_21 5 (dk_at dksX6_asked_7 12 rfl rfl)
theorem dX6_asked_177 : decode cX6_asked 177 = .ok (.ifCond .ne 11, 3) := dk_154 0 11 (dk_at dksX6_asked_7 14 rfl rfl)
theorem dX6_asked_180 : decode cX6_asked 180 = .ok (.iload 7, 2) := dk_21 7 (dk_at dksX6_asked_7 17 rfl rfl)
theorem dX6_asked_182 : decode cX6_asked 182 = .ok (.iload 6, 2) := dk_21 6 (dk_at dksX6_asked_7 19 rfl rfl)
theorem dX6_asked_184 : decode cX6_asked 184 = .ok (.iadd, 1) := dk_96 (dk_at dksX6_asked_7 21 rfl rfl)
theorem dX6_asked_185 : decode cX6_asked 185 = .ok (.goto 32, 3) := dk_167 0 32 (dk_at dksX6_asked_8 0 rfl rfl)
theorem dX6_asked_188 : decode cX6_asked 188 = .ok (.iload 5, 2) := dk_21 5 (dk_at dksX6_asked_8 3 rfl rfl)
theorem dX6_asked_190 : decode cX6_asked 190 = .ok (.iconst 1, 1) := dk_4 (dk_at dksX6_asked_8 5 rfl rfl)
theorem dX6_asked_191 : decode cX6_asked 191 = .ok (.if_icmp .ne 14, 3) := dk_160 0 14 (dk_at dksX6_asked_8 6 rfl rfl)
theorem dX6_asked_194 : decode cX6_asked 194 = .ok (.iload 7, 2) := dk_21 7 (dk_at dksX6_asked_8 9 rfl rfl)
theorem dX6_asked_196 : decode cX6_asked 196 = .ok (.iload 6, 2) := dk_21 6 (dk_at dksX6_asked_8 11 rfl rfl)
theorem dX6_asked_198 : decode cX6_asked 198 = .ok (.isub, 1) := dk_100 (dk_at dksX6_asked_8 13 rfl rfl)
theorem dX6_asked_199 : decode cX6_asked 199 = .ok (.invokestatic 120, 3) := dk_184 0 120 (dk_at dksX6_asked_8 14 rfl rfl)
theorem dX6_asked_202 : decode cX6_asked 202 = .ok (.goto 15, 3) := dk_167 0 15 (dk_at dksX6_asked_8 17 rfl rfl)
theorem dX6_asked_205 : decode cX6_asked 205 = .ok (.iload 5, 2) := dk_21 5 (dk_at dksX6_asked_8 20 rfl rfl)
theorem dX6_asked_207 : decode cX6_asked 207 = .ok (.iconst 2, 1) := dk_5 (dk_at dksX6_asked_8 22 rfl rfl)
theorem dX6_asked_208 : decode cX6_asked 208 = .ok (.if_icmp .ne 7, 3) := dk_160 0 7 (dk_at dksX6_asked_9 0 rfl rfl)
theorem dX6_asked_211 : decode cX6_asked 211 = .ok (.iconst 0, 1) := dk_3 (dk_at dksX6_asked_9 3 rfl rfl)
theorem dX6_asked_212 : decode cX6_asked 212 = .ok (.goto 5, 3) := dk_167 0 5 (dk_at dksX6_asked_9 4 rfl rfl)
theorem dX6_asked_215 : decode cX6_asked 215 = .ok (.iload 7, 2) := dk_21 7 (dk_at dksX6_asked_9 7 rfl rfl)
theorem dX6_asked_217 : decode cX6_asked 217 = .ok (.istore 7, 2) := dk_54 7 (dk_at dksX6_asked_9 9 rfl rfl)
theorem dX6_asked_219 : decode cX6_asked 219 = .ok (.iload 7, 2) := dk_21 7 (dk_at dksX6_asked_9 11 rfl rfl)
theorem dX6_asked_221 : decode cX6_asked 221 = .ok (.aload_n 0, 1) := dk_42 (dk_at dksX6_asked_9 13 rfl rfl)
theorem dX6_asked_222 : decode cX6_asked 222 = .ok (.iload_n 1, 1) := dk_27 (dk_at dksX6_asked_9 14 rfl rfl)
theorem dX6_asked_223 : decode cX6_asked 223 = .ok (.iconst 3, 1) := dk_6 (dk_at dksX6_asked_9 15 rfl rfl)
theorem dX6_asked_224 : decode cX6_asked 224 = .ok (.invokevirtual 93, 3) := dk_182 0 93 (dk_at dksX6_asked_9 16 rfl rfl)
theorem dX6_asked_227 : decode cX6_asked 227 = .ok (.bipush 10, 2) := dk_16 10 (dk_at dksX6_asked_9 19 rfl rfl)
theorem dX6_asked_229 : decode cX6_asked 229 = .ok (.idiv, 1) := dk_108 (dk_at dksX6_asked_9 21 rfl rfl)
theorem dX6_asked_230 : decode cX6_asked 230 = .ok (.isub, 1) := dk_100 (dk_at dksX6_asked_9 22 rfl rfl)
theorem dX6_asked_231 : decode cX6_asked 231 = .ok (.invokestatic 120, 3) := dk_184 0 120 (dk_at dksX6_asked_10 0 rfl rfl)
theorem dX6_asked_234 : decode cX6_asked 234 = .ok (.istore 8, 2) := dk_54 8 (dk_at dksX6_asked_10 3 rfl rfl)
theorem dX6_asked_236 : decode cX6_asked 236 = .ok (.iload_n 2, 1) := dk_28 (dk_at dksX6_asked_10 5 rfl rfl)
theorem dX6_asked_237 : decode cX6_asked 237 = .ok (.tableswitch 67 2 5 #[31, 34, 51, 56], 31) := by decide +kernel
theorem dX6_asked_268 : decode cX6_asked 268 = .ok (.iload 8, 2) := dk_21 8 (dk_at dksX6_asked_12 0 rfl rfl)
theorem dX6_asked_270 : decode cX6_asked 270 = .ok (.ireturn, 1) := dk_172 (dk_at dksX6_asked_12 2 rfl rfl)
theorem dX6_asked_271 : decode cX6_asked 271 = .ok (.aload_n 0, 1) := dk_42 (dk_at dksX6_asked_12 3 rfl rfl)
theorem dX6_asked_272 : decode cX6_asked 272 = .ok (.invokevirtual 99, 3) := dk_182 0 99 (dk_at dksX6_asked_12 4 rfl rfl)
theorem dX6_asked_275 : decode cX6_asked 275 = .ok (.ifCond .ne 10, 3) := dk_154 0 10 (dk_at dksX6_asked_12 7 rfl rfl)
theorem dX6_asked_278 : decode cX6_asked 278 = .ok (.iload 8, 2) := dk_21 8 (dk_at dksX6_asked_12 10 rfl rfl)
theorem dX6_asked_280 : decode cX6_asked 280 = .ok (.iconst 2, 1) := dk_5 (dk_at dksX6_asked_12 12 rfl rfl)
theorem dX6_asked_281 : decode cX6_asked 281 = .ok (.idiv, 1) := dk_108 (dk_at dksX6_asked_12 13 rfl rfl)
theorem dX6_asked_282 : decode cX6_asked 282 = .ok (.goto 5, 3) := dk_167 0 5 (dk_at dksX6_asked_12 14 rfl rfl)
theorem dX6_asked_285 : decode cX6_asked 285 = .ok (.iload 8, 2) := dk_21 8 (dk_at dksX6_asked_12 17 rfl rfl)
theorem dX6_asked_287 : decode cX6_asked 287 = .ok (.ireturn, 1) := dk_172 (dk_at dksX6_asked_12 19 rfl rfl)
theorem dX6_asked_288 : decode cX6_asked 288 = .ok (.iconst 2, 1) := dk_5 (dk_at dksX6_asked_12 20 rfl rfl)
theorem dX6_asked_289 : decode cX6_asked 289 = .ok (.iload 7, 2) := dk_21 7 (dk_at dksX6_asked_12 21 rfl rfl)
theorem dX6_asked_291 : decode cX6_asked 291 = .ok (.imul, 1) := dk_104 (dk_at dksX6_asked_12 23 rfl rfl)
theorem dX6_asked_292 : decode cX6_asked 292 = .ok (.ireturn, 1) := dk_172 (dk_at dksX6_asked_13 0 rfl rfl)
theorem dX6_asked_293 : decode cX6_asked 293 = .ok (.iconst 2, 1) := dk_5 (dk_at dksX6_asked_13 1 rfl rfl)
theorem dX6_asked_294 : decode cX6_asked 294 = .ok (.iload 7, 2) := dk_21 7 (dk_at dksX6_asked_13 2 rfl rfl)
theorem dX6_asked_296 : decode cX6_asked 296 = .ok (.imul, 1) := dk_104 (dk_at dksX6_asked_13 4 rfl rfl)
theorem dX6_asked_297 : decode cX6_asked 297 = .ok (.bipush 7, 2) := dk_16 7 (dk_at dksX6_asked_13 5 rfl rfl)
theorem dX6_asked_299 : decode cX6_asked 299 = .ok (.isub, 1) := dk_100 (dk_at dksX6_asked_13 7 rfl rfl)
theorem dX6_asked_300 : decode cX6_asked 300 = .ok (.invokestatic 120, 3) := dk_184 0 120 (dk_at dksX6_asked_13 8 rfl rfl)
theorem dX6_asked_303 : decode cX6_asked 303 = .ok (.ireturn, 1) := dk_172 (dk_at dksX6_asked_13 11 rfl rfl)
theorem dX6_asked_304 : decode cX6_asked 304 = .ok (.iload 7, 2) := dk_21 7 (dk_at dksX6_asked_13 12 rfl rfl)
theorem dX6_asked_306 : decode cX6_asked 306 = .ok (.ireturn, 1) := dk_172 (dk_at dksX6_asked_13 14 rfl rfl)
abbrev cX6_its : ByteArray := prog_26_method_9_code
def yX6_its : MethodName := ⟨RX6, "its", "(II)I"⟩
def dkwX6_its_0 : List UInt8 := [42, 180, 0, 7, 27, 28, 184, 0, 74, 46, 172]
abbrev dktX6_its_0 : List UInt8 := dkwX6_its_0 ++ []
theorem dksX6_its_0 : cX6_its.data.toList.drop 0 = dktX6_its_0 := by decide +kernel
theorem dX6_its_0 : decode cX6_its 0 = .ok (.aload_n 0, 1) := dk_42 (dk_at dksX6_its_0 0 rfl rfl)
theorem dX6_its_1 : decode cX6_its 1 = .ok (.getfield 7, 3) := dk_180 0 7 (dk_at dksX6_its_0 1 rfl rfl)
theorem dX6_its_4 : decode cX6_its 4 = .ok (.iload_n 1, 1) := dk_27 (dk_at dksX6_its_0 4 rfl rfl)
theorem dX6_its_5 : decode cX6_its 5 = .ok (.iload_n 2, 1) := dk_28 (dk_at dksX6_its_0 5 rfl rfl)
theorem dX6_its_6 : decode cX6_its 6 = .ok (.invokestatic 74, 3) := dk_184 0 74 (dk_at dksX6_its_0 6 rfl rfl)
theorem dX6_its_9 : decode cX6_its 9 = .ok (.iaload, 1) := dk_46 (dk_at dksX6_its_0 9 rfl rfl)
theorem dX6_its_10 : decode cX6_its 10 = .ok (.ireturn, 1) := dk_172 (dk_at dksX6_its_0 10 rfl rfl)
abbrev cX6_isUnder : ByteArray := prog_26_method_13_code
def yX6_isUnder : MethodName := ⟨RX6, "isUnder", "(II)Z"⟩
def dkwX6_isUnder_1 : List UInt8 := [26, 8, 160, 0, 7, 4, 167, 0, 4, 3, 172]
abbrev dktX6_isUnder_1 : List UInt8 := dkwX6_isUnder_1 ++ []
def dkwX6_isUnder_0 : List UInt8 := [27, 153, 0, 28, 26, 27, 159, 0, 23, 27, 5, 160, 0, 8, 26, 6, 159, 0, 13, 27, 7, 160, 0, 12]
abbrev dktX6_isUnder_0 : List UInt8 := dkwX6_isUnder_0 ++ dktX6_isUnder_1
theorem dksX6_isUnder_0 : cX6_isUnder.data.toList.drop 0 = dktX6_isUnder_0 := by decide +kernel
theorem dksX6_isUnder_1 : cX6_isUnder.data.toList.drop 24 = dktX6_isUnder_1 := dk_seg dksX6_isUnder_0 24 rfl rfl
theorem dX6_isUnder_0 : decode cX6_isUnder 0 = .ok (.iload_n 1, 1) := dk_27 (dk_at dksX6_isUnder_0 0 rfl rfl)
theorem dX6_isUnder_1 : decode cX6_isUnder 1 = .ok (.ifCond .eq 28, 3) := dk_153 0 28 (dk_at dksX6_isUnder_0 1 rfl rfl)
theorem dX6_isUnder_4 : decode cX6_isUnder 4 = .ok (.iload_n 0, 1) := dk_26 (dk_at dksX6_isUnder_0 4 rfl rfl)
theorem dX6_isUnder_5 : decode cX6_isUnder 5 = .ok (.iload_n 1, 1) := dk_27 (dk_at dksX6_isUnder_0 5 rfl rfl)
theorem dX6_isUnder_6 : decode cX6_isUnder 6 = .ok (.if_icmp .eq 23, 3) := dk_159 0 23 (dk_at dksX6_isUnder_0 6 rfl rfl)
theorem dX6_isUnder_9 : decode cX6_isUnder 9 = .ok (.iload_n 1, 1) := dk_27 (dk_at dksX6_isUnder_0 9 rfl rfl)
theorem dX6_isUnder_10 : decode cX6_isUnder 10 = .ok (.iconst 2, 1) := dk_5 (dk_at dksX6_isUnder_0 10 rfl rfl)
theorem dX6_isUnder_11 : decode cX6_isUnder 11 = .ok (.if_icmp .ne 8, 3) := dk_160 0 8 (dk_at dksX6_isUnder_0 11 rfl rfl)
theorem dX6_isUnder_14 : decode cX6_isUnder 14 = .ok (.iload_n 0, 1) := dk_26 (dk_at dksX6_isUnder_0 14 rfl rfl)
theorem dX6_isUnder_15 : decode cX6_isUnder 15 = .ok (.iconst 3, 1) := dk_6 (dk_at dksX6_isUnder_0 15 rfl rfl)
theorem dX6_isUnder_16 : decode cX6_isUnder 16 = .ok (.if_icmp .eq 13, 3) := dk_159 0 13 (dk_at dksX6_isUnder_0 16 rfl rfl)
theorem dX6_isUnder_19 : decode cX6_isUnder 19 = .ok (.iload_n 1, 1) := dk_27 (dk_at dksX6_isUnder_0 19 rfl rfl)
theorem dX6_isUnder_20 : decode cX6_isUnder 20 = .ok (.iconst 4, 1) := dk_7 (dk_at dksX6_isUnder_0 20 rfl rfl)
theorem dX6_isUnder_21 : decode cX6_isUnder 21 = .ok (.if_icmp .ne 12, 3) := dk_160 0 12 (dk_at dksX6_isUnder_0 21 rfl rfl)
theorem dX6_isUnder_24 : decode cX6_isUnder 24 = .ok (.iload_n 0, 1) := dk_26 (dk_at dksX6_isUnder_1 0 rfl rfl)
theorem dX6_isUnder_25 : decode cX6_isUnder 25 = .ok (.iconst 5, 1) := dk_8 (dk_at dksX6_isUnder_1 1 rfl rfl)
theorem dX6_isUnder_26 : decode cX6_isUnder 26 = .ok (.if_icmp .ne 7, 3) := dk_160 0 7 (dk_at dksX6_isUnder_1 2 rfl rfl)
theorem dX6_isUnder_29 : decode cX6_isUnder 29 = .ok (.iconst 1, 1) := dk_4 (dk_at dksX6_isUnder_1 5 rfl rfl)
theorem dX6_isUnder_30 : decode cX6_isUnder 30 = .ok (.goto 4, 3) := dk_167 0 4 (dk_at dksX6_isUnder_1 6 rfl rfl)
theorem dX6_isUnder_33 : decode cX6_isUnder 33 = .ok (.iconst 0, 1) := dk_3 (dk_at dksX6_isUnder_1 9 rfl rfl)
theorem dX6_isUnder_34 : decode cX6_isUnder 34 = .ok (.ireturn, 1) := dk_172 (dk_at dksX6_isUnder_1 10 rfl rfl)
abbrev cX6_isSo : ByteArray := prog_26_method_20_code
def yX6_isSo : MethodName := ⟨RX6, "isSo", "(III)Z"⟩
def dkwX6_isSo_6 : List UInt8 := [160, 0, 7, 4, 167, 0, 4, 3, 172]
abbrev dktX6_isSo_6 : List UInt8 := dkwX6_isSo_6 ++ []
def dkwX6_isSo_5 : List UInt8 := [4, 167, 0, 4, 3, 79, 132, 5, 1, 167, 255, 136, 21, 4, 153, 0, 13, 42, 180, 0, 23, 3, 46, 4]
abbrev dktX6_isSo_5 : List UInt8 := dkwX6_isSo_5 ++ dktX6_isSo_6
def dkwX6_isSo_4 : List UInt8 := [21, 6, 42, 180, 0, 23, 21, 4, 4, 100, 46, 42, 180, 0, 23, 21, 4, 46, 184, 0, 110, 153, 0, 7]
abbrev dktX6_isSo_4 : List UInt8 := dkwX6_isSo_4 ++ dktX6_isSo_5
def dkwX6_isSo_3 : List UInt8 := [180, 0, 23, 21, 4, 4, 100, 46, 100, 79, 167, 0, 44, 132, 4, 255, 42, 180, 0, 23, 21, 4, 4, 100]
abbrev dktX6_isSo_3 : List UInt8 := dkwX6_isSo_3 ++ dktX6_isSo_4
def dkwX6_isSo_2 : List UInt8 := [132, 4, 1, 167, 0, 74, 21, 6, 16, 236, 160, 0, 26, 42, 180, 0, 23, 21, 4, 4, 100, 4, 42]
abbrev dktX6_isSo_2 : List UInt8 := dkwX6_isSo_2 ++ dktX6_isSo_3
def dkwX6_isSo_1 : List UInt8 := [54, 6, 21, 6, 16, 246, 164, 0, 23, 42, 180, 0, 23, 21, 4, 42, 21, 6, 29, 182, 0, 107, 79]
abbrev dktX6_isSo_1 : List UInt8 := dkwX6_isSo_1 ++ dktX6_isSo_2
def dkwX6_isSo_0 : List UInt8 := [3, 54, 4, 27, 54, 5, 21, 5, 28, 162, 0, 120, 42, 180, 0, 7, 17, 0, 138, 21, 5, 96, 46]
abbrev dktX6_isSo_0 : List UInt8 := dkwX6_isSo_0 ++ dktX6_isSo_1
theorem dksX6_isSo_0 : cX6_isSo.data.toList.drop 0 = dktX6_isSo_0 := by decide +kernel
theorem dksX6_isSo_1 : cX6_isSo.data.toList.drop 23 = dktX6_isSo_1 := dk_seg dksX6_isSo_0 23 rfl rfl
theorem dksX6_isSo_2 : cX6_isSo.data.toList.drop 46 = dktX6_isSo_2 := dk_seg dksX6_isSo_1 23 rfl rfl
theorem dksX6_isSo_3 : cX6_isSo.data.toList.drop 69 = dktX6_isSo_3 := dk_seg dksX6_isSo_2 23 rfl rfl
theorem dksX6_isSo_4 : cX6_isSo.data.toList.drop 93 = dktX6_isSo_4 := dk_seg dksX6_isSo_3 24 rfl rfl
theorem dksX6_isSo_5 : cX6_isSo.data.toList.drop 117 = dktX6_isSo_5 := dk_seg dksX6_isSo_4 24 rfl rfl
theorem dksX6_isSo_6 : cX6_isSo.data.toList.drop 141 = dktX6_isSo_6 := dk_seg dksX6_isSo_5 24 rfl rfl
theorem dX6_isSo_0 : decode cX6_isSo 0 = .ok (.iconst 0, 1) := dk_3 (dk_at dksX6_isSo_0 0 rfl rfl)
theorem dX6_isSo_1 : decode cX6_isSo 1 = .ok (.istore 4, 2) := dk_54 4 (dk_at dksX6_isSo_0 1 rfl rfl)
theorem dX6_isSo_3 : decode cX6_isSo 3 = .ok (.iload_n 1, 1) := dk_27 (dk_at dksX6_isSo_0 3 rfl rfl)
theorem dX6_isSo_4 : decode cX6_isSo 4 = .ok (.istore 5, 2) := dk_54 5 (dk_at dksX6_isSo_0 4 rfl rfl)
theorem dX6_isSo_6 : decode cX6_isSo 6 = .ok (.iload 5, 2) := dk_21 5 (dk_at dksX6_isSo_0 6 rfl rfl)
theorem dX6_isSo_8 : decode cX6_isSo 8 = .ok (.iload_n 2, 1) := dk_28 (dk_at dksX6_isSo_0 8 rfl rfl)
theorem dX6_isSo_9 : decode cX6_isSo 9 = .ok (.if_icmp .ge 120, 3) := dk_162 0 120 (dk_at dksX6_isSo_0 9 rfl rfl)
theorem dX6_isSo_12 : decode cX6_isSo 12 = .ok (.aload_n 0, 1) := dk_42 (dk_at dksX6_isSo_0 12 rfl rfl)
theorem dX6_isSo_13 : decode cX6_isSo 13 = .ok (.getfield 7, 3) := dk_180 0 7 (dk_at dksX6_isSo_0 13 rfl rfl)
theorem dX6_isSo_16 : decode cX6_isSo 16 = .ok (.sipush 138, 3) := dk_17 0 138 (dk_at dksX6_isSo_0 16 rfl rfl)
theorem dX6_isSo_19 : decode cX6_isSo 19 = .ok (.iload 5, 2) := dk_21 5 (dk_at dksX6_isSo_0 19 rfl rfl)
theorem dX6_isSo_21 : decode cX6_isSo 21 = .ok (.iadd, 1) := dk_96 (dk_at dksX6_isSo_0 21 rfl rfl)
theorem dX6_isSo_22 : decode cX6_isSo 22 = .ok (.iaload, 1) := dk_46 (dk_at dksX6_isSo_0 22 rfl rfl)
theorem dX6_isSo_23 : decode cX6_isSo 23 = .ok (.istore 6, 2) := dk_54 6 (dk_at dksX6_isSo_1 0 rfl rfl)
theorem dX6_isSo_25 : decode cX6_isSo 25 = .ok (.iload 6, 2) := dk_21 6 (dk_at dksX6_isSo_1 2 rfl rfl)
theorem dX6_isSo_27 : decode cX6_isSo 27 = .ok (.bipush (-10), 2) := dk_16 246 (dk_at dksX6_isSo_1 4 rfl rfl)
theorem dX6_isSo_29 : decode cX6_isSo 29 = .ok (.if_icmp .le 23, 3) := dk_164 0 23 (dk_at dksX6_isSo_1 6 rfl rfl)
theorem dX6_isSo_32 : decode cX6_isSo 32 = .ok (.aload_n 0, 1) := dk_42 (dk_at dksX6_isSo_1 9 rfl rfl)
theorem dX6_isSo_33 : decode cX6_isSo 33 = .ok (.getfield 23, 3) := dk_180 0 23 (dk_at dksX6_isSo_1 10 rfl rfl)
theorem dX6_isSo_36 : decode cX6_isSo 36 = .ok (.iload 4, 2) := dk_21 4 (dk_at dksX6_isSo_1 13 rfl rfl)
theorem dX6_isSo_38 : decode cX6_isSo 38 = .ok (.aload_n 0, 1) := dk_42 (dk_at dksX6_isSo_1 15 rfl rfl)
theorem dX6_isSo_39 : decode cX6_isSo 39 = .ok (.iload 6, 2) := dk_21 6 (dk_at dksX6_isSo_1 16 rfl rfl)
theorem dX6_isSo_41 : decode cX6_isSo 41 = .ok (.iload_n 3, 1) := dk_29 (dk_at dksX6_isSo_1 18 rfl rfl)
theorem dX6_isSo_42 : decode cX6_isSo 42 = .ok (.invokevirtual 107, 3) := dk_182 0 107 (dk_at dksX6_isSo_1 19 rfl rfl)
theorem dX6_isSo_45 : decode cX6_isSo 45 = .ok (.iastore, 1) := dk_79 (dk_at dksX6_isSo_1 22 rfl rfl)
theorem dX6_isSo_46 : decode cX6_isSo 46 = .ok (.iinc 4 1, 3) := dk_132 4 1 (dk_at dksX6_isSo_2 0 rfl rfl)
theorem dX6_isSo_49 : decode cX6_isSo 49 = .ok (.goto 74, 3) := dk_167 0 74 (dk_at dksX6_isSo_2 3 rfl rfl)
theorem dX6_isSo_52 : decode cX6_isSo 52 = .ok (.iload 6, 2) := dk_21 6 (dk_at dksX6_isSo_2 6 rfl rfl)
theorem dX6_isSo_54 : decode cX6_isSo 54 = .ok (.bipush (-20), 2) := dk_16 236 (dk_at dksX6_isSo_2 8 rfl rfl)
theorem dX6_isSo_56 : decode cX6_isSo 56 = .ok (.if_icmp .ne 26, 3) := dk_160 0 26 (dk_at dksX6_isSo_2 10 rfl rfl)
theorem dX6_isSo_59 : decode cX6_isSo 59 = .ok (.aload_n 0, 1) := dk_42 (dk_at dksX6_isSo_2 13 rfl rfl)
theorem dX6_isSo_60 : decode cX6_isSo 60 = .ok (.getfield 23, 3) := dk_180 0 23 (dk_at dksX6_isSo_2 14 rfl rfl)
theorem dX6_isSo_63 : decode cX6_isSo 63 = .ok (.iload 4, 2) := dk_21 4 (dk_at dksX6_isSo_2 17 rfl rfl)
theorem dX6_isSo_65 : decode cX6_isSo 65 = .ok (.iconst 1, 1) := dk_4 (dk_at dksX6_isSo_2 19 rfl rfl)
theorem dX6_isSo_66 : decode cX6_isSo 66 = .ok (.isub, 1) := dk_100 (dk_at dksX6_isSo_2 20 rfl rfl)
theorem dX6_isSo_67 : decode cX6_isSo 67 = .ok (.iconst 1, 1) := dk_4 (dk_at dksX6_isSo_2 21 rfl rfl)
theorem dX6_isSo_68 : decode cX6_isSo 68 = .ok (.aload_n 0, 1) := dk_42 (dk_at dksX6_isSo_2 22 rfl rfl)
theorem dX6_isSo_69 : decode cX6_isSo 69 = .ok (.getfield 23, 3) := dk_180 0 23 (dk_at dksX6_isSo_3 0 rfl rfl)
theorem dX6_isSo_72 : decode cX6_isSo 72 = .ok (.iload 4, 2) := dk_21 4 (dk_at dksX6_isSo_3 3 rfl rfl)
theorem dX6_isSo_74 : decode cX6_isSo 74 = .ok (.iconst 1, 1) := dk_4 (dk_at dksX6_isSo_3 5 rfl rfl)
theorem dX6_isSo_75 : decode cX6_isSo 75 = .ok (.isub, 1) := dk_100 (dk_at dksX6_isSo_3 6 rfl rfl)
theorem dX6_isSo_76 : decode cX6_isSo 76 = .ok (.iaload, 1) := dk_46 (dk_at dksX6_isSo_3 7 rfl rfl)
theorem dX6_isSo_77 : decode cX6_isSo 77 = .ok (.isub, 1) := dk_100 (dk_at dksX6_isSo_3 8 rfl rfl)
theorem dX6_isSo_78 : decode cX6_isSo 78 = .ok (.iastore, 1) := dk_79 (dk_at dksX6_isSo_3 9 rfl rfl)
theorem dX6_isSo_79 : decode cX6_isSo 79 = .ok (.goto 44, 3) := dk_167 0 44 (dk_at dksX6_isSo_3 10 rfl rfl)
theorem dX6_isSo_82 : decode cX6_isSo 82 = .ok (.iinc 4 (-1), 3) := dk_132 4 255 (dk_at dksX6_isSo_3 13 rfl rfl)
theorem dX6_isSo_85 : decode cX6_isSo 85 = .ok (.aload_n 0, 1) := dk_42 (dk_at dksX6_isSo_3 16 rfl rfl)
theorem dX6_isSo_86 : decode cX6_isSo 86 = .ok (.getfield 23, 3) := dk_180 0 23 (dk_at dksX6_isSo_3 17 rfl rfl)
theorem dX6_isSo_89 : decode cX6_isSo 89 = .ok (.iload 4, 2) := dk_21 4 (dk_at dksX6_isSo_3 20 rfl rfl)
theorem dX6_isSo_91 : decode cX6_isSo 91 = .ok (.iconst 1, 1) := dk_4 (dk_at dksX6_isSo_3 22 rfl rfl)
theorem dX6_isSo_92 : decode cX6_isSo 92 = .ok (.isub, 1) := dk_100 (dk_at dksX6_isSo_3 23 rfl rfl)
theorem dX6_isSo_93 : decode cX6_isSo 93 = .ok (.iload 6, 2) := dk_21 6 (dk_at dksX6_isSo_4 0 rfl rfl)
theorem dX6_isSo_95 : decode cX6_isSo 95 = .ok (.aload_n 0, 1) := dk_42 (dk_at dksX6_isSo_4 2 rfl rfl)
theorem dX6_isSo_96 : decode cX6_isSo 96 = .ok (.getfield 23, 3) := dk_180 0 23 (dk_at dksX6_isSo_4 3 rfl rfl)
theorem dX6_isSo_99 : decode cX6_isSo 99 = .ok (.iload 4, 2) := dk_21 4 (dk_at dksX6_isSo_4 6 rfl rfl)
theorem dX6_isSo_101 : decode cX6_isSo 101 = .ok (.iconst 1, 1) := dk_4 (dk_at dksX6_isSo_4 8 rfl rfl)
theorem dX6_isSo_102 : decode cX6_isSo 102 = .ok (.isub, 1) := dk_100 (dk_at dksX6_isSo_4 9 rfl rfl)
theorem dX6_isSo_103 : decode cX6_isSo 103 = .ok (.iaload, 1) := dk_46 (dk_at dksX6_isSo_4 10 rfl rfl)
theorem dX6_isSo_104 : decode cX6_isSo 104 = .ok (.aload_n 0, 1) := dk_42 (dk_at dksX6_isSo_4 11 rfl rfl)
theorem dX6_isSo_105 : decode cX6_isSo 105 = .ok (.getfield 23, 3) := dk_180 0 23 (dk_at dksX6_isSo_4 12 rfl rfl)
theorem dX6_isSo_108 : decode cX6_isSo 108 = .ok (.iload 4, 2) := dk_21 4 (dk_at dksX6_isSo_4 15 rfl rfl)
theorem dX6_isSo_110 : decode cX6_isSo 110 = .ok (.iaload, 1) := dk_46 (dk_at dksX6_isSo_4 17 rfl rfl)
theorem dX6_isSo_111 : decode cX6_isSo 111 = .ok (.invokestatic 110, 3) := dk_184 0 110 (dk_at dksX6_isSo_4 18 rfl rfl)
theorem dX6_isSo_114 : decode cX6_isSo 114 = .ok (.ifCond .eq 7, 3) := dk_153 0 7 (dk_at dksX6_isSo_4 21 rfl rfl)
theorem dX6_isSo_117 : decode cX6_isSo 117 = .ok (.iconst 1, 1) := dk_4 (dk_at dksX6_isSo_5 0 rfl rfl)
theorem dX6_isSo_118 : decode cX6_isSo 118 = .ok (.goto 4, 3) := dk_167 0 4 (dk_at dksX6_isSo_5 1 rfl rfl)
theorem dX6_isSo_121 : decode cX6_isSo 121 = .ok (.iconst 0, 1) := dk_3 (dk_at dksX6_isSo_5 4 rfl rfl)
theorem dX6_isSo_122 : decode cX6_isSo 122 = .ok (.iastore, 1) := dk_79 (dk_at dksX6_isSo_5 5 rfl rfl)
theorem dX6_isSo_123 : decode cX6_isSo 123 = .ok (.iinc 5 1, 3) := dk_132 5 1 (dk_at dksX6_isSo_5 6 rfl rfl)
theorem dX6_isSo_126 : decode cX6_isSo 126 = .ok (.goto (-120), 3) := dk_167 255 136 (dk_at dksX6_isSo_5 9 rfl rfl)
theorem dX6_isSo_129 : decode cX6_isSo 129 = .ok (.iload 4, 2) := dk_21 4 (dk_at dksX6_isSo_5 12 rfl rfl)
theorem dX6_isSo_131 : decode cX6_isSo 131 = .ok (.ifCond .eq 13, 3) := dk_153 0 13 (dk_at dksX6_isSo_5 14 rfl rfl)
theorem dX6_isSo_134 : decode cX6_isSo 134 = .ok (.aload_n 0, 1) := dk_42 (dk_at dksX6_isSo_5 17 rfl rfl)
theorem dX6_isSo_135 : decode cX6_isSo 135 = .ok (.getfield 23, 3) := dk_180 0 23 (dk_at dksX6_isSo_5 18 rfl rfl)
theorem dX6_isSo_138 : decode cX6_isSo 138 = .ok (.iconst 0, 1) := dk_3 (dk_at dksX6_isSo_5 21 rfl rfl)
theorem dX6_isSo_139 : decode cX6_isSo 139 = .ok (.iaload, 1) := dk_46 (dk_at dksX6_isSo_5 22 rfl rfl)
theorem dX6_isSo_140 : decode cX6_isSo 140 = .ok (.iconst 1, 1) := dk_4 (dk_at dksX6_isSo_5 23 rfl rfl)
theorem dX6_isSo_141 : decode cX6_isSo 141 = .ok (.if_icmp .ne 7, 3) := dk_160 0 7 (dk_at dksX6_isSo_6 0 rfl rfl)
theorem dX6_isSo_144 : decode cX6_isSo 144 = .ok (.iconst 1, 1) := dk_4 (dk_at dksX6_isSo_6 3 rfl rfl)
theorem dX6_isSo_145 : decode cX6_isSo 145 = .ok (.goto 4, 3) := dk_167 0 4 (dk_at dksX6_isSo_6 4 rfl rfl)
theorem dX6_isSo_148 : decode cX6_isSo 148 = .ok (.iconst 0, 1) := dk_3 (dk_at dksX6_isSo_6 7 rfl rfl)
theorem dX6_isSo_149 : decode cX6_isSo 149 = .ok (.ireturn, 1) := dk_172 (dk_at dksX6_isSo_6 8 rfl rfl)
abbrev cX6_fact : ByteArray := prog_26_method_18_code
def yX6_fact : MethodName := ⟨RX6, "fact", "(II)I"⟩
def dkwX6_fact_4 : List UInt8 := [172]
abbrev dktX6_fact_4 : List UInt8 := dkwX6_fact_4 ++ []
def dkwX6_fact_3 : List UInt8 := [182, 0, 93, 96, 46, 172, 42, 28, 6, 182, 0, 93, 172, 42, 182, 0, 99, 184, 0, 103, 172, 28, 172, 27]
abbrev dktX6_fact_3 : List UInt8 := dkwX6_fact_3 ++ dktX6_fact_4
def dkwX6_fact_2 : List UInt8 := [42, 180, 0, 7, 16, 6, 42, 28, 4, 182, 0, 93, 96, 46, 172, 42, 180, 0, 7, 16, 6, 42, 28, 5]
abbrev dktX6_fact_2 : List UInt8 := dkwX6_fact_2 ++ dktX6_fact_3
def dkwX6_fact_1 : List UInt8 := [170, 0, 0, 0, 0, 0, 82, 255, 255, 255, 251, 255, 255, 255, 255, 0, 0, 0, 80, 0, 0, 0, 72, 0, 0, 0, 65, 0, 0, 0, 50, 0, 0, 0, 35]
abbrev dktX6_fact_1 : List UInt8 := dkwX6_fact_1 ++ dktX6_fact_2
def dkwX6_fact_0 : List UInt8 := [27]
abbrev dktX6_fact_0 : List UInt8 := dkwX6_fact_0 ++ dktX6_fact_1
theorem dksX6_fact_0 : cX6_fact.data.toList.drop 0 = dktX6_fact_0 := by decide +kernel
theorem dksX6_fact_1 : cX6_fact.data.toList.drop 1 = dktX6_fact_1 := dk_seg dksX6_fact_0 1 rfl rfl
theorem dksX6_fact_2 : cX6_fact.data.toList.drop 36 = dktX6_fact_2 := dk_seg dksX6_fact_1 35 rfl rfl
theorem dksX6_fact_3 : cX6_fact.data.toList.drop 60 = dktX6_fact_3 := dk_seg dksX6_fact_2 24 rfl rfl
theorem dksX6_fact_4 : cX6_fact.data.toList.drop 84 = dktX6_fact_4 := dk_seg dksX6_fact_3 24 rfl rfl
theorem dX6_fact_0 : decode cX6_fact 0 = .ok (.iload_n 1, 1) := dk_27 (dk_at dksX6_fact_0 0 rfl rfl)
theorem dX6_fact_1 : decode cX6_fact 1 = .ok (.tableswitch 82 (-5) (-1) #[80, 72, 65, 50, 35], 35) := by decide +kernel
theorem dX6_fact_36 : decode cX6_fact 36 = .ok (.aload_n 0, 1) := dk_42 (dk_at dksX6_fact_2 0 rfl rfl)
theorem dX6_fact_37 : decode cX6_fact 37 = .ok (.getfield 7, 3) := dk_180 0 7 (dk_at dksX6_fact_2 1 rfl rfl)
theorem dX6_fact_40 : decode cX6_fact 40 = .ok (.bipush 6, 2) := dk_16 6 (dk_at dksX6_fact_2 4 rfl rfl)
theorem dX6_fact_42 : decode cX6_fact 42 = .ok (.aload_n 0, 1) := dk_42 (dk_at dksX6_fact_2 6 rfl rfl)
theorem dX6_fact_43 : decode cX6_fact 43 = .ok (.iload_n 2, 1) := dk_28 (dk_at dksX6_fact_2 7 rfl rfl)
theorem dX6_fact_44 : decode cX6_fact 44 = .ok (.iconst 1, 1) := dk_4 (dk_at dksX6_fact_2 8 rfl rfl)
theorem dX6_fact_45 : decode cX6_fact 45 = .ok (.invokevirtual 93, 3) := dk_182 0 93 (dk_at dksX6_fact_2 9 rfl rfl)
theorem dX6_fact_48 : decode cX6_fact 48 = .ok (.iadd, 1) := dk_96 (dk_at dksX6_fact_2 12 rfl rfl)
theorem dX6_fact_49 : decode cX6_fact 49 = .ok (.iaload, 1) := dk_46 (dk_at dksX6_fact_2 13 rfl rfl)
theorem dX6_fact_50 : decode cX6_fact 50 = .ok (.ireturn, 1) := dk_172 (dk_at dksX6_fact_2 14 rfl rfl)
theorem dX6_fact_51 : decode cX6_fact 51 = .ok (.aload_n 0, 1) := dk_42 (dk_at dksX6_fact_2 15 rfl rfl)
theorem dX6_fact_52 : decode cX6_fact 52 = .ok (.getfield 7, 3) := dk_180 0 7 (dk_at dksX6_fact_2 16 rfl rfl)
theorem dX6_fact_55 : decode cX6_fact 55 = .ok (.bipush 6, 2) := dk_16 6 (dk_at dksX6_fact_2 19 rfl rfl)
theorem dX6_fact_57 : decode cX6_fact 57 = .ok (.aload_n 0, 1) := dk_42 (dk_at dksX6_fact_2 21 rfl rfl)
theorem dX6_fact_58 : decode cX6_fact 58 = .ok (.iload_n 2, 1) := dk_28 (dk_at dksX6_fact_2 22 rfl rfl)
theorem dX6_fact_59 : decode cX6_fact 59 = .ok (.iconst 2, 1) := dk_5 (dk_at dksX6_fact_2 23 rfl rfl)
theorem dX6_fact_60 : decode cX6_fact 60 = .ok (.invokevirtual 93, 3) := dk_182 0 93 (dk_at dksX6_fact_3 0 rfl rfl)
theorem dX6_fact_63 : decode cX6_fact 63 = .ok (.iadd, 1) := dk_96 (dk_at dksX6_fact_3 3 rfl rfl)
theorem dX6_fact_64 : decode cX6_fact 64 = .ok (.iaload, 1) := dk_46 (dk_at dksX6_fact_3 4 rfl rfl)
theorem dX6_fact_65 : decode cX6_fact 65 = .ok (.ireturn, 1) := dk_172 (dk_at dksX6_fact_3 5 rfl rfl)
theorem dX6_fact_66 : decode cX6_fact 66 = .ok (.aload_n 0, 1) := dk_42 (dk_at dksX6_fact_3 6 rfl rfl)
theorem dX6_fact_67 : decode cX6_fact 67 = .ok (.iload_n 2, 1) := dk_28 (dk_at dksX6_fact_3 7 rfl rfl)
theorem dX6_fact_68 : decode cX6_fact 68 = .ok (.iconst 3, 1) := dk_6 (dk_at dksX6_fact_3 8 rfl rfl)
theorem dX6_fact_69 : decode cX6_fact 69 = .ok (.invokevirtual 93, 3) := dk_182 0 93 (dk_at dksX6_fact_3 9 rfl rfl)
theorem dX6_fact_72 : decode cX6_fact 72 = .ok (.ireturn, 1) := dk_172 (dk_at dksX6_fact_3 12 rfl rfl)
theorem dX6_fact_73 : decode cX6_fact 73 = .ok (.aload_n 0, 1) := dk_42 (dk_at dksX6_fact_3 13 rfl rfl)
theorem dX6_fact_74 : decode cX6_fact 74 = .ok (.invokevirtual 99, 3) := dk_182 0 99 (dk_at dksX6_fact_3 14 rfl rfl)
theorem dX6_fact_77 : decode cX6_fact 77 = .ok (.invokestatic 103, 3) := dk_184 0 103 (dk_at dksX6_fact_3 17 rfl rfl)
theorem dX6_fact_80 : decode cX6_fact 80 = .ok (.ireturn, 1) := dk_172 (dk_at dksX6_fact_3 20 rfl rfl)
theorem dX6_fact_81 : decode cX6_fact 81 = .ok (.iload_n 2, 1) := dk_28 (dk_at dksX6_fact_3 21 rfl rfl)
theorem dX6_fact_82 : decode cX6_fact 82 = .ok (.ireturn, 1) := dk_172 (dk_at dksX6_fact_3 22 rfl rfl)
theorem dX6_fact_83 : decode cX6_fact 83 = .ok (.iload_n 1, 1) := dk_27 (dk_at dksX6_fact_3 23 rfl rfl)
theorem dX6_fact_84 : decode cX6_fact 84 = .ok (.ireturn, 1) := dk_172 (dk_at dksX6_fact_4 0 rfl rfl)
abbrev cX6_wholeSet : ByteArray := prog_26_method_15_code
def yX6_wholeSet : MethodName := ⟨RX6, "wholeSet", "()I"⟩
def dkwX6_wholeSet_1 : List UInt8 := [28, 182, 0, 96, 153, 0, 9, 4, 28, 120, 167, 0, 4, 3, 128, 60, 132, 2, 1, 167, 255, 217, 27, 172]
abbrev dktX6_wholeSet_1 : List UInt8 := dkwX6_wholeSet_1 ++ []
def dkwX6_wholeSet_0 : List UInt8 := [3, 60, 3, 61, 28, 42, 180, 0, 7, 3, 46, 162, 0, 35, 27, 28, 42, 180, 0, 19, 159, 0, 17, 42]
abbrev dktX6_wholeSet_0 : List UInt8 := dkwX6_wholeSet_0 ++ dktX6_wholeSet_1
theorem dksX6_wholeSet_0 : cX6_wholeSet.data.toList.drop 0 = dktX6_wholeSet_0 := by decide +kernel
theorem dksX6_wholeSet_1 : cX6_wholeSet.data.toList.drop 24 = dktX6_wholeSet_1 := dk_seg dksX6_wholeSet_0 24 rfl rfl
theorem dX6_wholeSet_0 : decode cX6_wholeSet 0 = .ok (.iconst 0, 1) := dk_3 (dk_at dksX6_wholeSet_0 0 rfl rfl)
theorem dX6_wholeSet_1 : decode cX6_wholeSet 1 = .ok (.istore_n 1, 1) := dk_60 (dk_at dksX6_wholeSet_0 1 rfl rfl)
theorem dX6_wholeSet_2 : decode cX6_wholeSet 2 = .ok (.iconst 0, 1) := dk_3 (dk_at dksX6_wholeSet_0 2 rfl rfl)
theorem dX6_wholeSet_3 : decode cX6_wholeSet 3 = .ok (.istore_n 2, 1) := dk_61 (dk_at dksX6_wholeSet_0 3 rfl rfl)
theorem dX6_wholeSet_4 : decode cX6_wholeSet 4 = .ok (.iload_n 2, 1) := dk_28 (dk_at dksX6_wholeSet_0 4 rfl rfl)
theorem dX6_wholeSet_5 : decode cX6_wholeSet 5 = .ok (.aload_n 0, 1) := dk_42 (dk_at dksX6_wholeSet_0 5 rfl rfl)
theorem dX6_wholeSet_6 : decode cX6_wholeSet 6 = .ok (.getfield 7, 3) := dk_180 0 7 (dk_at dksX6_wholeSet_0 6 rfl rfl)
theorem dX6_wholeSet_9 : decode cX6_wholeSet 9 = .ok (.iconst 0, 1) := dk_3 (dk_at dksX6_wholeSet_0 9 rfl rfl)
theorem dX6_wholeSet_10 : decode cX6_wholeSet 10 = .ok (.iaload, 1) := dk_46 (dk_at dksX6_wholeSet_0 10 rfl rfl)
theorem dX6_wholeSet_11 : decode cX6_wholeSet 11 = .ok (.if_icmp .ge 35, 3) := dk_162 0 35 (dk_at dksX6_wholeSet_0 11 rfl rfl)
theorem dX6_wholeSet_14 : decode cX6_wholeSet 14 = .ok (.iload_n 1, 1) := dk_27 (dk_at dksX6_wholeSet_0 14 rfl rfl)
theorem dX6_wholeSet_15 : decode cX6_wholeSet 15 = .ok (.iload_n 2, 1) := dk_28 (dk_at dksX6_wholeSet_0 15 rfl rfl)
theorem dX6_wholeSet_16 : decode cX6_wholeSet 16 = .ok (.aload_n 0, 1) := dk_42 (dk_at dksX6_wholeSet_0 16 rfl rfl)
theorem dX6_wholeSet_17 : decode cX6_wholeSet 17 = .ok (.getfield 19, 3) := dk_180 0 19 (dk_at dksX6_wholeSet_0 17 rfl rfl)
theorem dX6_wholeSet_20 : decode cX6_wholeSet 20 = .ok (.if_icmp .eq 17, 3) := dk_159 0 17 (dk_at dksX6_wholeSet_0 20 rfl rfl)
theorem dX6_wholeSet_23 : decode cX6_wholeSet 23 = .ok (.aload_n 0, 1) := dk_42 (dk_at dksX6_wholeSet_0 23 rfl rfl)
theorem dX6_wholeSet_24 : decode cX6_wholeSet 24 = .ok (.iload_n 2, 1) := dk_28 (dk_at dksX6_wholeSet_1 0 rfl rfl)
theorem dX6_wholeSet_25 : decode cX6_wholeSet 25 = .ok (.invokevirtual 96, 3) := dk_182 0 96 (dk_at dksX6_wholeSet_1 1 rfl rfl)
theorem dX6_wholeSet_28 : decode cX6_wholeSet 28 = .ok (.ifCond .eq 9, 3) := dk_153 0 9 (dk_at dksX6_wholeSet_1 4 rfl rfl)
theorem dX6_wholeSet_31 : decode cX6_wholeSet 31 = .ok (.iconst 1, 1) := dk_4 (dk_at dksX6_wholeSet_1 7 rfl rfl)
theorem dX6_wholeSet_32 : decode cX6_wholeSet 32 = .ok (.iload_n 2, 1) := dk_28 (dk_at dksX6_wholeSet_1 8 rfl rfl)
theorem dX6_wholeSet_33 : decode cX6_wholeSet 33 = .ok (.ishl, 1) := dk_120 (dk_at dksX6_wholeSet_1 9 rfl rfl)
theorem dX6_wholeSet_34 : decode cX6_wholeSet 34 = .ok (.goto 4, 3) := dk_167 0 4 (dk_at dksX6_wholeSet_1 10 rfl rfl)
theorem dX6_wholeSet_37 : decode cX6_wholeSet 37 = .ok (.iconst 0, 1) := dk_3 (dk_at dksX6_wholeSet_1 13 rfl rfl)
theorem dX6_wholeSet_38 : decode cX6_wholeSet 38 = .ok (.ior, 1) := dk_128 (dk_at dksX6_wholeSet_1 14 rfl rfl)
theorem dX6_wholeSet_39 : decode cX6_wholeSet 39 = .ok (.istore_n 1, 1) := dk_60 (dk_at dksX6_wholeSet_1 15 rfl rfl)
theorem dX6_wholeSet_40 : decode cX6_wholeSet 40 = .ok (.iinc 2 1, 3) := dk_132 2 1 (dk_at dksX6_wholeSet_1 16 rfl rfl)
theorem dX6_wholeSet_43 : decode cX6_wholeSet 43 = .ok (.goto (-39), 3) := dk_167 255 217 (dk_at dksX6_wholeSet_1 19 rfl rfl)
theorem dX6_wholeSet_46 : decode cX6_wholeSet 46 = .ok (.iload_n 1, 1) := dk_27 (dk_at dksX6_wholeSet_1 22 rfl rfl)
theorem dX6_wholeSet_47 : decode cX6_wholeSet 47 = .ok (.ireturn, 1) := dk_172 (dk_at dksX6_wholeSet_1 23 rfl rfl)
abbrev cX6_isWhole : ByteArray := prog_26_method_14_code
def yX6_isWhole : MethodName := ⟨RX6, "isWhole", "(I)Z"⟩
def dkwX6_isWhole_0 : List UInt8 := [42, 27, 4, 182, 0, 93, 42, 27, 5, 182, 0, 93, 160, 0, 7, 4, 167, 0, 4, 3, 172]
abbrev dktX6_isWhole_0 : List UInt8 := dkwX6_isWhole_0 ++ []
theorem dksX6_isWhole_0 : cX6_isWhole.data.toList.drop 0 = dktX6_isWhole_0 := by decide +kernel
theorem dX6_isWhole_0 : decode cX6_isWhole 0 = .ok (.aload_n 0, 1) := dk_42 (dk_at dksX6_isWhole_0 0 rfl rfl)
theorem dX6_isWhole_1 : decode cX6_isWhole 1 = .ok (.iload_n 1, 1) := dk_27 (dk_at dksX6_isWhole_0 1 rfl rfl)
theorem dX6_isWhole_2 : decode cX6_isWhole 2 = .ok (.iconst 1, 1) := dk_4 (dk_at dksX6_isWhole_0 2 rfl rfl)
theorem dX6_isWhole_3 : decode cX6_isWhole 3 = .ok (.invokevirtual 93, 3) := dk_182 0 93 (dk_at dksX6_isWhole_0 3 rfl rfl)
theorem dX6_isWhole_6 : decode cX6_isWhole 6 = .ok (.aload_n 0, 1) := dk_42 (dk_at dksX6_isWhole_0 6 rfl rfl)
theorem dX6_isWhole_7 : decode cX6_isWhole 7 = .ok (.iload_n 1, 1) := dk_27 (dk_at dksX6_isWhole_0 7 rfl rfl)
theorem dX6_isWhole_8 : decode cX6_isWhole 8 = .ok (.iconst 2, 1) := dk_5 (dk_at dksX6_isWhole_0 8 rfl rfl)
theorem dX6_isWhole_9 : decode cX6_isWhole 9 = .ok (.invokevirtual 93, 3) := dk_182 0 93 (dk_at dksX6_isWhole_0 9 rfl rfl)
theorem dX6_isWhole_12 : decode cX6_isWhole 12 = .ok (.if_icmp .ne 7, 3) := dk_160 0 7 (dk_at dksX6_isWhole_0 12 rfl rfl)
theorem dX6_isWhole_15 : decode cX6_isWhole 15 = .ok (.iconst 1, 1) := dk_4 (dk_at dksX6_isWhole_0 15 rfl rfl)
theorem dX6_isWhole_16 : decode cX6_isWhole 16 = .ok (.goto 4, 3) := dk_167 0 4 (dk_at dksX6_isWhole_0 16 rfl rfl)
theorem dX6_isWhole_19 : decode cX6_isWhole 19 = .ok (.iconst 0, 1) := dk_3 (dk_at dksX6_isWhole_0 19 rfl rfl)
theorem dX6_isWhole_20 : decode cX6_isWhole 20 = .ok (.ireturn, 1) := dk_172 (dk_at dksX6_isWhole_0 20 rfl rfl)
abbrev cX6_ones : ByteArray := prog_26_method_16_code
def yX6_ones : MethodName := ⟨RX6, "ones", "(I)I"⟩
def dkwX6_ones_0 : List UInt8 := [3, 60, 26, 61, 28, 153, 0, 15, 132, 1, 1, 28, 28, 4, 100, 126, 61, 167, 255, 243, 27, 172]
abbrev dktX6_ones_0 : List UInt8 := dkwX6_ones_0 ++ []
theorem dksX6_ones_0 : cX6_ones.data.toList.drop 0 = dktX6_ones_0 := by decide +kernel
theorem dX6_ones_0 : decode cX6_ones 0 = .ok (.iconst 0, 1) := dk_3 (dk_at dksX6_ones_0 0 rfl rfl)
theorem dX6_ones_1 : decode cX6_ones 1 = .ok (.istore_n 1, 1) := dk_60 (dk_at dksX6_ones_0 1 rfl rfl)
theorem dX6_ones_2 : decode cX6_ones 2 = .ok (.iload_n 0, 1) := dk_26 (dk_at dksX6_ones_0 2 rfl rfl)
theorem dX6_ones_3 : decode cX6_ones 3 = .ok (.istore_n 2, 1) := dk_61 (dk_at dksX6_ones_0 3 rfl rfl)
theorem dX6_ones_4 : decode cX6_ones 4 = .ok (.iload_n 2, 1) := dk_28 (dk_at dksX6_ones_0 4 rfl rfl)
theorem dX6_ones_5 : decode cX6_ones 5 = .ok (.ifCond .eq 15, 3) := dk_153 0 15 (dk_at dksX6_ones_0 5 rfl rfl)
theorem dX6_ones_8 : decode cX6_ones 8 = .ok (.iinc 1 1, 3) := dk_132 1 1 (dk_at dksX6_ones_0 8 rfl rfl)
theorem dX6_ones_11 : decode cX6_ones 11 = .ok (.iload_n 2, 1) := dk_28 (dk_at dksX6_ones_0 11 rfl rfl)
theorem dX6_ones_12 : decode cX6_ones 12 = .ok (.iload_n 2, 1) := dk_28 (dk_at dksX6_ones_0 12 rfl rfl)
theorem dX6_ones_13 : decode cX6_ones 13 = .ok (.iconst 1, 1) := dk_4 (dk_at dksX6_ones_0 13 rfl rfl)
theorem dX6_ones_14 : decode cX6_ones 14 = .ok (.isub, 1) := dk_100 (dk_at dksX6_ones_0 14 rfl rfl)
theorem dX6_ones_15 : decode cX6_ones 15 = .ok (.iand, 1) := dk_126 (dk_at dksX6_ones_0 15 rfl rfl)
theorem dX6_ones_16 : decode cX6_ones 16 = .ok (.istore_n 2, 1) := dk_61 (dk_at dksX6_ones_0 16 rfl rfl)
theorem dX6_ones_17 : decode cX6_ones 17 = .ok (.goto (-13), 3) := dk_167 255 243 (dk_at dksX6_ones_0 17 rfl rfl)
theorem dX6_ones_20 : decode cX6_ones 20 = .ok (.iload_n 1, 1) := dk_27 (dk_at dksX6_ones_0 20 rfl rfl)
theorem dX6_ones_21 : decode cX6_ones 21 = .ok (.ireturn, 1) := dk_172 (dk_at dksX6_ones_0 21 rfl rfl)
abbrev cX6_isHolding : ByteArray := prog_26_method_19_code
def yX6_isHolding : MethodName := ⟨RX6, "isHolding", "(III)Z"⟩
def dkwX6_isHolding_4 : List UInt8 := [172, 27, 4, 159, 0, 8, 28, 4, 160, 0, 7, 4, 167, 0, 4, 3, 172]
abbrev dktX6_isHolding_4 : List UInt8 := dkwX6_isHolding_4 ++ []
def dkwX6_isHolding_3 : List UInt8 := [164, 0, 7, 4, 167, 0, 4, 3, 172, 27, 4, 160, 0, 12, 28, 4, 160, 0, 7, 4, 167, 0, 4, 3]
abbrev dktX6_isHolding_3 : List UInt8 := dkwX6_isHolding_3 ++ dktX6_isHolding_4
def dkwX6_isHolding_2 : List UInt8 := [27, 28, 162, 0, 7, 4, 167, 0, 4, 3, 172, 27, 28, 160, 0, 7, 4, 167, 0, 4, 3, 172, 27, 28]
abbrev dktX6_isHolding_2 : List UInt8 := dkwX6_isHolding_2 ++ dktX6_isHolding_3
def dkwX6_isHolding_1 : List UInt8 := [171, 0, 0, 0, 0, 0, 92, 0, 0, 0, 4, 255, 255, 255, 235, 0, 0, 0, 76, 255, 255, 255, 243, 0, 0, 0, 65, 255, 255, 255, 244, 0, 0, 0, 54, 255, 255, 255, 245, 0, 0, 0, 43]
abbrev dktX6_isHolding_1 : List UInt8 := dkwX6_isHolding_1 ++ dktX6_isHolding_2
def dkwX6_isHolding_0 : List UInt8 := [26]
abbrev dktX6_isHolding_0 : List UInt8 := dkwX6_isHolding_0 ++ dktX6_isHolding_1
theorem dksX6_isHolding_0 : cX6_isHolding.data.toList.drop 0 = dktX6_isHolding_0 := by decide +kernel
theorem dksX6_isHolding_1 : cX6_isHolding.data.toList.drop 1 = dktX6_isHolding_1 := dk_seg dksX6_isHolding_0 1 rfl rfl
theorem dksX6_isHolding_2 : cX6_isHolding.data.toList.drop 44 = dktX6_isHolding_2 := dk_seg dksX6_isHolding_1 43 rfl rfl
theorem dksX6_isHolding_3 : cX6_isHolding.data.toList.drop 68 = dktX6_isHolding_3 := dk_seg dksX6_isHolding_2 24 rfl rfl
theorem dksX6_isHolding_4 : cX6_isHolding.data.toList.drop 92 = dktX6_isHolding_4 := dk_seg dksX6_isHolding_3 24 rfl rfl
theorem dX6_isHolding_0 : decode cX6_isHolding 0 = .ok (.iload_n 0, 1) := dk_26 (dk_at dksX6_isHolding_0 0 rfl rfl)
theorem dX6_isHolding_1 : decode cX6_isHolding 1 = .ok (.lookupswitch 92 #[(-21, 76), (-13, 65), (-12, 54), (-11, 43)], 43) := by decide +kernel
theorem dX6_isHolding_44 : decode cX6_isHolding 44 = .ok (.iload_n 1, 1) := dk_27 (dk_at dksX6_isHolding_2 0 rfl rfl)
theorem dX6_isHolding_45 : decode cX6_isHolding 45 = .ok (.iload_n 2, 1) := dk_28 (dk_at dksX6_isHolding_2 1 rfl rfl)
theorem dX6_isHolding_46 : decode cX6_isHolding 46 = .ok (.if_icmp .ge 7, 3) := dk_162 0 7 (dk_at dksX6_isHolding_2 2 rfl rfl)
theorem dX6_isHolding_49 : decode cX6_isHolding 49 = .ok (.iconst 1, 1) := dk_4 (dk_at dksX6_isHolding_2 5 rfl rfl)
theorem dX6_isHolding_50 : decode cX6_isHolding 50 = .ok (.goto 4, 3) := dk_167 0 4 (dk_at dksX6_isHolding_2 6 rfl rfl)
theorem dX6_isHolding_53 : decode cX6_isHolding 53 = .ok (.iconst 0, 1) := dk_3 (dk_at dksX6_isHolding_2 9 rfl rfl)
theorem dX6_isHolding_54 : decode cX6_isHolding 54 = .ok (.ireturn, 1) := dk_172 (dk_at dksX6_isHolding_2 10 rfl rfl)
theorem dX6_isHolding_55 : decode cX6_isHolding 55 = .ok (.iload_n 1, 1) := dk_27 (dk_at dksX6_isHolding_2 11 rfl rfl)
theorem dX6_isHolding_56 : decode cX6_isHolding 56 = .ok (.iload_n 2, 1) := dk_28 (dk_at dksX6_isHolding_2 12 rfl rfl)
theorem dX6_isHolding_57 : decode cX6_isHolding 57 = .ok (.if_icmp .ne 7, 3) := dk_160 0 7 (dk_at dksX6_isHolding_2 13 rfl rfl)
theorem dX6_isHolding_60 : decode cX6_isHolding 60 = .ok (.iconst 1, 1) := dk_4 (dk_at dksX6_isHolding_2 16 rfl rfl)
theorem dX6_isHolding_61 : decode cX6_isHolding 61 = .ok (.goto 4, 3) := dk_167 0 4 (dk_at dksX6_isHolding_2 17 rfl rfl)
theorem dX6_isHolding_64 : decode cX6_isHolding 64 = .ok (.iconst 0, 1) := dk_3 (dk_at dksX6_isHolding_2 20 rfl rfl)
theorem dX6_isHolding_65 : decode cX6_isHolding 65 = .ok (.ireturn, 1) := dk_172 (dk_at dksX6_isHolding_2 21 rfl rfl)
theorem dX6_isHolding_66 : decode cX6_isHolding 66 = .ok (.iload_n 1, 1) := dk_27 (dk_at dksX6_isHolding_2 22 rfl rfl)
theorem dX6_isHolding_67 : decode cX6_isHolding 67 = .ok (.iload_n 2, 1) := dk_28 (dk_at dksX6_isHolding_2 23 rfl rfl)
theorem dX6_isHolding_68 : decode cX6_isHolding 68 = .ok (.if_icmp .le 7, 3) := dk_164 0 7 (dk_at dksX6_isHolding_3 0 rfl rfl)
theorem dX6_isHolding_71 : decode cX6_isHolding 71 = .ok (.iconst 1, 1) := dk_4 (dk_at dksX6_isHolding_3 3 rfl rfl)
theorem dX6_isHolding_72 : decode cX6_isHolding 72 = .ok (.goto 4, 3) := dk_167 0 4 (dk_at dksX6_isHolding_3 4 rfl rfl)
theorem dX6_isHolding_75 : decode cX6_isHolding 75 = .ok (.iconst 0, 1) := dk_3 (dk_at dksX6_isHolding_3 7 rfl rfl)
theorem dX6_isHolding_76 : decode cX6_isHolding 76 = .ok (.ireturn, 1) := dk_172 (dk_at dksX6_isHolding_3 8 rfl rfl)
theorem dX6_isHolding_77 : decode cX6_isHolding 77 = .ok (.iload_n 1, 1) := dk_27 (dk_at dksX6_isHolding_3 9 rfl rfl)
theorem dX6_isHolding_78 : decode cX6_isHolding 78 = .ok (.iconst 1, 1) := dk_4 (dk_at dksX6_isHolding_3 10 rfl rfl)
theorem dX6_isHolding_79 : decode cX6_isHolding 79 = .ok (.if_icmp .ne 12, 3) := dk_160 0 12 (dk_at dksX6_isHolding_3 11 rfl rfl)
theorem dX6_isHolding_82 : decode cX6_isHolding 82 = .ok (.iload_n 2, 1) := dk_28 (dk_at dksX6_isHolding_3 14 rfl rfl)
theorem dX6_isHolding_83 : decode cX6_isHolding 83 = .ok (.iconst 1, 1) := dk_4 (dk_at dksX6_isHolding_3 15 rfl rfl)
theorem dX6_isHolding_84 : decode cX6_isHolding 84 = .ok (.if_icmp .ne 7, 3) := dk_160 0 7 (dk_at dksX6_isHolding_3 16 rfl rfl)
theorem dX6_isHolding_87 : decode cX6_isHolding 87 = .ok (.iconst 1, 1) := dk_4 (dk_at dksX6_isHolding_3 19 rfl rfl)
theorem dX6_isHolding_88 : decode cX6_isHolding 88 = .ok (.goto 4, 3) := dk_167 0 4 (dk_at dksX6_isHolding_3 20 rfl rfl)
theorem dX6_isHolding_91 : decode cX6_isHolding 91 = .ok (.iconst 0, 1) := dk_3 (dk_at dksX6_isHolding_3 23 rfl rfl)
theorem dX6_isHolding_92 : decode cX6_isHolding 92 = .ok (.ireturn, 1) := dk_172 (dk_at dksX6_isHolding_4 0 rfl rfl)
theorem dX6_isHolding_93 : decode cX6_isHolding 93 = .ok (.iload_n 1, 1) := dk_27 (dk_at dksX6_isHolding_4 1 rfl rfl)
theorem dX6_isHolding_94 : decode cX6_isHolding 94 = .ok (.iconst 1, 1) := dk_4 (dk_at dksX6_isHolding_4 2 rfl rfl)
theorem dX6_isHolding_95 : decode cX6_isHolding 95 = .ok (.if_icmp .eq 8, 3) := dk_159 0 8 (dk_at dksX6_isHolding_4 3 rfl rfl)
theorem dX6_isHolding_98 : decode cX6_isHolding 98 = .ok (.iload_n 2, 1) := dk_28 (dk_at dksX6_isHolding_4 6 rfl rfl)
theorem dX6_isHolding_99 : decode cX6_isHolding 99 = .ok (.iconst 1, 1) := dk_4 (dk_at dksX6_isHolding_4 7 rfl rfl)
theorem dX6_isHolding_100 : decode cX6_isHolding 100 = .ok (.if_icmp .ne 7, 3) := dk_160 0 7 (dk_at dksX6_isHolding_4 8 rfl rfl)
theorem dX6_isHolding_103 : decode cX6_isHolding 103 = .ok (.iconst 1, 1) := dk_4 (dk_at dksX6_isHolding_4 11 rfl rfl)
theorem dX6_isHolding_104 : decode cX6_isHolding 104 = .ok (.goto 4, 3) := dk_167 0 4 (dk_at dksX6_isHolding_4 12 rfl rfl)
theorem dX6_isHolding_107 : decode cX6_isHolding 107 = .ok (.iconst 0, 1) := dk_3 (dk_at dksX6_isHolding_4 15 rfl rfl)
theorem dX6_isHolding_108 : decode cX6_isHolding 108 = .ok (.ireturn, 1) := dk_172 (dk_at dksX6_isHolding_4 16 rfl rfl)
abbrev cX6_atLeast : ByteArray := prog_26_method_21_code
def yX6_atLeast : MethodName := ⟨RX6, "atLeast", "(I)I"⟩
def dkwX6_atLeast_0 : List UInt8 := [26, 156, 0, 7, 3, 167, 0, 4, 26, 172]
abbrev dktX6_atLeast_0 : List UInt8 := dkwX6_atLeast_0 ++ []
theorem dksX6_atLeast_0 : cX6_atLeast.data.toList.drop 0 = dktX6_atLeast_0 := by decide +kernel
theorem dX6_atLeast_0 : decode cX6_atLeast 0 = .ok (.iload_n 0, 1) := dk_26 (dk_at dksX6_atLeast_0 0 rfl rfl)
theorem dX6_atLeast_1 : decode cX6_atLeast 1 = .ok (.ifCond .ge 7, 3) := dk_156 0 7 (dk_at dksX6_atLeast_0 1 rfl rfl)
theorem dX6_atLeast_4 : decode cX6_atLeast 4 = .ok (.iconst 0, 1) := dk_3 (dk_at dksX6_atLeast_0 4 rfl rfl)
theorem dX6_atLeast_5 : decode cX6_atLeast 5 = .ok (.goto 4, 3) := dk_167 0 4 (dk_at dksX6_atLeast_0 5 rfl rfl)
theorem dX6_atLeast_8 : decode cX6_atLeast 8 = .ok (.iload_n 0, 1) := dk_26 (dk_at dksX6_atLeast_0 8 rfl rfl)
theorem dX6_atLeast_9 : decode cX6_atLeast 9 = .ok (.ireturn, 1) := dk_172 (dk_at dksX6_atLeast_0 9 rfl rfl)
abbrev cX6_change : ByteArray := prog_26_method_24_code
def yX6_change : MethodName := ⟨RX6, "change", "(III)I"⟩
def dkwX6_change_1 : List UInt8 := [182, 0, 131, 167, 0, 4, 2, 172]
abbrev dktX6_change_1 : List UInt8 := dkwX6_change_1 ++ []
def dkwX6_change_0 : List UInt8 := [42, 27, 182, 0, 123, 153, 0, 24, 28, 29, 184, 0, 89, 153, 0, 16, 42, 27, 28, 184, 0, 74, 29]
abbrev dktX6_change_0 : List UInt8 := dkwX6_change_0 ++ dktX6_change_1
theorem dksX6_change_0 : cX6_change.data.toList.drop 0 = dktX6_change_0 := by decide +kernel
theorem dksX6_change_1 : cX6_change.data.toList.drop 23 = dktX6_change_1 := dk_seg dksX6_change_0 23 rfl rfl
theorem dX6_change_0 : decode cX6_change 0 = .ok (.aload_n 0, 1) := dk_42 (dk_at dksX6_change_0 0 rfl rfl)
theorem dX6_change_1 : decode cX6_change 1 = .ok (.iload_n 1, 1) := dk_27 (dk_at dksX6_change_0 1 rfl rfl)
theorem dX6_change_2 : decode cX6_change 2 = .ok (.invokevirtual 123, 3) := dk_182 0 123 (dk_at dksX6_change_0 2 rfl rfl)
theorem dX6_change_5 : decode cX6_change 5 = .ok (.ifCond .eq 24, 3) := dk_153 0 24 (dk_at dksX6_change_0 5 rfl rfl)
theorem dX6_change_8 : decode cX6_change 8 = .ok (.iload_n 2, 1) := dk_28 (dk_at dksX6_change_0 8 rfl rfl)
theorem dX6_change_9 : decode cX6_change 9 = .ok (.iload_n 3, 1) := dk_29 (dk_at dksX6_change_0 9 rfl rfl)
theorem dX6_change_10 : decode cX6_change 10 = .ok (.invokestatic 89, 3) := dk_184 0 89 (dk_at dksX6_change_0 10 rfl rfl)
theorem dX6_change_13 : decode cX6_change 13 = .ok (.ifCond .eq 16, 3) := dk_153 0 16 (dk_at dksX6_change_0 13 rfl rfl)
theorem dX6_change_16 : decode cX6_change 16 = .ok (.aload_n 0, 1) := dk_42 (dk_at dksX6_change_0 16 rfl rfl)
theorem dX6_change_17 : decode cX6_change 17 = .ok (.iload_n 1, 1) := dk_27 (dk_at dksX6_change_0 17 rfl rfl)
theorem dX6_change_18 : decode cX6_change 18 = .ok (.iload_n 2, 1) := dk_28 (dk_at dksX6_change_0 18 rfl rfl)
theorem dX6_change_19 : decode cX6_change 19 = .ok (.invokestatic 74, 3) := dk_184 0 74 (dk_at dksX6_change_0 19 rfl rfl)
theorem dX6_change_22 : decode cX6_change 22 = .ok (.iload_n 3, 1) := dk_29 (dk_at dksX6_change_0 22 rfl rfl)
theorem dX6_change_23 : decode cX6_change 23 = .ok (.invokevirtual 131, 3) := dk_182 0 131 (dk_at dksX6_change_1 0 rfl rfl)
theorem dX6_change_26 : decode cX6_change 26 = .ok (.goto 4, 3) := dk_167 0 4 (dk_at dksX6_change_1 3 rfl rfl)
theorem dX6_change_29 : decode cX6_change 29 = .ok (.iconst (-1), 1) := dk_2 (dk_at dksX6_change_1 6 rfl rfl)
theorem dX6_change_30 : decode cX6_change 30 = .ok (.ireturn, 1) := dk_172 (dk_at dksX6_change_1 7 rfl rfl)
abbrev cX6_becomes : ByteArray := prog_26_method_7_code
def yX6_becomes : MethodName := ⟨RX6, "becomes", "(II)I"⟩
def dkwX6_becomes_0 : List UInt8 := [42, 180, 0, 7, 27, 46, 62, 42, 180, 0, 7, 27, 28, 79, 29, 172]
abbrev dktX6_becomes_0 : List UInt8 := dkwX6_becomes_0 ++ []
theorem dksX6_becomes_0 : cX6_becomes.data.toList.drop 0 = dktX6_becomes_0 := by decide +kernel
theorem dX6_becomes_0 : decode cX6_becomes 0 = .ok (.aload_n 0, 1) := dk_42 (dk_at dksX6_becomes_0 0 rfl rfl)
theorem dX6_becomes_1 : decode cX6_becomes 1 = .ok (.getfield 7, 3) := dk_180 0 7 (dk_at dksX6_becomes_0 1 rfl rfl)
theorem dX6_becomes_4 : decode cX6_becomes 4 = .ok (.iload_n 1, 1) := dk_27 (dk_at dksX6_becomes_0 4 rfl rfl)
theorem dX6_becomes_5 : decode cX6_becomes 5 = .ok (.iaload, 1) := dk_46 (dk_at dksX6_becomes_0 5 rfl rfl)
theorem dX6_becomes_6 : decode cX6_becomes 6 = .ok (.istore_n 3, 1) := dk_62 (dk_at dksX6_becomes_0 6 rfl rfl)
theorem dX6_becomes_7 : decode cX6_becomes 7 = .ok (.aload_n 0, 1) := dk_42 (dk_at dksX6_becomes_0 7 rfl rfl)
theorem dX6_becomes_8 : decode cX6_becomes 8 = .ok (.getfield 7, 3) := dk_180 0 7 (dk_at dksX6_becomes_0 8 rfl rfl)
theorem dX6_becomes_11 : decode cX6_becomes 11 = .ok (.iload_n 1, 1) := dk_27 (dk_at dksX6_becomes_0 11 rfl rfl)
theorem dX6_becomes_12 : decode cX6_becomes 12 = .ok (.iload_n 2, 1) := dk_28 (dk_at dksX6_becomes_0 12 rfl rfl)
theorem dX6_becomes_13 : decode cX6_becomes 13 = .ok (.iastore, 1) := dk_79 (dk_at dksX6_becomes_0 13 rfl rfl)
theorem dX6_becomes_14 : decode cX6_becomes 14 = .ok (.iload_n 3, 1) := dk_29 (dk_at dksX6_becomes_0 14 rfl rfl)
theorem dX6_becomes_15 : decode cX6_becomes 15 = .ok (.ireturn, 1) := dk_172 (dk_at dksX6_becomes_0 15 rfl rfl)
abbrev cX6_remake : ByteArray := prog_26_method_25_code
def yX6_remake : MethodName := ⟨RX6, "remake", "(II)I"⟩
def dkwX6_remake_1 : List UInt8 := [182, 0, 131, 167, 0, 4, 2, 172]
abbrev dktX6_remake_1 : List UInt8 := dkwX6_remake_1 ++ []
def dkwX6_remake_0 : List UInt8 := [42, 27, 182, 0, 123, 153, 0, 23, 28, 184, 0, 86, 153, 0, 16, 42, 27, 3, 184, 0, 74, 28]
abbrev dktX6_remake_0 : List UInt8 := dkwX6_remake_0 ++ dktX6_remake_1
theorem dksX6_remake_0 : cX6_remake.data.toList.drop 0 = dktX6_remake_0 := by decide +kernel
theorem dksX6_remake_1 : cX6_remake.data.toList.drop 22 = dktX6_remake_1 := dk_seg dksX6_remake_0 22 rfl rfl
theorem dX6_remake_0 : decode cX6_remake 0 = .ok (.aload_n 0, 1) := dk_42 (dk_at dksX6_remake_0 0 rfl rfl)
theorem dX6_remake_1 : decode cX6_remake 1 = .ok (.iload_n 1, 1) := dk_27 (dk_at dksX6_remake_0 1 rfl rfl)
theorem dX6_remake_2 : decode cX6_remake 2 = .ok (.invokevirtual 123, 3) := dk_182 0 123 (dk_at dksX6_remake_0 2 rfl rfl)
theorem dX6_remake_5 : decode cX6_remake 5 = .ok (.ifCond .eq 23, 3) := dk_153 0 23 (dk_at dksX6_remake_0 5 rfl rfl)
theorem dX6_remake_8 : decode cX6_remake 8 = .ok (.iload_n 2, 1) := dk_28 (dk_at dksX6_remake_0 8 rfl rfl)
theorem dX6_remake_9 : decode cX6_remake 9 = .ok (.invokestatic 86, 3) := dk_184 0 86 (dk_at dksX6_remake_0 9 rfl rfl)
theorem dX6_remake_12 : decode cX6_remake 12 = .ok (.ifCond .eq 16, 3) := dk_153 0 16 (dk_at dksX6_remake_0 12 rfl rfl)
theorem dX6_remake_15 : decode cX6_remake 15 = .ok (.aload_n 0, 1) := dk_42 (dk_at dksX6_remake_0 15 rfl rfl)
theorem dX6_remake_16 : decode cX6_remake 16 = .ok (.iload_n 1, 1) := dk_27 (dk_at dksX6_remake_0 16 rfl rfl)
theorem dX6_remake_17 : decode cX6_remake 17 = .ok (.iconst 0, 1) := dk_3 (dk_at dksX6_remake_0 17 rfl rfl)
theorem dX6_remake_18 : decode cX6_remake 18 = .ok (.invokestatic 74, 3) := dk_184 0 74 (dk_at dksX6_remake_0 18 rfl rfl)
theorem dX6_remake_21 : decode cX6_remake 21 = .ok (.iload_n 2, 1) := dk_28 (dk_at dksX6_remake_0 21 rfl rfl)
theorem dX6_remake_22 : decode cX6_remake 22 = .ok (.invokevirtual 131, 3) := dk_182 0 131 (dk_at dksX6_remake_1 0 rfl rfl)
theorem dX6_remake_25 : decode cX6_remake 25 = .ok (.goto 4, 3) := dk_167 0 4 (dk_at dksX6_remake_1 3 rfl rfl)
theorem dX6_remake_28 : decode cX6_remake 28 = .ok (.iconst (-1), 1) := dk_2 (dk_at dksX6_remake_1 6 rfl rfl)
theorem dX6_remake_29 : decode cX6_remake 29 = .ok (.ireturn, 1) := dk_172 (dk_at dksX6_remake_1 7 rfl rfl)
abbrev cX6_meets : ByteArray := prog_26_method_28_code
def yX6_meets : MethodName := ⟨RX6, "meets", "(IIZ)I"⟩
def dkwX6_meets_2 : List UInt8 := [27, 29, 182, 0, 137, 21, 4, 172]
abbrev dktX6_meets_2 : List UInt8 := dkwX6_meets_2 ++ []
def dkwX6_meets_1 : List UInt8 := [27, 28, 182, 0, 134, 153, 0, 7, 4, 167, 0, 4, 3, 54, 4, 42, 27, 28, 29, 182, 0, 137, 42, 28]
abbrev dktX6_meets_1 : List UInt8 := dkwX6_meets_1 ++ dktX6_meets_2
def dkwX6_meets_0 : List UInt8 := [42, 27, 182, 0, 123, 153, 0, 16, 42, 28, 182, 0, 123, 153, 0, 8, 27, 28, 160, 0, 5, 2, 172, 42]
abbrev dktX6_meets_0 : List UInt8 := dkwX6_meets_0 ++ dktX6_meets_1
theorem dksX6_meets_0 : cX6_meets.data.toList.drop 0 = dktX6_meets_0 := by decide +kernel
theorem dksX6_meets_1 : cX6_meets.data.toList.drop 24 = dktX6_meets_1 := dk_seg dksX6_meets_0 24 rfl rfl
theorem dksX6_meets_2 : cX6_meets.data.toList.drop 48 = dktX6_meets_2 := dk_seg dksX6_meets_1 24 rfl rfl
theorem dX6_meets_0 : decode cX6_meets 0 = .ok (.aload_n 0, 1) := dk_42 (dk_at dksX6_meets_0 0 rfl rfl)
theorem dX6_meets_1 : decode cX6_meets 1 = .ok (.iload_n 1, 1) := dk_27 (dk_at dksX6_meets_0 1 rfl rfl)
theorem dX6_meets_2 : decode cX6_meets 2 = .ok (.invokevirtual 123, 3) := dk_182 0 123 (dk_at dksX6_meets_0 2 rfl rfl)
theorem dX6_meets_5 : decode cX6_meets 5 = .ok (.ifCond .eq 16, 3) := dk_153 0 16 (dk_at dksX6_meets_0 5 rfl rfl)
theorem dX6_meets_8 : decode cX6_meets 8 = .ok (.aload_n 0, 1) := dk_42 (dk_at dksX6_meets_0 8 rfl rfl)
theorem dX6_meets_9 : decode cX6_meets 9 = .ok (.iload_n 2, 1) := dk_28 (dk_at dksX6_meets_0 9 rfl rfl)
theorem dX6_meets_10 : decode cX6_meets 10 = .ok (.invokevirtual 123, 3) := dk_182 0 123 (dk_at dksX6_meets_0 10 rfl rfl)
theorem dX6_meets_13 : decode cX6_meets 13 = .ok (.ifCond .eq 8, 3) := dk_153 0 8 (dk_at dksX6_meets_0 13 rfl rfl)
theorem dX6_meets_16 : decode cX6_meets 16 = .ok (.iload_n 1, 1) := dk_27 (dk_at dksX6_meets_0 16 rfl rfl)
theorem dX6_meets_17 : decode cX6_meets 17 = .ok (.iload_n 2, 1) := dk_28 (dk_at dksX6_meets_0 17 rfl rfl)
theorem dX6_meets_18 : decode cX6_meets 18 = .ok (.if_icmp .ne 5, 3) := dk_160 0 5 (dk_at dksX6_meets_0 18 rfl rfl)
theorem dX6_meets_21 : decode cX6_meets 21 = .ok (.iconst (-1), 1) := dk_2 (dk_at dksX6_meets_0 21 rfl rfl)
theorem dX6_meets_22 : decode cX6_meets 22 = .ok (.ireturn, 1) := dk_172 (dk_at dksX6_meets_0 22 rfl rfl)
theorem dX6_meets_23 : decode cX6_meets 23 = .ok (.aload_n 0, 1) := dk_42 (dk_at dksX6_meets_0 23 rfl rfl)
theorem dX6_meets_24 : decode cX6_meets 24 = .ok (.iload_n 1, 1) := dk_27 (dk_at dksX6_meets_1 0 rfl rfl)
theorem dX6_meets_25 : decode cX6_meets 25 = .ok (.iload_n 2, 1) := dk_28 (dk_at dksX6_meets_1 1 rfl rfl)
theorem dX6_meets_26 : decode cX6_meets 26 = .ok (.invokevirtual 134, 3) := dk_182 0 134 (dk_at dksX6_meets_1 2 rfl rfl)
theorem dX6_meets_29 : decode cX6_meets 29 = .ok (.ifCond .eq 7, 3) := dk_153 0 7 (dk_at dksX6_meets_1 5 rfl rfl)
theorem dX6_meets_32 : decode cX6_meets 32 = .ok (.iconst 1, 1) := dk_4 (dk_at dksX6_meets_1 8 rfl rfl)
theorem dX6_meets_33 : decode cX6_meets 33 = .ok (.goto 4, 3) := dk_167 0 4 (dk_at dksX6_meets_1 9 rfl rfl)
theorem dX6_meets_36 : decode cX6_meets 36 = .ok (.iconst 0, 1) := dk_3 (dk_at dksX6_meets_1 12 rfl rfl)
theorem dX6_meets_37 : decode cX6_meets 37 = .ok (.istore 4, 2) := dk_54 4 (dk_at dksX6_meets_1 13 rfl rfl)
theorem dX6_meets_39 : decode cX6_meets 39 = .ok (.aload_n 0, 1) := dk_42 (dk_at dksX6_meets_1 15 rfl rfl)
theorem dX6_meets_40 : decode cX6_meets 40 = .ok (.iload_n 1, 1) := dk_27 (dk_at dksX6_meets_1 16 rfl rfl)
theorem dX6_meets_41 : decode cX6_meets 41 = .ok (.iload_n 2, 1) := dk_28 (dk_at dksX6_meets_1 17 rfl rfl)
theorem dX6_meets_42 : decode cX6_meets 42 = .ok (.iload_n 3, 1) := dk_29 (dk_at dksX6_meets_1 18 rfl rfl)
theorem dX6_meets_43 : decode cX6_meets 43 = .ok (.invokevirtual 137, 3) := dk_182 0 137 (dk_at dksX6_meets_1 19 rfl rfl)
theorem dX6_meets_46 : decode cX6_meets 46 = .ok (.aload_n 0, 1) := dk_42 (dk_at dksX6_meets_1 22 rfl rfl)
theorem dX6_meets_47 : decode cX6_meets 47 = .ok (.iload_n 2, 1) := dk_28 (dk_at dksX6_meets_1 23 rfl rfl)
theorem dX6_meets_48 : decode cX6_meets 48 = .ok (.iload_n 1, 1) := dk_27 (dk_at dksX6_meets_2 0 rfl rfl)
theorem dX6_meets_49 : decode cX6_meets 49 = .ok (.iload_n 3, 1) := dk_29 (dk_at dksX6_meets_2 1 rfl rfl)
theorem dX6_meets_50 : decode cX6_meets 50 = .ok (.invokevirtual 137, 3) := dk_182 0 137 (dk_at dksX6_meets_2 2 rfl rfl)
theorem dX6_meets_53 : decode cX6_meets 53 = .ok (.iload 4, 2) := dk_21 4 (dk_at dksX6_meets_2 5 rfl rfl)
theorem dX6_meets_55 : decode cX6_meets 55 = .ok (.ireturn, 1) := dk_172 (dk_at dksX6_meets_2 7 rfl rfl)
abbrev cX6_doMeet : ByteArray := prog_26_method_26_code
def yX6_doMeet : MethodName := ⟨RX6, "doMeet", "(II)Z"⟩
def dkwX6_doMeet_0 : List UInt8 := [42, 27, 7, 182, 0, 93, 28, 122, 4, 126, 4, 160, 0, 7, 4, 167, 0, 4, 3, 172]
abbrev dktX6_doMeet_0 : List UInt8 := dkwX6_doMeet_0 ++ []
theorem dksX6_doMeet_0 : cX6_doMeet.data.toList.drop 0 = dktX6_doMeet_0 := by decide +kernel
theorem dX6_doMeet_0 : decode cX6_doMeet 0 = .ok (.aload_n 0, 1) := dk_42 (dk_at dksX6_doMeet_0 0 rfl rfl)
theorem dX6_doMeet_1 : decode cX6_doMeet 1 = .ok (.iload_n 1, 1) := dk_27 (dk_at dksX6_doMeet_0 1 rfl rfl)
theorem dX6_doMeet_2 : decode cX6_doMeet 2 = .ok (.iconst 4, 1) := dk_7 (dk_at dksX6_doMeet_0 2 rfl rfl)
theorem dX6_doMeet_3 : decode cX6_doMeet 3 = .ok (.invokevirtual 93, 3) := dk_182 0 93 (dk_at dksX6_doMeet_0 3 rfl rfl)
theorem dX6_doMeet_6 : decode cX6_doMeet 6 = .ok (.iload_n 2, 1) := dk_28 (dk_at dksX6_doMeet_0 6 rfl rfl)
theorem dX6_doMeet_7 : decode cX6_doMeet 7 = .ok (.ishr, 1) := dk_122 (dk_at dksX6_doMeet_0 7 rfl rfl)
theorem dX6_doMeet_8 : decode cX6_doMeet 8 = .ok (.iconst 1, 1) := dk_4 (dk_at dksX6_doMeet_0 8 rfl rfl)
theorem dX6_doMeet_9 : decode cX6_doMeet 9 = .ok (.iand, 1) := dk_126 (dk_at dksX6_doMeet_0 9 rfl rfl)
theorem dX6_doMeet_10 : decode cX6_doMeet 10 = .ok (.iconst 1, 1) := dk_4 (dk_at dksX6_doMeet_0 10 rfl rfl)
theorem dX6_doMeet_11 : decode cX6_doMeet 11 = .ok (.if_icmp .ne 7, 3) := dk_160 0 7 (dk_at dksX6_doMeet_0 11 rfl rfl)
theorem dX6_doMeet_14 : decode cX6_doMeet 14 = .ok (.iconst 1, 1) := dk_4 (dk_at dksX6_doMeet_0 14 rfl rfl)
theorem dX6_doMeet_15 : decode cX6_doMeet 15 = .ok (.goto 4, 3) := dk_167 0 4 (dk_at dksX6_doMeet_0 15 rfl rfl)
theorem dX6_doMeet_18 : decode cX6_doMeet 18 = .ok (.iconst 0, 1) := dk_3 (dk_at dksX6_doMeet_0 18 rfl rfl)
theorem dX6_doMeet_19 : decode cX6_doMeet 19 = .ok (.ireturn, 1) := dk_172 (dk_at dksX6_doMeet_0 19 rfl rfl)
abbrev cX6_lets : ByteArray := prog_26_method_27_code
def yX6_lets : MethodName := ⟨RX6, "lets", "(IIZ)V"⟩
def dkwX6_lets_1 : List UInt8 := [28, 120, 128, 167, 0, 11, 21, 4, 4, 28, 120, 2, 130, 126, 79, 177]
abbrev dktX6_lets_1 : List UInt8 := dkwX6_lets_1 ++ []
def dkwX6_lets_0 : List UInt8 := [42, 27, 7, 182, 0, 93, 54, 4, 42, 180, 0, 7, 27, 7, 184, 0, 74, 29, 153, 0, 12, 21, 4, 4]
abbrev dktX6_lets_0 : List UInt8 := dkwX6_lets_0 ++ dktX6_lets_1
theorem dksX6_lets_0 : cX6_lets.data.toList.drop 0 = dktX6_lets_0 := by decide +kernel
theorem dksX6_lets_1 : cX6_lets.data.toList.drop 24 = dktX6_lets_1 := dk_seg dksX6_lets_0 24 rfl rfl
theorem dX6_lets_0 : decode cX6_lets 0 = .ok (.aload_n 0, 1) := dk_42 (dk_at dksX6_lets_0 0 rfl rfl)
theorem dX6_lets_1 : decode cX6_lets 1 = .ok (.iload_n 1, 1) := dk_27 (dk_at dksX6_lets_0 1 rfl rfl)
theorem dX6_lets_2 : decode cX6_lets 2 = .ok (.iconst 4, 1) := dk_7 (dk_at dksX6_lets_0 2 rfl rfl)
theorem dX6_lets_3 : decode cX6_lets 3 = .ok (.invokevirtual 93, 3) := dk_182 0 93 (dk_at dksX6_lets_0 3 rfl rfl)
theorem dX6_lets_6 : decode cX6_lets 6 = .ok (.istore 4, 2) := dk_54 4 (dk_at dksX6_lets_0 6 rfl rfl)
theorem dX6_lets_8 : decode cX6_lets 8 = .ok (.aload_n 0, 1) := dk_42 (dk_at dksX6_lets_0 8 rfl rfl)
theorem dX6_lets_9 : decode cX6_lets 9 = .ok (.getfield 7, 3) := dk_180 0 7 (dk_at dksX6_lets_0 9 rfl rfl)
theorem dX6_lets_12 : decode cX6_lets 12 = .ok (.iload_n 1, 1) := dk_27 (dk_at dksX6_lets_0 12 rfl rfl)
theorem dX6_lets_13 : decode cX6_lets 13 = .ok (.iconst 4, 1) := dk_7 (dk_at dksX6_lets_0 13 rfl rfl)
theorem dX6_lets_14 : decode cX6_lets 14 = .ok (.invokestatic 74, 3) := dk_184 0 74 (dk_at dksX6_lets_0 14 rfl rfl)
theorem dX6_lets_17 : decode cX6_lets 17 = .ok (.iload_n 3, 1) := dk_29 (dk_at dksX6_lets_0 17 rfl rfl)
theorem dX6_lets_18 : decode cX6_lets 18 = .ok (.ifCond .eq 12, 3) := dk_153 0 12 (dk_at dksX6_lets_0 18 rfl rfl)
theorem dX6_lets_21 : decode cX6_lets 21 = .ok (.iload 4, 2) := dk_21 4 (dk_at dksX6_lets_0 21 rfl rfl)
theorem dX6_lets_23 : decode cX6_lets 23 = .ok (.iconst 1, 1) := dk_4 (dk_at dksX6_lets_0 23 rfl rfl)
theorem dX6_lets_24 : decode cX6_lets 24 = .ok (.iload_n 2, 1) := dk_28 (dk_at dksX6_lets_1 0 rfl rfl)
theorem dX6_lets_25 : decode cX6_lets 25 = .ok (.ishl, 1) := dk_120 (dk_at dksX6_lets_1 1 rfl rfl)
theorem dX6_lets_26 : decode cX6_lets 26 = .ok (.ior, 1) := dk_128 (dk_at dksX6_lets_1 2 rfl rfl)
theorem dX6_lets_27 : decode cX6_lets 27 = .ok (.goto 11, 3) := dk_167 0 11 (dk_at dksX6_lets_1 3 rfl rfl)
theorem dX6_lets_30 : decode cX6_lets 30 = .ok (.iload 4, 2) := dk_21 4 (dk_at dksX6_lets_1 6 rfl rfl)
theorem dX6_lets_32 : decode cX6_lets 32 = .ok (.iconst 1, 1) := dk_4 (dk_at dksX6_lets_1 8 rfl rfl)
theorem dX6_lets_33 : decode cX6_lets 33 = .ok (.iload_n 2, 1) := dk_28 (dk_at dksX6_lets_1 9 rfl rfl)
theorem dX6_lets_34 : decode cX6_lets 34 = .ok (.ishl, 1) := dk_120 (dk_at dksX6_lets_1 10 rfl rfl)
theorem dX6_lets_35 : decode cX6_lets 35 = .ok (.iconst (-1), 1) := dk_2 (dk_at dksX6_lets_1 11 rfl rfl)
theorem dX6_lets_36 : decode cX6_lets 36 = .ok (.ixor, 1) := dk_130 (dk_at dksX6_lets_1 12 rfl rfl)
theorem dX6_lets_37 : decode cX6_lets 37 = .ok (.iand, 1) := dk_126 (dk_at dksX6_lets_1 13 rfl rfl)
theorem dX6_lets_38 : decode cX6_lets 38 = .ok (.iastore, 1) := dk_79 (dk_at dksX6_lets_1 14 rfl rfl)
theorem dX6_lets_39 : decode cX6_lets 39 = .ok (.return_, 1) := dk_177 (dk_at dksX6_lets_1 15 rfl rfl)
abbrev cX6_worth : ByteArray := prog_26_method_29_code
def yX6_worth : MethodName := ⟨RX6, "worth", "(II)I"⟩
def dkwX6_worth_1 : List UInt8 := [28, 182, 0, 131, 167, 0, 4, 2, 172]
abbrev dktX6_worth_1 : List UInt8 := dkwX6_worth_1 ++ []
def dkwX6_worth_0 : List UInt8 := [27, 184, 0, 80, 153, 0, 27, 28, 133, 9, 20, 0, 141, 184, 0, 68, 153, 0, 15, 42, 16, 6, 27, 96]
abbrev dktX6_worth_0 : List UInt8 := dkwX6_worth_0 ++ dktX6_worth_1
theorem dksX6_worth_0 : cX6_worth.data.toList.drop 0 = dktX6_worth_0 := by decide +kernel
theorem dksX6_worth_1 : cX6_worth.data.toList.drop 24 = dktX6_worth_1 := dk_seg dksX6_worth_0 24 rfl rfl
theorem dX6_worth_0 : decode cX6_worth 0 = .ok (.iload_n 1, 1) := dk_27 (dk_at dksX6_worth_0 0 rfl rfl)
theorem dX6_worth_1 : decode cX6_worth 1 = .ok (.invokestatic 80, 3) := dk_184 0 80 (dk_at dksX6_worth_0 1 rfl rfl)
theorem dX6_worth_4 : decode cX6_worth 4 = .ok (.ifCond .eq 27, 3) := dk_153 0 27 (dk_at dksX6_worth_0 4 rfl rfl)
theorem dX6_worth_7 : decode cX6_worth 7 = .ok (.iload_n 2, 1) := dk_28 (dk_at dksX6_worth_0 7 rfl rfl)
theorem dX6_worth_8 : decode cX6_worth 8 = .ok (.i2l, 1) := dk_133 (dk_at dksX6_worth_0 8 rfl rfl)
theorem dX6_worth_9 : decode cX6_worth 9 = .ok (.lconst 0, 1) := dk_9 (dk_at dksX6_worth_0 9 rfl rfl)
theorem dX6_worth_10 : decode cX6_worth 10 = .ok (.ldc2_w 141, 3) := dk_20 0 141 (dk_at dksX6_worth_0 10 rfl rfl)
theorem dX6_worth_13 : decode cX6_worth 13 = .ok (.invokestatic 68, 3) := dk_184 0 68 (dk_at dksX6_worth_0 13 rfl rfl)
theorem dX6_worth_16 : decode cX6_worth 16 = .ok (.ifCond .eq 15, 3) := dk_153 0 15 (dk_at dksX6_worth_0 16 rfl rfl)
theorem dX6_worth_19 : decode cX6_worth 19 = .ok (.aload_n 0, 1) := dk_42 (dk_at dksX6_worth_0 19 rfl rfl)
theorem dX6_worth_20 : decode cX6_worth 20 = .ok (.bipush 6, 2) := dk_16 6 (dk_at dksX6_worth_0 20 rfl rfl)
theorem dX6_worth_22 : decode cX6_worth 22 = .ok (.iload_n 1, 1) := dk_27 (dk_at dksX6_worth_0 22 rfl rfl)
theorem dX6_worth_23 : decode cX6_worth 23 = .ok (.iadd, 1) := dk_96 (dk_at dksX6_worth_0 23 rfl rfl)
theorem dX6_worth_24 : decode cX6_worth 24 = .ok (.iload_n 2, 1) := dk_28 (dk_at dksX6_worth_1 0 rfl rfl)
theorem dX6_worth_25 : decode cX6_worth 25 = .ok (.invokevirtual 131, 3) := dk_182 0 131 (dk_at dksX6_worth_1 1 rfl rfl)
theorem dX6_worth_28 : decode cX6_worth 28 = .ok (.goto 4, 3) := dk_167 0 4 (dk_at dksX6_worth_1 4 rfl rfl)
theorem dX6_worth_31 : decode cX6_worth 31 = .ok (.iconst (-1), 1) := dk_2 (dk_at dksX6_worth_1 7 rfl rfl)
theorem dX6_worth_32 : decode cX6_worth 32 = .ok (.ireturn, 1) := dk_172 (dk_at dksX6_worth_1 8 rfl rfl)
abbrev cX6_jar : ByteArray := prog_26_method_30_code
def yX6_jar : MethodName := ⟨RX6, "jar", "(II)I"⟩
def dkwX6_jar_1 : List UInt8 := [28, 182, 0, 131, 167, 0, 4, 2, 172]
abbrev dktX6_jar_1 : List UInt8 := dkwX6_jar_1 ++ []
def dkwX6_jar_0 : List UInt8 := [27, 184, 0, 80, 153, 0, 27, 28, 133, 9, 20, 0, 143, 184, 0, 68, 153, 0, 15, 42, 16, 14, 27, 96]
abbrev dktX6_jar_0 : List UInt8 := dkwX6_jar_0 ++ dktX6_jar_1
theorem dksX6_jar_0 : cX6_jar.data.toList.drop 0 = dktX6_jar_0 := by decide +kernel
theorem dksX6_jar_1 : cX6_jar.data.toList.drop 24 = dktX6_jar_1 := dk_seg dksX6_jar_0 24 rfl rfl
theorem dX6_jar_0 : decode cX6_jar 0 = .ok (.iload_n 1, 1) := dk_27 (dk_at dksX6_jar_0 0 rfl rfl)
theorem dX6_jar_1 : decode cX6_jar 1 = .ok (.invokestatic 80, 3) := dk_184 0 80 (dk_at dksX6_jar_0 1 rfl rfl)
theorem dX6_jar_4 : decode cX6_jar 4 = .ok (.ifCond .eq 27, 3) := dk_153 0 27 (dk_at dksX6_jar_0 4 rfl rfl)
theorem dX6_jar_7 : decode cX6_jar 7 = .ok (.iload_n 2, 1) := dk_28 (dk_at dksX6_jar_0 7 rfl rfl)
theorem dX6_jar_8 : decode cX6_jar 8 = .ok (.i2l, 1) := dk_133 (dk_at dksX6_jar_0 8 rfl rfl)
theorem dX6_jar_9 : decode cX6_jar 9 = .ok (.lconst 0, 1) := dk_9 (dk_at dksX6_jar_0 9 rfl rfl)
theorem dX6_jar_10 : decode cX6_jar 10 = .ok (.ldc2_w 143, 3) := dk_20 0 143 (dk_at dksX6_jar_0 10 rfl rfl)
theorem dX6_jar_13 : decode cX6_jar 13 = .ok (.invokestatic 68, 3) := dk_184 0 68 (dk_at dksX6_jar_0 13 rfl rfl)
theorem dX6_jar_16 : decode cX6_jar 16 = .ok (.ifCond .eq 15, 3) := dk_153 0 15 (dk_at dksX6_jar_0 16 rfl rfl)
theorem dX6_jar_19 : decode cX6_jar 19 = .ok (.aload_n 0, 1) := dk_42 (dk_at dksX6_jar_0 19 rfl rfl)
theorem dX6_jar_20 : decode cX6_jar 20 = .ok (.bipush 14, 2) := dk_16 14 (dk_at dksX6_jar_0 20 rfl rfl)
theorem dX6_jar_22 : decode cX6_jar 22 = .ok (.iload_n 1, 1) := dk_27 (dk_at dksX6_jar_0 22 rfl rfl)
theorem dX6_jar_23 : decode cX6_jar 23 = .ok (.iadd, 1) := dk_96 (dk_at dksX6_jar_0 23 rfl rfl)
theorem dX6_jar_24 : decode cX6_jar 24 = .ok (.iload_n 2, 1) := dk_28 (dk_at dksX6_jar_1 0 rfl rfl)
theorem dX6_jar_25 : decode cX6_jar 25 = .ok (.invokevirtual 131, 3) := dk_182 0 131 (dk_at dksX6_jar_1 1 rfl rfl)
theorem dX6_jar_28 : decode cX6_jar 28 = .ok (.goto 4, 3) := dk_167 0 4 (dk_at dksX6_jar_1 4 rfl rfl)
theorem dX6_jar_31 : decode cX6_jar 31 = .ok (.iconst (-1), 1) := dk_2 (dk_at dksX6_jar_1 7 rfl rfl)
theorem dX6_jar_32 : decode cX6_jar 32 = .ok (.ireturn, 1) := dk_172 (dk_at dksX6_jar_1 8 rfl rfl)
abbrev cX6_fee : ByteArray := prog_26_method_31_code
def yX6_fee : MethodName := ⟨RX6, "fee", "(I)I"⟩
def dkwX6_fee_0 : List UInt8 := [27, 133, 9, 20, 0, 145, 184, 0, 68, 153, 0, 12, 42, 5, 27, 182, 0, 131, 167, 0, 4, 2, 172]
abbrev dktX6_fee_0 : List UInt8 := dkwX6_fee_0 ++ []
theorem dksX6_fee_0 : cX6_fee.data.toList.drop 0 = dktX6_fee_0 := by decide +kernel
theorem dX6_fee_0 : decode cX6_fee 0 = .ok (.iload_n 1, 1) := dk_27 (dk_at dksX6_fee_0 0 rfl rfl)
theorem dX6_fee_1 : decode cX6_fee 1 = .ok (.i2l, 1) := dk_133 (dk_at dksX6_fee_0 1 rfl rfl)
theorem dX6_fee_2 : decode cX6_fee 2 = .ok (.lconst 0, 1) := dk_9 (dk_at dksX6_fee_0 2 rfl rfl)
theorem dX6_fee_3 : decode cX6_fee 3 = .ok (.ldc2_w 145, 3) := dk_20 0 145 (dk_at dksX6_fee_0 3 rfl rfl)
theorem dX6_fee_6 : decode cX6_fee 6 = .ok (.invokestatic 68, 3) := dk_184 0 68 (dk_at dksX6_fee_0 6 rfl rfl)
theorem dX6_fee_9 : decode cX6_fee 9 = .ok (.ifCond .eq 12, 3) := dk_153 0 12 (dk_at dksX6_fee_0 9 rfl rfl)
theorem dX6_fee_12 : decode cX6_fee 12 = .ok (.aload_n 0, 1) := dk_42 (dk_at dksX6_fee_0 12 rfl rfl)
theorem dX6_fee_13 : decode cX6_fee 13 = .ok (.iconst 2, 1) := dk_5 (dk_at dksX6_fee_0 13 rfl rfl)
theorem dX6_fee_14 : decode cX6_fee 14 = .ok (.iload_n 1, 1) := dk_27 (dk_at dksX6_fee_0 14 rfl rfl)
theorem dX6_fee_15 : decode cX6_fee 15 = .ok (.invokevirtual 131, 3) := dk_182 0 131 (dk_at dksX6_fee_0 15 rfl rfl)
theorem dX6_fee_18 : decode cX6_fee 18 = .ok (.goto 4, 3) := dk_167 0 4 (dk_at dksX6_fee_0 18 rfl rfl)
theorem dX6_fee_21 : decode cX6_fee 21 = .ok (.iconst (-1), 1) := dk_2 (dk_at dksX6_fee_0 21 rfl rfl)
theorem dX6_fee_22 : decode cX6_fee 22 = .ok (.ireturn, 1) := dk_172 (dk_at dksX6_fee_0 22 rfl rfl)
abbrev cX6_thing : ByteArray := prog_26_method_33_code
def yX6_thing : MethodName := ⟨RX6, "thing", "(II)I"⟩
def dkwX6_thing_3 : List UInt8 := [182, 0, 147, 172, 42, 5, 27, 182, 0, 147, 172, 2, 172]
abbrev dktX6_thing_3 : List UInt8 := dkwX6_thing_3 ++ []
def dkwX6_thing_2 : List UInt8 := [42, 180, 0, 7, 16, 6, 27, 96, 46, 172, 42, 180, 0, 7, 16, 14, 27, 96, 46, 172, 42, 4, 27]
abbrev dktX6_thing_2 : List UInt8 := dkwX6_thing_2 ++ dktX6_thing_3
def dkwX6_thing_1 : List UInt8 := [170, 0, 0, 0, 0, 64, 0, 0, 0, 0, 0, 0, 0, 3, 0, 0, 0, 30, 0, 0, 0, 40, 0, 0, 0, 50, 0, 0, 0, 57]
abbrev dktX6_thing_1 : List UInt8 := dkwX6_thing_1 ++ dktX6_thing_2
def dkwX6_thing_0 : List UInt8 := [27, 184, 0, 80, 154, 0, 5, 2, 172, 28]
abbrev dktX6_thing_0 : List UInt8 := dkwX6_thing_0 ++ dktX6_thing_1
theorem dksX6_thing_0 : cX6_thing.data.toList.drop 0 = dktX6_thing_0 := by decide +kernel
theorem dksX6_thing_1 : cX6_thing.data.toList.drop 10 = dktX6_thing_1 := dk_seg dksX6_thing_0 10 rfl rfl
theorem dksX6_thing_2 : cX6_thing.data.toList.drop 40 = dktX6_thing_2 := dk_seg dksX6_thing_1 30 rfl rfl
theorem dksX6_thing_3 : cX6_thing.data.toList.drop 63 = dktX6_thing_3 := dk_seg dksX6_thing_2 23 rfl rfl
theorem dX6_thing_0 : decode cX6_thing 0 = .ok (.iload_n 1, 1) := dk_27 (dk_at dksX6_thing_0 0 rfl rfl)
theorem dX6_thing_1 : decode cX6_thing 1 = .ok (.invokestatic 80, 3) := dk_184 0 80 (dk_at dksX6_thing_0 1 rfl rfl)
theorem dX6_thing_4 : decode cX6_thing 4 = .ok (.ifCond .ne 5, 3) := dk_154 0 5 (dk_at dksX6_thing_0 4 rfl rfl)
theorem dX6_thing_7 : decode cX6_thing 7 = .ok (.iconst (-1), 1) := dk_2 (dk_at dksX6_thing_0 7 rfl rfl)
theorem dX6_thing_8 : decode cX6_thing 8 = .ok (.ireturn, 1) := dk_172 (dk_at dksX6_thing_0 8 rfl rfl)
theorem dX6_thing_9 : decode cX6_thing 9 = .ok (.iload_n 2, 1) := dk_28 (dk_at dksX6_thing_0 9 rfl rfl)
theorem dX6_thing_10 : decode cX6_thing 10 = .ok (.tableswitch 64 0 3 #[30, 40, 50, 57], 30) := by decide +kernel
theorem dX6_thing_40 : decode cX6_thing 40 = .ok (.aload_n 0, 1) := dk_42 (dk_at dksX6_thing_2 0 rfl rfl)
theorem dX6_thing_41 : decode cX6_thing 41 = .ok (.getfield 7, 3) := dk_180 0 7 (dk_at dksX6_thing_2 1 rfl rfl)
theorem dX6_thing_44 : decode cX6_thing 44 = .ok (.bipush 6, 2) := dk_16 6 (dk_at dksX6_thing_2 4 rfl rfl)
theorem dX6_thing_46 : decode cX6_thing 46 = .ok (.iload_n 1, 1) := dk_27 (dk_at dksX6_thing_2 6 rfl rfl)
theorem dX6_thing_47 : decode cX6_thing 47 = .ok (.iadd, 1) := dk_96 (dk_at dksX6_thing_2 7 rfl rfl)
theorem dX6_thing_48 : decode cX6_thing 48 = .ok (.iaload, 1) := dk_46 (dk_at dksX6_thing_2 8 rfl rfl)
theorem dX6_thing_49 : decode cX6_thing 49 = .ok (.ireturn, 1) := dk_172 (dk_at dksX6_thing_2 9 rfl rfl)
theorem dX6_thing_50 : decode cX6_thing 50 = .ok (.aload_n 0, 1) := dk_42 (dk_at dksX6_thing_2 10 rfl rfl)
theorem dX6_thing_51 : decode cX6_thing 51 = .ok (.getfield 7, 3) := dk_180 0 7 (dk_at dksX6_thing_2 11 rfl rfl)
theorem dX6_thing_54 : decode cX6_thing 54 = .ok (.bipush 14, 2) := dk_16 14 (dk_at dksX6_thing_2 14 rfl rfl)
theorem dX6_thing_56 : decode cX6_thing 56 = .ok (.iload_n 1, 1) := dk_27 (dk_at dksX6_thing_2 16 rfl rfl)
theorem dX6_thing_57 : decode cX6_thing 57 = .ok (.iadd, 1) := dk_96 (dk_at dksX6_thing_2 17 rfl rfl)
theorem dX6_thing_58 : decode cX6_thing 58 = .ok (.iaload, 1) := dk_46 (dk_at dksX6_thing_2 18 rfl rfl)
theorem dX6_thing_59 : decode cX6_thing 59 = .ok (.ireturn, 1) := dk_172 (dk_at dksX6_thing_2 19 rfl rfl)
theorem dX6_thing_60 : decode cX6_thing 60 = .ok (.aload_n 0, 1) := dk_42 (dk_at dksX6_thing_2 20 rfl rfl)
theorem dX6_thing_61 : decode cX6_thing 61 = .ok (.iconst 1, 1) := dk_4 (dk_at dksX6_thing_2 21 rfl rfl)
theorem dX6_thing_62 : decode cX6_thing 62 = .ok (.iload_n 1, 1) := dk_27 (dk_at dksX6_thing_2 22 rfl rfl)
theorem dX6_thing_63 : decode cX6_thing 63 = .ok (.invokevirtual 147, 3) := dk_182 0 147 (dk_at dksX6_thing_3 0 rfl rfl)
theorem dX6_thing_66 : decode cX6_thing 66 = .ok (.ireturn, 1) := dk_172 (dk_at dksX6_thing_3 3 rfl rfl)
theorem dX6_thing_67 : decode cX6_thing 67 = .ok (.aload_n 0, 1) := dk_42 (dk_at dksX6_thing_3 4 rfl rfl)
theorem dX6_thing_68 : decode cX6_thing 68 = .ok (.iconst 2, 1) := dk_5 (dk_at dksX6_thing_3 5 rfl rfl)
theorem dX6_thing_69 : decode cX6_thing 69 = .ok (.iload_n 1, 1) := dk_27 (dk_at dksX6_thing_3 6 rfl rfl)
theorem dX6_thing_70 : decode cX6_thing 70 = .ok (.invokevirtual 147, 3) := dk_182 0 147 (dk_at dksX6_thing_3 7 rfl rfl)
theorem dX6_thing_73 : decode cX6_thing 73 = .ok (.ireturn, 1) := dk_172 (dk_at dksX6_thing_3 10 rfl rfl)
theorem dX6_thing_74 : decode cX6_thing 74 = .ok (.iconst (-1), 1) := dk_2 (dk_at dksX6_thing_3 11 rfl rfl)
theorem dX6_thing_75 : decode cX6_thing 75 = .ok (.ireturn, 1) := dk_172 (dk_at dksX6_thing_3 12 rfl rfl)
abbrev cX6_whoWith : ByteArray := prog_26_method_32_code
def yX6_whoWith : MethodName := ⟨RX6, "whoWith", "(II)I"⟩
def dkwX6_whoWith_1 : List UInt8 := [28, 160, 0, 10, 4, 21, 4, 120, 167, 0, 4, 3, 128, 62, 132, 4, 1, 167, 255, 220, 29, 172]
abbrev dktX6_whoWith_1 : List UInt8 := dkwX6_whoWith_1 ++ []
def dkwX6_whoWith_0 : List UInt8 := [3, 62, 3, 54, 4, 21, 4, 42, 180, 0, 7, 3, 46, 162, 0, 31, 29, 42, 21, 4, 27, 182, 0, 93]
abbrev dktX6_whoWith_0 : List UInt8 := dkwX6_whoWith_0 ++ dktX6_whoWith_1
theorem dksX6_whoWith_0 : cX6_whoWith.data.toList.drop 0 = dktX6_whoWith_0 := by decide +kernel
theorem dksX6_whoWith_1 : cX6_whoWith.data.toList.drop 24 = dktX6_whoWith_1 := dk_seg dksX6_whoWith_0 24 rfl rfl
theorem dX6_whoWith_0 : decode cX6_whoWith 0 = .ok (.iconst 0, 1) := dk_3 (dk_at dksX6_whoWith_0 0 rfl rfl)
theorem dX6_whoWith_1 : decode cX6_whoWith 1 = .ok (.istore_n 3, 1) := dk_62 (dk_at dksX6_whoWith_0 1 rfl rfl)
theorem dX6_whoWith_2 : decode cX6_whoWith 2 = .ok (.iconst 0, 1) := dk_3 (dk_at dksX6_whoWith_0 2 rfl rfl)
theorem dX6_whoWith_3 : decode cX6_whoWith 3 = .ok (.istore 4, 2) := dk_54 4 (dk_at dksX6_whoWith_0 3 rfl rfl)
theorem dX6_whoWith_5 : decode cX6_whoWith 5 = .ok (.iload 4, 2) := dk_21 4 (dk_at dksX6_whoWith_0 5 rfl rfl)
theorem dX6_whoWith_7 : decode cX6_whoWith 7 = .ok (.aload_n 0, 1) := dk_42 (dk_at dksX6_whoWith_0 7 rfl rfl)
theorem dX6_whoWith_8 : decode cX6_whoWith 8 = .ok (.getfield 7, 3) := dk_180 0 7 (dk_at dksX6_whoWith_0 8 rfl rfl)
theorem dX6_whoWith_11 : decode cX6_whoWith 11 = .ok (.iconst 0, 1) := dk_3 (dk_at dksX6_whoWith_0 11 rfl rfl)
theorem dX6_whoWith_12 : decode cX6_whoWith 12 = .ok (.iaload, 1) := dk_46 (dk_at dksX6_whoWith_0 12 rfl rfl)
theorem dX6_whoWith_13 : decode cX6_whoWith 13 = .ok (.if_icmp .ge 31, 3) := dk_162 0 31 (dk_at dksX6_whoWith_0 13 rfl rfl)
theorem dX6_whoWith_16 : decode cX6_whoWith 16 = .ok (.iload_n 3, 1) := dk_29 (dk_at dksX6_whoWith_0 16 rfl rfl)
theorem dX6_whoWith_17 : decode cX6_whoWith 17 = .ok (.aload_n 0, 1) := dk_42 (dk_at dksX6_whoWith_0 17 rfl rfl)
theorem dX6_whoWith_18 : decode cX6_whoWith 18 = .ok (.iload 4, 2) := dk_21 4 (dk_at dksX6_whoWith_0 18 rfl rfl)
theorem dX6_whoWith_20 : decode cX6_whoWith 20 = .ok (.iload_n 1, 1) := dk_27 (dk_at dksX6_whoWith_0 20 rfl rfl)
theorem dX6_whoWith_21 : decode cX6_whoWith 21 = .ok (.invokevirtual 93, 3) := dk_182 0 93 (dk_at dksX6_whoWith_0 21 rfl rfl)
theorem dX6_whoWith_24 : decode cX6_whoWith 24 = .ok (.iload_n 2, 1) := dk_28 (dk_at dksX6_whoWith_1 0 rfl rfl)
theorem dX6_whoWith_25 : decode cX6_whoWith 25 = .ok (.if_icmp .ne 10, 3) := dk_160 0 10 (dk_at dksX6_whoWith_1 1 rfl rfl)
theorem dX6_whoWith_28 : decode cX6_whoWith 28 = .ok (.iconst 1, 1) := dk_4 (dk_at dksX6_whoWith_1 4 rfl rfl)
theorem dX6_whoWith_29 : decode cX6_whoWith 29 = .ok (.iload 4, 2) := dk_21 4 (dk_at dksX6_whoWith_1 5 rfl rfl)
theorem dX6_whoWith_31 : decode cX6_whoWith 31 = .ok (.ishl, 1) := dk_120 (dk_at dksX6_whoWith_1 7 rfl rfl)
theorem dX6_whoWith_32 : decode cX6_whoWith 32 = .ok (.goto 4, 3) := dk_167 0 4 (dk_at dksX6_whoWith_1 8 rfl rfl)
theorem dX6_whoWith_35 : decode cX6_whoWith 35 = .ok (.iconst 0, 1) := dk_3 (dk_at dksX6_whoWith_1 11 rfl rfl)
theorem dX6_whoWith_36 : decode cX6_whoWith 36 = .ok (.ior, 1) := dk_128 (dk_at dksX6_whoWith_1 12 rfl rfl)
theorem dX6_whoWith_37 : decode cX6_whoWith 37 = .ok (.istore_n 3, 1) := dk_62 (dk_at dksX6_whoWith_1 13 rfl rfl)
theorem dX6_whoWith_38 : decode cX6_whoWith 38 = .ok (.iinc 4 1, 3) := dk_132 4 1 (dk_at dksX6_whoWith_1 14 rfl rfl)
theorem dX6_whoWith_41 : decode cX6_whoWith 41 = .ok (.goto (-36), 3) := dk_167 255 220 (dk_at dksX6_whoWith_1 17 rfl rfl)
theorem dX6_whoWith_44 : decode cX6_whoWith 44 = .ok (.iload_n 3, 1) := dk_29 (dk_at dksX6_whoWith_1 20 rfl rfl)
theorem dX6_whoWith_45 : decode cX6_whoWith 45 = .ok (.ireturn, 1) := dk_172 (dk_at dksX6_whoWith_1 21 rfl rfl)
abbrev cX6_state : ByteArray := prog_26_method_34_code
def yX6_state : MethodName := ⟨RX6, "state", "(I)I"⟩
def dkwX6_state_3 : List UInt8 := [2, 172]
abbrev dktX6_state_3 : List UInt8 := dkwX6_state_3 ++ []
def dkwX6_state_2 : List UInt8 := [42, 182, 0, 99, 172, 42, 182, 0, 150, 172, 42, 180, 0, 7, 5, 46, 172, 42, 180, 0, 7, 7, 46, 172]
abbrev dktX6_state_2 : List UInt8 := dkwX6_state_2 ++ dktX6_state_3
def dkwX6_state_1 : List UInt8 := [170, 0, 0, 0, 0, 0, 55, 0, 0, 0, 0, 0, 0, 0, 3, 0, 0, 0, 31, 0, 0, 0, 36, 0, 0, 0, 41, 0, 0, 0, 48]
abbrev dktX6_state_1 : List UInt8 := dkwX6_state_1 ++ dktX6_state_2
def dkwX6_state_0 : List UInt8 := [27]
abbrev dktX6_state_0 : List UInt8 := dkwX6_state_0 ++ dktX6_state_1
theorem dksX6_state_0 : cX6_state.data.toList.drop 0 = dktX6_state_0 := by decide +kernel
theorem dksX6_state_1 : cX6_state.data.toList.drop 1 = dktX6_state_1 := dk_seg dksX6_state_0 1 rfl rfl
theorem dksX6_state_2 : cX6_state.data.toList.drop 32 = dktX6_state_2 := dk_seg dksX6_state_1 31 rfl rfl
theorem dksX6_state_3 : cX6_state.data.toList.drop 56 = dktX6_state_3 := dk_seg dksX6_state_2 24 rfl rfl
theorem dX6_state_0 : decode cX6_state 0 = .ok (.iload_n 1, 1) := dk_27 (dk_at dksX6_state_0 0 rfl rfl)
theorem dX6_state_1 : decode cX6_state 1 = .ok (.tableswitch 55 0 3 #[31, 36, 41, 48], 31) := by decide +kernel
theorem dX6_state_32 : decode cX6_state 32 = .ok (.aload_n 0, 1) := dk_42 (dk_at dksX6_state_2 0 rfl rfl)
theorem dX6_state_33 : decode cX6_state 33 = .ok (.invokevirtual 99, 3) := dk_182 0 99 (dk_at dksX6_state_2 1 rfl rfl)
theorem dX6_state_36 : decode cX6_state 36 = .ok (.ireturn, 1) := dk_172 (dk_at dksX6_state_2 4 rfl rfl)
theorem dX6_state_37 : decode cX6_state 37 = .ok (.aload_n 0, 1) := dk_42 (dk_at dksX6_state_2 5 rfl rfl)
theorem dX6_state_38 : decode cX6_state 38 = .ok (.invokevirtual 150, 3) := dk_182 0 150 (dk_at dksX6_state_2 6 rfl rfl)
theorem dX6_state_41 : decode cX6_state 41 = .ok (.ireturn, 1) := dk_172 (dk_at dksX6_state_2 9 rfl rfl)
theorem dX6_state_42 : decode cX6_state 42 = .ok (.aload_n 0, 1) := dk_42 (dk_at dksX6_state_2 10 rfl rfl)
theorem dX6_state_43 : decode cX6_state 43 = .ok (.getfield 7, 3) := dk_180 0 7 (dk_at dksX6_state_2 11 rfl rfl)
theorem dX6_state_46 : decode cX6_state 46 = .ok (.iconst 2, 1) := dk_5 (dk_at dksX6_state_2 14 rfl rfl)
theorem dX6_state_47 : decode cX6_state 47 = .ok (.iaload, 1) := dk_46 (dk_at dksX6_state_2 15 rfl rfl)
theorem dX6_state_48 : decode cX6_state 48 = .ok (.ireturn, 1) := dk_172 (dk_at dksX6_state_2 16 rfl rfl)
theorem dX6_state_49 : decode cX6_state 49 = .ok (.aload_n 0, 1) := dk_42 (dk_at dksX6_state_2 17 rfl rfl)
theorem dX6_state_50 : decode cX6_state 50 = .ok (.getfield 7, 3) := dk_180 0 7 (dk_at dksX6_state_2 18 rfl rfl)
theorem dX6_state_53 : decode cX6_state 53 = .ok (.iconst 4, 1) := dk_7 (dk_at dksX6_state_2 21 rfl rfl)
theorem dX6_state_54 : decode cX6_state 54 = .ok (.iaload, 1) := dk_46 (dk_at dksX6_state_2 22 rfl rfl)
theorem dX6_state_55 : decode cX6_state 55 = .ok (.ireturn, 1) := dk_172 (dk_at dksX6_state_2 23 rfl rfl)
theorem dX6_state_56 : decode cX6_state 56 = .ok (.iconst (-1), 1) := dk_2 (dk_at dksX6_state_3 0 rfl rfl)
theorem dX6_state_57 : decode cX6_state 57 = .ok (.ireturn, 1) := dk_172 (dk_at dksX6_state_3 1 rfl rfl)
abbrev cX6_coinsAll : ByteArray := prog_26_method_17_code
def yX6_coinsAll : MethodName := ⟨RX6, "coinsAll", "()I"⟩
def dkwX6_coinsAll_1 : List UInt8 := [132, 2, 1, 167, 255, 234, 27, 172]
abbrev dktX6_coinsAll_1 : List UInt8 := dkwX6_coinsAll_1 ++ []
def dkwX6_coinsAll_0 : List UInt8 := [3, 60, 3, 61, 28, 42, 180, 0, 7, 3, 46, 162, 0, 18, 27, 42, 28, 6, 182, 0, 93, 96, 60]
abbrev dktX6_coinsAll_0 : List UInt8 := dkwX6_coinsAll_0 ++ dktX6_coinsAll_1
theorem dksX6_coinsAll_0 : cX6_coinsAll.data.toList.drop 0 = dktX6_coinsAll_0 := by decide +kernel
theorem dksX6_coinsAll_1 : cX6_coinsAll.data.toList.drop 23 = dktX6_coinsAll_1 := dk_seg dksX6_coinsAll_0 23 rfl rfl
theorem dX6_coinsAll_0 : decode cX6_coinsAll 0 = .ok (.iconst 0, 1) := dk_3 (dk_at dksX6_coinsAll_0 0 rfl rfl)
theorem dX6_coinsAll_1 : decode cX6_coinsAll 1 = .ok (.istore_n 1, 1) := dk_60 (dk_at dksX6_coinsAll_0 1 rfl rfl)
theorem dX6_coinsAll_2 : decode cX6_coinsAll 2 = .ok (.iconst 0, 1) := dk_3 (dk_at dksX6_coinsAll_0 2 rfl rfl)
theorem dX6_coinsAll_3 : decode cX6_coinsAll 3 = .ok (.istore_n 2, 1) := dk_61 (dk_at dksX6_coinsAll_0 3 rfl rfl)
theorem dX6_coinsAll_4 : decode cX6_coinsAll 4 = .ok (.iload_n 2, 1) := dk_28 (dk_at dksX6_coinsAll_0 4 rfl rfl)
theorem dX6_coinsAll_5 : decode cX6_coinsAll 5 = .ok (.aload_n 0, 1) := dk_42 (dk_at dksX6_coinsAll_0 5 rfl rfl)
theorem dX6_coinsAll_6 : decode cX6_coinsAll 6 = .ok (.getfield 7, 3) := dk_180 0 7 (dk_at dksX6_coinsAll_0 6 rfl rfl)
theorem dX6_coinsAll_9 : decode cX6_coinsAll 9 = .ok (.iconst 0, 1) := dk_3 (dk_at dksX6_coinsAll_0 9 rfl rfl)
theorem dX6_coinsAll_10 : decode cX6_coinsAll 10 = .ok (.iaload, 1) := dk_46 (dk_at dksX6_coinsAll_0 10 rfl rfl)
theorem dX6_coinsAll_11 : decode cX6_coinsAll 11 = .ok (.if_icmp .ge 18, 3) := dk_162 0 18 (dk_at dksX6_coinsAll_0 11 rfl rfl)
theorem dX6_coinsAll_14 : decode cX6_coinsAll 14 = .ok (.iload_n 1, 1) := dk_27 (dk_at dksX6_coinsAll_0 14 rfl rfl)
theorem dX6_coinsAll_15 : decode cX6_coinsAll 15 = .ok (.aload_n 0, 1) := dk_42 (dk_at dksX6_coinsAll_0 15 rfl rfl)
theorem dX6_coinsAll_16 : decode cX6_coinsAll 16 = .ok (.iload_n 2, 1) := dk_28 (dk_at dksX6_coinsAll_0 16 rfl rfl)
theorem dX6_coinsAll_17 : decode cX6_coinsAll 17 = .ok (.iconst 3, 1) := dk_6 (dk_at dksX6_coinsAll_0 17 rfl rfl)
theorem dX6_coinsAll_18 : decode cX6_coinsAll 18 = .ok (.invokevirtual 93, 3) := dk_182 0 93 (dk_at dksX6_coinsAll_0 18 rfl rfl)
theorem dX6_coinsAll_21 : decode cX6_coinsAll 21 = .ok (.iadd, 1) := dk_96 (dk_at dksX6_coinsAll_0 21 rfl rfl)
theorem dX6_coinsAll_22 : decode cX6_coinsAll 22 = .ok (.istore_n 1, 1) := dk_60 (dk_at dksX6_coinsAll_0 22 rfl rfl)
theorem dX6_coinsAll_23 : decode cX6_coinsAll 23 = .ok (.iinc 2 1, 3) := dk_132 2 1 (dk_at dksX6_coinsAll_1 0 rfl rfl)
theorem dX6_coinsAll_26 : decode cX6_coinsAll 26 = .ok (.goto (-22), 3) := dk_167 255 234 (dk_at dksX6_coinsAll_1 3 rfl rfl)
theorem dX6_coinsAll_29 : decode cX6_coinsAll 29 = .ok (.iload_n 1, 1) := dk_27 (dk_at dksX6_coinsAll_1 6 rfl rfl)
theorem dX6_coinsAll_30 : decode cX6_coinsAll 30 = .ok (.ireturn, 1) := dk_172 (dk_at dksX6_coinsAll_1 7 rfl rfl)
abbrev cX6_cans : ByteArray := prog_26_method_44_code
def yX6_cans : MethodName := ⟨RX6, "cans", "(I)I"⟩
def dkwX6_cans_0 : List UInt8 := [27, 2, 162, 0, 5, 2, 172, 42, 27, 182, 0, 179, 61, 28, 156, 0, 8, 16, 253, 167, 0, 4, 28, 172]
abbrev dktX6_cans_0 : List UInt8 := dkwX6_cans_0 ++ []
theorem dksX6_cans_0 : cX6_cans.data.toList.drop 0 = dktX6_cans_0 := by decide +kernel
theorem dX6_cans_0 : decode cX6_cans 0 = .ok (.iload_n 1, 1) := dk_27 (dk_at dksX6_cans_0 0 rfl rfl)
theorem dX6_cans_1 : decode cX6_cans 1 = .ok (.iconst (-1), 1) := dk_2 (dk_at dksX6_cans_0 1 rfl rfl)
theorem dX6_cans_2 : decode cX6_cans 2 = .ok (.if_icmp .ge 5, 3) := dk_162 0 5 (dk_at dksX6_cans_0 2 rfl rfl)
theorem dX6_cans_5 : decode cX6_cans 5 = .ok (.iconst (-1), 1) := dk_2 (dk_at dksX6_cans_0 5 rfl rfl)
theorem dX6_cans_6 : decode cX6_cans 6 = .ok (.ireturn, 1) := dk_172 (dk_at dksX6_cans_0 6 rfl rfl)
theorem dX6_cans_7 : decode cX6_cans 7 = .ok (.aload_n 0, 1) := dk_42 (dk_at dksX6_cans_0 7 rfl rfl)
theorem dX6_cans_8 : decode cX6_cans 8 = .ok (.iload_n 1, 1) := dk_27 (dk_at dksX6_cans_0 8 rfl rfl)
theorem dX6_cans_9 : decode cX6_cans 9 = .ok (.invokevirtual 179, 3) := dk_182 0 179 (dk_at dksX6_cans_0 9 rfl rfl)
theorem dX6_cans_12 : decode cX6_cans 12 = .ok (.istore_n 2, 1) := dk_61 (dk_at dksX6_cans_0 12 rfl rfl)
theorem dX6_cans_13 : decode cX6_cans 13 = .ok (.iload_n 2, 1) := dk_28 (dk_at dksX6_cans_0 13 rfl rfl)
theorem dX6_cans_14 : decode cX6_cans 14 = .ok (.ifCond .ge 8, 3) := dk_156 0 8 (dk_at dksX6_cans_0 14 rfl rfl)
theorem dX6_cans_17 : decode cX6_cans 17 = .ok (.bipush (-3), 2) := dk_16 253 (dk_at dksX6_cans_0 17 rfl rfl)
theorem dX6_cans_19 : decode cX6_cans 19 = .ok (.goto 4, 3) := dk_167 0 4 (dk_at dksX6_cans_0 19 rfl rfl)
theorem dX6_cans_22 : decode cX6_cans 22 = .ok (.iload_n 2, 1) := dk_28 (dk_at dksX6_cans_0 22 rfl rfl)
theorem dX6_cans_23 : decode cX6_cans 23 = .ok (.ireturn, 1) := dk_172 (dk_at dksX6_cans_0 23 rfl rfl)
abbrev cX6_nextChange : ByteArray := prog_26_method_39_code
def yX6_nextChange : MethodName := ⟨RX6, "nextChange", "(I)I"⟩
def dkwX6_nextChange_2 : List UInt8 := [2, 172]
abbrev dktX6_nextChange_2 : List UInt8 := dkwX6_nextChange_2 ++ []
def dkwX6_nextChange_1 : List UInt8 := [42, 29, 182, 0, 159, 153, 0, 13, 42, 29, 182, 0, 162, 153, 0, 5, 29, 172, 132, 3, 1, 167, 255, 225]
abbrev dktX6_nextChange_1 : List UInt8 := dkwX6_nextChange_1 ++ dktX6_nextChange_2
def dkwX6_nextChange_0 : List UInt8 := [16, 10, 42, 180, 0, 7, 3, 46, 104, 61, 27, 4, 96, 62, 27, 28, 162, 0, 32, 29, 28, 162, 0, 27]
abbrev dktX6_nextChange_0 : List UInt8 := dkwX6_nextChange_0 ++ dktX6_nextChange_1
theorem dksX6_nextChange_0 : cX6_nextChange.data.toList.drop 0 = dktX6_nextChange_0 := by decide +kernel
theorem dksX6_nextChange_1 : cX6_nextChange.data.toList.drop 24 = dktX6_nextChange_1 := dk_seg dksX6_nextChange_0 24 rfl rfl
theorem dksX6_nextChange_2 : cX6_nextChange.data.toList.drop 48 = dktX6_nextChange_2 := dk_seg dksX6_nextChange_1 24 rfl rfl
theorem dX6_nextChange_0 : decode cX6_nextChange 0 = .ok (.bipush 10, 2) := dk_16 10 (dk_at dksX6_nextChange_0 0 rfl rfl)
theorem dX6_nextChange_2 : decode cX6_nextChange 2 = .ok (.aload_n 0, 1) := dk_42 (dk_at dksX6_nextChange_0 2 rfl rfl)
theorem dX6_nextChange_3 : decode cX6_nextChange 3 = .ok (.getfield 7, 3) := dk_180 0 7 (dk_at dksX6_nextChange_0 3 rfl rfl)
theorem dX6_nextChange_6 : decode cX6_nextChange 6 = .ok (.iconst 0, 1) := dk_3 (dk_at dksX6_nextChange_0 6 rfl rfl)
theorem dX6_nextChange_7 : decode cX6_nextChange 7 = .ok (.iaload, 1) := dk_46 (dk_at dksX6_nextChange_0 7 rfl rfl)
theorem dX6_nextChange_8 : decode cX6_nextChange 8 = .ok (.imul, 1) := dk_104 (dk_at dksX6_nextChange_0 8 rfl rfl)
theorem dX6_nextChange_9 : decode cX6_nextChange 9 = .ok (.istore_n 2, 1) := dk_61 (dk_at dksX6_nextChange_0 9 rfl rfl)
theorem dX6_nextChange_10 : decode cX6_nextChange 10 = .ok (.iload_n 1, 1) := dk_27 (dk_at dksX6_nextChange_0 10 rfl rfl)
theorem dX6_nextChange_11 : decode cX6_nextChange 11 = .ok (.iconst 1, 1) := dk_4 (dk_at dksX6_nextChange_0 11 rfl rfl)
theorem dX6_nextChange_12 : decode cX6_nextChange 12 = .ok (.iadd, 1) := dk_96 (dk_at dksX6_nextChange_0 12 rfl rfl)
theorem dX6_nextChange_13 : decode cX6_nextChange 13 = .ok (.istore_n 3, 1) := dk_62 (dk_at dksX6_nextChange_0 13 rfl rfl)
theorem dX6_nextChange_14 : decode cX6_nextChange 14 = .ok (.iload_n 1, 1) := dk_27 (dk_at dksX6_nextChange_0 14 rfl rfl)
theorem dX6_nextChange_15 : decode cX6_nextChange 15 = .ok (.iload_n 2, 1) := dk_28 (dk_at dksX6_nextChange_0 15 rfl rfl)
theorem dX6_nextChange_16 : decode cX6_nextChange 16 = .ok (.if_icmp .ge 32, 3) := dk_162 0 32 (dk_at dksX6_nextChange_0 16 rfl rfl)
theorem dX6_nextChange_19 : decode cX6_nextChange 19 = .ok (.iload_n 3, 1) := dk_29 (dk_at dksX6_nextChange_0 19 rfl rfl)
theorem dX6_nextChange_20 : decode cX6_nextChange 20 = .ok (.iload_n 2, 1) := dk_28 (dk_at dksX6_nextChange_0 20 rfl rfl)
theorem dX6_nextChange_21 : decode cX6_nextChange 21 = .ok (.if_icmp .ge 27, 3) := dk_162 0 27 (dk_at dksX6_nextChange_0 21 rfl rfl)
theorem dX6_nextChange_24 : decode cX6_nextChange 24 = .ok (.aload_n 0, 1) := dk_42 (dk_at dksX6_nextChange_1 0 rfl rfl)
theorem dX6_nextChange_25 : decode cX6_nextChange 25 = .ok (.iload_n 3, 1) := dk_29 (dk_at dksX6_nextChange_1 1 rfl rfl)
theorem dX6_nextChange_26 : decode cX6_nextChange 26 = .ok (.invokevirtual 159, 3) := dk_182 0 159 (dk_at dksX6_nextChange_1 2 rfl rfl)
theorem dX6_nextChange_29 : decode cX6_nextChange 29 = .ok (.ifCond .eq 13, 3) := dk_153 0 13 (dk_at dksX6_nextChange_1 5 rfl rfl)
theorem dX6_nextChange_32 : decode cX6_nextChange 32 = .ok (.aload_n 0, 1) := dk_42 (dk_at dksX6_nextChange_1 8 rfl rfl)
theorem dX6_nextChange_33 : decode cX6_nextChange 33 = .ok (.iload_n 3, 1) := dk_29 (dk_at dksX6_nextChange_1 9 rfl rfl)
theorem dX6_nextChange_34 : decode cX6_nextChange 34 = .ok (.invokevirtual 162, 3) := dk_182 0 162 (dk_at dksX6_nextChange_1 10 rfl rfl)
theorem dX6_nextChange_37 : decode cX6_nextChange 37 = .ok (.ifCond .eq 5, 3) := dk_153 0 5 (dk_at dksX6_nextChange_1 13 rfl rfl)
theorem dX6_nextChange_40 : decode cX6_nextChange 40 = .ok (.iload_n 3, 1) := dk_29 (dk_at dksX6_nextChange_1 16 rfl rfl)
theorem dX6_nextChange_41 : decode cX6_nextChange 41 = .ok (.ireturn, 1) := dk_172 (dk_at dksX6_nextChange_1 17 rfl rfl)
theorem dX6_nextChange_42 : decode cX6_nextChange 42 = .ok (.iinc 3 1, 3) := dk_132 3 1 (dk_at dksX6_nextChange_1 18 rfl rfl)
theorem dX6_nextChange_45 : decode cX6_nextChange 45 = .ok (.goto (-31), 3) := dk_167 255 225 (dk_at dksX6_nextChange_1 21 rfl rfl)
theorem dX6_nextChange_48 : decode cX6_nextChange 48 = .ok (.iconst (-1), 1) := dk_2 (dk_at dksX6_nextChange_2 0 rfl rfl)
theorem dX6_nextChange_49 : decode cX6_nextChange 49 = .ok (.ireturn, 1) := dk_172 (dk_at dksX6_nextChange_2 1 rfl rfl)
abbrev cX6_isNumber : ByteArray := prog_26_method_36_code
def yX6_isNumber : MethodName := ⟨RX6, "isNumber", "(I)Z"⟩
def dkwX6_isNumber_1 : List UInt8 := [172]
abbrev dktX6_isNumber_1 : List UInt8 := dkwX6_isNumber_1 ++ []
def dkwX6_isNumber_0 : List UInt8 := [27, 155, 0, 22, 42, 27, 16, 10, 108, 27, 16, 10, 112, 182, 0, 153, 153, 0, 7, 4, 167, 0, 4, 3]
abbrev dktX6_isNumber_0 : List UInt8 := dkwX6_isNumber_0 ++ dktX6_isNumber_1
theorem dksX6_isNumber_0 : cX6_isNumber.data.toList.drop 0 = dktX6_isNumber_0 := by decide +kernel
theorem dksX6_isNumber_1 : cX6_isNumber.data.toList.drop 24 = dktX6_isNumber_1 := dk_seg dksX6_isNumber_0 24 rfl rfl
theorem dX6_isNumber_0 : decode cX6_isNumber 0 = .ok (.iload_n 1, 1) := dk_27 (dk_at dksX6_isNumber_0 0 rfl rfl)
theorem dX6_isNumber_1 : decode cX6_isNumber 1 = .ok (.ifCond .lt 22, 3) := dk_155 0 22 (dk_at dksX6_isNumber_0 1 rfl rfl)
theorem dX6_isNumber_4 : decode cX6_isNumber 4 = .ok (.aload_n 0, 1) := dk_42 (dk_at dksX6_isNumber_0 4 rfl rfl)
theorem dX6_isNumber_5 : decode cX6_isNumber 5 = .ok (.iload_n 1, 1) := dk_27 (dk_at dksX6_isNumber_0 5 rfl rfl)
theorem dX6_isNumber_6 : decode cX6_isNumber 6 = .ok (.bipush 10, 2) := dk_16 10 (dk_at dksX6_isNumber_0 6 rfl rfl)
theorem dX6_isNumber_8 : decode cX6_isNumber 8 = .ok (.idiv, 1) := dk_108 (dk_at dksX6_isNumber_0 8 rfl rfl)
theorem dX6_isNumber_9 : decode cX6_isNumber 9 = .ok (.iload_n 1, 1) := dk_27 (dk_at dksX6_isNumber_0 9 rfl rfl)
theorem dX6_isNumber_10 : decode cX6_isNumber 10 = .ok (.bipush 10, 2) := dk_16 10 (dk_at dksX6_isNumber_0 10 rfl rfl)
theorem dX6_isNumber_12 : decode cX6_isNumber 12 = .ok (.irem, 1) := dk_112 (dk_at dksX6_isNumber_0 12 rfl rfl)
theorem dX6_isNumber_13 : decode cX6_isNumber 13 = .ok (.invokevirtual 153, 3) := dk_182 0 153 (dk_at dksX6_isNumber_0 13 rfl rfl)
theorem dX6_isNumber_16 : decode cX6_isNumber 16 = .ok (.ifCond .eq 7, 3) := dk_153 0 7 (dk_at dksX6_isNumber_0 16 rfl rfl)
theorem dX6_isNumber_19 : decode cX6_isNumber 19 = .ok (.iconst 1, 1) := dk_4 (dk_at dksX6_isNumber_0 19 rfl rfl)
theorem dX6_isNumber_20 : decode cX6_isNumber 20 = .ok (.goto 4, 3) := dk_167 0 4 (dk_at dksX6_isNumber_0 20 rfl rfl)
theorem dX6_isNumber_23 : decode cX6_isNumber 23 = .ok (.iconst 0, 1) := dk_3 (dk_at dksX6_isNumber_0 23 rfl rfl)
theorem dX6_isNumber_24 : decode cX6_isNumber 24 = .ok (.ireturn, 1) := dk_172 (dk_at dksX6_isNumber_1 0 rfl rfl)
abbrev cX6_isChange : ByteArray := prog_26_method_35_code
def yX6_isChange : MethodName := ⟨RX6, "isChange", "(II)Z"⟩
def dkwX6_isChange_1 : List UInt8 := [153, 0, 7, 4, 167, 0, 4, 3, 172]
abbrev dktX6_isChange_1 : List UInt8 := dkwX6_isChange_1 ++ []
def dkwX6_isChange_0 : List UInt8 := [42, 27, 182, 0, 123, 153, 0, 26, 28, 16, 9, 159, 0, 16, 28, 27, 164, 0, 15, 42, 28, 182, 0, 123]
abbrev dktX6_isChange_0 : List UInt8 := dkwX6_isChange_0 ++ dktX6_isChange_1
theorem dksX6_isChange_0 : cX6_isChange.data.toList.drop 0 = dktX6_isChange_0 := by decide +kernel
theorem dksX6_isChange_1 : cX6_isChange.data.toList.drop 24 = dktX6_isChange_1 := dk_seg dksX6_isChange_0 24 rfl rfl
theorem dX6_isChange_0 : decode cX6_isChange 0 = .ok (.aload_n 0, 1) := dk_42 (dk_at dksX6_isChange_0 0 rfl rfl)
theorem dX6_isChange_1 : decode cX6_isChange 1 = .ok (.iload_n 1, 1) := dk_27 (dk_at dksX6_isChange_0 1 rfl rfl)
theorem dX6_isChange_2 : decode cX6_isChange 2 = .ok (.invokevirtual 123, 3) := dk_182 0 123 (dk_at dksX6_isChange_0 2 rfl rfl)
theorem dX6_isChange_5 : decode cX6_isChange 5 = .ok (.ifCond .eq 26, 3) := dk_153 0 26 (dk_at dksX6_isChange_0 5 rfl rfl)
theorem dX6_isChange_8 : decode cX6_isChange 8 = .ok (.iload_n 2, 1) := dk_28 (dk_at dksX6_isChange_0 8 rfl rfl)
theorem dX6_isChange_9 : decode cX6_isChange 9 = .ok (.bipush 9, 2) := dk_16 9 (dk_at dksX6_isChange_0 9 rfl rfl)
theorem dX6_isChange_11 : decode cX6_isChange 11 = .ok (.if_icmp .eq 16, 3) := dk_159 0 16 (dk_at dksX6_isChange_0 11 rfl rfl)
theorem dX6_isChange_14 : decode cX6_isChange 14 = .ok (.iload_n 2, 1) := dk_28 (dk_at dksX6_isChange_0 14 rfl rfl)
theorem dX6_isChange_15 : decode cX6_isChange 15 = .ok (.iload_n 1, 1) := dk_27 (dk_at dksX6_isChange_0 15 rfl rfl)
theorem dX6_isChange_16 : decode cX6_isChange 16 = .ok (.if_icmp .le 15, 3) := dk_164 0 15 (dk_at dksX6_isChange_0 16 rfl rfl)
theorem dX6_isChange_19 : decode cX6_isChange 19 = .ok (.aload_n 0, 1) := dk_42 (dk_at dksX6_isChange_0 19 rfl rfl)
theorem dX6_isChange_20 : decode cX6_isChange 20 = .ok (.iload_n 2, 1) := dk_28 (dk_at dksX6_isChange_0 20 rfl rfl)
theorem dX6_isChange_21 : decode cX6_isChange 21 = .ok (.invokevirtual 123, 3) := dk_182 0 123 (dk_at dksX6_isChange_0 21 rfl rfl)
theorem dX6_isChange_24 : decode cX6_isChange 24 = .ok (.ifCond .eq 7, 3) := dk_153 0 7 (dk_at dksX6_isChange_1 0 rfl rfl)
theorem dX6_isChange_27 : decode cX6_isChange 27 = .ok (.iconst 1, 1) := dk_4 (dk_at dksX6_isChange_1 3 rfl rfl)
theorem dX6_isChange_28 : decode cX6_isChange 28 = .ok (.goto 4, 3) := dk_167 0 4 (dk_at dksX6_isChange_1 4 rfl rfl)
theorem dX6_isChange_31 : decode cX6_isChange 31 = .ok (.iconst 0, 1) := dk_3 (dk_at dksX6_isChange_1 7 rfl rfl)
theorem dX6_isChange_32 : decode cX6_isChange 32 = .ok (.ireturn, 1) := dk_172 (dk_at dksX6_isChange_1 8 rfl rfl)
abbrev cX6_canBe : ByteArray := prog_26_method_38_code
def yX6_canBe : MethodName := ⟨RX6, "canBe", "(I)Z"⟩
def dkwX6_canBe_5 : List UInt8 := [182, 0, 93, 42, 28, 5, 182, 0, 93, 160, 0, 7, 4, 167, 0, 4, 3, 172]
abbrev dktX6_canBe_5 : List UInt8 := dkwX6_canBe_5 ++ []
def dkwX6_canBe_4 : List UInt8 := [182, 0, 134, 153, 0, 37, 42, 28, 4, 182, 0, 93, 42, 29, 5, 182, 0, 93, 159, 0, 18, 42, 29, 4]
abbrev dktX6_canBe_4 : List UInt8 := dkwX6_canBe_4 ++ dktX6_canBe_5
def dkwX6_canBe_3 : List UInt8 := [182, 0, 128, 161, 0, 7, 4, 167, 0, 4, 3, 172, 42, 29, 182, 0, 156, 153, 0, 46, 42, 28, 29]
abbrev dktX6_canBe_3 : List UInt8 := dkwX6_canBe_3 ++ dktX6_canBe_4
def dkwX6_canBe_2 : List UInt8 := [16, 14, 42, 28, 4, 182, 0, 93, 96, 46, 16, 99, 162, 0, 21, 42, 28, 6, 182, 0, 93, 42, 28]
abbrev dktX6_canBe_2 : List UInt8 := dkwX6_canBe_2 ++ dktX6_canBe_3
def dkwX6_canBe_1 : List UInt8 := [160, 0, 59, 42, 180, 0, 7, 16, 14, 42, 28, 5, 182, 0, 93, 96, 46, 158, 0, 40, 42, 180, 0, 7]
abbrev dktX6_canBe_1 : List UInt8 := dkwX6_canBe_1 ++ dktX6_canBe_2
def dkwX6_canBe_0 : List UInt8 := [27, 16, 10, 108, 61, 27, 16, 10, 112, 62, 42, 28, 182, 0, 156, 154, 0, 5, 3, 172, 29, 16, 9]
abbrev dktX6_canBe_0 : List UInt8 := dkwX6_canBe_0 ++ dktX6_canBe_1
theorem dksX6_canBe_0 : cX6_canBe.data.toList.drop 0 = dktX6_canBe_0 := by decide +kernel
theorem dksX6_canBe_1 : cX6_canBe.data.toList.drop 23 = dktX6_canBe_1 := dk_seg dksX6_canBe_0 23 rfl rfl
theorem dksX6_canBe_2 : cX6_canBe.data.toList.drop 47 = dktX6_canBe_2 := dk_seg dksX6_canBe_1 24 rfl rfl
theorem dksX6_canBe_3 : cX6_canBe.data.toList.drop 70 = dktX6_canBe_3 := dk_seg dksX6_canBe_2 23 rfl rfl
theorem dksX6_canBe_4 : cX6_canBe.data.toList.drop 93 = dktX6_canBe_4 := dk_seg dksX6_canBe_3 23 rfl rfl
theorem dksX6_canBe_5 : cX6_canBe.data.toList.drop 117 = dktX6_canBe_5 := dk_seg dksX6_canBe_4 24 rfl rfl
theorem dX6_canBe_0 : decode cX6_canBe 0 = .ok (.iload_n 1, 1) := dk_27 (dk_at dksX6_canBe_0 0 rfl rfl)
theorem dX6_canBe_1 : decode cX6_canBe 1 = .ok (.bipush 10, 2) := dk_16 10 (dk_at dksX6_canBe_0 1 rfl rfl)
theorem dX6_canBe_3 : decode cX6_canBe 3 = .ok (.idiv, 1) := dk_108 (dk_at dksX6_canBe_0 3 rfl rfl)
theorem dX6_canBe_4 : decode cX6_canBe 4 = .ok (.istore_n 2, 1) := dk_61 (dk_at dksX6_canBe_0 4 rfl rfl)
theorem dX6_canBe_5 : decode cX6_canBe 5 = .ok (.iload_n 1, 1) := dk_27 (dk_at dksX6_canBe_0 5 rfl rfl)
theorem dX6_canBe_6 : decode cX6_canBe 6 = .ok (.bipush 10, 2) := dk_16 10 (dk_at dksX6_canBe_0 6 rfl rfl)
theorem dX6_canBe_8 : decode cX6_canBe 8 = .ok (.irem, 1) := dk_112 (dk_at dksX6_canBe_0 8 rfl rfl)
theorem dX6_canBe_9 : decode cX6_canBe 9 = .ok (.istore_n 3, 1) := dk_62 (dk_at dksX6_canBe_0 9 rfl rfl)
theorem dX6_canBe_10 : decode cX6_canBe 10 = .ok (.aload_n 0, 1) := dk_42 (dk_at dksX6_canBe_0 10 rfl rfl)
theorem dX6_canBe_11 : decode cX6_canBe 11 = .ok (.iload_n 2, 1) := dk_28 (dk_at dksX6_canBe_0 11 rfl rfl)
theorem dX6_canBe_12 : decode cX6_canBe 12 = .ok (.invokevirtual 156, 3) := dk_182 0 156 (dk_at dksX6_canBe_0 12 rfl rfl)
theorem dX6_canBe_15 : decode cX6_canBe 15 = .ok (.ifCond .ne 5, 3) := dk_154 0 5 (dk_at dksX6_canBe_0 15 rfl rfl)
theorem dX6_canBe_18 : decode cX6_canBe 18 = .ok (.iconst 0, 1) := dk_3 (dk_at dksX6_canBe_0 18 rfl rfl)
theorem dX6_canBe_19 : decode cX6_canBe 19 = .ok (.ireturn, 1) := dk_172 (dk_at dksX6_canBe_0 19 rfl rfl)
theorem dX6_canBe_20 : decode cX6_canBe 20 = .ok (.iload_n 3, 1) := dk_29 (dk_at dksX6_canBe_0 20 rfl rfl)
theorem dX6_canBe_21 : decode cX6_canBe 21 = .ok (.bipush 9, 2) := dk_16 9 (dk_at dksX6_canBe_0 21 rfl rfl)
theorem dX6_canBe_23 : decode cX6_canBe 23 = .ok (.if_icmp .ne 59, 3) := dk_160 0 59 (dk_at dksX6_canBe_1 0 rfl rfl)
theorem dX6_canBe_26 : decode cX6_canBe 26 = .ok (.aload_n 0, 1) := dk_42 (dk_at dksX6_canBe_1 3 rfl rfl)
theorem dX6_canBe_27 : decode cX6_canBe 27 = .ok (.getfield 7, 3) := dk_180 0 7 (dk_at dksX6_canBe_1 4 rfl rfl)
theorem dX6_canBe_30 : decode cX6_canBe 30 = .ok (.bipush 14, 2) := dk_16 14 (dk_at dksX6_canBe_1 7 rfl rfl)
theorem dX6_canBe_32 : decode cX6_canBe 32 = .ok (.aload_n 0, 1) := dk_42 (dk_at dksX6_canBe_1 9 rfl rfl)
theorem dX6_canBe_33 : decode cX6_canBe 33 = .ok (.iload_n 2, 1) := dk_28 (dk_at dksX6_canBe_1 10 rfl rfl)
theorem dX6_canBe_34 : decode cX6_canBe 34 = .ok (.iconst 2, 1) := dk_5 (dk_at dksX6_canBe_1 11 rfl rfl)
theorem dX6_canBe_35 : decode cX6_canBe 35 = .ok (.invokevirtual 93, 3) := dk_182 0 93 (dk_at dksX6_canBe_1 12 rfl rfl)
theorem dX6_canBe_38 : decode cX6_canBe 38 = .ok (.iadd, 1) := dk_96 (dk_at dksX6_canBe_1 15 rfl rfl)
theorem dX6_canBe_39 : decode cX6_canBe 39 = .ok (.iaload, 1) := dk_46 (dk_at dksX6_canBe_1 16 rfl rfl)
theorem dX6_canBe_40 : decode cX6_canBe 40 = .ok (.ifCond .le 40, 3) := dk_158 0 40 (dk_at dksX6_canBe_1 17 rfl rfl)
theorem dX6_canBe_43 : decode cX6_canBe 43 = .ok (.aload_n 0, 1) := dk_42 (dk_at dksX6_canBe_1 20 rfl rfl)
theorem dX6_canBe_44 : decode cX6_canBe 44 = .ok (.getfield 7, 3) := dk_180 0 7 (dk_at dksX6_canBe_1 21 rfl rfl)
theorem dX6_canBe_47 : decode cX6_canBe 47 = .ok (.bipush 14, 2) := dk_16 14 (dk_at dksX6_canBe_2 0 rfl rfl)
theorem dX6_canBe_49 : decode cX6_canBe 49 = .ok (.aload_n 0, 1) := dk_42 (dk_at dksX6_canBe_2 2 rfl rfl)
theorem dX6_canBe_50 : decode cX6_canBe 50 = .ok (.iload_n 2, 1) := dk_28 (dk_at dksX6_canBe_2 3 rfl rfl)
theorem dX6_canBe_51 : decode cX6_canBe 51 = .ok (.iconst 1, 1) := dk_4 (dk_at dksX6_canBe_2 4 rfl rfl)
theorem dX6_canBe_52 : decode cX6_canBe 52 = .ok (.invokevirtual 93, 3) := dk_182 0 93 (dk_at dksX6_canBe_2 5 rfl rfl)
theorem dX6_canBe_55 : decode cX6_canBe 55 = .ok (.iadd, 1) := dk_96 (dk_at dksX6_canBe_2 8 rfl rfl)
theorem dX6_canBe_56 : decode cX6_canBe 56 = .ok (.iaload, 1) := dk_46 (dk_at dksX6_canBe_2 9 rfl rfl)
theorem dX6_canBe_57 : decode cX6_canBe 57 = .ok (.bipush 99, 2) := dk_16 99 (dk_at dksX6_canBe_2 10 rfl rfl)
theorem dX6_canBe_59 : decode cX6_canBe 59 = .ok (.if_icmp .ge 21, 3) := dk_162 0 21 (dk_at dksX6_canBe_2 12 rfl rfl)
theorem dX6_canBe_62 : decode cX6_canBe 62 = .ok (.aload_n 0, 1) := dk_42 (dk_at dksX6_canBe_2 15 rfl rfl)
theorem dX6_canBe_63 : decode cX6_canBe 63 = .ok (.iload_n 2, 1) := dk_28 (dk_at dksX6_canBe_2 16 rfl rfl)
theorem dX6_canBe_64 : decode cX6_canBe 64 = .ok (.iconst 3, 1) := dk_6 (dk_at dksX6_canBe_2 17 rfl rfl)
theorem dX6_canBe_65 : decode cX6_canBe 65 = .ok (.invokevirtual 93, 3) := dk_182 0 93 (dk_at dksX6_canBe_2 18 rfl rfl)
theorem dX6_canBe_68 : decode cX6_canBe 68 = .ok (.aload_n 0, 1) := dk_42 (dk_at dksX6_canBe_2 21 rfl rfl)
theorem dX6_canBe_69 : decode cX6_canBe 69 = .ok (.iload_n 2, 1) := dk_28 (dk_at dksX6_canBe_2 22 rfl rfl)
theorem dX6_canBe_70 : decode cX6_canBe 70 = .ok (.invokevirtual 128, 3) := dk_182 0 128 (dk_at dksX6_canBe_3 0 rfl rfl)
theorem dX6_canBe_73 : decode cX6_canBe 73 = .ok (.if_icmp .lt 7, 3) := dk_161 0 7 (dk_at dksX6_canBe_3 3 rfl rfl)
theorem dX6_canBe_76 : decode cX6_canBe 76 = .ok (.iconst 1, 1) := dk_4 (dk_at dksX6_canBe_3 6 rfl rfl)
theorem dX6_canBe_77 : decode cX6_canBe 77 = .ok (.goto 4, 3) := dk_167 0 4 (dk_at dksX6_canBe_3 7 rfl rfl)
theorem dX6_canBe_80 : decode cX6_canBe 80 = .ok (.iconst 0, 1) := dk_3 (dk_at dksX6_canBe_3 10 rfl rfl)
theorem dX6_canBe_81 : decode cX6_canBe 81 = .ok (.ireturn, 1) := dk_172 (dk_at dksX6_canBe_3 11 rfl rfl)
theorem dX6_canBe_82 : decode cX6_canBe 82 = .ok (.aload_n 0, 1) := dk_42 (dk_at dksX6_canBe_3 12 rfl rfl)
theorem dX6_canBe_83 : decode cX6_canBe 83 = .ok (.iload_n 3, 1) := dk_29 (dk_at dksX6_canBe_3 13 rfl rfl)
theorem dX6_canBe_84 : decode cX6_canBe 84 = .ok (.invokevirtual 156, 3) := dk_182 0 156 (dk_at dksX6_canBe_3 14 rfl rfl)
theorem dX6_canBe_87 : decode cX6_canBe 87 = .ok (.ifCond .eq 46, 3) := dk_153 0 46 (dk_at dksX6_canBe_3 17 rfl rfl)
theorem dX6_canBe_90 : decode cX6_canBe 90 = .ok (.aload_n 0, 1) := dk_42 (dk_at dksX6_canBe_3 20 rfl rfl)
theorem dX6_canBe_91 : decode cX6_canBe 91 = .ok (.iload_n 2, 1) := dk_28 (dk_at dksX6_canBe_3 21 rfl rfl)
theorem dX6_canBe_92 : decode cX6_canBe 92 = .ok (.iload_n 3, 1) := dk_29 (dk_at dksX6_canBe_3 22 rfl rfl)
theorem dX6_canBe_93 : decode cX6_canBe 93 = .ok (.invokevirtual 134, 3) := dk_182 0 134 (dk_at dksX6_canBe_4 0 rfl rfl)
theorem dX6_canBe_96 : decode cX6_canBe 96 = .ok (.ifCond .eq 37, 3) := dk_153 0 37 (dk_at dksX6_canBe_4 3 rfl rfl)
theorem dX6_canBe_99 : decode cX6_canBe 99 = .ok (.aload_n 0, 1) := dk_42 (dk_at dksX6_canBe_4 6 rfl rfl)
theorem dX6_canBe_100 : decode cX6_canBe 100 = .ok (.iload_n 2, 1) := dk_28 (dk_at dksX6_canBe_4 7 rfl rfl)
theorem dX6_canBe_101 : decode cX6_canBe 101 = .ok (.iconst 1, 1) := dk_4 (dk_at dksX6_canBe_4 8 rfl rfl)
theorem dX6_canBe_102 : decode cX6_canBe 102 = .ok (.invokevirtual 93, 3) := dk_182 0 93 (dk_at dksX6_canBe_4 9 rfl rfl)
theorem dX6_canBe_105 : decode cX6_canBe 105 = .ok (.aload_n 0, 1) := dk_42 (dk_at dksX6_canBe_4 12 rfl rfl)
theorem dX6_canBe_106 : decode cX6_canBe 106 = .ok (.iload_n 3, 1) := dk_29 (dk_at dksX6_canBe_4 13 rfl rfl)
theorem dX6_canBe_107 : decode cX6_canBe 107 = .ok (.iconst 2, 1) := dk_5 (dk_at dksX6_canBe_4 14 rfl rfl)
theorem dX6_canBe_108 : decode cX6_canBe 108 = .ok (.invokevirtual 93, 3) := dk_182 0 93 (dk_at dksX6_canBe_4 15 rfl rfl)
theorem dX6_canBe_111 : decode cX6_canBe 111 = .ok (.if_icmp .eq 18, 3) := dk_159 0 18 (dk_at dksX6_canBe_4 18 rfl rfl)
theorem dX6_canBe_114 : decode cX6_canBe 114 = .ok (.aload_n 0, 1) := dk_42 (dk_at dksX6_canBe_4 21 rfl rfl)
theorem dX6_canBe_115 : decode cX6_canBe 115 = .ok (.iload_n 3, 1) := dk_29 (dk_at dksX6_canBe_4 22 rfl rfl)
theorem dX6_canBe_116 : decode cX6_canBe 116 = .ok (.iconst 1, 1) := dk_4 (dk_at dksX6_canBe_4 23 rfl rfl)
theorem dX6_canBe_117 : decode cX6_canBe 117 = .ok (.invokevirtual 93, 3) := dk_182 0 93 (dk_at dksX6_canBe_5 0 rfl rfl)
theorem dX6_canBe_120 : decode cX6_canBe 120 = .ok (.aload_n 0, 1) := dk_42 (dk_at dksX6_canBe_5 3 rfl rfl)
theorem dX6_canBe_121 : decode cX6_canBe 121 = .ok (.iload_n 2, 1) := dk_28 (dk_at dksX6_canBe_5 4 rfl rfl)
theorem dX6_canBe_122 : decode cX6_canBe 122 = .ok (.iconst 2, 1) := dk_5 (dk_at dksX6_canBe_5 5 rfl rfl)
theorem dX6_canBe_123 : decode cX6_canBe 123 = .ok (.invokevirtual 93, 3) := dk_182 0 93 (dk_at dksX6_canBe_5 6 rfl rfl)
theorem dX6_canBe_126 : decode cX6_canBe 126 = .ok (.if_icmp .ne 7, 3) := dk_160 0 7 (dk_at dksX6_canBe_5 9 rfl rfl)
theorem dX6_canBe_129 : decode cX6_canBe 129 = .ok (.iconst 1, 1) := dk_4 (dk_at dksX6_canBe_5 12 rfl rfl)
theorem dX6_canBe_130 : decode cX6_canBe 130 = .ok (.goto 4, 3) := dk_167 0 4 (dk_at dksX6_canBe_5 13 rfl rfl)
theorem dX6_canBe_133 : decode cX6_canBe 133 = .ok (.iconst 0, 1) := dk_3 (dk_at dksX6_canBe_5 16 rfl rfl)
theorem dX6_canBe_134 : decode cX6_canBe 134 = .ok (.ireturn, 1) := dk_172 (dk_at dksX6_canBe_5 17 rfl rfl)
abbrev cX6_isThere : ByteArray := prog_26_method_37_code
def yX6_isThere : MethodName := ⟨RX6, "isThere", "(I)Z"⟩
def dkwX6_isThere_0 : List UInt8 := [27, 42, 180, 0, 19, 159, 0, 15, 42, 27, 182, 0, 96, 154, 0, 7, 4, 167, 0, 4, 3, 172]
abbrev dktX6_isThere_0 : List UInt8 := dkwX6_isThere_0 ++ []
theorem dksX6_isThere_0 : cX6_isThere.data.toList.drop 0 = dktX6_isThere_0 := by decide +kernel
theorem dX6_isThere_0 : decode cX6_isThere 0 = .ok (.iload_n 1, 1) := dk_27 (dk_at dksX6_isThere_0 0 rfl rfl)
theorem dX6_isThere_1 : decode cX6_isThere 1 = .ok (.aload_n 0, 1) := dk_42 (dk_at dksX6_isThere_0 1 rfl rfl)
theorem dX6_isThere_2 : decode cX6_isThere 2 = .ok (.getfield 19, 3) := dk_180 0 19 (dk_at dksX6_isThere_0 2 rfl rfl)
theorem dX6_isThere_5 : decode cX6_isThere 5 = .ok (.if_icmp .eq 15, 3) := dk_159 0 15 (dk_at dksX6_isThere_0 5 rfl rfl)
theorem dX6_isThere_8 : decode cX6_isThere 8 = .ok (.aload_n 0, 1) := dk_42 (dk_at dksX6_isThere_0 8 rfl rfl)
theorem dX6_isThere_9 : decode cX6_isThere 9 = .ok (.iload_n 1, 1) := dk_27 (dk_at dksX6_isThere_0 9 rfl rfl)
theorem dX6_isThere_10 : decode cX6_isThere 10 = .ok (.invokevirtual 96, 3) := dk_182 0 96 (dk_at dksX6_isThere_0 10 rfl rfl)
theorem dX6_isThere_13 : decode cX6_isThere 13 = .ok (.ifCond .ne 7, 3) := dk_154 0 7 (dk_at dksX6_isThere_0 13 rfl rfl)
theorem dX6_isThere_16 : decode cX6_isThere 16 = .ok (.iconst 1, 1) := dk_4 (dk_at dksX6_isThere_0 16 rfl rfl)
theorem dX6_isThere_17 : decode cX6_isThere 17 = .ok (.goto 4, 3) := dk_167 0 4 (dk_at dksX6_isThere_0 17 rfl rfl)
theorem dX6_isThere_20 : decode cX6_isThere 20 = .ok (.iconst 0, 1) := dk_3 (dk_at dksX6_isThere_0 20 rfl rfl)
theorem dX6_isThere_21 : decode cX6_isThere 21 = .ok (.ireturn, 1) := dk_172 (dk_at dksX6_isThere_0 21 rfl rfl)
abbrev cX6_make : ByteArray := prog_26_method_45_code
def yX6_make : MethodName := ⟨RX6, "make", "(II)I"⟩
def dkwX6_make_1 : List UInt8 := [16, 252, 172, 42, 16, 10, 27, 104, 28, 96, 182, 0, 182, 42, 180, 0, 168, 172]
abbrev dktX6_make_1 : List UInt8 := dkwX6_make_1 ++ []
def dkwX6_make_0 : List UInt8 := [42, 27, 28, 182, 0, 153, 154, 0, 5, 2, 172, 42, 16, 10, 27, 104, 28, 96, 182, 0, 162, 154, 0, 6]
abbrev dktX6_make_0 : List UInt8 := dkwX6_make_0 ++ dktX6_make_1
theorem dksX6_make_0 : cX6_make.data.toList.drop 0 = dktX6_make_0 := by decide +kernel
theorem dksX6_make_1 : cX6_make.data.toList.drop 24 = dktX6_make_1 := dk_seg dksX6_make_0 24 rfl rfl
theorem dX6_make_0 : decode cX6_make 0 = .ok (.aload_n 0, 1) := dk_42 (dk_at dksX6_make_0 0 rfl rfl)
theorem dX6_make_1 : decode cX6_make 1 = .ok (.iload_n 1, 1) := dk_27 (dk_at dksX6_make_0 1 rfl rfl)
theorem dX6_make_2 : decode cX6_make 2 = .ok (.iload_n 2, 1) := dk_28 (dk_at dksX6_make_0 2 rfl rfl)
theorem dX6_make_3 : decode cX6_make 3 = .ok (.invokevirtual 153, 3) := dk_182 0 153 (dk_at dksX6_make_0 3 rfl rfl)
theorem dX6_make_6 : decode cX6_make 6 = .ok (.ifCond .ne 5, 3) := dk_154 0 5 (dk_at dksX6_make_0 6 rfl rfl)
theorem dX6_make_9 : decode cX6_make 9 = .ok (.iconst (-1), 1) := dk_2 (dk_at dksX6_make_0 9 rfl rfl)
theorem dX6_make_10 : decode cX6_make 10 = .ok (.ireturn, 1) := dk_172 (dk_at dksX6_make_0 10 rfl rfl)
theorem dX6_make_11 : decode cX6_make 11 = .ok (.aload_n 0, 1) := dk_42 (dk_at dksX6_make_0 11 rfl rfl)
theorem dX6_make_12 : decode cX6_make 12 = .ok (.bipush 10, 2) := dk_16 10 (dk_at dksX6_make_0 12 rfl rfl)
theorem dX6_make_14 : decode cX6_make 14 = .ok (.iload_n 1, 1) := dk_27 (dk_at dksX6_make_0 14 rfl rfl)
theorem dX6_make_15 : decode cX6_make 15 = .ok (.imul, 1) := dk_104 (dk_at dksX6_make_0 15 rfl rfl)
theorem dX6_make_16 : decode cX6_make 16 = .ok (.iload_n 2, 1) := dk_28 (dk_at dksX6_make_0 16 rfl rfl)
theorem dX6_make_17 : decode cX6_make 17 = .ok (.iadd, 1) := dk_96 (dk_at dksX6_make_0 17 rfl rfl)
theorem dX6_make_18 : decode cX6_make 18 = .ok (.invokevirtual 162, 3) := dk_182 0 162 (dk_at dksX6_make_0 18 rfl rfl)
theorem dX6_make_21 : decode cX6_make 21 = .ok (.ifCond .ne 6, 3) := dk_154 0 6 (dk_at dksX6_make_0 21 rfl rfl)
theorem dX6_make_24 : decode cX6_make 24 = .ok (.bipush (-4), 2) := dk_16 252 (dk_at dksX6_make_1 0 rfl rfl)
theorem dX6_make_26 : decode cX6_make 26 = .ok (.ireturn, 1) := dk_172 (dk_at dksX6_make_1 2 rfl rfl)
theorem dX6_make_27 : decode cX6_make 27 = .ok (.aload_n 0, 1) := dk_42 (dk_at dksX6_make_1 3 rfl rfl)
theorem dX6_make_28 : decode cX6_make 28 = .ok (.bipush 10, 2) := dk_16 10 (dk_at dksX6_make_1 4 rfl rfl)
theorem dX6_make_30 : decode cX6_make 30 = .ok (.iload_n 1, 1) := dk_27 (dk_at dksX6_make_1 6 rfl rfl)
theorem dX6_make_31 : decode cX6_make 31 = .ok (.imul, 1) := dk_104 (dk_at dksX6_make_1 7 rfl rfl)
theorem dX6_make_32 : decode cX6_make 32 = .ok (.iload_n 2, 1) := dk_28 (dk_at dksX6_make_1 8 rfl rfl)
theorem dX6_make_33 : decode cX6_make 33 = .ok (.iadd, 1) := dk_96 (dk_at dksX6_make_1 9 rfl rfl)
theorem dX6_make_34 : decode cX6_make 34 = .ok (.invokevirtual 182, 3) := dk_182 0 182 (dk_at dksX6_make_1 10 rfl rfl)
theorem dX6_make_37 : decode cX6_make 37 = .ok (.aload_n 0, 1) := dk_42 (dk_at dksX6_make_1 13 rfl rfl)
theorem dX6_make_38 : decode cX6_make 38 = .ok (.getfield 168, 3) := dk_180 0 168 (dk_at dksX6_make_1 14 rfl rfl)
theorem dX6_make_41 : decode cX6_make 41 = .ok (.ireturn, 1) := dk_172 (dk_at dksX6_make_1 17 rfl rfl)
abbrev cX6_makes : ByteArray := prog_26_method_43_code
def yX6_makes : MethodName := ⟨RX6, "makes", "(I)V"⟩
def dkwX6_makes_5 : List UInt8 := [42, 29, 4, 182, 0, 93, 79, 42, 180, 0, 7, 7, 92, 46, 4, 96, 79, 177]
abbrev dktX6_makes_5 : List UInt8 := dkwX6_makes_5 ++ []
def dkwX6_makes_4 : List UInt8 := [182, 0, 93, 79, 42, 180, 0, 7, 28, 5, 96, 29, 16, 9, 160, 0, 10, 42, 180, 0, 165, 167, 0, 9]
abbrev dktX6_makes_4 : List UInt8 := dkwX6_makes_4 ++ dktX6_makes_5
def dkwX6_makes_3 : List UInt8 := [112, 62, 42, 180, 0, 7, 28, 27, 79, 42, 180, 0, 7, 28, 4, 96, 42, 27, 16, 10, 108, 4]
abbrev dktX6_makes_3 : List UInt8 := dkwX6_makes_3 ++ dktX6_makes_4
def dkwX6_makes_2 : List UInt8 := [180, 0, 7, 7, 92, 46, 4, 100, 79, 16, 70, 6, 42, 180, 0, 7, 7, 46, 104, 96, 61, 27, 16, 10]
abbrev dktX6_makes_2 : List UInt8 := dkwX6_makes_2 ++ dktX6_makes_3
def dkwX6_makes_1 : List UInt8 := [162, 0, 23, 42, 180, 0, 7, 28, 42, 180, 0, 7, 28, 6, 96, 46, 79, 132, 2, 1, 167, 255, 233, 42]
abbrev dktX6_makes_1 : List UInt8 := dkwX6_makes_1 ++ dktX6_makes_2
def dkwX6_makes_0 : List UInt8 := [42, 27, 182, 0, 175, 42, 180, 0, 7, 7, 46, 16, 12, 160, 0, 42, 16, 70, 61, 28, 16, 103]
abbrev dktX6_makes_0 : List UInt8 := dkwX6_makes_0 ++ dktX6_makes_1
theorem dksX6_makes_0 : cX6_makes.data.toList.drop 0 = dktX6_makes_0 := by decide +kernel
theorem dksX6_makes_1 : cX6_makes.data.toList.drop 22 = dktX6_makes_1 := dk_seg dksX6_makes_0 22 rfl rfl
theorem dksX6_makes_2 : cX6_makes.data.toList.drop 46 = dktX6_makes_2 := dk_seg dksX6_makes_1 24 rfl rfl
theorem dksX6_makes_3 : cX6_makes.data.toList.drop 70 = dktX6_makes_3 := dk_seg dksX6_makes_2 24 rfl rfl
theorem dksX6_makes_4 : cX6_makes.data.toList.drop 92 = dktX6_makes_4 := dk_seg dksX6_makes_3 22 rfl rfl
theorem dksX6_makes_5 : cX6_makes.data.toList.drop 116 = dktX6_makes_5 := dk_seg dksX6_makes_4 24 rfl rfl
theorem dX6_makes_0 : decode cX6_makes 0 = .ok (.aload_n 0, 1) := dk_42 (dk_at dksX6_makes_0 0 rfl rfl)
theorem dX6_makes_1 : decode cX6_makes 1 = .ok (.iload_n 1, 1) := dk_27 (dk_at dksX6_makes_0 1 rfl rfl)
theorem dX6_makes_2 : decode cX6_makes 2 = .ok (.invokevirtual 175, 3) := dk_182 0 175 (dk_at dksX6_makes_0 2 rfl rfl)
theorem dX6_makes_5 : decode cX6_makes 5 = .ok (.aload_n 0, 1) := dk_42 (dk_at dksX6_makes_0 5 rfl rfl)
theorem dX6_makes_6 : decode cX6_makes 6 = .ok (.getfield 7, 3) := dk_180 0 7 (dk_at dksX6_makes_0 6 rfl rfl)
theorem dX6_makes_9 : decode cX6_makes 9 = .ok (.iconst 4, 1) := dk_7 (dk_at dksX6_makes_0 9 rfl rfl)
theorem dX6_makes_10 : decode cX6_makes 10 = .ok (.iaload, 1) := dk_46 (dk_at dksX6_makes_0 10 rfl rfl)
theorem dX6_makes_11 : decode cX6_makes 11 = .ok (.bipush 12, 2) := dk_16 12 (dk_at dksX6_makes_0 11 rfl rfl)
theorem dX6_makes_13 : decode cX6_makes 13 = .ok (.if_icmp .ne 42, 3) := dk_160 0 42 (dk_at dksX6_makes_0 13 rfl rfl)
theorem dX6_makes_16 : decode cX6_makes 16 = .ok (.bipush 70, 2) := dk_16 70 (dk_at dksX6_makes_0 16 rfl rfl)
theorem dX6_makes_18 : decode cX6_makes 18 = .ok (.istore_n 2, 1) := dk_61 (dk_at dksX6_makes_0 18 rfl rfl)
theorem dX6_makes_19 : decode cX6_makes 19 = .ok (.iload_n 2, 1) := dk_28 (dk_at dksX6_makes_0 19 rfl rfl)
theorem dX6_makes_20 : decode cX6_makes 20 = .ok (.bipush 103, 2) := dk_16 103 (dk_at dksX6_makes_0 20 rfl rfl)
theorem dX6_makes_22 : decode cX6_makes 22 = .ok (.if_icmp .ge 23, 3) := dk_162 0 23 (dk_at dksX6_makes_1 0 rfl rfl)
theorem dX6_makes_25 : decode cX6_makes 25 = .ok (.aload_n 0, 1) := dk_42 (dk_at dksX6_makes_1 3 rfl rfl)
theorem dX6_makes_26 : decode cX6_makes 26 = .ok (.getfield 7, 3) := dk_180 0 7 (dk_at dksX6_makes_1 4 rfl rfl)
theorem dX6_makes_29 : decode cX6_makes 29 = .ok (.iload_n 2, 1) := dk_28 (dk_at dksX6_makes_1 7 rfl rfl)
theorem dX6_makes_30 : decode cX6_makes 30 = .ok (.aload_n 0, 1) := dk_42 (dk_at dksX6_makes_1 8 rfl rfl)
theorem dX6_makes_31 : decode cX6_makes 31 = .ok (.getfield 7, 3) := dk_180 0 7 (dk_at dksX6_makes_1 9 rfl rfl)
theorem dX6_makes_34 : decode cX6_makes 34 = .ok (.iload_n 2, 1) := dk_28 (dk_at dksX6_makes_1 12 rfl rfl)
theorem dX6_makes_35 : decode cX6_makes 35 = .ok (.iconst 3, 1) := dk_6 (dk_at dksX6_makes_1 13 rfl rfl)
theorem dX6_makes_36 : decode cX6_makes 36 = .ok (.iadd, 1) := dk_96 (dk_at dksX6_makes_1 14 rfl rfl)
theorem dX6_makes_37 : decode cX6_makes 37 = .ok (.iaload, 1) := dk_46 (dk_at dksX6_makes_1 15 rfl rfl)
theorem dX6_makes_38 : decode cX6_makes 38 = .ok (.iastore, 1) := dk_79 (dk_at dksX6_makes_1 16 rfl rfl)
theorem dX6_makes_39 : decode cX6_makes 39 = .ok (.iinc 2 1, 3) := dk_132 2 1 (dk_at dksX6_makes_1 17 rfl rfl)
theorem dX6_makes_42 : decode cX6_makes 42 = .ok (.goto (-23), 3) := dk_167 255 233 (dk_at dksX6_makes_1 20 rfl rfl)
theorem dX6_makes_45 : decode cX6_makes 45 = .ok (.aload_n 0, 1) := dk_42 (dk_at dksX6_makes_1 23 rfl rfl)
theorem dX6_makes_46 : decode cX6_makes 46 = .ok (.getfield 7, 3) := dk_180 0 7 (dk_at dksX6_makes_2 0 rfl rfl)
theorem dX6_makes_49 : decode cX6_makes 49 = .ok (.iconst 4, 1) := dk_7 (dk_at dksX6_makes_2 3 rfl rfl)
theorem dX6_makes_50 : decode cX6_makes 50 = .ok (.dup2, 1) := dk_92 (dk_at dksX6_makes_2 4 rfl rfl)
theorem dX6_makes_51 : decode cX6_makes 51 = .ok (.iaload, 1) := dk_46 (dk_at dksX6_makes_2 5 rfl rfl)
theorem dX6_makes_52 : decode cX6_makes 52 = .ok (.iconst 1, 1) := dk_4 (dk_at dksX6_makes_2 6 rfl rfl)
theorem dX6_makes_53 : decode cX6_makes 53 = .ok (.isub, 1) := dk_100 (dk_at dksX6_makes_2 7 rfl rfl)
theorem dX6_makes_54 : decode cX6_makes 54 = .ok (.iastore, 1) := dk_79 (dk_at dksX6_makes_2 8 rfl rfl)
theorem dX6_makes_55 : decode cX6_makes 55 = .ok (.bipush 70, 2) := dk_16 70 (dk_at dksX6_makes_2 9 rfl rfl)
theorem dX6_makes_57 : decode cX6_makes 57 = .ok (.iconst 3, 1) := dk_6 (dk_at dksX6_makes_2 11 rfl rfl)
theorem dX6_makes_58 : decode cX6_makes 58 = .ok (.aload_n 0, 1) := dk_42 (dk_at dksX6_makes_2 12 rfl rfl)
theorem dX6_makes_59 : decode cX6_makes 59 = .ok (.getfield 7, 3) := dk_180 0 7 (dk_at dksX6_makes_2 13 rfl rfl)
theorem dX6_makes_62 : decode cX6_makes 62 = .ok (.iconst 4, 1) := dk_7 (dk_at dksX6_makes_2 16 rfl rfl)
theorem dX6_makes_63 : decode cX6_makes 63 = .ok (.iaload, 1) := dk_46 (dk_at dksX6_makes_2 17 rfl rfl)
theorem dX6_makes_64 : decode cX6_makes 64 = .ok (.imul, 1) := dk_104 (dk_at dksX6_makes_2 18 rfl rfl)
theorem dX6_makes_65 : decode cX6_makes 65 = .ok (.iadd, 1) := dk_96 (dk_at dksX6_makes_2 19 rfl rfl)
theorem dX6_makes_66 : decode cX6_makes 66 = .ok (.istore_n 2, 1) := dk_61 (dk_at dksX6_makes_2 20 rfl rfl)
theorem dX6_makes_67 : decode cX6_makes 67 = .ok (.iload_n 1, 1) := dk_27 (dk_at dksX6_makes_2 21 rfl rfl)
theorem dX6_makes_68 : decode cX6_makes 68 = .ok (.bipush 10, 2) := dk_16 10 (dk_at dksX6_makes_2 22 rfl rfl)
theorem dX6_makes_70 : decode cX6_makes 70 = .ok (.irem, 1) := dk_112 (dk_at dksX6_makes_3 0 rfl rfl)
theorem dX6_makes_71 : decode cX6_makes 71 = .ok (.istore_n 3, 1) := dk_62 (dk_at dksX6_makes_3 1 rfl rfl)
theorem dX6_makes_72 : decode cX6_makes 72 = .ok (.aload_n 0, 1) := dk_42 (dk_at dksX6_makes_3 2 rfl rfl)
theorem dX6_makes_73 : decode cX6_makes 73 = .ok (.getfield 7, 3) := dk_180 0 7 (dk_at dksX6_makes_3 3 rfl rfl)
theorem dX6_makes_76 : decode cX6_makes 76 = .ok (.iload_n 2, 1) := dk_28 (dk_at dksX6_makes_3 6 rfl rfl)
theorem dX6_makes_77 : decode cX6_makes 77 = .ok (.iload_n 1, 1) := dk_27 (dk_at dksX6_makes_3 7 rfl rfl)
theorem dX6_makes_78 : decode cX6_makes 78 = .ok (.iastore, 1) := dk_79 (dk_at dksX6_makes_3 8 rfl rfl)
theorem dX6_makes_79 : decode cX6_makes 79 = .ok (.aload_n 0, 1) := dk_42 (dk_at dksX6_makes_3 9 rfl rfl)
theorem dX6_makes_80 : decode cX6_makes 80 = .ok (.getfield 7, 3) := dk_180 0 7 (dk_at dksX6_makes_3 10 rfl rfl)
theorem dX6_makes_83 : decode cX6_makes 83 = .ok (.iload_n 2, 1) := dk_28 (dk_at dksX6_makes_3 13 rfl rfl)
theorem dX6_makes_84 : decode cX6_makes 84 = .ok (.iconst 1, 1) := dk_4 (dk_at dksX6_makes_3 14 rfl rfl)
theorem dX6_makes_85 : decode cX6_makes 85 = .ok (.iadd, 1) := dk_96 (dk_at dksX6_makes_3 15 rfl rfl)
theorem dX6_makes_86 : decode cX6_makes 86 = .ok (.aload_n 0, 1) := dk_42 (dk_at dksX6_makes_3 16 rfl rfl)
theorem dX6_makes_87 : decode cX6_makes 87 = .ok (.iload_n 1, 1) := dk_27 (dk_at dksX6_makes_3 17 rfl rfl)
theorem dX6_makes_88 : decode cX6_makes 88 = .ok (.bipush 10, 2) := dk_16 10 (dk_at dksX6_makes_3 18 rfl rfl)
theorem dX6_makes_90 : decode cX6_makes 90 = .ok (.idiv, 1) := dk_108 (dk_at dksX6_makes_3 20 rfl rfl)
theorem dX6_makes_91 : decode cX6_makes 91 = .ok (.iconst 1, 1) := dk_4 (dk_at dksX6_makes_3 21 rfl rfl)
theorem dX6_makes_92 : decode cX6_makes 92 = .ok (.invokevirtual 93, 3) := dk_182 0 93 (dk_at dksX6_makes_4 0 rfl rfl)
theorem dX6_makes_95 : decode cX6_makes 95 = .ok (.iastore, 1) := dk_79 (dk_at dksX6_makes_4 3 rfl rfl)
theorem dX6_makes_96 : decode cX6_makes 96 = .ok (.aload_n 0, 1) := dk_42 (dk_at dksX6_makes_4 4 rfl rfl)
theorem dX6_makes_97 : decode cX6_makes 97 = .ok (.getfield 7, 3) := dk_180 0 7 (dk_at dksX6_makes_4 5 rfl rfl)
theorem dX6_makes_100 : decode cX6_makes 100 = .ok (.iload_n 2, 1) := dk_28 (dk_at dksX6_makes_4 8 rfl rfl)
theorem dX6_makes_101 : decode cX6_makes 101 = .ok (.iconst 2, 1) := dk_5 (dk_at dksX6_makes_4 9 rfl rfl)
theorem dX6_makes_102 : decode cX6_makes 102 = .ok (.iadd, 1) := dk_96 (dk_at dksX6_makes_4 10 rfl rfl)
theorem dX6_makes_103 : decode cX6_makes 103 = .ok (.iload_n 3, 1) := dk_29 (dk_at dksX6_makes_4 11 rfl rfl)
theorem dX6_makes_104 : decode cX6_makes 104 = .ok (.bipush 9, 2) := dk_16 9 (dk_at dksX6_makes_4 12 rfl rfl)
theorem dX6_makes_106 : decode cX6_makes 106 = .ok (.if_icmp .ne 10, 3) := dk_160 0 10 (dk_at dksX6_makes_4 14 rfl rfl)
theorem dX6_makes_109 : decode cX6_makes 109 = .ok (.aload_n 0, 1) := dk_42 (dk_at dksX6_makes_4 17 rfl rfl)
theorem dX6_makes_110 : decode cX6_makes 110 = .ok (.getfield 165, 3) := dk_180 0 165 (dk_at dksX6_makes_4 18 rfl rfl)
theorem dX6_makes_113 : decode cX6_makes 113 = .ok (.goto 9, 3) := dk_167 0 9 (dk_at dksX6_makes_4 21 rfl rfl)
theorem dX6_makes_116 : decode cX6_makes 116 = .ok (.aload_n 0, 1) := dk_42 (dk_at dksX6_makes_5 0 rfl rfl)
theorem dX6_makes_117 : decode cX6_makes 117 = .ok (.iload_n 3, 1) := dk_29 (dk_at dksX6_makes_5 1 rfl rfl)
theorem dX6_makes_118 : decode cX6_makes 118 = .ok (.iconst 1, 1) := dk_4 (dk_at dksX6_makes_5 2 rfl rfl)
theorem dX6_makes_119 : decode cX6_makes 119 = .ok (.invokevirtual 93, 3) := dk_182 0 93 (dk_at dksX6_makes_5 3 rfl rfl)
theorem dX6_makes_122 : decode cX6_makes 122 = .ok (.iastore, 1) := dk_79 (dk_at dksX6_makes_5 6 rfl rfl)
theorem dX6_makes_123 : decode cX6_makes 123 = .ok (.aload_n 0, 1) := dk_42 (dk_at dksX6_makes_5 7 rfl rfl)
theorem dX6_makes_124 : decode cX6_makes 124 = .ok (.getfield 7, 3) := dk_180 0 7 (dk_at dksX6_makes_5 8 rfl rfl)
theorem dX6_makes_127 : decode cX6_makes 127 = .ok (.iconst 4, 1) := dk_7 (dk_at dksX6_makes_5 11 rfl rfl)
theorem dX6_makes_128 : decode cX6_makes 128 = .ok (.dup2, 1) := dk_92 (dk_at dksX6_makes_5 12 rfl rfl)
theorem dX6_makes_129 : decode cX6_makes 129 = .ok (.iaload, 1) := dk_46 (dk_at dksX6_makes_5 13 rfl rfl)
theorem dX6_makes_130 : decode cX6_makes 130 = .ok (.iconst 1, 1) := dk_4 (dk_at dksX6_makes_5 14 rfl rfl)
theorem dX6_makes_131 : decode cX6_makes 131 = .ok (.iadd, 1) := dk_96 (dk_at dksX6_makes_5 15 rfl rfl)
theorem dX6_makes_132 : decode cX6_makes 132 = .ok (.iastore, 1) := dk_79 (dk_at dksX6_makes_5 16 rfl rfl)
theorem dX6_makes_133 : decode cX6_makes 133 = .ok (.return_, 1) := dk_177 (dk_at dksX6_makes_5 17 rfl rfl)
abbrev cX6_does : ByteArray := prog_26_method_41_code
def yX6_does : MethodName := ⟨RX6, "does", "(I)V"⟩
def dkwX6_does_4 : List UInt8 := [28, 6, 184, 0, 74, 92, 46, 42, 180, 0, 168, 100, 79, 167, 0, 9, 42, 28, 29, 182, 0, 171, 177]
abbrev dktX6_does_4 : List UInt8 := dkwX6_does_4 ++ []
def dkwX6_does_3 : List UInt8 := [46, 4, 100, 79, 42, 180, 0, 7, 28, 4, 184, 0, 74, 42, 28, 5, 182, 0, 93, 79, 42, 180, 0, 7]
abbrev dktX6_does_3 : List UInt8 := dkwX6_does_3 ++ dktX6_does_4
def dkwX6_does_2 : List UInt8 := [42, 180, 0, 165, 96, 92, 46, 4, 96, 79, 42, 180, 0, 7, 16, 14, 42, 28, 5, 182, 0, 93, 96, 92]
abbrev dktX6_does_2 : List UInt8 := dkwX6_does_2 ++ dktX6_does_3
def dkwX6_does_1 : List UInt8 := [181, 0, 168, 29, 16, 9, 160, 0, 82, 42, 42, 28, 182, 0, 128, 181, 0, 168, 42, 180, 0, 7, 16, 14]
abbrev dktX6_does_1 : List UInt8 := dkwX6_does_1 ++ dktX6_does_2
def dkwX6_does_0 : List UInt8 := [27, 16, 10, 108, 61, 27, 16, 10, 112, 62, 42, 42, 28, 4, 182, 0, 93, 181, 0, 165, 42, 3]
abbrev dktX6_does_0 : List UInt8 := dkwX6_does_0 ++ dktX6_does_1
theorem dksX6_does_0 : cX6_does.data.toList.drop 0 = dktX6_does_0 := by decide +kernel
theorem dksX6_does_1 : cX6_does.data.toList.drop 22 = dktX6_does_1 := dk_seg dksX6_does_0 22 rfl rfl
theorem dksX6_does_2 : cX6_does.data.toList.drop 46 = dktX6_does_2 := dk_seg dksX6_does_1 24 rfl rfl
theorem dksX6_does_3 : cX6_does.data.toList.drop 70 = dktX6_does_3 := dk_seg dksX6_does_2 24 rfl rfl
theorem dksX6_does_4 : cX6_does.data.toList.drop 94 = dktX6_does_4 := dk_seg dksX6_does_3 24 rfl rfl
theorem dX6_does_0 : decode cX6_does 0 = .ok (.iload_n 1, 1) := dk_27 (dk_at dksX6_does_0 0 rfl rfl)
theorem dX6_does_1 : decode cX6_does 1 = .ok (.bipush 10, 2) := dk_16 10 (dk_at dksX6_does_0 1 rfl rfl)
theorem dX6_does_3 : decode cX6_does 3 = .ok (.idiv, 1) := dk_108 (dk_at dksX6_does_0 3 rfl rfl)
theorem dX6_does_4 : decode cX6_does 4 = .ok (.istore_n 2, 1) := dk_61 (dk_at dksX6_does_0 4 rfl rfl)
theorem dX6_does_5 : decode cX6_does 5 = .ok (.iload_n 1, 1) := dk_27 (dk_at dksX6_does_0 5 rfl rfl)
theorem dX6_does_6 : decode cX6_does 6 = .ok (.bipush 10, 2) := dk_16 10 (dk_at dksX6_does_0 6 rfl rfl)
theorem dX6_does_8 : decode cX6_does 8 = .ok (.irem, 1) := dk_112 (dk_at dksX6_does_0 8 rfl rfl)
theorem dX6_does_9 : decode cX6_does 9 = .ok (.istore_n 3, 1) := dk_62 (dk_at dksX6_does_0 9 rfl rfl)
theorem dX6_does_10 : decode cX6_does 10 = .ok (.aload_n 0, 1) := dk_42 (dk_at dksX6_does_0 10 rfl rfl)
theorem dX6_does_11 : decode cX6_does 11 = .ok (.aload_n 0, 1) := dk_42 (dk_at dksX6_does_0 11 rfl rfl)
theorem dX6_does_12 : decode cX6_does 12 = .ok (.iload_n 2, 1) := dk_28 (dk_at dksX6_does_0 12 rfl rfl)
theorem dX6_does_13 : decode cX6_does 13 = .ok (.iconst 1, 1) := dk_4 (dk_at dksX6_does_0 13 rfl rfl)
theorem dX6_does_14 : decode cX6_does 14 = .ok (.invokevirtual 93, 3) := dk_182 0 93 (dk_at dksX6_does_0 14 rfl rfl)
theorem dX6_does_17 : decode cX6_does 17 = .ok (.putfield 165, 3) := dk_181 0 165 (dk_at dksX6_does_0 17 rfl rfl)
theorem dX6_does_20 : decode cX6_does 20 = .ok (.aload_n 0, 1) := dk_42 (dk_at dksX6_does_0 20 rfl rfl)
theorem dX6_does_21 : decode cX6_does 21 = .ok (.iconst 0, 1) := dk_3 (dk_at dksX6_does_0 21 rfl rfl)
theorem dX6_does_22 : decode cX6_does 22 = .ok (.putfield 168, 3) := dk_181 0 168 (dk_at dksX6_does_1 0 rfl rfl)
theorem dX6_does_25 : decode cX6_does 25 = .ok (.iload_n 3, 1) := dk_29 (dk_at dksX6_does_1 3 rfl rfl)
theorem dX6_does_26 : decode cX6_does 26 = .ok (.bipush 9, 2) := dk_16 9 (dk_at dksX6_does_1 4 rfl rfl)
theorem dX6_does_28 : decode cX6_does 28 = .ok (.if_icmp .ne 82, 3) := dk_160 0 82 (dk_at dksX6_does_1 6 rfl rfl)
theorem dX6_does_31 : decode cX6_does 31 = .ok (.aload_n 0, 1) := dk_42 (dk_at dksX6_does_1 9 rfl rfl)
theorem dX6_does_32 : decode cX6_does 32 = .ok (.aload_n 0, 1) := dk_42 (dk_at dksX6_does_1 10 rfl rfl)
theorem dX6_does_33 : decode cX6_does 33 = .ok (.iload_n 2, 1) := dk_28 (dk_at dksX6_does_1 11 rfl rfl)
theorem dX6_does_34 : decode cX6_does 34 = .ok (.invokevirtual 128, 3) := dk_182 0 128 (dk_at dksX6_does_1 12 rfl rfl)
theorem dX6_does_37 : decode cX6_does 37 = .ok (.putfield 168, 3) := dk_181 0 168 (dk_at dksX6_does_1 15 rfl rfl)
theorem dX6_does_40 : decode cX6_does 40 = .ok (.aload_n 0, 1) := dk_42 (dk_at dksX6_does_1 18 rfl rfl)
theorem dX6_does_41 : decode cX6_does 41 = .ok (.getfield 7, 3) := dk_180 0 7 (dk_at dksX6_does_1 19 rfl rfl)
theorem dX6_does_44 : decode cX6_does 44 = .ok (.bipush 14, 2) := dk_16 14 (dk_at dksX6_does_1 22 rfl rfl)
theorem dX6_does_46 : decode cX6_does 46 = .ok (.aload_n 0, 1) := dk_42 (dk_at dksX6_does_2 0 rfl rfl)
theorem dX6_does_47 : decode cX6_does 47 = .ok (.getfield 165, 3) := dk_180 0 165 (dk_at dksX6_does_2 1 rfl rfl)
theorem dX6_does_50 : decode cX6_does 50 = .ok (.iadd, 1) := dk_96 (dk_at dksX6_does_2 4 rfl rfl)
theorem dX6_does_51 : decode cX6_does 51 = .ok (.dup2, 1) := dk_92 (dk_at dksX6_does_2 5 rfl rfl)
theorem dX6_does_52 : decode cX6_does 52 = .ok (.iaload, 1) := dk_46 (dk_at dksX6_does_2 6 rfl rfl)
theorem dX6_does_53 : decode cX6_does 53 = .ok (.iconst 1, 1) := dk_4 (dk_at dksX6_does_2 7 rfl rfl)
theorem dX6_does_54 : decode cX6_does 54 = .ok (.iadd, 1) := dk_96 (dk_at dksX6_does_2 8 rfl rfl)
theorem dX6_does_55 : decode cX6_does 55 = .ok (.iastore, 1) := dk_79 (dk_at dksX6_does_2 9 rfl rfl)
theorem dX6_does_56 : decode cX6_does 56 = .ok (.aload_n 0, 1) := dk_42 (dk_at dksX6_does_2 10 rfl rfl)
theorem dX6_does_57 : decode cX6_does 57 = .ok (.getfield 7, 3) := dk_180 0 7 (dk_at dksX6_does_2 11 rfl rfl)
theorem dX6_does_60 : decode cX6_does 60 = .ok (.bipush 14, 2) := dk_16 14 (dk_at dksX6_does_2 14 rfl rfl)
theorem dX6_does_62 : decode cX6_does 62 = .ok (.aload_n 0, 1) := dk_42 (dk_at dksX6_does_2 16 rfl rfl)
theorem dX6_does_63 : decode cX6_does 63 = .ok (.iload_n 2, 1) := dk_28 (dk_at dksX6_does_2 17 rfl rfl)
theorem dX6_does_64 : decode cX6_does 64 = .ok (.iconst 2, 1) := dk_5 (dk_at dksX6_does_2 18 rfl rfl)
theorem dX6_does_65 : decode cX6_does 65 = .ok (.invokevirtual 93, 3) := dk_182 0 93 (dk_at dksX6_does_2 19 rfl rfl)
theorem dX6_does_68 : decode cX6_does 68 = .ok (.iadd, 1) := dk_96 (dk_at dksX6_does_2 22 rfl rfl)
theorem dX6_does_69 : decode cX6_does 69 = .ok (.dup2, 1) := dk_92 (dk_at dksX6_does_2 23 rfl rfl)
theorem dX6_does_70 : decode cX6_does 70 = .ok (.iaload, 1) := dk_46 (dk_at dksX6_does_3 0 rfl rfl)
theorem dX6_does_71 : decode cX6_does 71 = .ok (.iconst 1, 1) := dk_4 (dk_at dksX6_does_3 1 rfl rfl)
theorem dX6_does_72 : decode cX6_does 72 = .ok (.isub, 1) := dk_100 (dk_at dksX6_does_3 2 rfl rfl)
theorem dX6_does_73 : decode cX6_does 73 = .ok (.iastore, 1) := dk_79 (dk_at dksX6_does_3 3 rfl rfl)
theorem dX6_does_74 : decode cX6_does 74 = .ok (.aload_n 0, 1) := dk_42 (dk_at dksX6_does_3 4 rfl rfl)
theorem dX6_does_75 : decode cX6_does 75 = .ok (.getfield 7, 3) := dk_180 0 7 (dk_at dksX6_does_3 5 rfl rfl)
theorem dX6_does_78 : decode cX6_does 78 = .ok (.iload_n 2, 1) := dk_28 (dk_at dksX6_does_3 8 rfl rfl)
theorem dX6_does_79 : decode cX6_does 79 = .ok (.iconst 1, 1) := dk_4 (dk_at dksX6_does_3 9 rfl rfl)
theorem dX6_does_80 : decode cX6_does 80 = .ok (.invokestatic 74, 3) := dk_184 0 74 (dk_at dksX6_does_3 10 rfl rfl)
theorem dX6_does_83 : decode cX6_does 83 = .ok (.aload_n 0, 1) := dk_42 (dk_at dksX6_does_3 13 rfl rfl)
theorem dX6_does_84 : decode cX6_does 84 = .ok (.iload_n 2, 1) := dk_28 (dk_at dksX6_does_3 14 rfl rfl)
theorem dX6_does_85 : decode cX6_does 85 = .ok (.iconst 2, 1) := dk_5 (dk_at dksX6_does_3 15 rfl rfl)
theorem dX6_does_86 : decode cX6_does 86 = .ok (.invokevirtual 93, 3) := dk_182 0 93 (dk_at dksX6_does_3 16 rfl rfl)
theorem dX6_does_89 : decode cX6_does 89 = .ok (.iastore, 1) := dk_79 (dk_at dksX6_does_3 19 rfl rfl)
theorem dX6_does_90 : decode cX6_does 90 = .ok (.aload_n 0, 1) := dk_42 (dk_at dksX6_does_3 20 rfl rfl)
theorem dX6_does_91 : decode cX6_does 91 = .ok (.getfield 7, 3) := dk_180 0 7 (dk_at dksX6_does_3 21 rfl rfl)
theorem dX6_does_94 : decode cX6_does 94 = .ok (.iload_n 2, 1) := dk_28 (dk_at dksX6_does_4 0 rfl rfl)
theorem dX6_does_95 : decode cX6_does 95 = .ok (.iconst 3, 1) := dk_6 (dk_at dksX6_does_4 1 rfl rfl)
theorem dX6_does_96 : decode cX6_does 96 = .ok (.invokestatic 74, 3) := dk_184 0 74 (dk_at dksX6_does_4 2 rfl rfl)
theorem dX6_does_99 : decode cX6_does 99 = .ok (.dup2, 1) := dk_92 (dk_at dksX6_does_4 5 rfl rfl)
theorem dX6_does_100 : decode cX6_does 100 = .ok (.iaload, 1) := dk_46 (dk_at dksX6_does_4 6 rfl rfl)
theorem dX6_does_101 : decode cX6_does 101 = .ok (.aload_n 0, 1) := dk_42 (dk_at dksX6_does_4 7 rfl rfl)
theorem dX6_does_102 : decode cX6_does 102 = .ok (.getfield 168, 3) := dk_180 0 168 (dk_at dksX6_does_4 8 rfl rfl)
theorem dX6_does_105 : decode cX6_does 105 = .ok (.isub, 1) := dk_100 (dk_at dksX6_does_4 11 rfl rfl)
theorem dX6_does_106 : decode cX6_does 106 = .ok (.iastore, 1) := dk_79 (dk_at dksX6_does_4 12 rfl rfl)
theorem dX6_does_107 : decode cX6_does 107 = .ok (.goto 9, 3) := dk_167 0 9 (dk_at dksX6_does_4 13 rfl rfl)
theorem dX6_does_110 : decode cX6_does 110 = .ok (.aload_n 0, 1) := dk_42 (dk_at dksX6_does_4 16 rfl rfl)
theorem dX6_does_111 : decode cX6_does 111 = .ok (.iload_n 2, 1) := dk_28 (dk_at dksX6_does_4 17 rfl rfl)
theorem dX6_does_112 : decode cX6_does 112 = .ok (.iload_n 3, 1) := dk_29 (dk_at dksX6_does_4 18 rfl rfl)
theorem dX6_does_113 : decode cX6_does 113 = .ok (.invokevirtual 171, 3) := dk_182 0 171 (dk_at dksX6_does_4 19 rfl rfl)
theorem dX6_does_116 : decode cX6_does 116 = .ok (.return_, 1) := dk_177 (dk_at dksX6_does_4 22 rfl rfl)
abbrev cX6_swaps : ByteArray := prog_26_method_40_code
def yX6_swaps : MethodName := ⟨RX6, "swaps", "(II)V"⟩
def dkwX6_swaps_1 : List UInt8 := [180, 0, 7, 28, 4, 184, 0, 74, 29, 79, 177]
abbrev dktX6_swaps_1 : List UInt8 := dkwX6_swaps_1 ++ []
def dkwX6_swaps_0 : List UInt8 := [42, 27, 4, 182, 0, 93, 62, 42, 180, 0, 7, 27, 4, 184, 0, 74, 42, 28, 4, 182, 0, 93, 79, 42]
abbrev dktX6_swaps_0 : List UInt8 := dkwX6_swaps_0 ++ dktX6_swaps_1
theorem dksX6_swaps_0 : cX6_swaps.data.toList.drop 0 = dktX6_swaps_0 := by decide +kernel
theorem dksX6_swaps_1 : cX6_swaps.data.toList.drop 24 = dktX6_swaps_1 := dk_seg dksX6_swaps_0 24 rfl rfl
theorem dX6_swaps_0 : decode cX6_swaps 0 = .ok (.aload_n 0, 1) := dk_42 (dk_at dksX6_swaps_0 0 rfl rfl)
theorem dX6_swaps_1 : decode cX6_swaps 1 = .ok (.iload_n 1, 1) := dk_27 (dk_at dksX6_swaps_0 1 rfl rfl)
theorem dX6_swaps_2 : decode cX6_swaps 2 = .ok (.iconst 1, 1) := dk_4 (dk_at dksX6_swaps_0 2 rfl rfl)
theorem dX6_swaps_3 : decode cX6_swaps 3 = .ok (.invokevirtual 93, 3) := dk_182 0 93 (dk_at dksX6_swaps_0 3 rfl rfl)
theorem dX6_swaps_6 : decode cX6_swaps 6 = .ok (.istore_n 3, 1) := dk_62 (dk_at dksX6_swaps_0 6 rfl rfl)
theorem dX6_swaps_7 : decode cX6_swaps 7 = .ok (.aload_n 0, 1) := dk_42 (dk_at dksX6_swaps_0 7 rfl rfl)
theorem dX6_swaps_8 : decode cX6_swaps 8 = .ok (.getfield 7, 3) := dk_180 0 7 (dk_at dksX6_swaps_0 8 rfl rfl)
theorem dX6_swaps_11 : decode cX6_swaps 11 = .ok (.iload_n 1, 1) := dk_27 (dk_at dksX6_swaps_0 11 rfl rfl)
theorem dX6_swaps_12 : decode cX6_swaps 12 = .ok (.iconst 1, 1) := dk_4 (dk_at dksX6_swaps_0 12 rfl rfl)
theorem dX6_swaps_13 : decode cX6_swaps 13 = .ok (.invokestatic 74, 3) := dk_184 0 74 (dk_at dksX6_swaps_0 13 rfl rfl)
theorem dX6_swaps_16 : decode cX6_swaps 16 = .ok (.aload_n 0, 1) := dk_42 (dk_at dksX6_swaps_0 16 rfl rfl)
theorem dX6_swaps_17 : decode cX6_swaps 17 = .ok (.iload_n 2, 1) := dk_28 (dk_at dksX6_swaps_0 17 rfl rfl)
theorem dX6_swaps_18 : decode cX6_swaps 18 = .ok (.iconst 1, 1) := dk_4 (dk_at dksX6_swaps_0 18 rfl rfl)
theorem dX6_swaps_19 : decode cX6_swaps 19 = .ok (.invokevirtual 93, 3) := dk_182 0 93 (dk_at dksX6_swaps_0 19 rfl rfl)
theorem dX6_swaps_22 : decode cX6_swaps 22 = .ok (.iastore, 1) := dk_79 (dk_at dksX6_swaps_0 22 rfl rfl)
theorem dX6_swaps_23 : decode cX6_swaps 23 = .ok (.aload_n 0, 1) := dk_42 (dk_at dksX6_swaps_0 23 rfl rfl)
theorem dX6_swaps_24 : decode cX6_swaps 24 = .ok (.getfield 7, 3) := dk_180 0 7 (dk_at dksX6_swaps_1 0 rfl rfl)
theorem dX6_swaps_27 : decode cX6_swaps 27 = .ok (.iload_n 2, 1) := dk_28 (dk_at dksX6_swaps_1 3 rfl rfl)
theorem dX6_swaps_28 : decode cX6_swaps 28 = .ok (.iconst 1, 1) := dk_4 (dk_at dksX6_swaps_1 4 rfl rfl)
theorem dX6_swaps_29 : decode cX6_swaps 29 = .ok (.invokestatic 74, 3) := dk_184 0 74 (dk_at dksX6_swaps_1 5 rfl rfl)
theorem dX6_swaps_32 : decode cX6_swaps 32 = .ok (.iload_n 3, 1) := dk_29 (dk_at dksX6_swaps_1 8 rfl rfl)
theorem dX6_swaps_33 : decode cX6_swaps 33 = .ok (.iastore, 1) := dk_79 (dk_at dksX6_swaps_1 9 rfl rfl)
theorem dX6_swaps_34 : decode cX6_swaps 34 = .ok (.return_, 1) := dk_177 (dk_at dksX6_swaps_1 10 rfl rfl)
abbrev cX6_back : ByteArray := prog_26_method_46_code
def yX6_back : MethodName := ⟨RX6, "back", "()I"⟩
def dkwX6_back_7 : List UInt8 := [21, 4, 182, 0, 171, 42, 180, 0, 7, 7, 92, 46, 4, 100, 79, 28, 172]
abbrev dktX6_back_7 : List UInt8 := dkwX6_back_7 ++ []
def dkwX6_back_6 : List UInt8 := [42, 21, 4, 4, 182, 0, 93, 42, 180, 0, 7, 27, 5, 96, 46, 159, 0, 6, 16, 252, 172, 42, 29]
abbrev dktX6_back_6 : List UInt8 := dkwX6_back_6 ++ dktX6_back_7
def dkwX6_back_5 : List UInt8 := [16, 99, 160, 0, 6, 16, 252, 172, 42, 28, 21, 6, 3, 182, 0, 185, 167, 0, 36, 21, 5, 153, 0, 21]
abbrev dktX6_back_5 : List UInt8 := dkwX6_back_5 ++ dktX6_back_6
def dkwX6_back_4 : List UInt8 := [16, 14, 21, 6, 96, 46, 153, 0, 22, 42, 180, 0, 7, 16, 14, 42, 29, 4, 182, 0, 93, 96, 46]
abbrev dktX6_back_4 : List UInt8 := dkwX6_back_4 ++ dktX6_back_5
def dkwX6_back_3 : List UInt8 := [16, 9, 160, 0, 64, 42, 180, 0, 7, 27, 5, 96, 46, 54, 6, 21, 5, 153, 0, 35, 42, 180, 0, 7]
abbrev dktX6_back_3 : List UInt8 := dkwX6_back_3 ++ dktX6_back_4
def dkwX6_back_2 : List UInt8 := [182, 0, 93, 42, 180, 0, 7, 27, 4, 96, 46, 160, 0, 7, 4, 167, 0, 4, 3, 54, 5, 21, 4]
abbrev dktX6_back_2 : List UInt8 := dkwX6_back_2 ++ dktX6_back_3
def dkwX6_back_1 : List UInt8 := [100, 60, 42, 180, 0, 7, 27, 46, 61, 28, 16, 10, 108, 62, 28, 16, 10, 112, 54, 4, 42, 29, 4]
abbrev dktX6_back_1 : List UInt8 := dkwX6_back_1 ++ dktX6_back_2
def dkwX6_back_0 : List UInt8 := [42, 180, 0, 7, 7, 46, 154, 0, 6, 16, 253, 172, 16, 70, 6, 42, 180, 0, 7, 7, 46, 104, 96, 6]
abbrev dktX6_back_0 : List UInt8 := dkwX6_back_0 ++ dktX6_back_1
theorem dksX6_back_0 : cX6_back.data.toList.drop 0 = dktX6_back_0 := by decide +kernel
theorem dksX6_back_1 : cX6_back.data.toList.drop 24 = dktX6_back_1 := dk_seg dksX6_back_0 24 rfl rfl
theorem dksX6_back_2 : cX6_back.data.toList.drop 47 = dktX6_back_2 := dk_seg dksX6_back_1 23 rfl rfl
theorem dksX6_back_3 : cX6_back.data.toList.drop 70 = dktX6_back_3 := dk_seg dksX6_back_2 23 rfl rfl
theorem dksX6_back_4 : cX6_back.data.toList.drop 94 = dktX6_back_4 := dk_seg dksX6_back_3 24 rfl rfl
theorem dksX6_back_5 : cX6_back.data.toList.drop 117 = dktX6_back_5 := dk_seg dksX6_back_4 23 rfl rfl
theorem dksX6_back_6 : cX6_back.data.toList.drop 141 = dktX6_back_6 := dk_seg dksX6_back_5 24 rfl rfl
theorem dksX6_back_7 : cX6_back.data.toList.drop 164 = dktX6_back_7 := dk_seg dksX6_back_6 23 rfl rfl
theorem dX6_back_0 : decode cX6_back 0 = .ok (.aload_n 0, 1) := dk_42 (dk_at dksX6_back_0 0 rfl rfl)
theorem dX6_back_1 : decode cX6_back 1 = .ok (.getfield 7, 3) := dk_180 0 7 (dk_at dksX6_back_0 1 rfl rfl)
theorem dX6_back_4 : decode cX6_back 4 = .ok (.iconst 4, 1) := dk_7 (dk_at dksX6_back_0 4 rfl rfl)
theorem dX6_back_5 : decode cX6_back 5 = .ok (.iaload, 1) := dk_46 (dk_at dksX6_back_0 5 rfl rfl)
theorem dX6_back_6 : decode cX6_back 6 = .ok (.ifCond .ne 6, 3) := dk_154 0 6 (dk_at dksX6_back_0 6 rfl rfl)
theorem dX6_back_9 : decode cX6_back 9 = .ok (.bipush (-3), 2) := dk_16 253 (dk_at dksX6_back_0 9 rfl rfl)
theorem dX6_back_11 : decode cX6_back 11 = .ok (.ireturn, 1) := dk_172 (dk_at dksX6_back_0 11 rfl rfl)
theorem dX6_back_12 : decode cX6_back 12 = .ok (.bipush 70, 2) := dk_16 70 (dk_at dksX6_back_0 12 rfl rfl)
theorem dX6_back_14 : decode cX6_back 14 = .ok (.iconst 3, 1) := dk_6 (dk_at dksX6_back_0 14 rfl rfl)
theorem dX6_back_15 : decode cX6_back 15 = .ok (.aload_n 0, 1) := dk_42 (dk_at dksX6_back_0 15 rfl rfl)
theorem dX6_back_16 : decode cX6_back 16 = .ok (.getfield 7, 3) := dk_180 0 7 (dk_at dksX6_back_0 16 rfl rfl)
theorem dX6_back_19 : decode cX6_back 19 = .ok (.iconst 4, 1) := dk_7 (dk_at dksX6_back_0 19 rfl rfl)
theorem dX6_back_20 : decode cX6_back 20 = .ok (.iaload, 1) := dk_46 (dk_at dksX6_back_0 20 rfl rfl)
theorem dX6_back_21 : decode cX6_back 21 = .ok (.imul, 1) := dk_104 (dk_at dksX6_back_0 21 rfl rfl)
theorem dX6_back_22 : decode cX6_back 22 = .ok (.iadd, 1) := dk_96 (dk_at dksX6_back_0 22 rfl rfl)
theorem dX6_back_23 : decode cX6_back 23 = .ok (.iconst 3, 1) := dk_6 (dk_at dksX6_back_0 23 rfl rfl)
theorem dX6_back_24 : decode cX6_back 24 = .ok (.isub, 1) := dk_100 (dk_at dksX6_back_1 0 rfl rfl)
theorem dX6_back_25 : decode cX6_back 25 = .ok (.istore_n 1, 1) := dk_60 (dk_at dksX6_back_1 1 rfl rfl)
theorem dX6_back_26 : decode cX6_back 26 = .ok (.aload_n 0, 1) := dk_42 (dk_at dksX6_back_1 2 rfl rfl)
theorem dX6_back_27 : decode cX6_back 27 = .ok (.getfield 7, 3) := dk_180 0 7 (dk_at dksX6_back_1 3 rfl rfl)
theorem dX6_back_30 : decode cX6_back 30 = .ok (.iload_n 1, 1) := dk_27 (dk_at dksX6_back_1 6 rfl rfl)
theorem dX6_back_31 : decode cX6_back 31 = .ok (.iaload, 1) := dk_46 (dk_at dksX6_back_1 7 rfl rfl)
theorem dX6_back_32 : decode cX6_back 32 = .ok (.istore_n 2, 1) := dk_61 (dk_at dksX6_back_1 8 rfl rfl)
theorem dX6_back_33 : decode cX6_back 33 = .ok (.iload_n 2, 1) := dk_28 (dk_at dksX6_back_1 9 rfl rfl)
theorem dX6_back_34 : decode cX6_back 34 = .ok (.bipush 10, 2) := dk_16 10 (dk_at dksX6_back_1 10 rfl rfl)
theorem dX6_back_36 : decode cX6_back 36 = .ok (.idiv, 1) := dk_108 (dk_at dksX6_back_1 12 rfl rfl)
theorem dX6_back_37 : decode cX6_back 37 = .ok (.istore_n 3, 1) := dk_62 (dk_at dksX6_back_1 13 rfl rfl)
theorem dX6_back_38 : decode cX6_back 38 = .ok (.iload_n 2, 1) := dk_28 (dk_at dksX6_back_1 14 rfl rfl)
theorem dX6_back_39 : decode cX6_back 39 = .ok (.bipush 10, 2) := dk_16 10 (dk_at dksX6_back_1 15 rfl rfl)
theorem dX6_back_41 : decode cX6_back 41 = .ok (.irem, 1) := dk_112 (dk_at dksX6_back_1 17 rfl rfl)
theorem dX6_back_42 : decode cX6_back 42 = .ok (.istore 4, 2) := dk_54 4 (dk_at dksX6_back_1 18 rfl rfl)
theorem dX6_back_44 : decode cX6_back 44 = .ok (.aload_n 0, 1) := dk_42 (dk_at dksX6_back_1 20 rfl rfl)
theorem dX6_back_45 : decode cX6_back 45 = .ok (.iload_n 3, 1) := dk_29 (dk_at dksX6_back_1 21 rfl rfl)
theorem dX6_back_46 : decode cX6_back 46 = .ok (.iconst 1, 1) := dk_4 (dk_at dksX6_back_1 22 rfl rfl)
theorem dX6_back_47 : decode cX6_back 47 = .ok (.invokevirtual 93, 3) := dk_182 0 93 (dk_at dksX6_back_2 0 rfl rfl)
theorem dX6_back_50 : decode cX6_back 50 = .ok (.aload_n 0, 1) := dk_42 (dk_at dksX6_back_2 3 rfl rfl)
theorem dX6_back_51 : decode cX6_back 51 = .ok (.getfield 7, 3) := dk_180 0 7 (dk_at dksX6_back_2 4 rfl rfl)
theorem dX6_back_54 : decode cX6_back 54 = .ok (.iload_n 1, 1) := dk_27 (dk_at dksX6_back_2 7 rfl rfl)
theorem dX6_back_55 : decode cX6_back 55 = .ok (.iconst 1, 1) := dk_4 (dk_at dksX6_back_2 8 rfl rfl)
theorem dX6_back_56 : decode cX6_back 56 = .ok (.iadd, 1) := dk_96 (dk_at dksX6_back_2 9 rfl rfl)
theorem dX6_back_57 : decode cX6_back 57 = .ok (.iaload, 1) := dk_46 (dk_at dksX6_back_2 10 rfl rfl)
theorem dX6_back_58 : decode cX6_back 58 = .ok (.if_icmp .ne 7, 3) := dk_160 0 7 (dk_at dksX6_back_2 11 rfl rfl)
theorem dX6_back_61 : decode cX6_back 61 = .ok (.iconst 1, 1) := dk_4 (dk_at dksX6_back_2 14 rfl rfl)
theorem dX6_back_62 : decode cX6_back 62 = .ok (.goto 4, 3) := dk_167 0 4 (dk_at dksX6_back_2 15 rfl rfl)
theorem dX6_back_65 : decode cX6_back 65 = .ok (.iconst 0, 1) := dk_3 (dk_at dksX6_back_2 18 rfl rfl)
theorem dX6_back_66 : decode cX6_back 66 = .ok (.istore 5, 2) := dk_54 5 (dk_at dksX6_back_2 19 rfl rfl)
theorem dX6_back_68 : decode cX6_back 68 = .ok (.iload 4, 2) := dk_21 4 (dk_at dksX6_back_2 21 rfl rfl)
theorem dX6_back_70 : decode cX6_back 70 = .ok (.bipush 9, 2) := dk_16 9 (dk_at dksX6_back_3 0 rfl rfl)
theorem dX6_back_72 : decode cX6_back 72 = .ok (.if_icmp .ne 64, 3) := dk_160 0 64 (dk_at dksX6_back_3 2 rfl rfl)
theorem dX6_back_75 : decode cX6_back 75 = .ok (.aload_n 0, 1) := dk_42 (dk_at dksX6_back_3 5 rfl rfl)
theorem dX6_back_76 : decode cX6_back 76 = .ok (.getfield 7, 3) := dk_180 0 7 (dk_at dksX6_back_3 6 rfl rfl)
theorem dX6_back_79 : decode cX6_back 79 = .ok (.iload_n 1, 1) := dk_27 (dk_at dksX6_back_3 9 rfl rfl)
theorem dX6_back_80 : decode cX6_back 80 = .ok (.iconst 2, 1) := dk_5 (dk_at dksX6_back_3 10 rfl rfl)
theorem dX6_back_81 : decode cX6_back 81 = .ok (.iadd, 1) := dk_96 (dk_at dksX6_back_3 11 rfl rfl)
theorem dX6_back_82 : decode cX6_back 82 = .ok (.iaload, 1) := dk_46 (dk_at dksX6_back_3 12 rfl rfl)
theorem dX6_back_83 : decode cX6_back 83 = .ok (.istore 6, 2) := dk_54 6 (dk_at dksX6_back_3 13 rfl rfl)
theorem dX6_back_85 : decode cX6_back 85 = .ok (.iload 5, 2) := dk_21 5 (dk_at dksX6_back_3 15 rfl rfl)
theorem dX6_back_87 : decode cX6_back 87 = .ok (.ifCond .eq 35, 3) := dk_153 0 35 (dk_at dksX6_back_3 17 rfl rfl)
theorem dX6_back_90 : decode cX6_back 90 = .ok (.aload_n 0, 1) := dk_42 (dk_at dksX6_back_3 20 rfl rfl)
theorem dX6_back_91 : decode cX6_back 91 = .ok (.getfield 7, 3) := dk_180 0 7 (dk_at dksX6_back_3 21 rfl rfl)
theorem dX6_back_94 : decode cX6_back 94 = .ok (.bipush 14, 2) := dk_16 14 (dk_at dksX6_back_4 0 rfl rfl)
theorem dX6_back_96 : decode cX6_back 96 = .ok (.iload 6, 2) := dk_21 6 (dk_at dksX6_back_4 2 rfl rfl)
theorem dX6_back_98 : decode cX6_back 98 = .ok (.iadd, 1) := dk_96 (dk_at dksX6_back_4 4 rfl rfl)
theorem dX6_back_99 : decode cX6_back 99 = .ok (.iaload, 1) := dk_46 (dk_at dksX6_back_4 5 rfl rfl)
theorem dX6_back_100 : decode cX6_back 100 = .ok (.ifCond .eq 22, 3) := dk_153 0 22 (dk_at dksX6_back_4 6 rfl rfl)
theorem dX6_back_103 : decode cX6_back 103 = .ok (.aload_n 0, 1) := dk_42 (dk_at dksX6_back_4 9 rfl rfl)
theorem dX6_back_104 : decode cX6_back 104 = .ok (.getfield 7, 3) := dk_180 0 7 (dk_at dksX6_back_4 10 rfl rfl)
theorem dX6_back_107 : decode cX6_back 107 = .ok (.bipush 14, 2) := dk_16 14 (dk_at dksX6_back_4 13 rfl rfl)
theorem dX6_back_109 : decode cX6_back 109 = .ok (.aload_n 0, 1) := dk_42 (dk_at dksX6_back_4 15 rfl rfl)
theorem dX6_back_110 : decode cX6_back 110 = .ok (.iload_n 3, 1) := dk_29 (dk_at dksX6_back_4 16 rfl rfl)
theorem dX6_back_111 : decode cX6_back 111 = .ok (.iconst 1, 1) := dk_4 (dk_at dksX6_back_4 17 rfl rfl)
theorem dX6_back_112 : decode cX6_back 112 = .ok (.invokevirtual 93, 3) := dk_182 0 93 (dk_at dksX6_back_4 18 rfl rfl)
theorem dX6_back_115 : decode cX6_back 115 = .ok (.iadd, 1) := dk_96 (dk_at dksX6_back_4 21 rfl rfl)
theorem dX6_back_116 : decode cX6_back 116 = .ok (.iaload, 1) := dk_46 (dk_at dksX6_back_4 22 rfl rfl)
theorem dX6_back_117 : decode cX6_back 117 = .ok (.bipush 99, 2) := dk_16 99 (dk_at dksX6_back_5 0 rfl rfl)
theorem dX6_back_119 : decode cX6_back 119 = .ok (.if_icmp .ne 6, 3) := dk_160 0 6 (dk_at dksX6_back_5 2 rfl rfl)
theorem dX6_back_122 : decode cX6_back 122 = .ok (.bipush (-4), 2) := dk_16 252 (dk_at dksX6_back_5 5 rfl rfl)
theorem dX6_back_124 : decode cX6_back 124 = .ok (.ireturn, 1) := dk_172 (dk_at dksX6_back_5 7 rfl rfl)
theorem dX6_back_125 : decode cX6_back 125 = .ok (.aload_n 0, 1) := dk_42 (dk_at dksX6_back_5 8 rfl rfl)
theorem dX6_back_126 : decode cX6_back 126 = .ok (.iload_n 2, 1) := dk_28 (dk_at dksX6_back_5 9 rfl rfl)
theorem dX6_back_127 : decode cX6_back 127 = .ok (.iload 6, 2) := dk_21 6 (dk_at dksX6_back_5 10 rfl rfl)
theorem dX6_back_129 : decode cX6_back 129 = .ok (.iconst 0, 1) := dk_3 (dk_at dksX6_back_5 12 rfl rfl)
theorem dX6_back_130 : decode cX6_back 130 = .ok (.invokevirtual 185, 3) := dk_182 0 185 (dk_at dksX6_back_5 13 rfl rfl)
theorem dX6_back_133 : decode cX6_back 133 = .ok (.goto 36, 3) := dk_167 0 36 (dk_at dksX6_back_5 16 rfl rfl)
theorem dX6_back_136 : decode cX6_back 136 = .ok (.iload 5, 2) := dk_21 5 (dk_at dksX6_back_5 19 rfl rfl)
theorem dX6_back_138 : decode cX6_back 138 = .ok (.ifCond .eq 21, 3) := dk_153 0 21 (dk_at dksX6_back_5 21 rfl rfl)
theorem dX6_back_141 : decode cX6_back 141 = .ok (.aload_n 0, 1) := dk_42 (dk_at dksX6_back_6 0 rfl rfl)
theorem dX6_back_142 : decode cX6_back 142 = .ok (.iload 4, 2) := dk_21 4 (dk_at dksX6_back_6 1 rfl rfl)
theorem dX6_back_144 : decode cX6_back 144 = .ok (.iconst 1, 1) := dk_4 (dk_at dksX6_back_6 3 rfl rfl)
theorem dX6_back_145 : decode cX6_back 145 = .ok (.invokevirtual 93, 3) := dk_182 0 93 (dk_at dksX6_back_6 4 rfl rfl)
theorem dX6_back_148 : decode cX6_back 148 = .ok (.aload_n 0, 1) := dk_42 (dk_at dksX6_back_6 7 rfl rfl)
theorem dX6_back_149 : decode cX6_back 149 = .ok (.getfield 7, 3) := dk_180 0 7 (dk_at dksX6_back_6 8 rfl rfl)
theorem dX6_back_152 : decode cX6_back 152 = .ok (.iload_n 1, 1) := dk_27 (dk_at dksX6_back_6 11 rfl rfl)
theorem dX6_back_153 : decode cX6_back 153 = .ok (.iconst 2, 1) := dk_5 (dk_at dksX6_back_6 12 rfl rfl)
theorem dX6_back_154 : decode cX6_back 154 = .ok (.iadd, 1) := dk_96 (dk_at dksX6_back_6 13 rfl rfl)
theorem dX6_back_155 : decode cX6_back 155 = .ok (.iaload, 1) := dk_46 (dk_at dksX6_back_6 14 rfl rfl)
theorem dX6_back_156 : decode cX6_back 156 = .ok (.if_icmp .eq 6, 3) := dk_159 0 6 (dk_at dksX6_back_6 15 rfl rfl)
theorem dX6_back_159 : decode cX6_back 159 = .ok (.bipush (-4), 2) := dk_16 252 (dk_at dksX6_back_6 18 rfl rfl)
theorem dX6_back_161 : decode cX6_back 161 = .ok (.ireturn, 1) := dk_172 (dk_at dksX6_back_6 20 rfl rfl)
theorem dX6_back_162 : decode cX6_back 162 = .ok (.aload_n 0, 1) := dk_42 (dk_at dksX6_back_6 21 rfl rfl)
theorem dX6_back_163 : decode cX6_back 163 = .ok (.iload_n 3, 1) := dk_29 (dk_at dksX6_back_6 22 rfl rfl)
theorem dX6_back_164 : decode cX6_back 164 = .ok (.iload 4, 2) := dk_21 4 (dk_at dksX6_back_7 0 rfl rfl)
theorem dX6_back_166 : decode cX6_back 166 = .ok (.invokevirtual 171, 3) := dk_182 0 171 (dk_at dksX6_back_7 2 rfl rfl)
theorem dX6_back_169 : decode cX6_back 169 = .ok (.aload_n 0, 1) := dk_42 (dk_at dksX6_back_7 5 rfl rfl)
theorem dX6_back_170 : decode cX6_back 170 = .ok (.getfield 7, 3) := dk_180 0 7 (dk_at dksX6_back_7 6 rfl rfl)
theorem dX6_back_173 : decode cX6_back 173 = .ok (.iconst 4, 1) := dk_7 (dk_at dksX6_back_7 9 rfl rfl)
theorem dX6_back_174 : decode cX6_back 174 = .ok (.dup2, 1) := dk_92 (dk_at dksX6_back_7 10 rfl rfl)
theorem dX6_back_175 : decode cX6_back 175 = .ok (.iaload, 1) := dk_46 (dk_at dksX6_back_7 11 rfl rfl)
theorem dX6_back_176 : decode cX6_back 176 = .ok (.iconst 1, 1) := dk_4 (dk_at dksX6_back_7 12 rfl rfl)
theorem dX6_back_177 : decode cX6_back 177 = .ok (.isub, 1) := dk_100 (dk_at dksX6_back_7 13 rfl rfl)
theorem dX6_back_178 : decode cX6_back 178 = .ok (.iastore, 1) := dk_79 (dk_at dksX6_back_7 14 rfl rfl)
theorem dX6_back_179 : decode cX6_back 179 = .ok (.iload_n 2, 1) := dk_28 (dk_at dksX6_back_7 15 rfl rfl)
theorem dX6_back_180 : decode cX6_back 180 = .ok (.ireturn, 1) := dk_172 (dk_at dksX6_back_7 16 rfl rfl)
abbrev cX6_undoes : ByteArray := prog_26_method_42_code
def yX6_undoes : MethodName := ⟨RX6, "undoes", "(III)V"⟩
def dkwX6_undoes_3 : List UInt8 := [184, 0, 74, 92, 46, 29, 96, 79, 167, 0, 11, 42, 21, 4, 21, 5, 182, 0, 171, 177]
abbrev dktX6_undoes_3 : List UInt8 := dkwX6_undoes_3 ++ []
def dkwX6_undoes_2 : List UInt8 := [46, 4, 100, 79, 42, 180, 0, 7, 21, 4, 4, 184, 0, 74, 28, 79, 42, 180, 0, 7, 21, 4, 6]
abbrev dktX6_undoes_2 : List UInt8 := dkwX6_undoes_2 ++ dktX6_undoes_3
def dkwX6_undoes_1 : List UInt8 := [16, 14, 42, 21, 4, 4, 182, 0, 93, 96, 92, 46, 4, 96, 79, 42, 180, 0, 7, 16, 14, 28, 96, 92]
abbrev dktX6_undoes_1 : List UInt8 := dkwX6_undoes_1 ++ dktX6_undoes_2
def dkwX6_undoes_0 : List UInt8 := [27, 16, 10, 108, 54, 4, 27, 16, 10, 112, 54, 5, 21, 5, 16, 9, 160, 0, 65, 42, 180, 0, 7]
abbrev dktX6_undoes_0 : List UInt8 := dkwX6_undoes_0 ++ dktX6_undoes_1
theorem dksX6_undoes_0 : cX6_undoes.data.toList.drop 0 = dktX6_undoes_0 := by decide +kernel
theorem dksX6_undoes_1 : cX6_undoes.data.toList.drop 23 = dktX6_undoes_1 := dk_seg dksX6_undoes_0 23 rfl rfl
theorem dksX6_undoes_2 : cX6_undoes.data.toList.drop 47 = dktX6_undoes_2 := dk_seg dksX6_undoes_1 24 rfl rfl
theorem dksX6_undoes_3 : cX6_undoes.data.toList.drop 70 = dktX6_undoes_3 := dk_seg dksX6_undoes_2 23 rfl rfl
theorem dX6_undoes_0 : decode cX6_undoes 0 = .ok (.iload_n 1, 1) := dk_27 (dk_at dksX6_undoes_0 0 rfl rfl)
theorem dX6_undoes_1 : decode cX6_undoes 1 = .ok (.bipush 10, 2) := dk_16 10 (dk_at dksX6_undoes_0 1 rfl rfl)
theorem dX6_undoes_3 : decode cX6_undoes 3 = .ok (.idiv, 1) := dk_108 (dk_at dksX6_undoes_0 3 rfl rfl)
theorem dX6_undoes_4 : decode cX6_undoes 4 = .ok (.istore 4, 2) := dk_54 4 (dk_at dksX6_undoes_0 4 rfl rfl)
theorem dX6_undoes_6 : decode cX6_undoes 6 = .ok (.iload_n 1, 1) := dk_27 (dk_at dksX6_undoes_0 6 rfl rfl)
theorem dX6_undoes_7 : decode cX6_undoes 7 = .ok (.bipush 10, 2) := dk_16 10 (dk_at dksX6_undoes_0 7 rfl rfl)
theorem dX6_undoes_9 : decode cX6_undoes 9 = .ok (.irem, 1) := dk_112 (dk_at dksX6_undoes_0 9 rfl rfl)
theorem dX6_undoes_10 : decode cX6_undoes 10 = .ok (.istore 5, 2) := dk_54 5 (dk_at dksX6_undoes_0 10 rfl rfl)
theorem dX6_undoes_12 : decode cX6_undoes 12 = .ok (.iload 5, 2) := dk_21 5 (dk_at dksX6_undoes_0 12 rfl rfl)
theorem dX6_undoes_14 : decode cX6_undoes 14 = .ok (.bipush 9, 2) := dk_16 9 (dk_at dksX6_undoes_0 14 rfl rfl)
theorem dX6_undoes_16 : decode cX6_undoes 16 = .ok (.if_icmp .ne 65, 3) := dk_160 0 65 (dk_at dksX6_undoes_0 16 rfl rfl)
theorem dX6_undoes_19 : decode cX6_undoes 19 = .ok (.aload_n 0, 1) := dk_42 (dk_at dksX6_undoes_0 19 rfl rfl)
theorem dX6_undoes_20 : decode cX6_undoes 20 = .ok (.getfield 7, 3) := dk_180 0 7 (dk_at dksX6_undoes_0 20 rfl rfl)
theorem dX6_undoes_23 : decode cX6_undoes 23 = .ok (.bipush 14, 2) := dk_16 14 (dk_at dksX6_undoes_1 0 rfl rfl)
theorem dX6_undoes_25 : decode cX6_undoes 25 = .ok (.aload_n 0, 1) := dk_42 (dk_at dksX6_undoes_1 2 rfl rfl)
theorem dX6_undoes_26 : decode cX6_undoes 26 = .ok (.iload 4, 2) := dk_21 4 (dk_at dksX6_undoes_1 3 rfl rfl)
theorem dX6_undoes_28 : decode cX6_undoes 28 = .ok (.iconst 1, 1) := dk_4 (dk_at dksX6_undoes_1 5 rfl rfl)
theorem dX6_undoes_29 : decode cX6_undoes 29 = .ok (.invokevirtual 93, 3) := dk_182 0 93 (dk_at dksX6_undoes_1 6 rfl rfl)
theorem dX6_undoes_32 : decode cX6_undoes 32 = .ok (.iadd, 1) := dk_96 (dk_at dksX6_undoes_1 9 rfl rfl)
theorem dX6_undoes_33 : decode cX6_undoes 33 = .ok (.dup2, 1) := dk_92 (dk_at dksX6_undoes_1 10 rfl rfl)
theorem dX6_undoes_34 : decode cX6_undoes 34 = .ok (.iaload, 1) := dk_46 (dk_at dksX6_undoes_1 11 rfl rfl)
theorem dX6_undoes_35 : decode cX6_undoes 35 = .ok (.iconst 1, 1) := dk_4 (dk_at dksX6_undoes_1 12 rfl rfl)
theorem dX6_undoes_36 : decode cX6_undoes 36 = .ok (.iadd, 1) := dk_96 (dk_at dksX6_undoes_1 13 rfl rfl)
theorem dX6_undoes_37 : decode cX6_undoes 37 = .ok (.iastore, 1) := dk_79 (dk_at dksX6_undoes_1 14 rfl rfl)
theorem dX6_undoes_38 : decode cX6_undoes 38 = .ok (.aload_n 0, 1) := dk_42 (dk_at dksX6_undoes_1 15 rfl rfl)
theorem dX6_undoes_39 : decode cX6_undoes 39 = .ok (.getfield 7, 3) := dk_180 0 7 (dk_at dksX6_undoes_1 16 rfl rfl)
theorem dX6_undoes_42 : decode cX6_undoes 42 = .ok (.bipush 14, 2) := dk_16 14 (dk_at dksX6_undoes_1 19 rfl rfl)
theorem dX6_undoes_44 : decode cX6_undoes 44 = .ok (.iload_n 2, 1) := dk_28 (dk_at dksX6_undoes_1 21 rfl rfl)
theorem dX6_undoes_45 : decode cX6_undoes 45 = .ok (.iadd, 1) := dk_96 (dk_at dksX6_undoes_1 22 rfl rfl)
theorem dX6_undoes_46 : decode cX6_undoes 46 = .ok (.dup2, 1) := dk_92 (dk_at dksX6_undoes_1 23 rfl rfl)
theorem dX6_undoes_47 : decode cX6_undoes 47 = .ok (.iaload, 1) := dk_46 (dk_at dksX6_undoes_2 0 rfl rfl)
theorem dX6_undoes_48 : decode cX6_undoes 48 = .ok (.iconst 1, 1) := dk_4 (dk_at dksX6_undoes_2 1 rfl rfl)
theorem dX6_undoes_49 : decode cX6_undoes 49 = .ok (.isub, 1) := dk_100 (dk_at dksX6_undoes_2 2 rfl rfl)
theorem dX6_undoes_50 : decode cX6_undoes 50 = .ok (.iastore, 1) := dk_79 (dk_at dksX6_undoes_2 3 rfl rfl)
theorem dX6_undoes_51 : decode cX6_undoes 51 = .ok (.aload_n 0, 1) := dk_42 (dk_at dksX6_undoes_2 4 rfl rfl)
theorem dX6_undoes_52 : decode cX6_undoes 52 = .ok (.getfield 7, 3) := dk_180 0 7 (dk_at dksX6_undoes_2 5 rfl rfl)
theorem dX6_undoes_55 : decode cX6_undoes 55 = .ok (.iload 4, 2) := dk_21 4 (dk_at dksX6_undoes_2 8 rfl rfl)
theorem dX6_undoes_57 : decode cX6_undoes 57 = .ok (.iconst 1, 1) := dk_4 (dk_at dksX6_undoes_2 10 rfl rfl)
theorem dX6_undoes_58 : decode cX6_undoes 58 = .ok (.invokestatic 74, 3) := dk_184 0 74 (dk_at dksX6_undoes_2 11 rfl rfl)
theorem dX6_undoes_61 : decode cX6_undoes 61 = .ok (.iload_n 2, 1) := dk_28 (dk_at dksX6_undoes_2 14 rfl rfl)
theorem dX6_undoes_62 : decode cX6_undoes 62 = .ok (.iastore, 1) := dk_79 (dk_at dksX6_undoes_2 15 rfl rfl)
theorem dX6_undoes_63 : decode cX6_undoes 63 = .ok (.aload_n 0, 1) := dk_42 (dk_at dksX6_undoes_2 16 rfl rfl)
theorem dX6_undoes_64 : decode cX6_undoes 64 = .ok (.getfield 7, 3) := dk_180 0 7 (dk_at dksX6_undoes_2 17 rfl rfl)
theorem dX6_undoes_67 : decode cX6_undoes 67 = .ok (.iload 4, 2) := dk_21 4 (dk_at dksX6_undoes_2 20 rfl rfl)
theorem dX6_undoes_69 : decode cX6_undoes 69 = .ok (.iconst 3, 1) := dk_6 (dk_at dksX6_undoes_2 22 rfl rfl)
theorem dX6_undoes_70 : decode cX6_undoes 70 = .ok (.invokestatic 74, 3) := dk_184 0 74 (dk_at dksX6_undoes_3 0 rfl rfl)
theorem dX6_undoes_73 : decode cX6_undoes 73 = .ok (.dup2, 1) := dk_92 (dk_at dksX6_undoes_3 3 rfl rfl)
theorem dX6_undoes_74 : decode cX6_undoes 74 = .ok (.iaload, 1) := dk_46 (dk_at dksX6_undoes_3 4 rfl rfl)
theorem dX6_undoes_75 : decode cX6_undoes 75 = .ok (.iload_n 3, 1) := dk_29 (dk_at dksX6_undoes_3 5 rfl rfl)
theorem dX6_undoes_76 : decode cX6_undoes 76 = .ok (.iadd, 1) := dk_96 (dk_at dksX6_undoes_3 6 rfl rfl)
theorem dX6_undoes_77 : decode cX6_undoes 77 = .ok (.iastore, 1) := dk_79 (dk_at dksX6_undoes_3 7 rfl rfl)
theorem dX6_undoes_78 : decode cX6_undoes 78 = .ok (.goto 11, 3) := dk_167 0 11 (dk_at dksX6_undoes_3 8 rfl rfl)
theorem dX6_undoes_81 : decode cX6_undoes 81 = .ok (.aload_n 0, 1) := dk_42 (dk_at dksX6_undoes_3 11 rfl rfl)
theorem dX6_undoes_82 : decode cX6_undoes 82 = .ok (.iload 4, 2) := dk_21 4 (dk_at dksX6_undoes_3 12 rfl rfl)
theorem dX6_undoes_84 : decode cX6_undoes 84 = .ok (.iload 5, 2) := dk_21 5 (dk_at dksX6_undoes_3 14 rfl rfl)
theorem dX6_undoes_86 : decode cX6_undoes 86 = .ok (.invokevirtual 171, 3) := dk_182 0 171 (dk_at dksX6_undoes_3 16 rfl rfl)
theorem dX6_undoes_89 : decode cX6_undoes 89 = .ok (.return_, 1) := dk_177 (dk_at dksX6_undoes_3 19 rfl rfl)
abbrev cX6_fewest : ByteArray := prog_26_method_53_code
def yX6_fewest : MethodName := ⟨RX6, "fewest", "()I"⟩
def dkwX6_fewest_0 : List UInt8 := [42, 16, 6, 182, 0, 213, 42, 180, 0, 192, 156, 0, 8, 16, 253, 167, 0, 7, 42, 180, 0, 192, 172]
abbrev dktX6_fewest_0 : List UInt8 := dkwX6_fewest_0 ++ []
theorem dksX6_fewest_0 : cX6_fewest.data.toList.drop 0 = dktX6_fewest_0 := by decide +kernel
theorem dX6_fewest_0 : decode cX6_fewest 0 = .ok (.aload_n 0, 1) := dk_42 (dk_at dksX6_fewest_0 0 rfl rfl)
theorem dX6_fewest_1 : decode cX6_fewest 1 = .ok (.bipush 6, 2) := dk_16 6 (dk_at dksX6_fewest_0 1 rfl rfl)
theorem dX6_fewest_3 : decode cX6_fewest 3 = .ok (.invokevirtual 213, 3) := dk_182 0 213 (dk_at dksX6_fewest_0 3 rfl rfl)
theorem dX6_fewest_6 : decode cX6_fewest 6 = .ok (.aload_n 0, 1) := dk_42 (dk_at dksX6_fewest_0 6 rfl rfl)
theorem dX6_fewest_7 : decode cX6_fewest 7 = .ok (.getfield 192, 3) := dk_180 0 192 (dk_at dksX6_fewest_0 7 rfl rfl)
theorem dX6_fewest_10 : decode cX6_fewest 10 = .ok (.ifCond .ge 8, 3) := dk_156 0 8 (dk_at dksX6_fewest_0 10 rfl rfl)
theorem dX6_fewest_13 : decode cX6_fewest 13 = .ok (.bipush (-3), 2) := dk_16 253 (dk_at dksX6_fewest_0 13 rfl rfl)
theorem dX6_fewest_15 : decode cX6_fewest 15 = .ok (.goto 7, 3) := dk_167 0 7 (dk_at dksX6_fewest_0 15 rfl rfl)
theorem dX6_fewest_18 : decode cX6_fewest 18 = .ok (.aload_n 0, 1) := dk_42 (dk_at dksX6_fewest_0 18 rfl rfl)
theorem dX6_fewest_19 : decode cX6_fewest 19 = .ok (.getfield 192, 3) := dk_180 0 192 (dk_at dksX6_fewest_0 19 rfl rfl)
theorem dX6_fewest_22 : decode cX6_fewest 22 = .ok (.ireturn, 1) := dk_172 (dk_at dksX6_fewest_0 22 rfl rfl)
abbrev cX6_goesAll : ByteArray := prog_26_method_50_code
def yX6_goesAll : MethodName := ⟨RX6, "goesAll", "(I)V"⟩
def dkwX6_goesAll_1 : List UInt8 := [182, 0, 210, 177]
abbrev dktX6_goesAll_1 : List UInt8 := dkwX6_goesAll_1 ++ []
def dkwX6_goesAll_0 : List UInt8 := [42, 3, 181, 0, 189, 42, 3, 181, 0, 201, 42, 2, 181, 0, 192, 42, 2, 181, 0, 195, 42, 3, 27, 3]
abbrev dktX6_goesAll_0 : List UInt8 := dkwX6_goesAll_0 ++ dktX6_goesAll_1
theorem dksX6_goesAll_0 : cX6_goesAll.data.toList.drop 0 = dktX6_goesAll_0 := by decide +kernel
theorem dksX6_goesAll_1 : cX6_goesAll.data.toList.drop 24 = dktX6_goesAll_1 := dk_seg dksX6_goesAll_0 24 rfl rfl
theorem dX6_goesAll_0 : decode cX6_goesAll 0 = .ok (.aload_n 0, 1) := dk_42 (dk_at dksX6_goesAll_0 0 rfl rfl)
theorem dX6_goesAll_1 : decode cX6_goesAll 1 = .ok (.iconst 0, 1) := dk_3 (dk_at dksX6_goesAll_0 1 rfl rfl)
theorem dX6_goesAll_2 : decode cX6_goesAll 2 = .ok (.putfield 189, 3) := dk_181 0 189 (dk_at dksX6_goesAll_0 2 rfl rfl)
theorem dX6_goesAll_5 : decode cX6_goesAll 5 = .ok (.aload_n 0, 1) := dk_42 (dk_at dksX6_goesAll_0 5 rfl rfl)
theorem dX6_goesAll_6 : decode cX6_goesAll 6 = .ok (.iconst 0, 1) := dk_3 (dk_at dksX6_goesAll_0 6 rfl rfl)
theorem dX6_goesAll_7 : decode cX6_goesAll 7 = .ok (.putfield 201, 3) := dk_181 0 201 (dk_at dksX6_goesAll_0 7 rfl rfl)
theorem dX6_goesAll_10 : decode cX6_goesAll 10 = .ok (.aload_n 0, 1) := dk_42 (dk_at dksX6_goesAll_0 10 rfl rfl)
theorem dX6_goesAll_11 : decode cX6_goesAll 11 = .ok (.iconst (-1), 1) := dk_2 (dk_at dksX6_goesAll_0 11 rfl rfl)
theorem dX6_goesAll_12 : decode cX6_goesAll 12 = .ok (.putfield 192, 3) := dk_181 0 192 (dk_at dksX6_goesAll_0 12 rfl rfl)
theorem dX6_goesAll_15 : decode cX6_goesAll 15 = .ok (.aload_n 0, 1) := dk_42 (dk_at dksX6_goesAll_0 15 rfl rfl)
theorem dX6_goesAll_16 : decode cX6_goesAll 16 = .ok (.iconst (-1), 1) := dk_2 (dk_at dksX6_goesAll_0 16 rfl rfl)
theorem dX6_goesAll_17 : decode cX6_goesAll 17 = .ok (.putfield 195, 3) := dk_181 0 195 (dk_at dksX6_goesAll_0 17 rfl rfl)
theorem dX6_goesAll_20 : decode cX6_goesAll 20 = .ok (.aload_n 0, 1) := dk_42 (dk_at dksX6_goesAll_0 20 rfl rfl)
theorem dX6_goesAll_21 : decode cX6_goesAll 21 = .ok (.iconst 0, 1) := dk_3 (dk_at dksX6_goesAll_0 21 rfl rfl)
theorem dX6_goesAll_22 : decode cX6_goesAll 22 = .ok (.iload_n 1, 1) := dk_27 (dk_at dksX6_goesAll_0 22 rfl rfl)
theorem dX6_goesAll_23 : decode cX6_goesAll 23 = .ok (.iconst 0, 1) := dk_3 (dk_at dksX6_goesAll_0 23 rfl rfl)
theorem dX6_goesAll_24 : decode cX6_goesAll 24 = .ok (.invokevirtual 210, 3) := dk_182 0 210 (dk_at dksX6_goesAll_1 0 rfl rfl)
theorem dX6_goesAll_27 : decode cX6_goesAll 27 = .ok (.return_, 1) := dk_177 (dk_at dksX6_goesAll_1 3 rfl rfl)
abbrev cX6_goes : ByteArray := prog_26_method_49_code
def yX6_goes : MethodName := ⟨RX6, "goes", "(III)V"⟩
def dkwX6_goes_5 : List UInt8 := [21, 6, 182, 0, 179, 54, 6, 167, 255, 195, 177]
abbrev dktX6_goes_5 : List UInt8 := dkwX6_goes_5 ++ []
def dkwX6_goes_4 : List UInt8 := [79, 42, 27, 4, 96, 28, 29, 21, 8, 96, 182, 0, 210, 42, 21, 6, 21, 7, 21, 8, 182, 0, 185, 42]
abbrev dktX6_goes_4 : List UInt8 := dkwX6_goes_4 ++ dktX6_goes_5
def dkwX6_goes_3 : List UInt8 := [21, 6, 182, 0, 175, 42, 180, 0, 165, 54, 7, 42, 180, 0, 168, 54, 8, 42, 180, 0, 26, 27, 21, 6]
abbrev dktX6_goes_3 : List UInt8 := dkwX6_goes_3 ++ dktX6_goes_4
def dkwX6_goes_2 : List UInt8 := [182, 0, 207, 177, 27, 28, 160, 0, 4, 177, 42, 2, 182, 0, 179, 54, 6, 21, 6, 155, 0, 62, 42]
abbrev dktX6_goes_2 : List UInt8 := dkwX6_goes_2 ++ dktX6_goes_3
def dkwX6_goes_1 : List UInt8 := [21, 5, 167, 0, 7, 42, 180, 0, 201, 181, 0, 201, 21, 4, 42, 182, 0, 204, 160, 0, 10, 42, 27, 29]
abbrev dktX6_goes_1 : List UInt8 := dkwX6_goes_1 ++ dktX6_goes_2
def dkwX6_goes_0 : List UInt8 := [42, 182, 0, 99, 54, 4, 21, 4, 184, 0, 103, 54, 5, 42, 21, 5, 42, 180, 0, 201, 164, 0, 8]
abbrev dktX6_goes_0 : List UInt8 := dkwX6_goes_0 ++ dktX6_goes_1
theorem dksX6_goes_0 : cX6_goes.data.toList.drop 0 = dktX6_goes_0 := by decide +kernel
theorem dksX6_goes_1 : cX6_goes.data.toList.drop 23 = dktX6_goes_1 := dk_seg dksX6_goes_0 23 rfl rfl
theorem dksX6_goes_2 : cX6_goes.data.toList.drop 47 = dktX6_goes_2 := dk_seg dksX6_goes_1 24 rfl rfl
theorem dksX6_goes_3 : cX6_goes.data.toList.drop 70 = dktX6_goes_3 := dk_seg dksX6_goes_2 23 rfl rfl
theorem dksX6_goes_4 : cX6_goes.data.toList.drop 94 = dktX6_goes_4 := dk_seg dksX6_goes_3 24 rfl rfl
theorem dksX6_goes_5 : cX6_goes.data.toList.drop 118 = dktX6_goes_5 := dk_seg dksX6_goes_4 24 rfl rfl
theorem dX6_goes_0 : decode cX6_goes 0 = .ok (.aload_n 0, 1) := dk_42 (dk_at dksX6_goes_0 0 rfl rfl)
theorem dX6_goes_1 : decode cX6_goes 1 = .ok (.invokevirtual 99, 3) := dk_182 0 99 (dk_at dksX6_goes_0 1 rfl rfl)
theorem dX6_goes_4 : decode cX6_goes 4 = .ok (.istore 4, 2) := dk_54 4 (dk_at dksX6_goes_0 4 rfl rfl)
theorem dX6_goes_6 : decode cX6_goes 6 = .ok (.iload 4, 2) := dk_21 4 (dk_at dksX6_goes_0 6 rfl rfl)
theorem dX6_goes_8 : decode cX6_goes 8 = .ok (.invokestatic 103, 3) := dk_184 0 103 (dk_at dksX6_goes_0 8 rfl rfl)
theorem dX6_goes_11 : decode cX6_goes 11 = .ok (.istore 5, 2) := dk_54 5 (dk_at dksX6_goes_0 11 rfl rfl)
theorem dX6_goes_13 : decode cX6_goes 13 = .ok (.aload_n 0, 1) := dk_42 (dk_at dksX6_goes_0 13 rfl rfl)
theorem dX6_goes_14 : decode cX6_goes 14 = .ok (.iload 5, 2) := dk_21 5 (dk_at dksX6_goes_0 14 rfl rfl)
theorem dX6_goes_16 : decode cX6_goes 16 = .ok (.aload_n 0, 1) := dk_42 (dk_at dksX6_goes_0 16 rfl rfl)
theorem dX6_goes_17 : decode cX6_goes 17 = .ok (.getfield 201, 3) := dk_180 0 201 (dk_at dksX6_goes_0 17 rfl rfl)
theorem dX6_goes_20 : decode cX6_goes 20 = .ok (.if_icmp .le 8, 3) := dk_164 0 8 (dk_at dksX6_goes_0 20 rfl rfl)
theorem dX6_goes_23 : decode cX6_goes 23 = .ok (.iload 5, 2) := dk_21 5 (dk_at dksX6_goes_1 0 rfl rfl)
theorem dX6_goes_25 : decode cX6_goes 25 = .ok (.goto 7, 3) := dk_167 0 7 (dk_at dksX6_goes_1 2 rfl rfl)
theorem dX6_goes_28 : decode cX6_goes 28 = .ok (.aload_n 0, 1) := dk_42 (dk_at dksX6_goes_1 5 rfl rfl)
theorem dX6_goes_29 : decode cX6_goes 29 = .ok (.getfield 201, 3) := dk_180 0 201 (dk_at dksX6_goes_1 6 rfl rfl)
theorem dX6_goes_32 : decode cX6_goes 32 = .ok (.putfield 201, 3) := dk_181 0 201 (dk_at dksX6_goes_1 9 rfl rfl)
theorem dX6_goes_35 : decode cX6_goes 35 = .ok (.iload 4, 2) := dk_21 4 (dk_at dksX6_goes_1 12 rfl rfl)
theorem dX6_goes_37 : decode cX6_goes 37 = .ok (.aload_n 0, 1) := dk_42 (dk_at dksX6_goes_1 14 rfl rfl)
theorem dX6_goes_38 : decode cX6_goes 38 = .ok (.invokevirtual 204, 3) := dk_182 0 204 (dk_at dksX6_goes_1 15 rfl rfl)
theorem dX6_goes_41 : decode cX6_goes 41 = .ok (.if_icmp .ne 10, 3) := dk_160 0 10 (dk_at dksX6_goes_1 18 rfl rfl)
theorem dX6_goes_44 : decode cX6_goes 44 = .ok (.aload_n 0, 1) := dk_42 (dk_at dksX6_goes_1 21 rfl rfl)
theorem dX6_goes_45 : decode cX6_goes 45 = .ok (.iload_n 1, 1) := dk_27 (dk_at dksX6_goes_1 22 rfl rfl)
theorem dX6_goes_46 : decode cX6_goes 46 = .ok (.iload_n 3, 1) := dk_29 (dk_at dksX6_goes_1 23 rfl rfl)
theorem dX6_goes_47 : decode cX6_goes 47 = .ok (.invokevirtual 207, 3) := dk_182 0 207 (dk_at dksX6_goes_2 0 rfl rfl)
theorem dX6_goes_50 : decode cX6_goes 50 = .ok (.return_, 1) := dk_177 (dk_at dksX6_goes_2 3 rfl rfl)
theorem dX6_goes_51 : decode cX6_goes 51 = .ok (.iload_n 1, 1) := dk_27 (dk_at dksX6_goes_2 4 rfl rfl)
theorem dX6_goes_52 : decode cX6_goes 52 = .ok (.iload_n 2, 1) := dk_28 (dk_at dksX6_goes_2 5 rfl rfl)
theorem dX6_goes_53 : decode cX6_goes 53 = .ok (.if_icmp .ne 4, 3) := dk_160 0 4 (dk_at dksX6_goes_2 6 rfl rfl)
theorem dX6_goes_56 : decode cX6_goes 56 = .ok (.return_, 1) := dk_177 (dk_at dksX6_goes_2 9 rfl rfl)
theorem dX6_goes_57 : decode cX6_goes 57 = .ok (.aload_n 0, 1) := dk_42 (dk_at dksX6_goes_2 10 rfl rfl)
theorem dX6_goes_58 : decode cX6_goes 58 = .ok (.iconst (-1), 1) := dk_2 (dk_at dksX6_goes_2 11 rfl rfl)
theorem dX6_goes_59 : decode cX6_goes 59 = .ok (.invokevirtual 179, 3) := dk_182 0 179 (dk_at dksX6_goes_2 12 rfl rfl)
theorem dX6_goes_62 : decode cX6_goes 62 = .ok (.istore 6, 2) := dk_54 6 (dk_at dksX6_goes_2 15 rfl rfl)
theorem dX6_goes_64 : decode cX6_goes 64 = .ok (.iload 6, 2) := dk_21 6 (dk_at dksX6_goes_2 17 rfl rfl)
theorem dX6_goes_66 : decode cX6_goes 66 = .ok (.ifCond .lt 62, 3) := dk_155 0 62 (dk_at dksX6_goes_2 19 rfl rfl)
theorem dX6_goes_69 : decode cX6_goes 69 = .ok (.aload_n 0, 1) := dk_42 (dk_at dksX6_goes_2 22 rfl rfl)
theorem dX6_goes_70 : decode cX6_goes 70 = .ok (.iload 6, 2) := dk_21 6 (dk_at dksX6_goes_3 0 rfl rfl)
theorem dX6_goes_72 : decode cX6_goes 72 = .ok (.invokevirtual 175, 3) := dk_182 0 175 (dk_at dksX6_goes_3 2 rfl rfl)
theorem dX6_goes_75 : decode cX6_goes 75 = .ok (.aload_n 0, 1) := dk_42 (dk_at dksX6_goes_3 5 rfl rfl)
theorem dX6_goes_76 : decode cX6_goes 76 = .ok (.getfield 165, 3) := dk_180 0 165 (dk_at dksX6_goes_3 6 rfl rfl)
theorem dX6_goes_79 : decode cX6_goes 79 = .ok (.istore 7, 2) := dk_54 7 (dk_at dksX6_goes_3 9 rfl rfl)
theorem dX6_goes_81 : decode cX6_goes 81 = .ok (.aload_n 0, 1) := dk_42 (dk_at dksX6_goes_3 11 rfl rfl)
theorem dX6_goes_82 : decode cX6_goes 82 = .ok (.getfield 168, 3) := dk_180 0 168 (dk_at dksX6_goes_3 12 rfl rfl)
theorem dX6_goes_85 : decode cX6_goes 85 = .ok (.istore 8, 2) := dk_54 8 (dk_at dksX6_goes_3 15 rfl rfl)
theorem dX6_goes_87 : decode cX6_goes 87 = .ok (.aload_n 0, 1) := dk_42 (dk_at dksX6_goes_3 17 rfl rfl)
theorem dX6_goes_88 : decode cX6_goes 88 = .ok (.getfield 26, 3) := dk_180 0 26 (dk_at dksX6_goes_3 18 rfl rfl)
theorem dX6_goes_91 : decode cX6_goes 91 = .ok (.iload_n 1, 1) := dk_27 (dk_at dksX6_goes_3 21 rfl rfl)
theorem dX6_goes_92 : decode cX6_goes 92 = .ok (.iload 6, 2) := dk_21 6 (dk_at dksX6_goes_3 22 rfl rfl)
theorem dX6_goes_94 : decode cX6_goes 94 = .ok (.iastore, 1) := dk_79 (dk_at dksX6_goes_4 0 rfl rfl)
theorem dX6_goes_95 : decode cX6_goes 95 = .ok (.aload_n 0, 1) := dk_42 (dk_at dksX6_goes_4 1 rfl rfl)
theorem dX6_goes_96 : decode cX6_goes 96 = .ok (.iload_n 1, 1) := dk_27 (dk_at dksX6_goes_4 2 rfl rfl)
theorem dX6_goes_97 : decode cX6_goes 97 = .ok (.iconst 1, 1) := dk_4 (dk_at dksX6_goes_4 3 rfl rfl)
theorem dX6_goes_98 : decode cX6_goes 98 = .ok (.iadd, 1) := dk_96 (dk_at dksX6_goes_4 4 rfl rfl)
theorem dX6_goes_99 : decode cX6_goes 99 = .ok (.iload_n 2, 1) := dk_28 (dk_at dksX6_goes_4 5 rfl rfl)
theorem dX6_goes_100 : decode cX6_goes 100 = .ok (.iload_n 3, 1) := dk_29 (dk_at dksX6_goes_4 6 rfl rfl)
theorem dX6_goes_101 : decode cX6_goes 101 = .ok (.iload 8, 2) := dk_21 8 (dk_at dksX6_goes_4 7 rfl rfl)
theorem dX6_goes_103 : decode cX6_goes 103 = .ok (.iadd, 1) := dk_96 (dk_at dksX6_goes_4 9 rfl rfl)
theorem dX6_goes_104 : decode cX6_goes 104 = .ok (.invokevirtual 210, 3) := dk_182 0 210 (dk_at dksX6_goes_4 10 rfl rfl)
theorem dX6_goes_107 : decode cX6_goes 107 = .ok (.aload_n 0, 1) := dk_42 (dk_at dksX6_goes_4 13 rfl rfl)
theorem dX6_goes_108 : decode cX6_goes 108 = .ok (.iload 6, 2) := dk_21 6 (dk_at dksX6_goes_4 14 rfl rfl)
theorem dX6_goes_110 : decode cX6_goes 110 = .ok (.iload 7, 2) := dk_21 7 (dk_at dksX6_goes_4 16 rfl rfl)
theorem dX6_goes_112 : decode cX6_goes 112 = .ok (.iload 8, 2) := dk_21 8 (dk_at dksX6_goes_4 18 rfl rfl)
theorem dX6_goes_114 : decode cX6_goes 114 = .ok (.invokevirtual 185, 3) := dk_182 0 185 (dk_at dksX6_goes_4 20 rfl rfl)
theorem dX6_goes_117 : decode cX6_goes 117 = .ok (.aload_n 0, 1) := dk_42 (dk_at dksX6_goes_4 23 rfl rfl)
theorem dX6_goes_118 : decode cX6_goes 118 = .ok (.iload 6, 2) := dk_21 6 (dk_at dksX6_goes_5 0 rfl rfl)
theorem dX6_goes_120 : decode cX6_goes 120 = .ok (.invokevirtual 179, 3) := dk_182 0 179 (dk_at dksX6_goes_5 2 rfl rfl)
theorem dX6_goes_123 : decode cX6_goes 123 = .ok (.istore 6, 2) := dk_54 6 (dk_at dksX6_goes_5 5 rfl rfl)
theorem dX6_goes_125 : decode cX6_goes 125 = .ok (.goto (-61), 3) := dk_167 255 195 (dk_at dksX6_goes_5 7 rfl rfl)
theorem dX6_goes_128 : decode cX6_goes 128 = .ok (.return_, 1) := dk_177 (dk_at dksX6_goes_5 10 rfl rfl)
abbrev cX6_thereSet : ByteArray := prog_26_method_47_code
def yX6_thereSet : MethodName := ⟨RX6, "thereSet", "()I"⟩
def dkwX6_thereSet_1 : List UInt8 := [42, 180, 0, 19, 120, 2, 130, 126, 172]
abbrev dktX6_thereSet_1 : List UInt8 := dkwX6_thereSet_1 ++ []
def dkwX6_thereSet_0 : List UInt8 := [4, 42, 180, 0, 7, 3, 46, 120, 4, 100, 60, 42, 180, 0, 19, 156, 0, 7, 27, 167, 0, 13, 27, 4]
abbrev dktX6_thereSet_0 : List UInt8 := dkwX6_thereSet_0 ++ dktX6_thereSet_1
theorem dksX6_thereSet_0 : cX6_thereSet.data.toList.drop 0 = dktX6_thereSet_0 := by decide +kernel
theorem dksX6_thereSet_1 : cX6_thereSet.data.toList.drop 24 = dktX6_thereSet_1 := dk_seg dksX6_thereSet_0 24 rfl rfl
theorem dX6_thereSet_0 : decode cX6_thereSet 0 = .ok (.iconst 1, 1) := dk_4 (dk_at dksX6_thereSet_0 0 rfl rfl)
theorem dX6_thereSet_1 : decode cX6_thereSet 1 = .ok (.aload_n 0, 1) := dk_42 (dk_at dksX6_thereSet_0 1 rfl rfl)
theorem dX6_thereSet_2 : decode cX6_thereSet 2 = .ok (.getfield 7, 3) := dk_180 0 7 (dk_at dksX6_thereSet_0 2 rfl rfl)
theorem dX6_thereSet_5 : decode cX6_thereSet 5 = .ok (.iconst 0, 1) := dk_3 (dk_at dksX6_thereSet_0 5 rfl rfl)
theorem dX6_thereSet_6 : decode cX6_thereSet 6 = .ok (.iaload, 1) := dk_46 (dk_at dksX6_thereSet_0 6 rfl rfl)
theorem dX6_thereSet_7 : decode cX6_thereSet 7 = .ok (.ishl, 1) := dk_120 (dk_at dksX6_thereSet_0 7 rfl rfl)
theorem dX6_thereSet_8 : decode cX6_thereSet 8 = .ok (.iconst 1, 1) := dk_4 (dk_at dksX6_thereSet_0 8 rfl rfl)
theorem dX6_thereSet_9 : decode cX6_thereSet 9 = .ok (.isub, 1) := dk_100 (dk_at dksX6_thereSet_0 9 rfl rfl)
theorem dX6_thereSet_10 : decode cX6_thereSet 10 = .ok (.istore_n 1, 1) := dk_60 (dk_at dksX6_thereSet_0 10 rfl rfl)
theorem dX6_thereSet_11 : decode cX6_thereSet 11 = .ok (.aload_n 0, 1) := dk_42 (dk_at dksX6_thereSet_0 11 rfl rfl)
theorem dX6_thereSet_12 : decode cX6_thereSet 12 = .ok (.getfield 19, 3) := dk_180 0 19 (dk_at dksX6_thereSet_0 12 rfl rfl)
theorem dX6_thereSet_15 : decode cX6_thereSet 15 = .ok (.ifCond .ge 7, 3) := dk_156 0 7 (dk_at dksX6_thereSet_0 15 rfl rfl)
theorem dX6_thereSet_18 : decode cX6_thereSet 18 = .ok (.iload_n 1, 1) := dk_27 (dk_at dksX6_thereSet_0 18 rfl rfl)
theorem dX6_thereSet_19 : decode cX6_thereSet 19 = .ok (.goto 13, 3) := dk_167 0 13 (dk_at dksX6_thereSet_0 19 rfl rfl)
theorem dX6_thereSet_22 : decode cX6_thereSet 22 = .ok (.iload_n 1, 1) := dk_27 (dk_at dksX6_thereSet_0 22 rfl rfl)
theorem dX6_thereSet_23 : decode cX6_thereSet 23 = .ok (.iconst 1, 1) := dk_4 (dk_at dksX6_thereSet_0 23 rfl rfl)
theorem dX6_thereSet_24 : decode cX6_thereSet 24 = .ok (.aload_n 0, 1) := dk_42 (dk_at dksX6_thereSet_1 0 rfl rfl)
theorem dX6_thereSet_25 : decode cX6_thereSet 25 = .ok (.getfield 19, 3) := dk_180 0 19 (dk_at dksX6_thereSet_1 1 rfl rfl)
theorem dX6_thereSet_28 : decode cX6_thereSet 28 = .ok (.ishl, 1) := dk_120 (dk_at dksX6_thereSet_1 4 rfl rfl)
theorem dX6_thereSet_29 : decode cX6_thereSet 29 = .ok (.iconst (-1), 1) := dk_2 (dk_at dksX6_thereSet_1 5 rfl rfl)
theorem dX6_thereSet_30 : decode cX6_thereSet 30 = .ok (.ixor, 1) := dk_130 (dk_at dksX6_thereSet_1 6 rfl rfl)
theorem dX6_thereSet_31 : decode cX6_thereSet 31 = .ok (.iand, 1) := dk_126 (dk_at dksX6_thereSet_1 7 rfl rfl)
theorem dX6_thereSet_32 : decode cX6_thereSet 32 = .ok (.ireturn, 1) := dk_172 (dk_at dksX6_thereSet_1 8 rfl rfl)
abbrev cX6_keeps : ByteArray := prog_26_method_48_code
def yX6_keeps : MethodName := ⟨RX6, "keeps", "(II)V"⟩
def dkwX6_keeps_4 : List UInt8 := [180, 0, 26, 29, 46, 79, 132, 3, 1, 167, 255, 236, 177]
abbrev dktX6_keeps_4 : List UInt8 := dkwX6_keeps_4 ++ []
def dkwX6_keeps_3 : List UInt8 := [42, 28, 181, 0, 195, 42, 27, 181, 0, 198, 3, 62, 29, 27, 162, 0, 21, 42, 180, 0, 32, 29, 42]
abbrev dktX6_keeps_3 : List UInt8 := dkwX6_keeps_3 ++ dktX6_keeps_4
def dkwX6_keeps_2 : List UInt8 := [29, 46, 79, 132, 3, 1, 167, 255, 236, 42, 180, 0, 195, 155, 0, 11, 28, 42, 180, 0, 195, 162, 0, 38]
abbrev dktX6_keeps_2 : List UInt8 := dkwX6_keeps_2 ++ dktX6_keeps_3
def dkwX6_keeps_1 : List UInt8 := [162, 0, 33, 42, 27, 181, 0, 192, 3, 62, 29, 27, 162, 0, 21, 42, 180, 0, 29, 29, 42, 180, 0, 26]
abbrev dktX6_keeps_1 : List UInt8 := dkwX6_keeps_1 ++ dktX6_keeps_2
def dkwX6_keeps_0 : List UInt8 := [42, 89, 180, 0, 189, 4, 96, 181, 0, 189, 42, 180, 0, 192, 155, 0, 11, 27, 42, 180, 0, 192]
abbrev dktX6_keeps_0 : List UInt8 := dkwX6_keeps_0 ++ dktX6_keeps_1
theorem dksX6_keeps_0 : cX6_keeps.data.toList.drop 0 = dktX6_keeps_0 := by decide +kernel
theorem dksX6_keeps_1 : cX6_keeps.data.toList.drop 22 = dktX6_keeps_1 := dk_seg dksX6_keeps_0 22 rfl rfl
theorem dksX6_keeps_2 : cX6_keeps.data.toList.drop 46 = dktX6_keeps_2 := dk_seg dksX6_keeps_1 24 rfl rfl
theorem dksX6_keeps_3 : cX6_keeps.data.toList.drop 70 = dktX6_keeps_3 := dk_seg dksX6_keeps_2 24 rfl rfl
theorem dksX6_keeps_4 : cX6_keeps.data.toList.drop 93 = dktX6_keeps_4 := dk_seg dksX6_keeps_3 23 rfl rfl
theorem dX6_keeps_0 : decode cX6_keeps 0 = .ok (.aload_n 0, 1) := dk_42 (dk_at dksX6_keeps_0 0 rfl rfl)
theorem dX6_keeps_1 : decode cX6_keeps 1 = .ok (.dup, 1) := dk_89 (dk_at dksX6_keeps_0 1 rfl rfl)
theorem dX6_keeps_2 : decode cX6_keeps 2 = .ok (.getfield 189, 3) := dk_180 0 189 (dk_at dksX6_keeps_0 2 rfl rfl)
theorem dX6_keeps_5 : decode cX6_keeps 5 = .ok (.iconst 1, 1) := dk_4 (dk_at dksX6_keeps_0 5 rfl rfl)
theorem dX6_keeps_6 : decode cX6_keeps 6 = .ok (.iadd, 1) := dk_96 (dk_at dksX6_keeps_0 6 rfl rfl)
theorem dX6_keeps_7 : decode cX6_keeps 7 = .ok (.putfield 189, 3) := dk_181 0 189 (dk_at dksX6_keeps_0 7 rfl rfl)
theorem dX6_keeps_10 : decode cX6_keeps 10 = .ok (.aload_n 0, 1) := dk_42 (dk_at dksX6_keeps_0 10 rfl rfl)
theorem dX6_keeps_11 : decode cX6_keeps 11 = .ok (.getfield 192, 3) := dk_180 0 192 (dk_at dksX6_keeps_0 11 rfl rfl)
theorem dX6_keeps_14 : decode cX6_keeps 14 = .ok (.ifCond .lt 11, 3) := dk_155 0 11 (dk_at dksX6_keeps_0 14 rfl rfl)
theorem dX6_keeps_17 : decode cX6_keeps 17 = .ok (.iload_n 1, 1) := dk_27 (dk_at dksX6_keeps_0 17 rfl rfl)
theorem dX6_keeps_18 : decode cX6_keeps 18 = .ok (.aload_n 0, 1) := dk_42 (dk_at dksX6_keeps_0 18 rfl rfl)
theorem dX6_keeps_19 : decode cX6_keeps 19 = .ok (.getfield 192, 3) := dk_180 0 192 (dk_at dksX6_keeps_0 19 rfl rfl)
theorem dX6_keeps_22 : decode cX6_keeps 22 = .ok (.if_icmp .ge 33, 3) := dk_162 0 33 (dk_at dksX6_keeps_1 0 rfl rfl)
theorem dX6_keeps_25 : decode cX6_keeps 25 = .ok (.aload_n 0, 1) := dk_42 (dk_at dksX6_keeps_1 3 rfl rfl)
theorem dX6_keeps_26 : decode cX6_keeps 26 = .ok (.iload_n 1, 1) := dk_27 (dk_at dksX6_keeps_1 4 rfl rfl)
theorem dX6_keeps_27 : decode cX6_keeps 27 = .ok (.putfield 192, 3) := dk_181 0 192 (dk_at dksX6_keeps_1 5 rfl rfl)
theorem dX6_keeps_30 : decode cX6_keeps 30 = .ok (.iconst 0, 1) := dk_3 (dk_at dksX6_keeps_1 8 rfl rfl)
theorem dX6_keeps_31 : decode cX6_keeps 31 = .ok (.istore_n 3, 1) := dk_62 (dk_at dksX6_keeps_1 9 rfl rfl)
theorem dX6_keeps_32 : decode cX6_keeps 32 = .ok (.iload_n 3, 1) := dk_29 (dk_at dksX6_keeps_1 10 rfl rfl)
theorem dX6_keeps_33 : decode cX6_keeps 33 = .ok (.iload_n 1, 1) := dk_27 (dk_at dksX6_keeps_1 11 rfl rfl)
theorem dX6_keeps_34 : decode cX6_keeps 34 = .ok (.if_icmp .ge 21, 3) := dk_162 0 21 (dk_at dksX6_keeps_1 12 rfl rfl)
theorem dX6_keeps_37 : decode cX6_keeps 37 = .ok (.aload_n 0, 1) := dk_42 (dk_at dksX6_keeps_1 15 rfl rfl)
theorem dX6_keeps_38 : decode cX6_keeps 38 = .ok (.getfield 29, 3) := dk_180 0 29 (dk_at dksX6_keeps_1 16 rfl rfl)
theorem dX6_keeps_41 : decode cX6_keeps 41 = .ok (.iload_n 3, 1) := dk_29 (dk_at dksX6_keeps_1 19 rfl rfl)
theorem dX6_keeps_42 : decode cX6_keeps 42 = .ok (.aload_n 0, 1) := dk_42 (dk_at dksX6_keeps_1 20 rfl rfl)
theorem dX6_keeps_43 : decode cX6_keeps 43 = .ok (.getfield 26, 3) := dk_180 0 26 (dk_at dksX6_keeps_1 21 rfl rfl)
theorem dX6_keeps_46 : decode cX6_keeps 46 = .ok (.iload_n 3, 1) := dk_29 (dk_at dksX6_keeps_2 0 rfl rfl)
theorem dX6_keeps_47 : decode cX6_keeps 47 = .ok (.iaload, 1) := dk_46 (dk_at dksX6_keeps_2 1 rfl rfl)
theorem dX6_keeps_48 : decode cX6_keeps 48 = .ok (.iastore, 1) := dk_79 (dk_at dksX6_keeps_2 2 rfl rfl)
theorem dX6_keeps_49 : decode cX6_keeps 49 = .ok (.iinc 3 1, 3) := dk_132 3 1 (dk_at dksX6_keeps_2 3 rfl rfl)
theorem dX6_keeps_52 : decode cX6_keeps 52 = .ok (.goto (-20), 3) := dk_167 255 236 (dk_at dksX6_keeps_2 6 rfl rfl)
theorem dX6_keeps_55 : decode cX6_keeps 55 = .ok (.aload_n 0, 1) := dk_42 (dk_at dksX6_keeps_2 9 rfl rfl)
theorem dX6_keeps_56 : decode cX6_keeps 56 = .ok (.getfield 195, 3) := dk_180 0 195 (dk_at dksX6_keeps_2 10 rfl rfl)
theorem dX6_keeps_59 : decode cX6_keeps 59 = .ok (.ifCond .lt 11, 3) := dk_155 0 11 (dk_at dksX6_keeps_2 13 rfl rfl)
theorem dX6_keeps_62 : decode cX6_keeps 62 = .ok (.iload_n 2, 1) := dk_28 (dk_at dksX6_keeps_2 16 rfl rfl)
theorem dX6_keeps_63 : decode cX6_keeps 63 = .ok (.aload_n 0, 1) := dk_42 (dk_at dksX6_keeps_2 17 rfl rfl)
theorem dX6_keeps_64 : decode cX6_keeps 64 = .ok (.getfield 195, 3) := dk_180 0 195 (dk_at dksX6_keeps_2 18 rfl rfl)
theorem dX6_keeps_67 : decode cX6_keeps 67 = .ok (.if_icmp .ge 38, 3) := dk_162 0 38 (dk_at dksX6_keeps_2 21 rfl rfl)
theorem dX6_keeps_70 : decode cX6_keeps 70 = .ok (.aload_n 0, 1) := dk_42 (dk_at dksX6_keeps_3 0 rfl rfl)
theorem dX6_keeps_71 : decode cX6_keeps 71 = .ok (.iload_n 2, 1) := dk_28 (dk_at dksX6_keeps_3 1 rfl rfl)
theorem dX6_keeps_72 : decode cX6_keeps 72 = .ok (.putfield 195, 3) := dk_181 0 195 (dk_at dksX6_keeps_3 2 rfl rfl)
theorem dX6_keeps_75 : decode cX6_keeps 75 = .ok (.aload_n 0, 1) := dk_42 (dk_at dksX6_keeps_3 5 rfl rfl)
theorem dX6_keeps_76 : decode cX6_keeps 76 = .ok (.iload_n 1, 1) := dk_27 (dk_at dksX6_keeps_3 6 rfl rfl)
theorem dX6_keeps_77 : decode cX6_keeps 77 = .ok (.putfield 198, 3) := dk_181 0 198 (dk_at dksX6_keeps_3 7 rfl rfl)
theorem dX6_keeps_80 : decode cX6_keeps 80 = .ok (.iconst 0, 1) := dk_3 (dk_at dksX6_keeps_3 10 rfl rfl)
theorem dX6_keeps_81 : decode cX6_keeps 81 = .ok (.istore_n 3, 1) := dk_62 (dk_at dksX6_keeps_3 11 rfl rfl)
theorem dX6_keeps_82 : decode cX6_keeps 82 = .ok (.iload_n 3, 1) := dk_29 (dk_at dksX6_keeps_3 12 rfl rfl)
theorem dX6_keeps_83 : decode cX6_keeps 83 = .ok (.iload_n 1, 1) := dk_27 (dk_at dksX6_keeps_3 13 rfl rfl)
theorem dX6_keeps_84 : decode cX6_keeps 84 = .ok (.if_icmp .ge 21, 3) := dk_162 0 21 (dk_at dksX6_keeps_3 14 rfl rfl)
theorem dX6_keeps_87 : decode cX6_keeps 87 = .ok (.aload_n 0, 1) := dk_42 (dk_at dksX6_keeps_3 17 rfl rfl)
theorem dX6_keeps_88 : decode cX6_keeps 88 = .ok (.getfield 32, 3) := dk_180 0 32 (dk_at dksX6_keeps_3 18 rfl rfl)
theorem dX6_keeps_91 : decode cX6_keeps 91 = .ok (.iload_n 3, 1) := dk_29 (dk_at dksX6_keeps_3 21 rfl rfl)
theorem dX6_keeps_92 : decode cX6_keeps 92 = .ok (.aload_n 0, 1) := dk_42 (dk_at dksX6_keeps_3 22 rfl rfl)
theorem dX6_keeps_93 : decode cX6_keeps 93 = .ok (.getfield 26, 3) := dk_180 0 26 (dk_at dksX6_keeps_4 0 rfl rfl)
theorem dX6_keeps_96 : decode cX6_keeps 96 = .ok (.iload_n 3, 1) := dk_29 (dk_at dksX6_keeps_4 3 rfl rfl)
theorem dX6_keeps_97 : decode cX6_keeps 97 = .ok (.iaload, 1) := dk_46 (dk_at dksX6_keeps_4 4 rfl rfl)
theorem dX6_keeps_98 : decode cX6_keeps 98 = .ok (.iastore, 1) := dk_79 (dk_at dksX6_keeps_4 5 rfl rfl)
theorem dX6_keeps_99 : decode cX6_keeps 99 = .ok (.iinc 3 1, 3) := dk_132 3 1 (dk_at dksX6_keeps_4 6 rfl rfl)
theorem dX6_keeps_102 : decode cX6_keeps 102 = .ok (.goto (-20), 3) := dk_167 255 236 (dk_at dksX6_keeps_4 9 rfl rfl)
theorem dX6_keeps_105 : decode cX6_keeps 105 = .ok (.return_, 1) := dk_177 (dk_at dksX6_keeps_4 12 rfl rfl)
abbrev cX6_ith : ByteArray := prog_26_method_54_code
def yX6_ith : MethodName := ⟨RX6, "ith", "(I)I"⟩
def dkwX6_ith_1 : List UInt8 := [180, 0, 29, 27, 46, 167, 0, 5, 16, 253, 172]
abbrev dktX6_ith_1 : List UInt8 := dkwX6_ith_1 ++ []
def dkwX6_ith_0 : List UInt8 := [27, 184, 0, 216, 154, 0, 5, 2, 172, 42, 16, 6, 182, 0, 213, 27, 42, 180, 0, 192, 162, 0, 12, 42]
abbrev dktX6_ith_0 : List UInt8 := dkwX6_ith_0 ++ dktX6_ith_1
theorem dksX6_ith_0 : cX6_ith.data.toList.drop 0 = dktX6_ith_0 := by decide +kernel
theorem dksX6_ith_1 : cX6_ith.data.toList.drop 24 = dktX6_ith_1 := dk_seg dksX6_ith_0 24 rfl rfl
theorem dX6_ith_0 : decode cX6_ith 0 = .ok (.iload_n 1, 1) := dk_27 (dk_at dksX6_ith_0 0 rfl rfl)
theorem dX6_ith_1 : decode cX6_ith 1 = .ok (.invokestatic 216, 3) := dk_184 0 216 (dk_at dksX6_ith_0 1 rfl rfl)
theorem dX6_ith_4 : decode cX6_ith 4 = .ok (.ifCond .ne 5, 3) := dk_154 0 5 (dk_at dksX6_ith_0 4 rfl rfl)
theorem dX6_ith_7 : decode cX6_ith 7 = .ok (.iconst (-1), 1) := dk_2 (dk_at dksX6_ith_0 7 rfl rfl)
theorem dX6_ith_8 : decode cX6_ith 8 = .ok (.ireturn, 1) := dk_172 (dk_at dksX6_ith_0 8 rfl rfl)
theorem dX6_ith_9 : decode cX6_ith 9 = .ok (.aload_n 0, 1) := dk_42 (dk_at dksX6_ith_0 9 rfl rfl)
theorem dX6_ith_10 : decode cX6_ith 10 = .ok (.bipush 6, 2) := dk_16 6 (dk_at dksX6_ith_0 10 rfl rfl)
theorem dX6_ith_12 : decode cX6_ith 12 = .ok (.invokevirtual 213, 3) := dk_182 0 213 (dk_at dksX6_ith_0 12 rfl rfl)
theorem dX6_ith_15 : decode cX6_ith 15 = .ok (.iload_n 1, 1) := dk_27 (dk_at dksX6_ith_0 15 rfl rfl)
theorem dX6_ith_16 : decode cX6_ith 16 = .ok (.aload_n 0, 1) := dk_42 (dk_at dksX6_ith_0 16 rfl rfl)
theorem dX6_ith_17 : decode cX6_ith 17 = .ok (.getfield 192, 3) := dk_180 0 192 (dk_at dksX6_ith_0 17 rfl rfl)
theorem dX6_ith_20 : decode cX6_ith 20 = .ok (.if_icmp .ge 12, 3) := dk_162 0 12 (dk_at dksX6_ith_0 20 rfl rfl)
theorem dX6_ith_23 : decode cX6_ith 23 = .ok (.aload_n 0, 1) := dk_42 (dk_at dksX6_ith_0 23 rfl rfl)
theorem dX6_ith_24 : decode cX6_ith 24 = .ok (.getfield 29, 3) := dk_180 0 29 (dk_at dksX6_ith_1 0 rfl rfl)
theorem dX6_ith_27 : decode cX6_ith 27 = .ok (.iload_n 1, 1) := dk_27 (dk_at dksX6_ith_1 3 rfl rfl)
theorem dX6_ith_28 : decode cX6_ith 28 = .ok (.iaload, 1) := dk_46 (dk_at dksX6_ith_1 4 rfl rfl)
theorem dX6_ith_29 : decode cX6_ith 29 = .ok (.goto 5, 3) := dk_167 0 5 (dk_at dksX6_ith_1 5 rfl rfl)
theorem dX6_ith_32 : decode cX6_ith 32 = .ok (.bipush (-3), 2) := dk_16 253 (dk_at dksX6_ith_1 8 rfl rfl)
theorem dX6_ith_34 : decode cX6_ith 34 = .ok (.ireturn, 1) := dk_172 (dk_at dksX6_ith_1 10 rfl rfl)
abbrev cX6_isPlace : ByteArray := prog_26_method_52_code
def yX6_isPlace : MethodName := ⟨RX6, "isPlace", "(I)Z"⟩
def dkwX6_isPlace_0 : List UInt8 := [26, 133, 9, 20, 0, 78, 184, 0, 68, 172]
abbrev dktX6_isPlace_0 : List UInt8 := dkwX6_isPlace_0 ++ []
theorem dksX6_isPlace_0 : cX6_isPlace.data.toList.drop 0 = dktX6_isPlace_0 := by decide +kernel
theorem dX6_isPlace_0 : decode cX6_isPlace 0 = .ok (.iload_n 0, 1) := dk_26 (dk_at dksX6_isPlace_0 0 rfl rfl)
theorem dX6_isPlace_1 : decode cX6_isPlace 1 = .ok (.i2l, 1) := dk_133 (dk_at dksX6_isPlace_0 1 rfl rfl)
theorem dX6_isPlace_2 : decode cX6_isPlace 2 = .ok (.lconst 0, 1) := dk_9 (dk_at dksX6_isPlace_0 2 rfl rfl)
theorem dX6_isPlace_3 : decode cX6_isPlace 3 = .ok (.ldc2_w 78, 3) := dk_20 0 78 (dk_at dksX6_isPlace_0 3 rfl rfl)
theorem dX6_isPlace_6 : decode cX6_isPlace 6 = .ok (.invokestatic 68, 3) := dk_184 0 68 (dk_at dksX6_isPlace_0 6 rfl rfl)
theorem dX6_isPlace_9 : decode cX6_isPlace 9 = .ok (.ireturn, 1) := dk_172 (dk_at dksX6_isPlace_0 9 rfl rfl)
abbrev cX6_ways : ByteArray := prog_26_method_55_code
def yX6_ways : MethodName := ⟨RX6, "ways", "(I)I"⟩
def dkwX6_ways_0 : List UInt8 := [27, 184, 0, 219, 154, 0, 5, 2, 172, 42, 27, 182, 0, 213, 42, 180, 0, 189, 172]
abbrev dktX6_ways_0 : List UInt8 := dkwX6_ways_0 ++ []
theorem dksX6_ways_0 : cX6_ways.data.toList.drop 0 = dktX6_ways_0 := by decide +kernel
theorem dX6_ways_0 : decode cX6_ways 0 = .ok (.iload_n 1, 1) := dk_27 (dk_at dksX6_ways_0 0 rfl rfl)
theorem dX6_ways_1 : decode cX6_ways 1 = .ok (.invokestatic 219, 3) := dk_184 0 219 (dk_at dksX6_ways_0 1 rfl rfl)
theorem dX6_ways_4 : decode cX6_ways 4 = .ok (.ifCond .ne 5, 3) := dk_154 0 5 (dk_at dksX6_ways_0 4 rfl rfl)
theorem dX6_ways_7 : decode cX6_ways 7 = .ok (.iconst (-1), 1) := dk_2 (dk_at dksX6_ways_0 7 rfl rfl)
theorem dX6_ways_8 : decode cX6_ways 8 = .ok (.ireturn, 1) := dk_172 (dk_at dksX6_ways_0 8 rfl rfl)
theorem dX6_ways_9 : decode cX6_ways 9 = .ok (.aload_n 0, 1) := dk_42 (dk_at dksX6_ways_0 9 rfl rfl)
theorem dX6_ways_10 : decode cX6_ways 10 = .ok (.iload_n 1, 1) := dk_27 (dk_at dksX6_ways_0 10 rfl rfl)
theorem dX6_ways_11 : decode cX6_ways 11 = .ok (.invokevirtual 213, 3) := dk_182 0 213 (dk_at dksX6_ways_0 11 rfl rfl)
theorem dX6_ways_14 : decode cX6_ways 14 = .ok (.aload_n 0, 1) := dk_42 (dk_at dksX6_ways_0 14 rfl rfl)
theorem dX6_ways_15 : decode cX6_ways 15 = .ok (.getfield 189, 3) := dk_180 0 189 (dk_at dksX6_ways_0 15 rfl rfl)
theorem dX6_ways_18 : decode cX6_ways 18 = .ok (.ireturn, 1) := dk_172 (dk_at dksX6_ways_0 18 rfl rfl)
abbrev cX6_isLong : ByteArray := prog_26_method_51_code
def yX6_isLong : MethodName := ⟨RX6, "isLong", "(I)Z"⟩
def dkwX6_isLong_0 : List UInt8 := [26, 133, 9, 20, 0, 126, 184, 0, 68, 172]
abbrev dktX6_isLong_0 : List UInt8 := dkwX6_isLong_0 ++ []
theorem dksX6_isLong_0 : cX6_isLong.data.toList.drop 0 = dktX6_isLong_0 := by decide +kernel
theorem dX6_isLong_0 : decode cX6_isLong 0 = .ok (.iload_n 0, 1) := dk_26 (dk_at dksX6_isLong_0 0 rfl rfl)
theorem dX6_isLong_1 : decode cX6_isLong 1 = .ok (.i2l, 1) := dk_133 (dk_at dksX6_isLong_0 1 rfl rfl)
theorem dX6_isLong_2 : decode cX6_isLong 2 = .ok (.lconst 0, 1) := dk_9 (dk_at dksX6_isLong_0 2 rfl rfl)
theorem dX6_isLong_3 : decode cX6_isLong 3 = .ok (.ldc2_w 126, 3) := dk_20 0 126 (dk_at dksX6_isLong_0 3 rfl rfl)
theorem dX6_isLong_6 : decode cX6_isLong 6 = .ok (.invokestatic 68, 3) := dk_184 0 68 (dk_at dksX6_isLong_0 6 rfl rfl)
theorem dX6_isLong_9 : decode cX6_isLong 9 = .ok (.ireturn, 1) := dk_172 (dk_at dksX6_isLong_0 9 rfl rfl)
abbrev cX6_most : ByteArray := prog_26_method_56_code
def yX6_most : MethodName := ⟨RX6, "most", "(I)I"⟩
def dkwX6_most_0 : List UInt8 := [27, 184, 0, 219, 154, 0, 5, 2, 172, 42, 27, 182, 0, 213, 42, 180, 0, 201, 172]
abbrev dktX6_most_0 : List UInt8 := dkwX6_most_0 ++ []
theorem dksX6_most_0 : cX6_most.data.toList.drop 0 = dktX6_most_0 := by decide +kernel
theorem dX6_most_0 : decode cX6_most 0 = .ok (.iload_n 1, 1) := dk_27 (dk_at dksX6_most_0 0 rfl rfl)
theorem dX6_most_1 : decode cX6_most 1 = .ok (.invokestatic 219, 3) := dk_184 0 219 (dk_at dksX6_most_0 1 rfl rfl)
theorem dX6_most_4 : decode cX6_most 4 = .ok (.ifCond .ne 5, 3) := dk_154 0 5 (dk_at dksX6_most_0 4 rfl rfl)
theorem dX6_most_7 : decode cX6_most 7 = .ok (.iconst (-1), 1) := dk_2 (dk_at dksX6_most_0 7 rfl rfl)
theorem dX6_most_8 : decode cX6_most 8 = .ok (.ireturn, 1) := dk_172 (dk_at dksX6_most_0 8 rfl rfl)
theorem dX6_most_9 : decode cX6_most 9 = .ok (.aload_n 0, 1) := dk_42 (dk_at dksX6_most_0 9 rfl rfl)
theorem dX6_most_10 : decode cX6_most 10 = .ok (.iload_n 1, 1) := dk_27 (dk_at dksX6_most_0 10 rfl rfl)
theorem dX6_most_11 : decode cX6_most 11 = .ok (.invokevirtual 213, 3) := dk_182 0 213 (dk_at dksX6_most_0 11 rfl rfl)
theorem dX6_most_14 : decode cX6_most 14 = .ok (.aload_n 0, 1) := dk_42 (dk_at dksX6_most_0 14 rfl rfl)
theorem dX6_most_15 : decode cX6_most 15 = .ok (.getfield 201, 3) := dk_180 0 201 (dk_at dksX6_most_0 15 rfl rfl)
theorem dX6_most_18 : decode cX6_most 18 = .ok (.ireturn, 1) := dk_172 (dk_at dksX6_most_0 18 rfl rfl)
abbrev cX6_cheapest : ByteArray := prog_26_method_57_code
def yX6_cheapest : MethodName := ⟨RX6, "cheapest", "(I)I"⟩
def dkwX6_cheapest_1 : List UInt8 := [167, 0, 7, 42, 180, 0, 195, 172]
abbrev dktX6_cheapest_1 : List UInt8 := dkwX6_cheapest_1 ++ []
def dkwX6_cheapest_0 : List UInt8 := [27, 184, 0, 219, 154, 0, 5, 2, 172, 42, 27, 182, 0, 213, 42, 180, 0, 195, 156, 0, 8, 16, 253]
abbrev dktX6_cheapest_0 : List UInt8 := dkwX6_cheapest_0 ++ dktX6_cheapest_1
theorem dksX6_cheapest_0 : cX6_cheapest.data.toList.drop 0 = dktX6_cheapest_0 := by decide +kernel
theorem dksX6_cheapest_1 : cX6_cheapest.data.toList.drop 23 = dktX6_cheapest_1 := dk_seg dksX6_cheapest_0 23 rfl rfl
theorem dX6_cheapest_0 : decode cX6_cheapest 0 = .ok (.iload_n 1, 1) := dk_27 (dk_at dksX6_cheapest_0 0 rfl rfl)
theorem dX6_cheapest_1 : decode cX6_cheapest 1 = .ok (.invokestatic 219, 3) := dk_184 0 219 (dk_at dksX6_cheapest_0 1 rfl rfl)
theorem dX6_cheapest_4 : decode cX6_cheapest 4 = .ok (.ifCond .ne 5, 3) := dk_154 0 5 (dk_at dksX6_cheapest_0 4 rfl rfl)
theorem dX6_cheapest_7 : decode cX6_cheapest 7 = .ok (.iconst (-1), 1) := dk_2 (dk_at dksX6_cheapest_0 7 rfl rfl)
theorem dX6_cheapest_8 : decode cX6_cheapest 8 = .ok (.ireturn, 1) := dk_172 (dk_at dksX6_cheapest_0 8 rfl rfl)
theorem dX6_cheapest_9 : decode cX6_cheapest 9 = .ok (.aload_n 0, 1) := dk_42 (dk_at dksX6_cheapest_0 9 rfl rfl)
theorem dX6_cheapest_10 : decode cX6_cheapest 10 = .ok (.iload_n 1, 1) := dk_27 (dk_at dksX6_cheapest_0 10 rfl rfl)
theorem dX6_cheapest_11 : decode cX6_cheapest 11 = .ok (.invokevirtual 213, 3) := dk_182 0 213 (dk_at dksX6_cheapest_0 11 rfl rfl)
theorem dX6_cheapest_14 : decode cX6_cheapest 14 = .ok (.aload_n 0, 1) := dk_42 (dk_at dksX6_cheapest_0 14 rfl rfl)
theorem dX6_cheapest_15 : decode cX6_cheapest 15 = .ok (.getfield 195, 3) := dk_180 0 195 (dk_at dksX6_cheapest_0 15 rfl rfl)
theorem dX6_cheapest_18 : decode cX6_cheapest 18 = .ok (.ifCond .ge 8, 3) := dk_156 0 8 (dk_at dksX6_cheapest_0 18 rfl rfl)
theorem dX6_cheapest_21 : decode cX6_cheapest 21 = .ok (.bipush (-3), 2) := dk_16 253 (dk_at dksX6_cheapest_0 21 rfl rfl)
theorem dX6_cheapest_23 : decode cX6_cheapest 23 = .ok (.goto 7, 3) := dk_167 0 7 (dk_at dksX6_cheapest_1 0 rfl rfl)
theorem dX6_cheapest_26 : decode cX6_cheapest 26 = .ok (.aload_n 0, 1) := dk_42 (dk_at dksX6_cheapest_1 3 rfl rfl)
theorem dX6_cheapest_27 : decode cX6_cheapest 27 = .ok (.getfield 195, 3) := dk_180 0 195 (dk_at dksX6_cheapest_1 4 rfl rfl)
theorem dX6_cheapest_30 : decode cX6_cheapest 30 = .ok (.ireturn, 1) := dk_172 (dk_at dksX6_cheapest_1 7 rfl rfl)
abbrev cX6_cheaply : ByteArray := prog_26_method_58_code
def yX6_cheaply : MethodName := ⟨RX6, "cheaply", "(II)I"⟩
def dkwX6_cheaply_2 : List UInt8 := [16, 253, 172]
abbrev dktX6_cheaply_2 : List UInt8 := dkwX6_cheaply_2 ++ []
def dkwX6_cheaply_1 : List UInt8 := [180, 0, 195, 155, 0, 20, 28, 42, 180, 0, 198, 162, 0, 12, 42, 180, 0, 32, 28, 46, 167, 0, 5]
abbrev dktX6_cheaply_1 : List UInt8 := dkwX6_cheaply_1 ++ dktX6_cheaply_2
def dkwX6_cheaply_0 : List UInt8 := [27, 184, 0, 219, 153, 0, 10, 28, 184, 0, 216, 154, 0, 5, 2, 172, 42, 27, 182, 0, 213, 42]
abbrev dktX6_cheaply_0 : List UInt8 := dkwX6_cheaply_0 ++ dktX6_cheaply_1
theorem dksX6_cheaply_0 : cX6_cheaply.data.toList.drop 0 = dktX6_cheaply_0 := by decide +kernel
theorem dksX6_cheaply_1 : cX6_cheaply.data.toList.drop 22 = dktX6_cheaply_1 := dk_seg dksX6_cheaply_0 22 rfl rfl
theorem dksX6_cheaply_2 : cX6_cheaply.data.toList.drop 45 = dktX6_cheaply_2 := dk_seg dksX6_cheaply_1 23 rfl rfl
theorem dX6_cheaply_0 : decode cX6_cheaply 0 = .ok (.iload_n 1, 1) := dk_27 (dk_at dksX6_cheaply_0 0 rfl rfl)
theorem dX6_cheaply_1 : decode cX6_cheaply 1 = .ok (.invokestatic 219, 3) := dk_184 0 219 (dk_at dksX6_cheaply_0 1 rfl rfl)
theorem dX6_cheaply_4 : decode cX6_cheaply 4 = .ok (.ifCond .eq 10, 3) := dk_153 0 10 (dk_at dksX6_cheaply_0 4 rfl rfl)
theorem dX6_cheaply_7 : decode cX6_cheaply 7 = .ok (.iload_n 2, 1) := dk_28 (dk_at dksX6_cheaply_0 7 rfl rfl)
theorem dX6_cheaply_8 : decode cX6_cheaply 8 = .ok (.invokestatic 216, 3) := dk_184 0 216 (dk_at dksX6_cheaply_0 8 rfl rfl)
theorem dX6_cheaply_11 : decode cX6_cheaply 11 = .ok (.ifCond .ne 5, 3) := dk_154 0 5 (dk_at dksX6_cheaply_0 11 rfl rfl)
theorem dX6_cheaply_14 : decode cX6_cheaply 14 = .ok (.iconst (-1), 1) := dk_2 (dk_at dksX6_cheaply_0 14 rfl rfl)
theorem dX6_cheaply_15 : decode cX6_cheaply 15 = .ok (.ireturn, 1) := dk_172 (dk_at dksX6_cheaply_0 15 rfl rfl)
theorem dX6_cheaply_16 : decode cX6_cheaply 16 = .ok (.aload_n 0, 1) := dk_42 (dk_at dksX6_cheaply_0 16 rfl rfl)
theorem dX6_cheaply_17 : decode cX6_cheaply 17 = .ok (.iload_n 1, 1) := dk_27 (dk_at dksX6_cheaply_0 17 rfl rfl)
theorem dX6_cheaply_18 : decode cX6_cheaply 18 = .ok (.invokevirtual 213, 3) := dk_182 0 213 (dk_at dksX6_cheaply_0 18 rfl rfl)
theorem dX6_cheaply_21 : decode cX6_cheaply 21 = .ok (.aload_n 0, 1) := dk_42 (dk_at dksX6_cheaply_0 21 rfl rfl)
theorem dX6_cheaply_22 : decode cX6_cheaply 22 = .ok (.getfield 195, 3) := dk_180 0 195 (dk_at dksX6_cheaply_1 0 rfl rfl)
theorem dX6_cheaply_25 : decode cX6_cheaply 25 = .ok (.ifCond .lt 20, 3) := dk_155 0 20 (dk_at dksX6_cheaply_1 3 rfl rfl)
theorem dX6_cheaply_28 : decode cX6_cheaply 28 = .ok (.iload_n 2, 1) := dk_28 (dk_at dksX6_cheaply_1 6 rfl rfl)
theorem dX6_cheaply_29 : decode cX6_cheaply 29 = .ok (.aload_n 0, 1) := dk_42 (dk_at dksX6_cheaply_1 7 rfl rfl)
theorem dX6_cheaply_30 : decode cX6_cheaply 30 = .ok (.getfield 198, 3) := dk_180 0 198 (dk_at dksX6_cheaply_1 8 rfl rfl)
theorem dX6_cheaply_33 : decode cX6_cheaply 33 = .ok (.if_icmp .ge 12, 3) := dk_162 0 12 (dk_at dksX6_cheaply_1 11 rfl rfl)
theorem dX6_cheaply_36 : decode cX6_cheaply 36 = .ok (.aload_n 0, 1) := dk_42 (dk_at dksX6_cheaply_1 14 rfl rfl)
theorem dX6_cheaply_37 : decode cX6_cheaply 37 = .ok (.getfield 32, 3) := dk_180 0 32 (dk_at dksX6_cheaply_1 15 rfl rfl)
theorem dX6_cheaply_40 : decode cX6_cheaply 40 = .ok (.iload_n 2, 1) := dk_28 (dk_at dksX6_cheaply_1 18 rfl rfl)
theorem dX6_cheaply_41 : decode cX6_cheaply 41 = .ok (.iaload, 1) := dk_46 (dk_at dksX6_cheaply_1 19 rfl rfl)
theorem dX6_cheaply_42 : decode cX6_cheaply 42 = .ok (.goto 5, 3) := dk_167 0 5 (dk_at dksX6_cheaply_1 20 rfl rfl)
theorem dX6_cheaply_45 : decode cX6_cheaply 45 = .ok (.bipush (-3), 2) := dk_16 253 (dk_at dksX6_cheaply_2 0 rfl rfl)
theorem dX6_cheaply_47 : decode cX6_cheaply 47 = .ok (.ireturn, 1) := dk_172 (dk_at dksX6_cheaply_2 2 rfl rfl)
abbrev cX6_bars : ByteArray := prog_26_method_59_code
def yX6_bars : MethodName := ⟨RX6, "bars", "()I"⟩
def dkwX6_bars_3 : List UInt8 := [172]
abbrev dktX6_bars_3 : List UInt8 := dkwX6_bars_3 ++ []
def dkwX6_bars_2 : List UInt8 := [120, 167, 0, 4, 3, 128, 60, 42, 2, 181, 0, 19, 42, 3, 181, 0, 189, 132, 2, 1, 167, 255, 198, 27]
abbrev dktX6_bars_2 : List UInt8 := dkwX6_bars_2 ++ dktX6_bars_3
def dkwX6_bars_1 : List UInt8 := [154, 0, 47, 42, 28, 181, 0, 19, 42, 16, 6, 182, 0, 213, 27, 42, 180, 0, 189, 158, 0, 9, 4, 28]
abbrev dktX6_bars_1 : List UInt8 := dkwX6_bars_1 ++ dktX6_bars_2
def dkwX6_bars_0 : List UInt8 := [42, 16, 6, 182, 0, 213, 3, 60, 3, 61, 28, 42, 180, 0, 7, 3, 46, 162, 0, 54, 42, 180, 0, 189]
abbrev dktX6_bars_0 : List UInt8 := dkwX6_bars_0 ++ dktX6_bars_1
theorem dksX6_bars_0 : cX6_bars.data.toList.drop 0 = dktX6_bars_0 := by decide +kernel
theorem dksX6_bars_1 : cX6_bars.data.toList.drop 24 = dktX6_bars_1 := dk_seg dksX6_bars_0 24 rfl rfl
theorem dksX6_bars_2 : cX6_bars.data.toList.drop 48 = dktX6_bars_2 := dk_seg dksX6_bars_1 24 rfl rfl
theorem dksX6_bars_3 : cX6_bars.data.toList.drop 72 = dktX6_bars_3 := dk_seg dksX6_bars_2 24 rfl rfl
theorem dX6_bars_0 : decode cX6_bars 0 = .ok (.aload_n 0, 1) := dk_42 (dk_at dksX6_bars_0 0 rfl rfl)
theorem dX6_bars_1 : decode cX6_bars 1 = .ok (.bipush 6, 2) := dk_16 6 (dk_at dksX6_bars_0 1 rfl rfl)
theorem dX6_bars_3 : decode cX6_bars 3 = .ok (.invokevirtual 213, 3) := dk_182 0 213 (dk_at dksX6_bars_0 3 rfl rfl)
theorem dX6_bars_6 : decode cX6_bars 6 = .ok (.iconst 0, 1) := dk_3 (dk_at dksX6_bars_0 6 rfl rfl)
theorem dX6_bars_7 : decode cX6_bars 7 = .ok (.istore_n 1, 1) := dk_60 (dk_at dksX6_bars_0 7 rfl rfl)
theorem dX6_bars_8 : decode cX6_bars 8 = .ok (.iconst 0, 1) := dk_3 (dk_at dksX6_bars_0 8 rfl rfl)
theorem dX6_bars_9 : decode cX6_bars 9 = .ok (.istore_n 2, 1) := dk_61 (dk_at dksX6_bars_0 9 rfl rfl)
theorem dX6_bars_10 : decode cX6_bars 10 = .ok (.iload_n 2, 1) := dk_28 (dk_at dksX6_bars_0 10 rfl rfl)
theorem dX6_bars_11 : decode cX6_bars 11 = .ok (.aload_n 0, 1) := dk_42 (dk_at dksX6_bars_0 11 rfl rfl)
theorem dX6_bars_12 : decode cX6_bars 12 = .ok (.getfield 7, 3) := dk_180 0 7 (dk_at dksX6_bars_0 12 rfl rfl)
theorem dX6_bars_15 : decode cX6_bars 15 = .ok (.iconst 0, 1) := dk_3 (dk_at dksX6_bars_0 15 rfl rfl)
theorem dX6_bars_16 : decode cX6_bars 16 = .ok (.iaload, 1) := dk_46 (dk_at dksX6_bars_0 16 rfl rfl)
theorem dX6_bars_17 : decode cX6_bars 17 = .ok (.if_icmp .ge 54, 3) := dk_162 0 54 (dk_at dksX6_bars_0 17 rfl rfl)
theorem dX6_bars_20 : decode cX6_bars 20 = .ok (.aload_n 0, 1) := dk_42 (dk_at dksX6_bars_0 20 rfl rfl)
theorem dX6_bars_21 : decode cX6_bars 21 = .ok (.getfield 189, 3) := dk_180 0 189 (dk_at dksX6_bars_0 21 rfl rfl)
theorem dX6_bars_24 : decode cX6_bars 24 = .ok (.ifCond .ne 47, 3) := dk_154 0 47 (dk_at dksX6_bars_1 0 rfl rfl)
theorem dX6_bars_27 : decode cX6_bars 27 = .ok (.aload_n 0, 1) := dk_42 (dk_at dksX6_bars_1 3 rfl rfl)
theorem dX6_bars_28 : decode cX6_bars 28 = .ok (.iload_n 2, 1) := dk_28 (dk_at dksX6_bars_1 4 rfl rfl)
theorem dX6_bars_29 : decode cX6_bars 29 = .ok (.putfield 19, 3) := dk_181 0 19 (dk_at dksX6_bars_1 5 rfl rfl)
theorem dX6_bars_32 : decode cX6_bars 32 = .ok (.aload_n 0, 1) := dk_42 (dk_at dksX6_bars_1 8 rfl rfl)
theorem dX6_bars_33 : decode cX6_bars 33 = .ok (.bipush 6, 2) := dk_16 6 (dk_at dksX6_bars_1 9 rfl rfl)
theorem dX6_bars_35 : decode cX6_bars 35 = .ok (.invokevirtual 213, 3) := dk_182 0 213 (dk_at dksX6_bars_1 11 rfl rfl)
theorem dX6_bars_38 : decode cX6_bars 38 = .ok (.iload_n 1, 1) := dk_27 (dk_at dksX6_bars_1 14 rfl rfl)
theorem dX6_bars_39 : decode cX6_bars 39 = .ok (.aload_n 0, 1) := dk_42 (dk_at dksX6_bars_1 15 rfl rfl)
theorem dX6_bars_40 : decode cX6_bars 40 = .ok (.getfield 189, 3) := dk_180 0 189 (dk_at dksX6_bars_1 16 rfl rfl)
theorem dX6_bars_43 : decode cX6_bars 43 = .ok (.ifCond .le 9, 3) := dk_158 0 9 (dk_at dksX6_bars_1 19 rfl rfl)
theorem dX6_bars_46 : decode cX6_bars 46 = .ok (.iconst 1, 1) := dk_4 (dk_at dksX6_bars_1 22 rfl rfl)
theorem dX6_bars_47 : decode cX6_bars 47 = .ok (.iload_n 2, 1) := dk_28 (dk_at dksX6_bars_1 23 rfl rfl)
theorem dX6_bars_48 : decode cX6_bars 48 = .ok (.ishl, 1) := dk_120 (dk_at dksX6_bars_2 0 rfl rfl)
theorem dX6_bars_49 : decode cX6_bars 49 = .ok (.goto 4, 3) := dk_167 0 4 (dk_at dksX6_bars_2 1 rfl rfl)
theorem dX6_bars_52 : decode cX6_bars 52 = .ok (.iconst 0, 1) := dk_3 (dk_at dksX6_bars_2 4 rfl rfl)
theorem dX6_bars_53 : decode cX6_bars 53 = .ok (.ior, 1) := dk_128 (dk_at dksX6_bars_2 5 rfl rfl)
theorem dX6_bars_54 : decode cX6_bars 54 = .ok (.istore_n 1, 1) := dk_60 (dk_at dksX6_bars_2 6 rfl rfl)
theorem dX6_bars_55 : decode cX6_bars 55 = .ok (.aload_n 0, 1) := dk_42 (dk_at dksX6_bars_2 7 rfl rfl)
theorem dX6_bars_56 : decode cX6_bars 56 = .ok (.iconst (-1), 1) := dk_2 (dk_at dksX6_bars_2 8 rfl rfl)
theorem dX6_bars_57 : decode cX6_bars 57 = .ok (.putfield 19, 3) := dk_181 0 19 (dk_at dksX6_bars_2 9 rfl rfl)
theorem dX6_bars_60 : decode cX6_bars 60 = .ok (.aload_n 0, 1) := dk_42 (dk_at dksX6_bars_2 12 rfl rfl)
theorem dX6_bars_61 : decode cX6_bars 61 = .ok (.iconst 0, 1) := dk_3 (dk_at dksX6_bars_2 13 rfl rfl)
theorem dX6_bars_62 : decode cX6_bars 62 = .ok (.putfield 189, 3) := dk_181 0 189 (dk_at dksX6_bars_2 14 rfl rfl)
theorem dX6_bars_65 : decode cX6_bars 65 = .ok (.iinc 2 1, 3) := dk_132 2 1 (dk_at dksX6_bars_2 17 rfl rfl)
theorem dX6_bars_68 : decode cX6_bars 68 = .ok (.goto (-58), 3) := dk_167 255 198 (dk_at dksX6_bars_2 20 rfl rfl)
theorem dX6_bars_71 : decode cX6_bars 71 = .ok (.iload_n 1, 1) := dk_27 (dk_at dksX6_bars_2 23 rfl rfl)
theorem dX6_bars_72 : decode cX6_bars 72 = .ok (.ireturn, 1) := dk_172 (dk_at dksX6_bars_3 0 rfl rfl)
abbrev cX6_jars : ByteArray := prog_26_method_60_code
def yX6_jars : MethodName := ⟨RX6, "jars", "()I"⟩
def dkwX6_jars_3 : List UInt8 := [180, 0, 201, 27, 164, 0, 10, 42, 180, 0, 201, 167, 0, 4, 27, 60, 132, 3, 1, 167, 255, 184, 28, 172]
abbrev dktX6_jars_3 : List UInt8 := dkwX6_jars_3 ++ []
def dkwX6_jars_2 : List UInt8 := [29, 96, 92, 46, 4, 100, 79, 42, 180, 0, 201, 27, 164, 0, 7, 29, 167, 0, 4, 28, 61, 42]
abbrev dktX6_jars_2 : List UInt8 := dkwX6_jars_2 ++ dktX6_jars_3
def dkwX6_jars_1 : List UInt8 := [180, 0, 7, 16, 14, 29, 96, 92, 46, 4, 96, 79, 42, 16, 6, 182, 0, 213, 42, 180, 0, 7, 16, 14]
abbrev dktX6_jars_1 : List UInt8 := dkwX6_jars_1 ++ dktX6_jars_2
def dkwX6_jars_0 : List UInt8 := [42, 16, 6, 182, 0, 213, 42, 180, 0, 201, 60, 16, 253, 61, 3, 62, 29, 16, 8, 162, 0, 72, 42]
abbrev dktX6_jars_0 : List UInt8 := dkwX6_jars_0 ++ dktX6_jars_1
theorem dksX6_jars_0 : cX6_jars.data.toList.drop 0 = dktX6_jars_0 := by decide +kernel
theorem dksX6_jars_1 : cX6_jars.data.toList.drop 23 = dktX6_jars_1 := dk_seg dksX6_jars_0 23 rfl rfl
theorem dksX6_jars_2 : cX6_jars.data.toList.drop 47 = dktX6_jars_2 := dk_seg dksX6_jars_1 24 rfl rfl
theorem dksX6_jars_3 : cX6_jars.data.toList.drop 69 = dktX6_jars_3 := dk_seg dksX6_jars_2 22 rfl rfl
theorem dX6_jars_0 : decode cX6_jars 0 = .ok (.aload_n 0, 1) := dk_42 (dk_at dksX6_jars_0 0 rfl rfl)
theorem dX6_jars_1 : decode cX6_jars 1 = .ok (.bipush 6, 2) := dk_16 6 (dk_at dksX6_jars_0 1 rfl rfl)
theorem dX6_jars_3 : decode cX6_jars 3 = .ok (.invokevirtual 213, 3) := dk_182 0 213 (dk_at dksX6_jars_0 3 rfl rfl)
theorem dX6_jars_6 : decode cX6_jars 6 = .ok (.aload_n 0, 1) := dk_42 (dk_at dksX6_jars_0 6 rfl rfl)
theorem dX6_jars_7 : decode cX6_jars 7 = .ok (.getfield 201, 3) := dk_180 0 201 (dk_at dksX6_jars_0 7 rfl rfl)
theorem dX6_jars_10 : decode cX6_jars 10 = .ok (.istore_n 1, 1) := dk_60 (dk_at dksX6_jars_0 10 rfl rfl)
theorem dX6_jars_11 : decode cX6_jars 11 = .ok (.bipush (-3), 2) := dk_16 253 (dk_at dksX6_jars_0 11 rfl rfl)
theorem dX6_jars_13 : decode cX6_jars 13 = .ok (.istore_n 2, 1) := dk_61 (dk_at dksX6_jars_0 13 rfl rfl)
theorem dX6_jars_14 : decode cX6_jars 14 = .ok (.iconst 0, 1) := dk_3 (dk_at dksX6_jars_0 14 rfl rfl)
theorem dX6_jars_15 : decode cX6_jars 15 = .ok (.istore_n 3, 1) := dk_62 (dk_at dksX6_jars_0 15 rfl rfl)
theorem dX6_jars_16 : decode cX6_jars 16 = .ok (.iload_n 3, 1) := dk_29 (dk_at dksX6_jars_0 16 rfl rfl)
theorem dX6_jars_17 : decode cX6_jars 17 = .ok (.bipush 8, 2) := dk_16 8 (dk_at dksX6_jars_0 17 rfl rfl)
theorem dX6_jars_19 : decode cX6_jars 19 = .ok (.if_icmp .ge 72, 3) := dk_162 0 72 (dk_at dksX6_jars_0 19 rfl rfl)
theorem dX6_jars_22 : decode cX6_jars 22 = .ok (.aload_n 0, 1) := dk_42 (dk_at dksX6_jars_0 22 rfl rfl)
theorem dX6_jars_23 : decode cX6_jars 23 = .ok (.getfield 7, 3) := dk_180 0 7 (dk_at dksX6_jars_1 0 rfl rfl)
theorem dX6_jars_26 : decode cX6_jars 26 = .ok (.bipush 14, 2) := dk_16 14 (dk_at dksX6_jars_1 3 rfl rfl)
theorem dX6_jars_28 : decode cX6_jars 28 = .ok (.iload_n 3, 1) := dk_29 (dk_at dksX6_jars_1 5 rfl rfl)
theorem dX6_jars_29 : decode cX6_jars 29 = .ok (.iadd, 1) := dk_96 (dk_at dksX6_jars_1 6 rfl rfl)
theorem dX6_jars_30 : decode cX6_jars 30 = .ok (.dup2, 1) := dk_92 (dk_at dksX6_jars_1 7 rfl rfl)
theorem dX6_jars_31 : decode cX6_jars 31 = .ok (.iaload, 1) := dk_46 (dk_at dksX6_jars_1 8 rfl rfl)
theorem dX6_jars_32 : decode cX6_jars 32 = .ok (.iconst 1, 1) := dk_4 (dk_at dksX6_jars_1 9 rfl rfl)
theorem dX6_jars_33 : decode cX6_jars 33 = .ok (.iadd, 1) := dk_96 (dk_at dksX6_jars_1 10 rfl rfl)
theorem dX6_jars_34 : decode cX6_jars 34 = .ok (.iastore, 1) := dk_79 (dk_at dksX6_jars_1 11 rfl rfl)
theorem dX6_jars_35 : decode cX6_jars 35 = .ok (.aload_n 0, 1) := dk_42 (dk_at dksX6_jars_1 12 rfl rfl)
theorem dX6_jars_36 : decode cX6_jars 36 = .ok (.bipush 6, 2) := dk_16 6 (dk_at dksX6_jars_1 13 rfl rfl)
theorem dX6_jars_38 : decode cX6_jars 38 = .ok (.invokevirtual 213, 3) := dk_182 0 213 (dk_at dksX6_jars_1 15 rfl rfl)
theorem dX6_jars_41 : decode cX6_jars 41 = .ok (.aload_n 0, 1) := dk_42 (dk_at dksX6_jars_1 18 rfl rfl)
theorem dX6_jars_42 : decode cX6_jars 42 = .ok (.getfield 7, 3) := dk_180 0 7 (dk_at dksX6_jars_1 19 rfl rfl)
theorem dX6_jars_45 : decode cX6_jars 45 = .ok (.bipush 14, 2) := dk_16 14 (dk_at dksX6_jars_1 22 rfl rfl)
theorem dX6_jars_47 : decode cX6_jars 47 = .ok (.iload_n 3, 1) := dk_29 (dk_at dksX6_jars_2 0 rfl rfl)
theorem dX6_jars_48 : decode cX6_jars 48 = .ok (.iadd, 1) := dk_96 (dk_at dksX6_jars_2 1 rfl rfl)
theorem dX6_jars_49 : decode cX6_jars 49 = .ok (.dup2, 1) := dk_92 (dk_at dksX6_jars_2 2 rfl rfl)
theorem dX6_jars_50 : decode cX6_jars 50 = .ok (.iaload, 1) := dk_46 (dk_at dksX6_jars_2 3 rfl rfl)
theorem dX6_jars_51 : decode cX6_jars 51 = .ok (.iconst 1, 1) := dk_4 (dk_at dksX6_jars_2 4 rfl rfl)
theorem dX6_jars_52 : decode cX6_jars 52 = .ok (.isub, 1) := dk_100 (dk_at dksX6_jars_2 5 rfl rfl)
theorem dX6_jars_53 : decode cX6_jars 53 = .ok (.iastore, 1) := dk_79 (dk_at dksX6_jars_2 6 rfl rfl)
theorem dX6_jars_54 : decode cX6_jars 54 = .ok (.aload_n 0, 1) := dk_42 (dk_at dksX6_jars_2 7 rfl rfl)
theorem dX6_jars_55 : decode cX6_jars 55 = .ok (.getfield 201, 3) := dk_180 0 201 (dk_at dksX6_jars_2 8 rfl rfl)
theorem dX6_jars_58 : decode cX6_jars 58 = .ok (.iload_n 1, 1) := dk_27 (dk_at dksX6_jars_2 11 rfl rfl)
theorem dX6_jars_59 : decode cX6_jars 59 = .ok (.if_icmp .le 7, 3) := dk_164 0 7 (dk_at dksX6_jars_2 12 rfl rfl)
theorem dX6_jars_62 : decode cX6_jars 62 = .ok (.iload_n 3, 1) := dk_29 (dk_at dksX6_jars_2 15 rfl rfl)
theorem dX6_jars_63 : decode cX6_jars 63 = .ok (.goto 4, 3) := dk_167 0 4 (dk_at dksX6_jars_2 16 rfl rfl)
theorem dX6_jars_66 : decode cX6_jars 66 = .ok (.iload_n 2, 1) := dk_28 (dk_at dksX6_jars_2 19 rfl rfl)
theorem dX6_jars_67 : decode cX6_jars 67 = .ok (.istore_n 2, 1) := dk_61 (dk_at dksX6_jars_2 20 rfl rfl)
theorem dX6_jars_68 : decode cX6_jars 68 = .ok (.aload_n 0, 1) := dk_42 (dk_at dksX6_jars_2 21 rfl rfl)
theorem dX6_jars_69 : decode cX6_jars 69 = .ok (.getfield 201, 3) := dk_180 0 201 (dk_at dksX6_jars_3 0 rfl rfl)
theorem dX6_jars_72 : decode cX6_jars 72 = .ok (.iload_n 1, 1) := dk_27 (dk_at dksX6_jars_3 3 rfl rfl)
theorem dX6_jars_73 : decode cX6_jars 73 = .ok (.if_icmp .le 10, 3) := dk_164 0 10 (dk_at dksX6_jars_3 4 rfl rfl)
theorem dX6_jars_76 : decode cX6_jars 76 = .ok (.aload_n 0, 1) := dk_42 (dk_at dksX6_jars_3 7 rfl rfl)
theorem dX6_jars_77 : decode cX6_jars 77 = .ok (.getfield 201, 3) := dk_180 0 201 (dk_at dksX6_jars_3 8 rfl rfl)
theorem dX6_jars_80 : decode cX6_jars 80 = .ok (.goto 4, 3) := dk_167 0 4 (dk_at dksX6_jars_3 11 rfl rfl)
theorem dX6_jars_83 : decode cX6_jars 83 = .ok (.iload_n 1, 1) := dk_27 (dk_at dksX6_jars_3 14 rfl rfl)
theorem dX6_jars_84 : decode cX6_jars 84 = .ok (.istore_n 1, 1) := dk_60 (dk_at dksX6_jars_3 15 rfl rfl)
theorem dX6_jars_85 : decode cX6_jars 85 = .ok (.iinc 3 1, 3) := dk_132 3 1 (dk_at dksX6_jars_3 16 rfl rfl)
theorem dX6_jars_88 : decode cX6_jars 88 = .ok (.goto (-72), 3) := dk_167 255 184 (dk_at dksX6_jars_3 19 rfl rfl)
theorem dX6_jars_91 : decode cX6_jars 91 = .ok (.iload_n 2, 1) := dk_28 (dk_at dksX6_jars_3 22 rfl rfl)
theorem dX6_jars_92 : decode cX6_jars 92 = .ok (.ireturn, 1) := dk_172 (dk_at dksX6_jars_3 23 rfl rfl)
abbrev cX6_feeFor : ByteArray := prog_26_method_61_code
def yX6_feeFor : MethodName := ⟨RX6, "feeFor", "(I)I"⟩
def dkwX6_feeFor_3 : List UInt8 := [42, 180, 0, 7, 5, 28, 79, 29, 172]
abbrev dktX6_feeFor_3 : List UInt8 := dkwX6_feeFor_3 ++ []
def dkwX6_feeFor_2 : List UInt8 := [182, 0, 213, 42, 180, 0, 189, 158, 0, 8, 21, 4, 167, 0, 5, 16, 253, 62, 132, 4, 255, 167, 255, 216]
abbrev dktX6_feeFor_2 : List UInt8 := dkwX6_feeFor_2 ++ dktX6_feeFor_3
def dkwX6_feeFor_1 : List UInt8 := [16, 50, 54, 4, 21, 4, 155, 0, 41, 29, 156, 0, 37, 42, 180, 0, 7, 5, 21, 4, 79, 42, 27]
abbrev dktX6_feeFor_1 : List UInt8 := dkwX6_feeFor_1 ++ dktX6_feeFor_2
def dkwX6_feeFor_0 : List UInt8 := [27, 133, 10, 20, 0, 126, 184, 0, 68, 154, 0, 5, 2, 172, 42, 180, 0, 7, 5, 46, 61, 16, 253, 62]
abbrev dktX6_feeFor_0 : List UInt8 := dkwX6_feeFor_0 ++ dktX6_feeFor_1
theorem dksX6_feeFor_0 : cX6_feeFor.data.toList.drop 0 = dktX6_feeFor_0 := by decide +kernel
theorem dksX6_feeFor_1 : cX6_feeFor.data.toList.drop 24 = dktX6_feeFor_1 := dk_seg dksX6_feeFor_0 24 rfl rfl
theorem dksX6_feeFor_2 : cX6_feeFor.data.toList.drop 47 = dktX6_feeFor_2 := dk_seg dksX6_feeFor_1 23 rfl rfl
theorem dksX6_feeFor_3 : cX6_feeFor.data.toList.drop 71 = dktX6_feeFor_3 := dk_seg dksX6_feeFor_2 24 rfl rfl
theorem dX6_feeFor_0 : decode cX6_feeFor 0 = .ok (.iload_n 1, 1) := dk_27 (dk_at dksX6_feeFor_0 0 rfl rfl)
theorem dX6_feeFor_1 : decode cX6_feeFor 1 = .ok (.i2l, 1) := dk_133 (dk_at dksX6_feeFor_0 1 rfl rfl)
theorem dX6_feeFor_2 : decode cX6_feeFor 2 = .ok (.lconst 1, 1) := dk_10 (dk_at dksX6_feeFor_0 2 rfl rfl)
theorem dX6_feeFor_3 : decode cX6_feeFor 3 = .ok (.ldc2_w 126, 3) := dk_20 0 126 (dk_at dksX6_feeFor_0 3 rfl rfl)
theorem dX6_feeFor_6 : decode cX6_feeFor 6 = .ok (.invokestatic 68, 3) := dk_184 0 68 (dk_at dksX6_feeFor_0 6 rfl rfl)
theorem dX6_feeFor_9 : decode cX6_feeFor 9 = .ok (.ifCond .ne 5, 3) := dk_154 0 5 (dk_at dksX6_feeFor_0 9 rfl rfl)
theorem dX6_feeFor_12 : decode cX6_feeFor 12 = .ok (.iconst (-1), 1) := dk_2 (dk_at dksX6_feeFor_0 12 rfl rfl)
theorem dX6_feeFor_13 : decode cX6_feeFor 13 = .ok (.ireturn, 1) := dk_172 (dk_at dksX6_feeFor_0 13 rfl rfl)
theorem dX6_feeFor_14 : decode cX6_feeFor 14 = .ok (.aload_n 0, 1) := dk_42 (dk_at dksX6_feeFor_0 14 rfl rfl)
theorem dX6_feeFor_15 : decode cX6_feeFor 15 = .ok (.getfield 7, 3) := dk_180 0 7 (dk_at dksX6_feeFor_0 15 rfl rfl)
theorem dX6_feeFor_18 : decode cX6_feeFor 18 = .ok (.iconst 2, 1) := dk_5 (dk_at dksX6_feeFor_0 18 rfl rfl)
theorem dX6_feeFor_19 : decode cX6_feeFor 19 = .ok (.iaload, 1) := dk_46 (dk_at dksX6_feeFor_0 19 rfl rfl)
theorem dX6_feeFor_20 : decode cX6_feeFor 20 = .ok (.istore_n 2, 1) := dk_61 (dk_at dksX6_feeFor_0 20 rfl rfl)
theorem dX6_feeFor_21 : decode cX6_feeFor 21 = .ok (.bipush (-3), 2) := dk_16 253 (dk_at dksX6_feeFor_0 21 rfl rfl)
theorem dX6_feeFor_23 : decode cX6_feeFor 23 = .ok (.istore_n 3, 1) := dk_62 (dk_at dksX6_feeFor_0 23 rfl rfl)
theorem dX6_feeFor_24 : decode cX6_feeFor 24 = .ok (.bipush 50, 2) := dk_16 50 (dk_at dksX6_feeFor_1 0 rfl rfl)
theorem dX6_feeFor_26 : decode cX6_feeFor 26 = .ok (.istore 4, 2) := dk_54 4 (dk_at dksX6_feeFor_1 2 rfl rfl)
theorem dX6_feeFor_28 : decode cX6_feeFor 28 = .ok (.iload 4, 2) := dk_21 4 (dk_at dksX6_feeFor_1 4 rfl rfl)
theorem dX6_feeFor_30 : decode cX6_feeFor 30 = .ok (.ifCond .lt 41, 3) := dk_155 0 41 (dk_at dksX6_feeFor_1 6 rfl rfl)
theorem dX6_feeFor_33 : decode cX6_feeFor 33 = .ok (.iload_n 3, 1) := dk_29 (dk_at dksX6_feeFor_1 9 rfl rfl)
theorem dX6_feeFor_34 : decode cX6_feeFor 34 = .ok (.ifCond .ge 37, 3) := dk_156 0 37 (dk_at dksX6_feeFor_1 10 rfl rfl)
theorem dX6_feeFor_37 : decode cX6_feeFor 37 = .ok (.aload_n 0, 1) := dk_42 (dk_at dksX6_feeFor_1 13 rfl rfl)
theorem dX6_feeFor_38 : decode cX6_feeFor 38 = .ok (.getfield 7, 3) := dk_180 0 7 (dk_at dksX6_feeFor_1 14 rfl rfl)
theorem dX6_feeFor_41 : decode cX6_feeFor 41 = .ok (.iconst 2, 1) := dk_5 (dk_at dksX6_feeFor_1 17 rfl rfl)
theorem dX6_feeFor_42 : decode cX6_feeFor 42 = .ok (.iload 4, 2) := dk_21 4 (dk_at dksX6_feeFor_1 18 rfl rfl)
theorem dX6_feeFor_44 : decode cX6_feeFor 44 = .ok (.iastore, 1) := dk_79 (dk_at dksX6_feeFor_1 20 rfl rfl)
theorem dX6_feeFor_45 : decode cX6_feeFor 45 = .ok (.aload_n 0, 1) := dk_42 (dk_at dksX6_feeFor_1 21 rfl rfl)
theorem dX6_feeFor_46 : decode cX6_feeFor 46 = .ok (.iload_n 1, 1) := dk_27 (dk_at dksX6_feeFor_1 22 rfl rfl)
theorem dX6_feeFor_47 : decode cX6_feeFor 47 = .ok (.invokevirtual 213, 3) := dk_182 0 213 (dk_at dksX6_feeFor_2 0 rfl rfl)
theorem dX6_feeFor_50 : decode cX6_feeFor 50 = .ok (.aload_n 0, 1) := dk_42 (dk_at dksX6_feeFor_2 3 rfl rfl)
theorem dX6_feeFor_51 : decode cX6_feeFor 51 = .ok (.getfield 189, 3) := dk_180 0 189 (dk_at dksX6_feeFor_2 4 rfl rfl)
theorem dX6_feeFor_54 : decode cX6_feeFor 54 = .ok (.ifCond .le 8, 3) := dk_158 0 8 (dk_at dksX6_feeFor_2 7 rfl rfl)
theorem dX6_feeFor_57 : decode cX6_feeFor 57 = .ok (.iload 4, 2) := dk_21 4 (dk_at dksX6_feeFor_2 10 rfl rfl)
theorem dX6_feeFor_59 : decode cX6_feeFor 59 = .ok (.goto 5, 3) := dk_167 0 5 (dk_at dksX6_feeFor_2 12 rfl rfl)
theorem dX6_feeFor_62 : decode cX6_feeFor 62 = .ok (.bipush (-3), 2) := dk_16 253 (dk_at dksX6_feeFor_2 15 rfl rfl)
theorem dX6_feeFor_64 : decode cX6_feeFor 64 = .ok (.istore_n 3, 1) := dk_62 (dk_at dksX6_feeFor_2 17 rfl rfl)
theorem dX6_feeFor_65 : decode cX6_feeFor 65 = .ok (.iinc 4 (-1), 3) := dk_132 4 255 (dk_at dksX6_feeFor_2 18 rfl rfl)
theorem dX6_feeFor_68 : decode cX6_feeFor 68 = .ok (.goto (-40), 3) := dk_167 255 216 (dk_at dksX6_feeFor_2 21 rfl rfl)
theorem dX6_feeFor_71 : decode cX6_feeFor 71 = .ok (.aload_n 0, 1) := dk_42 (dk_at dksX6_feeFor_3 0 rfl rfl)
theorem dX6_feeFor_72 : decode cX6_feeFor 72 = .ok (.getfield 7, 3) := dk_180 0 7 (dk_at dksX6_feeFor_3 1 rfl rfl)
theorem dX6_feeFor_75 : decode cX6_feeFor 75 = .ok (.iconst 2, 1) := dk_5 (dk_at dksX6_feeFor_3 4 rfl rfl)
theorem dX6_feeFor_76 : decode cX6_feeFor 76 = .ok (.iload_n 2, 1) := dk_28 (dk_at dksX6_feeFor_3 5 rfl rfl)
theorem dX6_feeFor_77 : decode cX6_feeFor 77 = .ok (.iastore, 1) := dk_79 (dk_at dksX6_feeFor_3 6 rfl rfl)
theorem dX6_feeFor_78 : decode cX6_feeFor 78 = .ok (.iload_n 3, 1) := dk_29 (dk_at dksX6_feeFor_3 7 rfl rfl)
theorem dX6_feeFor_79 : decode cX6_feeFor 79 = .ok (.ireturn, 1) := dk_172 (dk_at dksX6_feeFor_3 8 rfl rfl)
abbrev cX6_rings : ByteArray := prog_26_method_65_code
def yX6_rings : MethodName := ⟨RX6, "rings", "(I)I"⟩
def dkwX6_rings_1 : List UInt8 := [180, 0, 225, 172]
abbrev dktX6_rings_1 : List UInt8 := dkwX6_rings_1 ++ []
def dkwX6_rings_0 : List UInt8 := [27, 133, 20, 0, 231, 20, 0, 126, 184, 0, 68, 154, 0, 5, 2, 172, 42, 27, 182, 0, 233, 42]
abbrev dktX6_rings_0 : List UInt8 := dkwX6_rings_0 ++ dktX6_rings_1
theorem dksX6_rings_0 : cX6_rings.data.toList.drop 0 = dktX6_rings_0 := by decide +kernel
theorem dksX6_rings_1 : cX6_rings.data.toList.drop 22 = dktX6_rings_1 := dk_seg dksX6_rings_0 22 rfl rfl
theorem dX6_rings_0 : decode cX6_rings 0 = .ok (.iload_n 1, 1) := dk_27 (dk_at dksX6_rings_0 0 rfl rfl)
theorem dX6_rings_1 : decode cX6_rings 1 = .ok (.i2l, 1) := dk_133 (dk_at dksX6_rings_0 1 rfl rfl)
theorem dX6_rings_2 : decode cX6_rings 2 = .ok (.ldc2_w 231, 3) := dk_20 0 231 (dk_at dksX6_rings_0 2 rfl rfl)
theorem dX6_rings_5 : decode cX6_rings 5 = .ok (.ldc2_w 126, 3) := dk_20 0 126 (dk_at dksX6_rings_0 5 rfl rfl)
theorem dX6_rings_8 : decode cX6_rings 8 = .ok (.invokestatic 68, 3) := dk_184 0 68 (dk_at dksX6_rings_0 8 rfl rfl)
theorem dX6_rings_11 : decode cX6_rings 11 = .ok (.ifCond .ne 5, 3) := dk_154 0 5 (dk_at dksX6_rings_0 11 rfl rfl)
theorem dX6_rings_14 : decode cX6_rings 14 = .ok (.iconst (-1), 1) := dk_2 (dk_at dksX6_rings_0 14 rfl rfl)
theorem dX6_rings_15 : decode cX6_rings 15 = .ok (.ireturn, 1) := dk_172 (dk_at dksX6_rings_0 15 rfl rfl)
theorem dX6_rings_16 : decode cX6_rings 16 = .ok (.aload_n 0, 1) := dk_42 (dk_at dksX6_rings_0 16 rfl rfl)
theorem dX6_rings_17 : decode cX6_rings 17 = .ok (.iload_n 1, 1) := dk_27 (dk_at dksX6_rings_0 17 rfl rfl)
theorem dX6_rings_18 : decode cX6_rings 18 = .ok (.invokevirtual 233, 3) := dk_182 0 233 (dk_at dksX6_rings_0 18 rfl rfl)
theorem dX6_rings_21 : decode cX6_rings 21 = .ok (.aload_n 0, 1) := dk_42 (dk_at dksX6_rings_0 21 rfl rfl)
theorem dX6_rings_22 : decode cX6_rings 22 = .ok (.getfield 225, 3) := dk_180 0 225 (dk_at dksX6_rings_1 0 rfl rfl)
theorem dX6_rings_25 : decode cX6_rings 25 = .ok (.ireturn, 1) := dk_172 (dk_at dksX6_rings_1 3 rfl rfl)
abbrev cX6_findRings : ByteArray := prog_26_method_64_code
def yX6_findRings : MethodName := ⟨RX6, "findRings", "(I)V"⟩
def dkwX6_findRings_2 : List UInt8 := [167, 255, 219, 177]
abbrev dktX6_findRings_2 : List UInt8 := dkwX6_findRings_2 ++ []
def dkwX6_findRings_1 : List UInt8 := [154, 0, 19, 42, 180, 0, 35, 3, 28, 79, 42, 4, 4, 28, 120, 27, 182, 0, 228, 132, 2, 1]
abbrev dktX6_findRings_1 : List UInt8 := dkwX6_findRings_1 ++ dktX6_findRings_2
def dkwX6_findRings_0 : List UInt8 := [42, 3, 181, 0, 225, 3, 61, 28, 42, 180, 0, 7, 3, 46, 162, 0, 33, 42, 28, 182, 0, 96]
abbrev dktX6_findRings_0 : List UInt8 := dkwX6_findRings_0 ++ dktX6_findRings_1
theorem dksX6_findRings_0 : cX6_findRings.data.toList.drop 0 = dktX6_findRings_0 := by decide +kernel
theorem dksX6_findRings_1 : cX6_findRings.data.toList.drop 22 = dktX6_findRings_1 := dk_seg dksX6_findRings_0 22 rfl rfl
theorem dksX6_findRings_2 : cX6_findRings.data.toList.drop 44 = dktX6_findRings_2 := dk_seg dksX6_findRings_1 22 rfl rfl
theorem dX6_findRings_0 : decode cX6_findRings 0 = .ok (.aload_n 0, 1) := dk_42 (dk_at dksX6_findRings_0 0 rfl rfl)
theorem dX6_findRings_1 : decode cX6_findRings 1 = .ok (.iconst 0, 1) := dk_3 (dk_at dksX6_findRings_0 1 rfl rfl)
theorem dX6_findRings_2 : decode cX6_findRings 2 = .ok (.putfield 225, 3) := dk_181 0 225 (dk_at dksX6_findRings_0 2 rfl rfl)
theorem dX6_findRings_5 : decode cX6_findRings 5 = .ok (.iconst 0, 1) := dk_3 (dk_at dksX6_findRings_0 5 rfl rfl)
theorem dX6_findRings_6 : decode cX6_findRings 6 = .ok (.istore_n 2, 1) := dk_61 (dk_at dksX6_findRings_0 6 rfl rfl)
theorem dX6_findRings_7 : decode cX6_findRings 7 = .ok (.iload_n 2, 1) := dk_28 (dk_at dksX6_findRings_0 7 rfl rfl)
theorem dX6_findRings_8 : decode cX6_findRings 8 = .ok (.aload_n 0, 1) := dk_42 (dk_at dksX6_findRings_0 8 rfl rfl)
theorem dX6_findRings_9 : decode cX6_findRings 9 = .ok (.getfield 7, 3) := dk_180 0 7 (dk_at dksX6_findRings_0 9 rfl rfl)
theorem dX6_findRings_12 : decode cX6_findRings 12 = .ok (.iconst 0, 1) := dk_3 (dk_at dksX6_findRings_0 12 rfl rfl)
theorem dX6_findRings_13 : decode cX6_findRings 13 = .ok (.iaload, 1) := dk_46 (dk_at dksX6_findRings_0 13 rfl rfl)
theorem dX6_findRings_14 : decode cX6_findRings 14 = .ok (.if_icmp .ge 33, 3) := dk_162 0 33 (dk_at dksX6_findRings_0 14 rfl rfl)
theorem dX6_findRings_17 : decode cX6_findRings 17 = .ok (.aload_n 0, 1) := dk_42 (dk_at dksX6_findRings_0 17 rfl rfl)
theorem dX6_findRings_18 : decode cX6_findRings 18 = .ok (.iload_n 2, 1) := dk_28 (dk_at dksX6_findRings_0 18 rfl rfl)
theorem dX6_findRings_19 : decode cX6_findRings 19 = .ok (.invokevirtual 96, 3) := dk_182 0 96 (dk_at dksX6_findRings_0 19 rfl rfl)
theorem dX6_findRings_22 : decode cX6_findRings 22 = .ok (.ifCond .ne 19, 3) := dk_154 0 19 (dk_at dksX6_findRings_1 0 rfl rfl)
theorem dX6_findRings_25 : decode cX6_findRings 25 = .ok (.aload_n 0, 1) := dk_42 (dk_at dksX6_findRings_1 3 rfl rfl)
theorem dX6_findRings_26 : decode cX6_findRings 26 = .ok (.getfield 35, 3) := dk_180 0 35 (dk_at dksX6_findRings_1 4 rfl rfl)
theorem dX6_findRings_29 : decode cX6_findRings 29 = .ok (.iconst 0, 1) := dk_3 (dk_at dksX6_findRings_1 7 rfl rfl)
theorem dX6_findRings_30 : decode cX6_findRings 30 = .ok (.iload_n 2, 1) := dk_28 (dk_at dksX6_findRings_1 8 rfl rfl)
theorem dX6_findRings_31 : decode cX6_findRings 31 = .ok (.iastore, 1) := dk_79 (dk_at dksX6_findRings_1 9 rfl rfl)
theorem dX6_findRings_32 : decode cX6_findRings 32 = .ok (.aload_n 0, 1) := dk_42 (dk_at dksX6_findRings_1 10 rfl rfl)
theorem dX6_findRings_33 : decode cX6_findRings 33 = .ok (.iconst 1, 1) := dk_4 (dk_at dksX6_findRings_1 11 rfl rfl)
theorem dX6_findRings_34 : decode cX6_findRings 34 = .ok (.iconst 1, 1) := dk_4 (dk_at dksX6_findRings_1 12 rfl rfl)
theorem dX6_findRings_35 : decode cX6_findRings 35 = .ok (.iload_n 2, 1) := dk_28 (dk_at dksX6_findRings_1 13 rfl rfl)
theorem dX6_findRings_36 : decode cX6_findRings 36 = .ok (.ishl, 1) := dk_120 (dk_at dksX6_findRings_1 14 rfl rfl)
theorem dX6_findRings_37 : decode cX6_findRings 37 = .ok (.iload_n 1, 1) := dk_27 (dk_at dksX6_findRings_1 15 rfl rfl)
theorem dX6_findRings_38 : decode cX6_findRings 38 = .ok (.invokevirtual 228, 3) := dk_182 0 228 (dk_at dksX6_findRings_1 16 rfl rfl)
theorem dX6_findRings_41 : decode cX6_findRings 41 = .ok (.iinc 2 1, 3) := dk_132 2 1 (dk_at dksX6_findRings_1 19 rfl rfl)
theorem dX6_findRings_44 : decode cX6_findRings 44 = .ok (.goto (-37), 3) := dk_167 255 219 (dk_at dksX6_findRings_2 0 rfl rfl)
theorem dX6_findRings_47 : decode cX6_findRings 47 = .ok (.return_, 1) := dk_177 (dk_at dksX6_findRings_2 3 rfl rfl)
abbrev cX6_circles : ByteArray := prog_26_method_63_code
def yX6_circles : MethodName := ⟨RX6, "circles", "(III)V"⟩
def dkwX6_circles_6 : List UInt8 := [120, 128, 29, 182, 0, 228, 132, 5, 1, 167, 255, 191, 177]
abbrev dktX6_circles_6 : List UInt8 := dkwX6_circles_6 ++ []
def dkwX6_circles_5 : List UInt8 := [21, 5, 182, 0, 222, 153, 0, 25, 42, 180, 0, 35, 27, 21, 5, 79, 42, 27, 4, 96, 28, 4, 21, 5]
abbrev dktX6_circles_5 : List UInt8 := dkwX6_circles_5 ++ dktX6_circles_6
def dkwX6_circles_4 : List UInt8 := [162, 0, 60, 28, 21, 5, 122, 4, 126, 154, 0, 45, 42, 21, 5, 182, 0, 96, 154, 0, 36, 42, 21, 4]
abbrev dktX6_circles_4 : List UInt8 := dkwX6_circles_4 ++ dktX6_circles_5
def dkwX6_circles_3 : List UInt8 := [4, 96, 181, 0, 225, 177, 42, 180, 0, 35, 3, 46, 4, 96, 54, 5, 21, 5, 42, 180, 0, 7, 3, 46]
abbrev dktX6_circles_3 : List UInt8 := dkwX6_circles_3 ++ dktX6_circles_4
def dkwX6_circles_2 : List UInt8 := [180, 0, 38, 21, 5, 42, 180, 0, 35, 21, 5, 46, 79, 132, 5, 1, 167, 255, 226, 42, 89, 180, 0, 225]
abbrev dktX6_circles_2 : List UInt8 := dkwX6_circles_2 ++ dktX6_circles_3
def dkwX6_circles_1 : List UInt8 := [182, 0, 222, 153, 0, 49, 3, 54, 5, 21, 5, 29, 162, 0, 30, 42, 180, 0, 225, 154, 0, 23, 42]
abbrev dktX6_circles_1 : List UInt8 := dkwX6_circles_1 ++ dktX6_circles_2
def dkwX6_circles_0 : List UInt8 := [42, 180, 0, 35, 27, 4, 100, 46, 54, 4, 27, 29, 160, 0, 65, 42, 21, 4, 42, 180, 0, 35, 3, 46]
abbrev dktX6_circles_0 : List UInt8 := dkwX6_circles_0 ++ dktX6_circles_1
theorem dksX6_circles_0 : cX6_circles.data.toList.drop 0 = dktX6_circles_0 := by decide +kernel
theorem dksX6_circles_1 : cX6_circles.data.toList.drop 24 = dktX6_circles_1 := dk_seg dksX6_circles_0 24 rfl rfl
theorem dksX6_circles_2 : cX6_circles.data.toList.drop 47 = dktX6_circles_2 := dk_seg dksX6_circles_1 23 rfl rfl
theorem dksX6_circles_3 : cX6_circles.data.toList.drop 71 = dktX6_circles_3 := dk_seg dksX6_circles_2 24 rfl rfl
theorem dksX6_circles_4 : cX6_circles.data.toList.drop 95 = dktX6_circles_4 := dk_seg dksX6_circles_3 24 rfl rfl
theorem dksX6_circles_5 : cX6_circles.data.toList.drop 119 = dktX6_circles_5 := dk_seg dksX6_circles_4 24 rfl rfl
theorem dksX6_circles_6 : cX6_circles.data.toList.drop 143 = dktX6_circles_6 := dk_seg dksX6_circles_5 24 rfl rfl
theorem dX6_circles_0 : decode cX6_circles 0 = .ok (.aload_n 0, 1) := dk_42 (dk_at dksX6_circles_0 0 rfl rfl)
theorem dX6_circles_1 : decode cX6_circles 1 = .ok (.getfield 35, 3) := dk_180 0 35 (dk_at dksX6_circles_0 1 rfl rfl)
theorem dX6_circles_4 : decode cX6_circles 4 = .ok (.iload_n 1, 1) := dk_27 (dk_at dksX6_circles_0 4 rfl rfl)
theorem dX6_circles_5 : decode cX6_circles 5 = .ok (.iconst 1, 1) := dk_4 (dk_at dksX6_circles_0 5 rfl rfl)
theorem dX6_circles_6 : decode cX6_circles 6 = .ok (.isub, 1) := dk_100 (dk_at dksX6_circles_0 6 rfl rfl)
theorem dX6_circles_7 : decode cX6_circles 7 = .ok (.iaload, 1) := dk_46 (dk_at dksX6_circles_0 7 rfl rfl)
theorem dX6_circles_8 : decode cX6_circles 8 = .ok (.istore 4, 2) := dk_54 4 (dk_at dksX6_circles_0 8 rfl rfl)
theorem dX6_circles_10 : decode cX6_circles 10 = .ok (.iload_n 1, 1) := dk_27 (dk_at dksX6_circles_0 10 rfl rfl)
theorem dX6_circles_11 : decode cX6_circles 11 = .ok (.iload_n 3, 1) := dk_29 (dk_at dksX6_circles_0 11 rfl rfl)
theorem dX6_circles_12 : decode cX6_circles 12 = .ok (.if_icmp .ne 65, 3) := dk_160 0 65 (dk_at dksX6_circles_0 12 rfl rfl)
theorem dX6_circles_15 : decode cX6_circles 15 = .ok (.aload_n 0, 1) := dk_42 (dk_at dksX6_circles_0 15 rfl rfl)
theorem dX6_circles_16 : decode cX6_circles 16 = .ok (.iload 4, 2) := dk_21 4 (dk_at dksX6_circles_0 16 rfl rfl)
theorem dX6_circles_18 : decode cX6_circles 18 = .ok (.aload_n 0, 1) := dk_42 (dk_at dksX6_circles_0 18 rfl rfl)
theorem dX6_circles_19 : decode cX6_circles 19 = .ok (.getfield 35, 3) := dk_180 0 35 (dk_at dksX6_circles_0 19 rfl rfl)
theorem dX6_circles_22 : decode cX6_circles 22 = .ok (.iconst 0, 1) := dk_3 (dk_at dksX6_circles_0 22 rfl rfl)
theorem dX6_circles_23 : decode cX6_circles 23 = .ok (.iaload, 1) := dk_46 (dk_at dksX6_circles_0 23 rfl rfl)
theorem dX6_circles_24 : decode cX6_circles 24 = .ok (.invokevirtual 222, 3) := dk_182 0 222 (dk_at dksX6_circles_1 0 rfl rfl)
theorem dX6_circles_27 : decode cX6_circles 27 = .ok (.ifCond .eq 49, 3) := dk_153 0 49 (dk_at dksX6_circles_1 3 rfl rfl)
theorem dX6_circles_30 : decode cX6_circles 30 = .ok (.iconst 0, 1) := dk_3 (dk_at dksX6_circles_1 6 rfl rfl)
theorem dX6_circles_31 : decode cX6_circles 31 = .ok (.istore 5, 2) := dk_54 5 (dk_at dksX6_circles_1 7 rfl rfl)
theorem dX6_circles_33 : decode cX6_circles 33 = .ok (.iload 5, 2) := dk_21 5 (dk_at dksX6_circles_1 9 rfl rfl)
theorem dX6_circles_35 : decode cX6_circles 35 = .ok (.iload_n 3, 1) := dk_29 (dk_at dksX6_circles_1 11 rfl rfl)
theorem dX6_circles_36 : decode cX6_circles 36 = .ok (.if_icmp .ge 30, 3) := dk_162 0 30 (dk_at dksX6_circles_1 12 rfl rfl)
theorem dX6_circles_39 : decode cX6_circles 39 = .ok (.aload_n 0, 1) := dk_42 (dk_at dksX6_circles_1 15 rfl rfl)
theorem dX6_circles_40 : decode cX6_circles 40 = .ok (.getfield 225, 3) := dk_180 0 225 (dk_at dksX6_circles_1 16 rfl rfl)
theorem dX6_circles_43 : decode cX6_circles 43 = .ok (.ifCond .ne 23, 3) := dk_154 0 23 (dk_at dksX6_circles_1 19 rfl rfl)
theorem dX6_circles_46 : decode cX6_circles 46 = .ok (.aload_n 0, 1) := dk_42 (dk_at dksX6_circles_1 22 rfl rfl)
theorem dX6_circles_47 : decode cX6_circles 47 = .ok (.getfield 38, 3) := dk_180 0 38 (dk_at dksX6_circles_2 0 rfl rfl)
theorem dX6_circles_50 : decode cX6_circles 50 = .ok (.iload 5, 2) := dk_21 5 (dk_at dksX6_circles_2 3 rfl rfl)
theorem dX6_circles_52 : decode cX6_circles 52 = .ok (.aload_n 0, 1) := dk_42 (dk_at dksX6_circles_2 5 rfl rfl)
theorem dX6_circles_53 : decode cX6_circles 53 = .ok (.getfield 35, 3) := dk_180 0 35 (dk_at dksX6_circles_2 6 rfl rfl)
theorem dX6_circles_56 : decode cX6_circles 56 = .ok (.iload 5, 2) := dk_21 5 (dk_at dksX6_circles_2 9 rfl rfl)
theorem dX6_circles_58 : decode cX6_circles 58 = .ok (.iaload, 1) := dk_46 (dk_at dksX6_circles_2 11 rfl rfl)
theorem dX6_circles_59 : decode cX6_circles 59 = .ok (.iastore, 1) := dk_79 (dk_at dksX6_circles_2 12 rfl rfl)
theorem dX6_circles_60 : decode cX6_circles 60 = .ok (.iinc 5 1, 3) := dk_132 5 1 (dk_at dksX6_circles_2 13 rfl rfl)
theorem dX6_circles_63 : decode cX6_circles 63 = .ok (.goto (-30), 3) := dk_167 255 226 (dk_at dksX6_circles_2 16 rfl rfl)
theorem dX6_circles_66 : decode cX6_circles 66 = .ok (.aload_n 0, 1) := dk_42 (dk_at dksX6_circles_2 19 rfl rfl)
theorem dX6_circles_67 : decode cX6_circles 67 = .ok (.dup, 1) := dk_89 (dk_at dksX6_circles_2 20 rfl rfl)
theorem dX6_circles_68 : decode cX6_circles 68 = .ok (.getfield 225, 3) := dk_180 0 225 (dk_at dksX6_circles_2 21 rfl rfl)
theorem dX6_circles_71 : decode cX6_circles 71 = .ok (.iconst 1, 1) := dk_4 (dk_at dksX6_circles_3 0 rfl rfl)
theorem dX6_circles_72 : decode cX6_circles 72 = .ok (.iadd, 1) := dk_96 (dk_at dksX6_circles_3 1 rfl rfl)
theorem dX6_circles_73 : decode cX6_circles 73 = .ok (.putfield 225, 3) := dk_181 0 225 (dk_at dksX6_circles_3 2 rfl rfl)
theorem dX6_circles_76 : decode cX6_circles 76 = .ok (.return_, 1) := dk_177 (dk_at dksX6_circles_3 5 rfl rfl)
theorem dX6_circles_77 : decode cX6_circles 77 = .ok (.aload_n 0, 1) := dk_42 (dk_at dksX6_circles_3 6 rfl rfl)
theorem dX6_circles_78 : decode cX6_circles 78 = .ok (.getfield 35, 3) := dk_180 0 35 (dk_at dksX6_circles_3 7 rfl rfl)
theorem dX6_circles_81 : decode cX6_circles 81 = .ok (.iconst 0, 1) := dk_3 (dk_at dksX6_circles_3 10 rfl rfl)
theorem dX6_circles_82 : decode cX6_circles 82 = .ok (.iaload, 1) := dk_46 (dk_at dksX6_circles_3 11 rfl rfl)
theorem dX6_circles_83 : decode cX6_circles 83 = .ok (.iconst 1, 1) := dk_4 (dk_at dksX6_circles_3 12 rfl rfl)
theorem dX6_circles_84 : decode cX6_circles 84 = .ok (.iadd, 1) := dk_96 (dk_at dksX6_circles_3 13 rfl rfl)
theorem dX6_circles_85 : decode cX6_circles 85 = .ok (.istore 5, 2) := dk_54 5 (dk_at dksX6_circles_3 14 rfl rfl)
theorem dX6_circles_87 : decode cX6_circles 87 = .ok (.iload 5, 2) := dk_21 5 (dk_at dksX6_circles_3 16 rfl rfl)
theorem dX6_circles_89 : decode cX6_circles 89 = .ok (.aload_n 0, 1) := dk_42 (dk_at dksX6_circles_3 18 rfl rfl)
theorem dX6_circles_90 : decode cX6_circles 90 = .ok (.getfield 7, 3) := dk_180 0 7 (dk_at dksX6_circles_3 19 rfl rfl)
theorem dX6_circles_93 : decode cX6_circles 93 = .ok (.iconst 0, 1) := dk_3 (dk_at dksX6_circles_3 22 rfl rfl)
theorem dX6_circles_94 : decode cX6_circles 94 = .ok (.iaload, 1) := dk_46 (dk_at dksX6_circles_3 23 rfl rfl)
theorem dX6_circles_95 : decode cX6_circles 95 = .ok (.if_icmp .ge 60, 3) := dk_162 0 60 (dk_at dksX6_circles_4 0 rfl rfl)
theorem dX6_circles_98 : decode cX6_circles 98 = .ok (.iload_n 2, 1) := dk_28 (dk_at dksX6_circles_4 3 rfl rfl)
theorem dX6_circles_99 : decode cX6_circles 99 = .ok (.iload 5, 2) := dk_21 5 (dk_at dksX6_circles_4 4 rfl rfl)
theorem dX6_circles_101 : decode cX6_circles 101 = .ok (.ishr, 1) := dk_122 (dk_at dksX6_circles_4 6 rfl rfl)
theorem dX6_circles_102 : decode cX6_circles 102 = .ok (.iconst 1, 1) := dk_4 (dk_at dksX6_circles_4 7 rfl rfl)
theorem dX6_circles_103 : decode cX6_circles 103 = .ok (.iand, 1) := dk_126 (dk_at dksX6_circles_4 8 rfl rfl)
theorem dX6_circles_104 : decode cX6_circles 104 = .ok (.ifCond .ne 45, 3) := dk_154 0 45 (dk_at dksX6_circles_4 9 rfl rfl)
theorem dX6_circles_107 : decode cX6_circles 107 = .ok (.aload_n 0, 1) := dk_42 (dk_at dksX6_circles_4 12 rfl rfl)
theorem dX6_circles_108 : decode cX6_circles 108 = .ok (.iload 5, 2) := dk_21 5 (dk_at dksX6_circles_4 13 rfl rfl)
theorem dX6_circles_110 : decode cX6_circles 110 = .ok (.invokevirtual 96, 3) := dk_182 0 96 (dk_at dksX6_circles_4 15 rfl rfl)
theorem dX6_circles_113 : decode cX6_circles 113 = .ok (.ifCond .ne 36, 3) := dk_154 0 36 (dk_at dksX6_circles_4 18 rfl rfl)
theorem dX6_circles_116 : decode cX6_circles 116 = .ok (.aload_n 0, 1) := dk_42 (dk_at dksX6_circles_4 21 rfl rfl)
theorem dX6_circles_117 : decode cX6_circles 117 = .ok (.iload 4, 2) := dk_21 4 (dk_at dksX6_circles_4 22 rfl rfl)
theorem dX6_circles_119 : decode cX6_circles 119 = .ok (.iload 5, 2) := dk_21 5 (dk_at dksX6_circles_5 0 rfl rfl)
theorem dX6_circles_121 : decode cX6_circles 121 = .ok (.invokevirtual 222, 3) := dk_182 0 222 (dk_at dksX6_circles_5 2 rfl rfl)
theorem dX6_circles_124 : decode cX6_circles 124 = .ok (.ifCond .eq 25, 3) := dk_153 0 25 (dk_at dksX6_circles_5 5 rfl rfl)
theorem dX6_circles_127 : decode cX6_circles 127 = .ok (.aload_n 0, 1) := dk_42 (dk_at dksX6_circles_5 8 rfl rfl)
theorem dX6_circles_128 : decode cX6_circles 128 = .ok (.getfield 35, 3) := dk_180 0 35 (dk_at dksX6_circles_5 9 rfl rfl)
theorem dX6_circles_131 : decode cX6_circles 131 = .ok (.iload_n 1, 1) := dk_27 (dk_at dksX6_circles_5 12 rfl rfl)
theorem dX6_circles_132 : decode cX6_circles 132 = .ok (.iload 5, 2) := dk_21 5 (dk_at dksX6_circles_5 13 rfl rfl)
theorem dX6_circles_134 : decode cX6_circles 134 = .ok (.iastore, 1) := dk_79 (dk_at dksX6_circles_5 15 rfl rfl)
theorem dX6_circles_135 : decode cX6_circles 135 = .ok (.aload_n 0, 1) := dk_42 (dk_at dksX6_circles_5 16 rfl rfl)
theorem dX6_circles_136 : decode cX6_circles 136 = .ok (.iload_n 1, 1) := dk_27 (dk_at dksX6_circles_5 17 rfl rfl)
theorem dX6_circles_137 : decode cX6_circles 137 = .ok (.iconst 1, 1) := dk_4 (dk_at dksX6_circles_5 18 rfl rfl)
theorem dX6_circles_138 : decode cX6_circles 138 = .ok (.iadd, 1) := dk_96 (dk_at dksX6_circles_5 19 rfl rfl)
theorem dX6_circles_139 : decode cX6_circles 139 = .ok (.iload_n 2, 1) := dk_28 (dk_at dksX6_circles_5 20 rfl rfl)
theorem dX6_circles_140 : decode cX6_circles 140 = .ok (.iconst 1, 1) := dk_4 (dk_at dksX6_circles_5 21 rfl rfl)
theorem dX6_circles_141 : decode cX6_circles 141 = .ok (.iload 5, 2) := dk_21 5 (dk_at dksX6_circles_5 22 rfl rfl)
theorem dX6_circles_143 : decode cX6_circles 143 = .ok (.ishl, 1) := dk_120 (dk_at dksX6_circles_6 0 rfl rfl)
theorem dX6_circles_144 : decode cX6_circles 144 = .ok (.ior, 1) := dk_128 (dk_at dksX6_circles_6 1 rfl rfl)
theorem dX6_circles_145 : decode cX6_circles 145 = .ok (.iload_n 3, 1) := dk_29 (dk_at dksX6_circles_6 2 rfl rfl)
theorem dX6_circles_146 : decode cX6_circles 146 = .ok (.invokevirtual 228, 3) := dk_182 0 228 (dk_at dksX6_circles_6 3 rfl rfl)
theorem dX6_circles_149 : decode cX6_circles 149 = .ok (.iinc 5 1, 3) := dk_132 5 1 (dk_at dksX6_circles_6 6 rfl rfl)
theorem dX6_circles_152 : decode cX6_circles 152 = .ok (.goto (-65), 3) := dk_167 255 191 (dk_at dksX6_circles_6 9 rfl rfl)
theorem dX6_circles_155 : decode cX6_circles 155 = .ok (.return_, 1) := dk_177 (dk_at dksX6_circles_6 12 rfl rfl)
abbrev cX6_isLink : ByteArray := prog_26_method_62_code
def yX6_isLink : MethodName := ⟨RX6, "isLink", "(II)Z"⟩
def dkwX6_isLink_1 : List UInt8 := [4, 167, 0, 4, 3, 172]
abbrev dktX6_isLink_1 : List UInt8 := dkwX6_isLink_1 ++ []
def dkwX6_isLink_0 : List UInt8 := [42, 27, 28, 182, 0, 134, 153, 0, 22, 42, 27, 5, 182, 0, 93, 42, 28, 4, 182, 0, 93, 160, 0, 7]
abbrev dktX6_isLink_0 : List UInt8 := dkwX6_isLink_0 ++ dktX6_isLink_1
theorem dksX6_isLink_0 : cX6_isLink.data.toList.drop 0 = dktX6_isLink_0 := by decide +kernel
theorem dksX6_isLink_1 : cX6_isLink.data.toList.drop 24 = dktX6_isLink_1 := dk_seg dksX6_isLink_0 24 rfl rfl
theorem dX6_isLink_0 : decode cX6_isLink 0 = .ok (.aload_n 0, 1) := dk_42 (dk_at dksX6_isLink_0 0 rfl rfl)
theorem dX6_isLink_1 : decode cX6_isLink 1 = .ok (.iload_n 1, 1) := dk_27 (dk_at dksX6_isLink_0 1 rfl rfl)
theorem dX6_isLink_2 : decode cX6_isLink 2 = .ok (.iload_n 2, 1) := dk_28 (dk_at dksX6_isLink_0 2 rfl rfl)
theorem dX6_isLink_3 : decode cX6_isLink 3 = .ok (.invokevirtual 134, 3) := dk_182 0 134 (dk_at dksX6_isLink_0 3 rfl rfl)
theorem dX6_isLink_6 : decode cX6_isLink 6 = .ok (.ifCond .eq 22, 3) := dk_153 0 22 (dk_at dksX6_isLink_0 6 rfl rfl)
theorem dX6_isLink_9 : decode cX6_isLink 9 = .ok (.aload_n 0, 1) := dk_42 (dk_at dksX6_isLink_0 9 rfl rfl)
theorem dX6_isLink_10 : decode cX6_isLink 10 = .ok (.iload_n 1, 1) := dk_27 (dk_at dksX6_isLink_0 10 rfl rfl)
theorem dX6_isLink_11 : decode cX6_isLink 11 = .ok (.iconst 2, 1) := dk_5 (dk_at dksX6_isLink_0 11 rfl rfl)
theorem dX6_isLink_12 : decode cX6_isLink 12 = .ok (.invokevirtual 93, 3) := dk_182 0 93 (dk_at dksX6_isLink_0 12 rfl rfl)
theorem dX6_isLink_15 : decode cX6_isLink 15 = .ok (.aload_n 0, 1) := dk_42 (dk_at dksX6_isLink_0 15 rfl rfl)
theorem dX6_isLink_16 : decode cX6_isLink 16 = .ok (.iload_n 2, 1) := dk_28 (dk_at dksX6_isLink_0 16 rfl rfl)
theorem dX6_isLink_17 : decode cX6_isLink 17 = .ok (.iconst 1, 1) := dk_4 (dk_at dksX6_isLink_0 17 rfl rfl)
theorem dX6_isLink_18 : decode cX6_isLink 18 = .ok (.invokevirtual 93, 3) := dk_182 0 93 (dk_at dksX6_isLink_0 18 rfl rfl)
theorem dX6_isLink_21 : decode cX6_isLink 21 = .ok (.if_icmp .ne 7, 3) := dk_160 0 7 (dk_at dksX6_isLink_0 21 rfl rfl)
theorem dX6_isLink_24 : decode cX6_isLink 24 = .ok (.iconst 1, 1) := dk_4 (dk_at dksX6_isLink_1 0 rfl rfl)
theorem dX6_isLink_25 : decode cX6_isLink 25 = .ok (.goto 4, 3) := dk_167 0 4 (dk_at dksX6_isLink_1 1 rfl rfl)
theorem dX6_isLink_28 : decode cX6_isLink 28 = .ok (.iconst 0, 1) := dk_3 (dk_at dksX6_isLink_1 4 rfl rfl)
theorem dX6_isLink_29 : decode cX6_isLink 29 = .ok (.ireturn, 1) := dk_172 (dk_at dksX6_isLink_1 5 rfl rfl)
abbrev cX6_ring : ByteArray := prog_26_method_66_code
def yX6_ring : MethodName := ⟨RX6, "ring", "(II)I"⟩
def dkwX6_ring_2 : List UInt8 := [180, 0, 38, 28, 46, 172]
abbrev dktX6_ring_2 : List UInt8 := dkwX6_ring_2 ++ []
def dkwX6_ring_1 : List UInt8 := [154, 0, 5, 2, 172, 42, 27, 182, 0, 233, 42, 180, 0, 225, 154, 0, 8, 16, 253, 167, 0, 9, 42]
abbrev dktX6_ring_1 : List UInt8 := dkwX6_ring_1 ++ dktX6_ring_2
def dkwX6_ring_0 : List UInt8 := [27, 133, 20, 0, 231, 20, 0, 126, 184, 0, 68, 153, 0, 16, 28, 133, 9, 27, 4, 100, 133, 184, 0, 68]
abbrev dktX6_ring_0 : List UInt8 := dkwX6_ring_0 ++ dktX6_ring_1
theorem dksX6_ring_0 : cX6_ring.data.toList.drop 0 = dktX6_ring_0 := by decide +kernel
theorem dksX6_ring_1 : cX6_ring.data.toList.drop 24 = dktX6_ring_1 := dk_seg dksX6_ring_0 24 rfl rfl
theorem dksX6_ring_2 : cX6_ring.data.toList.drop 47 = dktX6_ring_2 := dk_seg dksX6_ring_1 23 rfl rfl
theorem dX6_ring_0 : decode cX6_ring 0 = .ok (.iload_n 1, 1) := dk_27 (dk_at dksX6_ring_0 0 rfl rfl)
theorem dX6_ring_1 : decode cX6_ring 1 = .ok (.i2l, 1) := dk_133 (dk_at dksX6_ring_0 1 rfl rfl)
theorem dX6_ring_2 : decode cX6_ring 2 = .ok (.ldc2_w 231, 3) := dk_20 0 231 (dk_at dksX6_ring_0 2 rfl rfl)
theorem dX6_ring_5 : decode cX6_ring 5 = .ok (.ldc2_w 126, 3) := dk_20 0 126 (dk_at dksX6_ring_0 5 rfl rfl)
theorem dX6_ring_8 : decode cX6_ring 8 = .ok (.invokestatic 68, 3) := dk_184 0 68 (dk_at dksX6_ring_0 8 rfl rfl)
theorem dX6_ring_11 : decode cX6_ring 11 = .ok (.ifCond .eq 16, 3) := dk_153 0 16 (dk_at dksX6_ring_0 11 rfl rfl)
theorem dX6_ring_14 : decode cX6_ring 14 = .ok (.iload_n 2, 1) := dk_28 (dk_at dksX6_ring_0 14 rfl rfl)
theorem dX6_ring_15 : decode cX6_ring 15 = .ok (.i2l, 1) := dk_133 (dk_at dksX6_ring_0 15 rfl rfl)
theorem dX6_ring_16 : decode cX6_ring 16 = .ok (.lconst 0, 1) := dk_9 (dk_at dksX6_ring_0 16 rfl rfl)
theorem dX6_ring_17 : decode cX6_ring 17 = .ok (.iload_n 1, 1) := dk_27 (dk_at dksX6_ring_0 17 rfl rfl)
theorem dX6_ring_18 : decode cX6_ring 18 = .ok (.iconst 1, 1) := dk_4 (dk_at dksX6_ring_0 18 rfl rfl)
theorem dX6_ring_19 : decode cX6_ring 19 = .ok (.isub, 1) := dk_100 (dk_at dksX6_ring_0 19 rfl rfl)
theorem dX6_ring_20 : decode cX6_ring 20 = .ok (.i2l, 1) := dk_133 (dk_at dksX6_ring_0 20 rfl rfl)
theorem dX6_ring_21 : decode cX6_ring 21 = .ok (.invokestatic 68, 3) := dk_184 0 68 (dk_at dksX6_ring_0 21 rfl rfl)
theorem dX6_ring_24 : decode cX6_ring 24 = .ok (.ifCond .ne 5, 3) := dk_154 0 5 (dk_at dksX6_ring_1 0 rfl rfl)
theorem dX6_ring_27 : decode cX6_ring 27 = .ok (.iconst (-1), 1) := dk_2 (dk_at dksX6_ring_1 3 rfl rfl)
theorem dX6_ring_28 : decode cX6_ring 28 = .ok (.ireturn, 1) := dk_172 (dk_at dksX6_ring_1 4 rfl rfl)
theorem dX6_ring_29 : decode cX6_ring 29 = .ok (.aload_n 0, 1) := dk_42 (dk_at dksX6_ring_1 5 rfl rfl)
theorem dX6_ring_30 : decode cX6_ring 30 = .ok (.iload_n 1, 1) := dk_27 (dk_at dksX6_ring_1 6 rfl rfl)
theorem dX6_ring_31 : decode cX6_ring 31 = .ok (.invokevirtual 233, 3) := dk_182 0 233 (dk_at dksX6_ring_1 7 rfl rfl)
theorem dX6_ring_34 : decode cX6_ring 34 = .ok (.aload_n 0, 1) := dk_42 (dk_at dksX6_ring_1 10 rfl rfl)
theorem dX6_ring_35 : decode cX6_ring 35 = .ok (.getfield 225, 3) := dk_180 0 225 (dk_at dksX6_ring_1 11 rfl rfl)
theorem dX6_ring_38 : decode cX6_ring 38 = .ok (.ifCond .ne 8, 3) := dk_154 0 8 (dk_at dksX6_ring_1 14 rfl rfl)
theorem dX6_ring_41 : decode cX6_ring 41 = .ok (.bipush (-3), 2) := dk_16 253 (dk_at dksX6_ring_1 17 rfl rfl)
theorem dX6_ring_43 : decode cX6_ring 43 = .ok (.goto 9, 3) := dk_167 0 9 (dk_at dksX6_ring_1 19 rfl rfl)
theorem dX6_ring_46 : decode cX6_ring 46 = .ok (.aload_n 0, 1) := dk_42 (dk_at dksX6_ring_1 22 rfl rfl)
theorem dX6_ring_47 : decode cX6_ring 47 = .ok (.getfield 38, 3) := dk_180 0 38 (dk_at dksX6_ring_2 0 rfl rfl)
theorem dX6_ring_50 : decode cX6_ring 50 = .ok (.iload_n 2, 1) := dk_28 (dk_at dksX6_ring_2 3 rfl rfl)
theorem dX6_ring_51 : decode cX6_ring 51 = .ok (.iaload, 1) := dk_46 (dk_at dksX6_ring_2 4 rfl rfl)
theorem dX6_ring_52 : decode cX6_ring 52 = .ok (.ireturn, 1) := dk_172 (dk_at dksX6_ring_2 5 rfl rfl)
abbrev cX6_comes : ByteArray := prog_26_method_69_code
def yX6_comes : MethodName := ⟨RX6, "comes", "(II)I"⟩
def dkwX6_comes_1 : List UInt8 := [180, 0, 236, 172]
abbrev dktX6_comes_1 : List UInt8 := dkwX6_comes_1 ++ []
def dkwX6_comes_0 : List UInt8 := [42, 27, 28, 182, 0, 244, 154, 0, 5, 2, 172, 42, 3, 181, 0, 236, 42, 27, 28, 182, 0, 239, 42]
abbrev dktX6_comes_0 : List UInt8 := dkwX6_comes_0 ++ dktX6_comes_1
theorem dksX6_comes_0 : cX6_comes.data.toList.drop 0 = dktX6_comes_0 := by decide +kernel
theorem dksX6_comes_1 : cX6_comes.data.toList.drop 23 = dktX6_comes_1 := dk_seg dksX6_comes_0 23 rfl rfl
theorem dX6_comes_0 : decode cX6_comes 0 = .ok (.aload_n 0, 1) := dk_42 (dk_at dksX6_comes_0 0 rfl rfl)
theorem dX6_comes_1 : decode cX6_comes 1 = .ok (.iload_n 1, 1) := dk_27 (dk_at dksX6_comes_0 1 rfl rfl)
theorem dX6_comes_2 : decode cX6_comes 2 = .ok (.iload_n 2, 1) := dk_28 (dk_at dksX6_comes_0 2 rfl rfl)
theorem dX6_comes_3 : decode cX6_comes 3 = .ok (.invokevirtual 244, 3) := dk_182 0 244 (dk_at dksX6_comes_0 3 rfl rfl)
theorem dX6_comes_6 : decode cX6_comes 6 = .ok (.ifCond .ne 5, 3) := dk_154 0 5 (dk_at dksX6_comes_0 6 rfl rfl)
theorem dX6_comes_9 : decode cX6_comes 9 = .ok (.iconst (-1), 1) := dk_2 (dk_at dksX6_comes_0 9 rfl rfl)
theorem dX6_comes_10 : decode cX6_comes 10 = .ok (.ireturn, 1) := dk_172 (dk_at dksX6_comes_0 10 rfl rfl)
theorem dX6_comes_11 : decode cX6_comes 11 = .ok (.aload_n 0, 1) := dk_42 (dk_at dksX6_comes_0 11 rfl rfl)
theorem dX6_comes_12 : decode cX6_comes 12 = .ok (.iconst 0, 1) := dk_3 (dk_at dksX6_comes_0 12 rfl rfl)
theorem dX6_comes_13 : decode cX6_comes 13 = .ok (.putfield 236, 3) := dk_181 0 236 (dk_at dksX6_comes_0 13 rfl rfl)
theorem dX6_comes_16 : decode cX6_comes 16 = .ok (.aload_n 0, 1) := dk_42 (dk_at dksX6_comes_0 16 rfl rfl)
theorem dX6_comes_17 : decode cX6_comes 17 = .ok (.iload_n 1, 1) := dk_27 (dk_at dksX6_comes_0 17 rfl rfl)
theorem dX6_comes_18 : decode cX6_comes 18 = .ok (.iload_n 2, 1) := dk_28 (dk_at dksX6_comes_0 18 rfl rfl)
theorem dX6_comes_19 : decode cX6_comes 19 = .ok (.invokevirtual 239, 3) := dk_182 0 239 (dk_at dksX6_comes_0 19 rfl rfl)
theorem dX6_comes_22 : decode cX6_comes 22 = .ok (.aload_n 0, 1) := dk_42 (dk_at dksX6_comes_0 22 rfl rfl)
theorem dX6_comes_23 : decode cX6_comes 23 = .ok (.getfield 236, 3) := dk_180 0 236 (dk_at dksX6_comes_1 0 rfl rfl)
theorem dX6_comes_26 : decode cX6_comes 26 = .ok (.ireturn, 1) := dk_172 (dk_at dksX6_comes_1 3 rfl rfl)
abbrev cX6_isBarter : ByteArray := prog_26_method_68_code
def yX6_isBarter : MethodName := ⟨RX6, "isBarter", "(II)Z"⟩
def dkwX6_isBarter_1 : List UInt8 := [3, 172]
abbrev dktX6_isBarter_1 : List UInt8 := dkwX6_isBarter_1 ++ []
def dkwX6_isBarter_0 : List UInt8 := [42, 27, 182, 0, 123, 153, 0, 19, 28, 133, 9, 20, 0, 242, 184, 0, 68, 153, 0, 7, 4, 167, 0, 4]
abbrev dktX6_isBarter_0 : List UInt8 := dkwX6_isBarter_0 ++ dktX6_isBarter_1
theorem dksX6_isBarter_0 : cX6_isBarter.data.toList.drop 0 = dktX6_isBarter_0 := by decide +kernel
theorem dksX6_isBarter_1 : cX6_isBarter.data.toList.drop 24 = dktX6_isBarter_1 := dk_seg dksX6_isBarter_0 24 rfl rfl
theorem dX6_isBarter_0 : decode cX6_isBarter 0 = .ok (.aload_n 0, 1) := dk_42 (dk_at dksX6_isBarter_0 0 rfl rfl)
theorem dX6_isBarter_1 : decode cX6_isBarter 1 = .ok (.iload_n 1, 1) := dk_27 (dk_at dksX6_isBarter_0 1 rfl rfl)
theorem dX6_isBarter_2 : decode cX6_isBarter 2 = .ok (.invokevirtual 123, 3) := dk_182 0 123 (dk_at dksX6_isBarter_0 2 rfl rfl)
theorem dX6_isBarter_5 : decode cX6_isBarter 5 = .ok (.ifCond .eq 19, 3) := dk_153 0 19 (dk_at dksX6_isBarter_0 5 rfl rfl)
theorem dX6_isBarter_8 : decode cX6_isBarter 8 = .ok (.iload_n 2, 1) := dk_28 (dk_at dksX6_isBarter_0 8 rfl rfl)
theorem dX6_isBarter_9 : decode cX6_isBarter 9 = .ok (.i2l, 1) := dk_133 (dk_at dksX6_isBarter_0 9 rfl rfl)
theorem dX6_isBarter_10 : decode cX6_isBarter 10 = .ok (.lconst 0, 1) := dk_9 (dk_at dksX6_isBarter_0 10 rfl rfl)
theorem dX6_isBarter_11 : decode cX6_isBarter 11 = .ok (.ldc2_w 242, 3) := dk_20 0 242 (dk_at dksX6_isBarter_0 11 rfl rfl)
theorem dX6_isBarter_14 : decode cX6_isBarter 14 = .ok (.invokestatic 68, 3) := dk_184 0 68 (dk_at dksX6_isBarter_0 14 rfl rfl)
theorem dX6_isBarter_17 : decode cX6_isBarter 17 = .ok (.ifCond .eq 7, 3) := dk_153 0 7 (dk_at dksX6_isBarter_0 17 rfl rfl)
theorem dX6_isBarter_20 : decode cX6_isBarter 20 = .ok (.iconst 1, 1) := dk_4 (dk_at dksX6_isBarter_0 20 rfl rfl)
theorem dX6_isBarter_21 : decode cX6_isBarter 21 = .ok (.goto 4, 3) := dk_167 0 4 (dk_at dksX6_isBarter_0 21 rfl rfl)
theorem dX6_isBarter_24 : decode cX6_isBarter 24 = .ok (.iconst 0, 1) := dk_3 (dk_at dksX6_isBarter_1 0 rfl rfl)
theorem dX6_isBarter_25 : decode cX6_isBarter 25 = .ok (.ireturn, 1) := dk_172 (dk_at dksX6_isBarter_1 1 rfl rfl)
abbrev cX6_barters : ByteArray := prog_26_method_67_code
def yX6_barters : MethodName := ⟨RX6, "barters", "(II)V"⟩
def dkwX6_barters_4 : List UInt8 := [182, 0, 239, 42, 27, 21, 4, 182, 0, 171, 132, 4, 1, 167, 255, 169, 177]
abbrev dktX6_barters_4 : List UInt8 := dkwX6_barters_4 ++ []
def dkwX6_barters_3 : List UInt8 := [180, 0, 7, 16, 6, 21, 5, 96, 46, 161, 0, 25, 42, 27, 21, 4, 182, 0, 171, 42, 27, 28, 4, 100]
abbrev dktX6_barters_3 : List UInt8 := dkwX6_barters_3 ++ dktX6_barters_4
def dkwX6_barters_2 : List UInt8 := [21, 4, 182, 0, 134, 153, 0, 53, 21, 5, 29, 159, 0, 47, 42, 180, 0, 7, 16, 6, 29, 96, 46, 42]
abbrev dktX6_barters_2 : List UInt8 := dkwX6_barters_2 ++ dktX6_barters_3
def dkwX6_barters_1 : List UInt8 := [42, 180, 0, 7, 3, 46, 162, 0, 82, 28, 158, 0, 78, 42, 21, 4, 4, 182, 0, 93, 54, 5, 42, 27]
abbrev dktX6_barters_1 : List UInt8 := dkwX6_barters_1 ++ dktX6_barters_2
def dkwX6_barters_0 : List UInt8 := [42, 27, 4, 182, 0, 93, 62, 42, 89, 180, 0, 236, 4, 29, 120, 128, 181, 0, 236, 3, 54, 4, 21, 4]
abbrev dktX6_barters_0 : List UInt8 := dkwX6_barters_0 ++ dktX6_barters_1
theorem dksX6_barters_0 : cX6_barters.data.toList.drop 0 = dktX6_barters_0 := by decide +kernel
theorem dksX6_barters_1 : cX6_barters.data.toList.drop 24 = dktX6_barters_1 := dk_seg dksX6_barters_0 24 rfl rfl
theorem dksX6_barters_2 : cX6_barters.data.toList.drop 48 = dktX6_barters_2 := dk_seg dksX6_barters_1 24 rfl rfl
theorem dksX6_barters_3 : cX6_barters.data.toList.drop 72 = dktX6_barters_3 := dk_seg dksX6_barters_2 24 rfl rfl
theorem dksX6_barters_4 : cX6_barters.data.toList.drop 96 = dktX6_barters_4 := dk_seg dksX6_barters_3 24 rfl rfl
theorem dX6_barters_0 : decode cX6_barters 0 = .ok (.aload_n 0, 1) := dk_42 (dk_at dksX6_barters_0 0 rfl rfl)
theorem dX6_barters_1 : decode cX6_barters 1 = .ok (.iload_n 1, 1) := dk_27 (dk_at dksX6_barters_0 1 rfl rfl)
theorem dX6_barters_2 : decode cX6_barters 2 = .ok (.iconst 1, 1) := dk_4 (dk_at dksX6_barters_0 2 rfl rfl)
theorem dX6_barters_3 : decode cX6_barters 3 = .ok (.invokevirtual 93, 3) := dk_182 0 93 (dk_at dksX6_barters_0 3 rfl rfl)
theorem dX6_barters_6 : decode cX6_barters 6 = .ok (.istore_n 3, 1) := dk_62 (dk_at dksX6_barters_0 6 rfl rfl)
theorem dX6_barters_7 : decode cX6_barters 7 = .ok (.aload_n 0, 1) := dk_42 (dk_at dksX6_barters_0 7 rfl rfl)
theorem dX6_barters_8 : decode cX6_barters 8 = .ok (.dup, 1) := dk_89 (dk_at dksX6_barters_0 8 rfl rfl)
theorem dX6_barters_9 : decode cX6_barters 9 = .ok (.getfield 236, 3) := dk_180 0 236 (dk_at dksX6_barters_0 9 rfl rfl)
theorem dX6_barters_12 : decode cX6_barters 12 = .ok (.iconst 1, 1) := dk_4 (dk_at dksX6_barters_0 12 rfl rfl)
theorem dX6_barters_13 : decode cX6_barters 13 = .ok (.iload_n 3, 1) := dk_29 (dk_at dksX6_barters_0 13 rfl rfl)
theorem dX6_barters_14 : decode cX6_barters 14 = .ok (.ishl, 1) := dk_120 (dk_at dksX6_barters_0 14 rfl rfl)
theorem dX6_barters_15 : decode cX6_barters 15 = .ok (.ior, 1) := dk_128 (dk_at dksX6_barters_0 15 rfl rfl)
theorem dX6_barters_16 : decode cX6_barters 16 = .ok (.putfield 236, 3) := dk_181 0 236 (dk_at dksX6_barters_0 16 rfl rfl)
theorem dX6_barters_19 : decode cX6_barters 19 = .ok (.iconst 0, 1) := dk_3 (dk_at dksX6_barters_0 19 rfl rfl)
theorem dX6_barters_20 : decode cX6_barters 20 = .ok (.istore 4, 2) := dk_54 4 (dk_at dksX6_barters_0 20 rfl rfl)
theorem dX6_barters_22 : decode cX6_barters 22 = .ok (.iload 4, 2) := dk_21 4 (dk_at dksX6_barters_0 22 rfl rfl)
theorem dX6_barters_24 : decode cX6_barters 24 = .ok (.aload_n 0, 1) := dk_42 (dk_at dksX6_barters_1 0 rfl rfl)
theorem dX6_barters_25 : decode cX6_barters 25 = .ok (.getfield 7, 3) := dk_180 0 7 (dk_at dksX6_barters_1 1 rfl rfl)
theorem dX6_barters_28 : decode cX6_barters 28 = .ok (.iconst 0, 1) := dk_3 (dk_at dksX6_barters_1 4 rfl rfl)
theorem dX6_barters_29 : decode cX6_barters 29 = .ok (.iaload, 1) := dk_46 (dk_at dksX6_barters_1 5 rfl rfl)
theorem dX6_barters_30 : decode cX6_barters 30 = .ok (.if_icmp .ge 82, 3) := dk_162 0 82 (dk_at dksX6_barters_1 6 rfl rfl)
theorem dX6_barters_33 : decode cX6_barters 33 = .ok (.iload_n 2, 1) := dk_28 (dk_at dksX6_barters_1 9 rfl rfl)
theorem dX6_barters_34 : decode cX6_barters 34 = .ok (.ifCond .le 78, 3) := dk_158 0 78 (dk_at dksX6_barters_1 10 rfl rfl)
theorem dX6_barters_37 : decode cX6_barters 37 = .ok (.aload_n 0, 1) := dk_42 (dk_at dksX6_barters_1 13 rfl rfl)
theorem dX6_barters_38 : decode cX6_barters 38 = .ok (.iload 4, 2) := dk_21 4 (dk_at dksX6_barters_1 14 rfl rfl)
theorem dX6_barters_40 : decode cX6_barters 40 = .ok (.iconst 1, 1) := dk_4 (dk_at dksX6_barters_1 16 rfl rfl)
theorem dX6_barters_41 : decode cX6_barters 41 = .ok (.invokevirtual 93, 3) := dk_182 0 93 (dk_at dksX6_barters_1 17 rfl rfl)
theorem dX6_barters_44 : decode cX6_barters 44 = .ok (.istore 5, 2) := dk_54 5 (dk_at dksX6_barters_1 20 rfl rfl)
theorem dX6_barters_46 : decode cX6_barters 46 = .ok (.aload_n 0, 1) := dk_42 (dk_at dksX6_barters_1 22 rfl rfl)
theorem dX6_barters_47 : decode cX6_barters 47 = .ok (.iload_n 1, 1) := dk_27 (dk_at dksX6_barters_1 23 rfl rfl)
theorem dX6_barters_48 : decode cX6_barters 48 = .ok (.iload 4, 2) := dk_21 4 (dk_at dksX6_barters_2 0 rfl rfl)
theorem dX6_barters_50 : decode cX6_barters 50 = .ok (.invokevirtual 134, 3) := dk_182 0 134 (dk_at dksX6_barters_2 2 rfl rfl)
theorem dX6_barters_53 : decode cX6_barters 53 = .ok (.ifCond .eq 53, 3) := dk_153 0 53 (dk_at dksX6_barters_2 5 rfl rfl)
theorem dX6_barters_56 : decode cX6_barters 56 = .ok (.iload 5, 2) := dk_21 5 (dk_at dksX6_barters_2 8 rfl rfl)
theorem dX6_barters_58 : decode cX6_barters 58 = .ok (.iload_n 3, 1) := dk_29 (dk_at dksX6_barters_2 10 rfl rfl)
theorem dX6_barters_59 : decode cX6_barters 59 = .ok (.if_icmp .eq 47, 3) := dk_159 0 47 (dk_at dksX6_barters_2 11 rfl rfl)
theorem dX6_barters_62 : decode cX6_barters 62 = .ok (.aload_n 0, 1) := dk_42 (dk_at dksX6_barters_2 14 rfl rfl)
theorem dX6_barters_63 : decode cX6_barters 63 = .ok (.getfield 7, 3) := dk_180 0 7 (dk_at dksX6_barters_2 15 rfl rfl)
theorem dX6_barters_66 : decode cX6_barters 66 = .ok (.bipush 6, 2) := dk_16 6 (dk_at dksX6_barters_2 18 rfl rfl)
theorem dX6_barters_68 : decode cX6_barters 68 = .ok (.iload_n 3, 1) := dk_29 (dk_at dksX6_barters_2 20 rfl rfl)
theorem dX6_barters_69 : decode cX6_barters 69 = .ok (.iadd, 1) := dk_96 (dk_at dksX6_barters_2 21 rfl rfl)
theorem dX6_barters_70 : decode cX6_barters 70 = .ok (.iaload, 1) := dk_46 (dk_at dksX6_barters_2 22 rfl rfl)
theorem dX6_barters_71 : decode cX6_barters 71 = .ok (.aload_n 0, 1) := dk_42 (dk_at dksX6_barters_2 23 rfl rfl)
theorem dX6_barters_72 : decode cX6_barters 72 = .ok (.getfield 7, 3) := dk_180 0 7 (dk_at dksX6_barters_3 0 rfl rfl)
theorem dX6_barters_75 : decode cX6_barters 75 = .ok (.bipush 6, 2) := dk_16 6 (dk_at dksX6_barters_3 3 rfl rfl)
theorem dX6_barters_77 : decode cX6_barters 77 = .ok (.iload 5, 2) := dk_21 5 (dk_at dksX6_barters_3 5 rfl rfl)
theorem dX6_barters_79 : decode cX6_barters 79 = .ok (.iadd, 1) := dk_96 (dk_at dksX6_barters_3 7 rfl rfl)
theorem dX6_barters_80 : decode cX6_barters 80 = .ok (.iaload, 1) := dk_46 (dk_at dksX6_barters_3 8 rfl rfl)
theorem dX6_barters_81 : decode cX6_barters 81 = .ok (.if_icmp .lt 25, 3) := dk_161 0 25 (dk_at dksX6_barters_3 9 rfl rfl)
theorem dX6_barters_84 : decode cX6_barters 84 = .ok (.aload_n 0, 1) := dk_42 (dk_at dksX6_barters_3 12 rfl rfl)
theorem dX6_barters_85 : decode cX6_barters 85 = .ok (.iload_n 1, 1) := dk_27 (dk_at dksX6_barters_3 13 rfl rfl)
theorem dX6_barters_86 : decode cX6_barters 86 = .ok (.iload 4, 2) := dk_21 4 (dk_at dksX6_barters_3 14 rfl rfl)
theorem dX6_barters_88 : decode cX6_barters 88 = .ok (.invokevirtual 171, 3) := dk_182 0 171 (dk_at dksX6_barters_3 16 rfl rfl)
theorem dX6_barters_91 : decode cX6_barters 91 = .ok (.aload_n 0, 1) := dk_42 (dk_at dksX6_barters_3 19 rfl rfl)
theorem dX6_barters_92 : decode cX6_barters 92 = .ok (.iload_n 1, 1) := dk_27 (dk_at dksX6_barters_3 20 rfl rfl)
theorem dX6_barters_93 : decode cX6_barters 93 = .ok (.iload_n 2, 1) := dk_28 (dk_at dksX6_barters_3 21 rfl rfl)
theorem dX6_barters_94 : decode cX6_barters 94 = .ok (.iconst 1, 1) := dk_4 (dk_at dksX6_barters_3 22 rfl rfl)
theorem dX6_barters_95 : decode cX6_barters 95 = .ok (.isub, 1) := dk_100 (dk_at dksX6_barters_3 23 rfl rfl)
theorem dX6_barters_96 : decode cX6_barters 96 = .ok (.invokevirtual 239, 3) := dk_182 0 239 (dk_at dksX6_barters_4 0 rfl rfl)
theorem dX6_barters_99 : decode cX6_barters 99 = .ok (.aload_n 0, 1) := dk_42 (dk_at dksX6_barters_4 3 rfl rfl)
theorem dX6_barters_100 : decode cX6_barters 100 = .ok (.iload_n 1, 1) := dk_27 (dk_at dksX6_barters_4 4 rfl rfl)
theorem dX6_barters_101 : decode cX6_barters 101 = .ok (.iload 4, 2) := dk_21 4 (dk_at dksX6_barters_4 5 rfl rfl)
theorem dX6_barters_103 : decode cX6_barters 103 = .ok (.invokevirtual 171, 3) := dk_182 0 171 (dk_at dksX6_barters_4 7 rfl rfl)
theorem dX6_barters_106 : decode cX6_barters 106 = .ok (.iinc 4 1, 3) := dk_132 4 1 (dk_at dksX6_barters_4 10 rfl rfl)
theorem dX6_barters_109 : decode cX6_barters 109 = .ok (.goto (-87), 3) := dk_167 255 169 (dk_at dksX6_barters_4 13 rfl rfl)
theorem dX6_barters_112 : decode cX6_barters 112 = .ok (.return_, 1) := dk_177 (dk_at dksX6_barters_4 16 rfl rfl)
abbrev cX6_dearest : ByteArray := prog_26_method_70_code
def yX6_dearest : MethodName := ⟨RX6, "dearest", "(II)I"⟩
def dkwX6_dearest_3 : List UInt8 := [164, 0, 8, 21, 4, 167, 0, 4, 29, 62, 132, 4, 1, 167, 255, 200, 29, 172]
abbrev dktX6_dearest_3 : List UInt8 := dkwX6_dearest_3 ++ []
def dkwX6_dearest_2 : List UInt8 := [155, 0, 25, 42, 180, 0, 7, 16, 6, 21, 4, 96, 46, 42, 180, 0, 7, 16, 6, 29, 96, 46]
abbrev dktX6_dearest_2 : List UInt8 := dkwX6_dearest_2 ++ dktX6_dearest_3
def dkwX6_dearest_1 : List UInt8 := [3, 54, 4, 21, 4, 16, 8, 162, 0, 55, 42, 180, 0, 236, 21, 4, 122, 4, 126, 4, 160, 0, 34, 29]
abbrev dktX6_dearest_1 : List UInt8 := dkwX6_dearest_1 ++ dktX6_dearest_2
def dkwX6_dearest_0 : List UInt8 := [42, 27, 28, 182, 0, 244, 154, 0, 5, 2, 172, 42, 3, 181, 0, 236, 42, 27, 28, 182, 0, 239, 2, 62]
abbrev dktX6_dearest_0 : List UInt8 := dkwX6_dearest_0 ++ dktX6_dearest_1
theorem dksX6_dearest_0 : cX6_dearest.data.toList.drop 0 = dktX6_dearest_0 := by decide +kernel
theorem dksX6_dearest_1 : cX6_dearest.data.toList.drop 24 = dktX6_dearest_1 := dk_seg dksX6_dearest_0 24 rfl rfl
theorem dksX6_dearest_2 : cX6_dearest.data.toList.drop 48 = dktX6_dearest_2 := dk_seg dksX6_dearest_1 24 rfl rfl
theorem dksX6_dearest_3 : cX6_dearest.data.toList.drop 70 = dktX6_dearest_3 := dk_seg dksX6_dearest_2 22 rfl rfl
theorem dX6_dearest_0 : decode cX6_dearest 0 = .ok (.aload_n 0, 1) := dk_42 (dk_at dksX6_dearest_0 0 rfl rfl)
theorem dX6_dearest_1 : decode cX6_dearest 1 = .ok (.iload_n 1, 1) := dk_27 (dk_at dksX6_dearest_0 1 rfl rfl)
theorem dX6_dearest_2 : decode cX6_dearest 2 = .ok (.iload_n 2, 1) := dk_28 (dk_at dksX6_dearest_0 2 rfl rfl)
theorem dX6_dearest_3 : decode cX6_dearest 3 = .ok (.invokevirtual 244, 3) := dk_182 0 244 (dk_at dksX6_dearest_0 3 rfl rfl)
theorem dX6_dearest_6 : decode cX6_dearest 6 = .ok (.ifCond .ne 5, 3) := dk_154 0 5 (dk_at dksX6_dearest_0 6 rfl rfl)
theorem dX6_dearest_9 : decode cX6_dearest 9 = .ok (.iconst (-1), 1) := dk_2 (dk_at dksX6_dearest_0 9 rfl rfl)
theorem dX6_dearest_10 : decode cX6_dearest 10 = .ok (.ireturn, 1) := dk_172 (dk_at dksX6_dearest_0 10 rfl rfl)
theorem dX6_dearest_11 : decode cX6_dearest 11 = .ok (.aload_n 0, 1) := dk_42 (dk_at dksX6_dearest_0 11 rfl rfl)
theorem dX6_dearest_12 : decode cX6_dearest 12 = .ok (.iconst 0, 1) := dk_3 (dk_at dksX6_dearest_0 12 rfl rfl)
theorem dX6_dearest_13 : decode cX6_dearest 13 = .ok (.putfield 236, 3) := dk_181 0 236 (dk_at dksX6_dearest_0 13 rfl rfl)
theorem dX6_dearest_16 : decode cX6_dearest 16 = .ok (.aload_n 0, 1) := dk_42 (dk_at dksX6_dearest_0 16 rfl rfl)
theorem dX6_dearest_17 : decode cX6_dearest 17 = .ok (.iload_n 1, 1) := dk_27 (dk_at dksX6_dearest_0 17 rfl rfl)
theorem dX6_dearest_18 : decode cX6_dearest 18 = .ok (.iload_n 2, 1) := dk_28 (dk_at dksX6_dearest_0 18 rfl rfl)
theorem dX6_dearest_19 : decode cX6_dearest 19 = .ok (.invokevirtual 239, 3) := dk_182 0 239 (dk_at dksX6_dearest_0 19 rfl rfl)
theorem dX6_dearest_22 : decode cX6_dearest 22 = .ok (.iconst (-1), 1) := dk_2 (dk_at dksX6_dearest_0 22 rfl rfl)
theorem dX6_dearest_23 : decode cX6_dearest 23 = .ok (.istore_n 3, 1) := dk_62 (dk_at dksX6_dearest_0 23 rfl rfl)
theorem dX6_dearest_24 : decode cX6_dearest 24 = .ok (.iconst 0, 1) := dk_3 (dk_at dksX6_dearest_1 0 rfl rfl)
theorem dX6_dearest_25 : decode cX6_dearest 25 = .ok (.istore 4, 2) := dk_54 4 (dk_at dksX6_dearest_1 1 rfl rfl)
theorem dX6_dearest_27 : decode cX6_dearest 27 = .ok (.iload 4, 2) := dk_21 4 (dk_at dksX6_dearest_1 3 rfl rfl)
theorem dX6_dearest_29 : decode cX6_dearest 29 = .ok (.bipush 8, 2) := dk_16 8 (dk_at dksX6_dearest_1 5 rfl rfl)
theorem dX6_dearest_31 : decode cX6_dearest 31 = .ok (.if_icmp .ge 55, 3) := dk_162 0 55 (dk_at dksX6_dearest_1 7 rfl rfl)
theorem dX6_dearest_34 : decode cX6_dearest 34 = .ok (.aload_n 0, 1) := dk_42 (dk_at dksX6_dearest_1 10 rfl rfl)
theorem dX6_dearest_35 : decode cX6_dearest 35 = .ok (.getfield 236, 3) := dk_180 0 236 (dk_at dksX6_dearest_1 11 rfl rfl)
theorem dX6_dearest_38 : decode cX6_dearest 38 = .ok (.iload 4, 2) := dk_21 4 (dk_at dksX6_dearest_1 14 rfl rfl)
theorem dX6_dearest_40 : decode cX6_dearest 40 = .ok (.ishr, 1) := dk_122 (dk_at dksX6_dearest_1 16 rfl rfl)
theorem dX6_dearest_41 : decode cX6_dearest 41 = .ok (.iconst 1, 1) := dk_4 (dk_at dksX6_dearest_1 17 rfl rfl)
theorem dX6_dearest_42 : decode cX6_dearest 42 = .ok (.iand, 1) := dk_126 (dk_at dksX6_dearest_1 18 rfl rfl)
theorem dX6_dearest_43 : decode cX6_dearest 43 = .ok (.iconst 1, 1) := dk_4 (dk_at dksX6_dearest_1 19 rfl rfl)
theorem dX6_dearest_44 : decode cX6_dearest 44 = .ok (.if_icmp .ne 34, 3) := dk_160 0 34 (dk_at dksX6_dearest_1 20 rfl rfl)
theorem dX6_dearest_47 : decode cX6_dearest 47 = .ok (.iload_n 3, 1) := dk_29 (dk_at dksX6_dearest_1 23 rfl rfl)
theorem dX6_dearest_48 : decode cX6_dearest 48 = .ok (.ifCond .lt 25, 3) := dk_155 0 25 (dk_at dksX6_dearest_2 0 rfl rfl)
theorem dX6_dearest_51 : decode cX6_dearest 51 = .ok (.aload_n 0, 1) := dk_42 (dk_at dksX6_dearest_2 3 rfl rfl)
theorem dX6_dearest_52 : decode cX6_dearest 52 = .ok (.getfield 7, 3) := dk_180 0 7 (dk_at dksX6_dearest_2 4 rfl rfl)
theorem dX6_dearest_55 : decode cX6_dearest 55 = .ok (.bipush 6, 2) := dk_16 6 (dk_at dksX6_dearest_2 7 rfl rfl)
theorem dX6_dearest_57 : decode cX6_dearest 57 = .ok (.iload 4, 2) := dk_21 4 (dk_at dksX6_dearest_2 9 rfl rfl)
theorem dX6_dearest_59 : decode cX6_dearest 59 = .ok (.iadd, 1) := dk_96 (dk_at dksX6_dearest_2 11 rfl rfl)
theorem dX6_dearest_60 : decode cX6_dearest 60 = .ok (.iaload, 1) := dk_46 (dk_at dksX6_dearest_2 12 rfl rfl)
theorem dX6_dearest_61 : decode cX6_dearest 61 = .ok (.aload_n 0, 1) := dk_42 (dk_at dksX6_dearest_2 13 rfl rfl)
theorem dX6_dearest_62 : decode cX6_dearest 62 = .ok (.getfield 7, 3) := dk_180 0 7 (dk_at dksX6_dearest_2 14 rfl rfl)
theorem dX6_dearest_65 : decode cX6_dearest 65 = .ok (.bipush 6, 2) := dk_16 6 (dk_at dksX6_dearest_2 17 rfl rfl)
theorem dX6_dearest_67 : decode cX6_dearest 67 = .ok (.iload_n 3, 1) := dk_29 (dk_at dksX6_dearest_2 19 rfl rfl)
theorem dX6_dearest_68 : decode cX6_dearest 68 = .ok (.iadd, 1) := dk_96 (dk_at dksX6_dearest_2 20 rfl rfl)
theorem dX6_dearest_69 : decode cX6_dearest 69 = .ok (.iaload, 1) := dk_46 (dk_at dksX6_dearest_2 21 rfl rfl)
theorem dX6_dearest_70 : decode cX6_dearest 70 = .ok (.if_icmp .le 8, 3) := dk_164 0 8 (dk_at dksX6_dearest_3 0 rfl rfl)
theorem dX6_dearest_73 : decode cX6_dearest 73 = .ok (.iload 4, 2) := dk_21 4 (dk_at dksX6_dearest_3 3 rfl rfl)
theorem dX6_dearest_75 : decode cX6_dearest 75 = .ok (.goto 4, 3) := dk_167 0 4 (dk_at dksX6_dearest_3 5 rfl rfl)
theorem dX6_dearest_78 : decode cX6_dearest 78 = .ok (.iload_n 3, 1) := dk_29 (dk_at dksX6_dearest_3 8 rfl rfl)
theorem dX6_dearest_79 : decode cX6_dearest 79 = .ok (.istore_n 3, 1) := dk_62 (dk_at dksX6_dearest_3 9 rfl rfl)
theorem dX6_dearest_80 : decode cX6_dearest 80 = .ok (.iinc 4 1, 3) := dk_132 4 1 (dk_at dksX6_dearest_3 10 rfl rfl)
theorem dX6_dearest_83 : decode cX6_dearest 83 = .ok (.goto (-56), 3) := dk_167 255 200 (dk_at dksX6_dearest_3 13 rfl rfl)
theorem dX6_dearest_86 : decode cX6_dearest 86 = .ok (.iload_n 3, 1) := dk_29 (dk_at dksX6_dearest_3 16 rfl rfl)
theorem dX6_dearest_87 : decode cX6_dearest 87 = .ok (.ireturn, 1) := dk_172 (dk_at dksX6_dearest_3 17 rfl rfl)
abbrev cX6_game : ByteArray := prog_26_method_75_code
def yX6_game : MethodName := ⟨RX6, "game", "(I)I"⟩
def dkwX6_game_0 : List UInt8 := [27, 184, 1, 0, 153, 0, 11, 42, 27, 182, 0, 247, 167, 0, 4, 2, 172]
abbrev dktX6_game_0 : List UInt8 := dkwX6_game_0 ++ []
theorem dksX6_game_0 : cX6_game.data.toList.drop 0 = dktX6_game_0 := by decide +kernel
theorem dX6_game_0 : decode cX6_game 0 = .ok (.iload_n 1, 1) := dk_27 (dk_at dksX6_game_0 0 rfl rfl)
theorem dX6_game_1 : decode cX6_game 1 = .ok (.invokestatic 256, 3) := dk_184 1 0 (dk_at dksX6_game_0 1 rfl rfl)
theorem dX6_game_4 : decode cX6_game 4 = .ok (.ifCond .eq 11, 3) := dk_153 0 11 (dk_at dksX6_game_0 4 rfl rfl)
theorem dX6_game_7 : decode cX6_game 7 = .ok (.aload_n 0, 1) := dk_42 (dk_at dksX6_game_0 7 rfl rfl)
theorem dX6_game_8 : decode cX6_game 8 = .ok (.iload_n 1, 1) := dk_27 (dk_at dksX6_game_0 8 rfl rfl)
theorem dX6_game_9 : decode cX6_game 9 = .ok (.invokevirtual 247, 3) := dk_182 0 247 (dk_at dksX6_game_0 9 rfl rfl)
theorem dX6_game_12 : decode cX6_game 12 = .ok (.goto 4, 3) := dk_167 0 4 (dk_at dksX6_game_0 12 rfl rfl)
theorem dX6_game_15 : decode cX6_game 15 = .ok (.iconst (-1), 1) := dk_2 (dk_at dksX6_game_0 15 rfl rfl)
theorem dX6_game_16 : decode cX6_game 16 = .ok (.ireturn, 1) := dk_172 (dk_at dksX6_game_0 16 rfl rfl)
abbrev cX6_isGame : ByteArray := prog_26_method_74_code
def yX6_isGame : MethodName := ⟨RX6, "isGame", "(I)Z"⟩
def dkwX6_isGame_0 : List UInt8 := [26, 133, 10, 20, 0, 126, 184, 0, 68, 172]
abbrev dktX6_isGame_0 : List UInt8 := dkwX6_isGame_0 ++ []
theorem dksX6_isGame_0 : cX6_isGame.data.toList.drop 0 = dktX6_isGame_0 := by decide +kernel
theorem dX6_isGame_0 : decode cX6_isGame 0 = .ok (.iload_n 0, 1) := dk_26 (dk_at dksX6_isGame_0 0 rfl rfl)
theorem dX6_isGame_1 : decode cX6_isGame 1 = .ok (.i2l, 1) := dk_133 (dk_at dksX6_isGame_0 1 rfl rfl)
theorem dX6_isGame_2 : decode cX6_isGame 2 = .ok (.lconst 1, 1) := dk_10 (dk_at dksX6_isGame_0 2 rfl rfl)
theorem dX6_isGame_3 : decode cX6_isGame 3 = .ok (.ldc2_w 126, 3) := dk_20 0 126 (dk_at dksX6_isGame_0 3 rfl rfl)
theorem dX6_isGame_6 : decode cX6_isGame 6 = .ok (.invokestatic 68, 3) := dk_184 0 68 (dk_at dksX6_isGame_0 6 rfl rfl)
theorem dX6_isGame_9 : decode cX6_isGame 9 = .ok (.ireturn, 1) := dk_172 (dk_at dksX6_isGame_0 9 rfl rfl)
abbrev cX6_valueOf : ByteArray := prog_26_method_73_code
def yX6_valueOf : MethodName := ⟨RX6, "valueOf", "(I)I"⟩
def dkwX6_valueOf_2 : List UInt8 := [167, 0, 4, 28, 61, 42, 29, 182, 0, 179, 62, 167, 255, 213, 28, 172]
abbrev dktX6_valueOf_2 : List UInt8 := dkwX6_valueOf_2 ++ []
def dkwX6_valueOf_1 : List UInt8 := [27, 182, 0, 253, 54, 4, 21, 4, 154, 0, 7, 3, 167, 0, 14, 21, 4, 5, 160, 0, 7, 5]
abbrev dktX6_valueOf_1 : List UInt8 := dkwX6_valueOf_1 ++ dktX6_valueOf_2
def dkwX6_valueOf_0 : List UInt8 := [27, 154, 0, 5, 5, 172, 4, 61, 42, 2, 182, 0, 179, 62, 29, 155, 0, 45, 28, 153, 0, 41, 42, 29]
abbrev dktX6_valueOf_0 : List UInt8 := dkwX6_valueOf_0 ++ dktX6_valueOf_1
theorem dksX6_valueOf_0 : cX6_valueOf.data.toList.drop 0 = dktX6_valueOf_0 := by decide +kernel
theorem dksX6_valueOf_1 : cX6_valueOf.data.toList.drop 24 = dktX6_valueOf_1 := dk_seg dksX6_valueOf_0 24 rfl rfl
theorem dksX6_valueOf_2 : cX6_valueOf.data.toList.drop 46 = dktX6_valueOf_2 := dk_seg dksX6_valueOf_1 22 rfl rfl
theorem dX6_valueOf_0 : decode cX6_valueOf 0 = .ok (.iload_n 1, 1) := dk_27 (dk_at dksX6_valueOf_0 0 rfl rfl)
theorem dX6_valueOf_1 : decode cX6_valueOf 1 = .ok (.ifCond .ne 5, 3) := dk_154 0 5 (dk_at dksX6_valueOf_0 1 rfl rfl)
theorem dX6_valueOf_4 : decode cX6_valueOf 4 = .ok (.iconst 2, 1) := dk_5 (dk_at dksX6_valueOf_0 4 rfl rfl)
theorem dX6_valueOf_5 : decode cX6_valueOf 5 = .ok (.ireturn, 1) := dk_172 (dk_at dksX6_valueOf_0 5 rfl rfl)
theorem dX6_valueOf_6 : decode cX6_valueOf 6 = .ok (.iconst 1, 1) := dk_4 (dk_at dksX6_valueOf_0 6 rfl rfl)
theorem dX6_valueOf_7 : decode cX6_valueOf 7 = .ok (.istore_n 2, 1) := dk_61 (dk_at dksX6_valueOf_0 7 rfl rfl)
theorem dX6_valueOf_8 : decode cX6_valueOf 8 = .ok (.aload_n 0, 1) := dk_42 (dk_at dksX6_valueOf_0 8 rfl rfl)
theorem dX6_valueOf_9 : decode cX6_valueOf 9 = .ok (.iconst (-1), 1) := dk_2 (dk_at dksX6_valueOf_0 9 rfl rfl)
theorem dX6_valueOf_10 : decode cX6_valueOf 10 = .ok (.invokevirtual 179, 3) := dk_182 0 179 (dk_at dksX6_valueOf_0 10 rfl rfl)
theorem dX6_valueOf_13 : decode cX6_valueOf 13 = .ok (.istore_n 3, 1) := dk_62 (dk_at dksX6_valueOf_0 13 rfl rfl)
theorem dX6_valueOf_14 : decode cX6_valueOf 14 = .ok (.iload_n 3, 1) := dk_29 (dk_at dksX6_valueOf_0 14 rfl rfl)
theorem dX6_valueOf_15 : decode cX6_valueOf 15 = .ok (.ifCond .lt 45, 3) := dk_155 0 45 (dk_at dksX6_valueOf_0 15 rfl rfl)
theorem dX6_valueOf_18 : decode cX6_valueOf 18 = .ok (.iload_n 2, 1) := dk_28 (dk_at dksX6_valueOf_0 18 rfl rfl)
theorem dX6_valueOf_19 : decode cX6_valueOf 19 = .ok (.ifCond .eq 41, 3) := dk_153 0 41 (dk_at dksX6_valueOf_0 19 rfl rfl)
theorem dX6_valueOf_22 : decode cX6_valueOf 22 = .ok (.aload_n 0, 1) := dk_42 (dk_at dksX6_valueOf_0 22 rfl rfl)
theorem dX6_valueOf_23 : decode cX6_valueOf 23 = .ok (.iload_n 3, 1) := dk_29 (dk_at dksX6_valueOf_0 23 rfl rfl)
theorem dX6_valueOf_24 : decode cX6_valueOf 24 = .ok (.iload_n 1, 1) := dk_27 (dk_at dksX6_valueOf_1 0 rfl rfl)
theorem dX6_valueOf_25 : decode cX6_valueOf 25 = .ok (.invokevirtual 253, 3) := dk_182 0 253 (dk_at dksX6_valueOf_1 1 rfl rfl)
theorem dX6_valueOf_28 : decode cX6_valueOf 28 = .ok (.istore 4, 2) := dk_54 4 (dk_at dksX6_valueOf_1 4 rfl rfl)
theorem dX6_valueOf_30 : decode cX6_valueOf 30 = .ok (.iload 4, 2) := dk_21 4 (dk_at dksX6_valueOf_1 6 rfl rfl)
theorem dX6_valueOf_32 : decode cX6_valueOf 32 = .ok (.ifCond .ne 7, 3) := dk_154 0 7 (dk_at dksX6_valueOf_1 8 rfl rfl)
theorem dX6_valueOf_35 : decode cX6_valueOf 35 = .ok (.iconst 0, 1) := dk_3 (dk_at dksX6_valueOf_1 11 rfl rfl)
theorem dX6_valueOf_36 : decode cX6_valueOf 36 = .ok (.goto 14, 3) := dk_167 0 14 (dk_at dksX6_valueOf_1 12 rfl rfl)
theorem dX6_valueOf_39 : decode cX6_valueOf 39 = .ok (.iload 4, 2) := dk_21 4 (dk_at dksX6_valueOf_1 15 rfl rfl)
theorem dX6_valueOf_41 : decode cX6_valueOf 41 = .ok (.iconst 2, 1) := dk_5 (dk_at dksX6_valueOf_1 17 rfl rfl)
theorem dX6_valueOf_42 : decode cX6_valueOf 42 = .ok (.if_icmp .ne 7, 3) := dk_160 0 7 (dk_at dksX6_valueOf_1 18 rfl rfl)
theorem dX6_valueOf_45 : decode cX6_valueOf 45 = .ok (.iconst 2, 1) := dk_5 (dk_at dksX6_valueOf_1 21 rfl rfl)
theorem dX6_valueOf_46 : decode cX6_valueOf 46 = .ok (.goto 4, 3) := dk_167 0 4 (dk_at dksX6_valueOf_2 0 rfl rfl)
theorem dX6_valueOf_49 : decode cX6_valueOf 49 = .ok (.iload_n 2, 1) := dk_28 (dk_at dksX6_valueOf_2 3 rfl rfl)
theorem dX6_valueOf_50 : decode cX6_valueOf 50 = .ok (.istore_n 2, 1) := dk_61 (dk_at dksX6_valueOf_2 4 rfl rfl)
theorem dX6_valueOf_51 : decode cX6_valueOf 51 = .ok (.aload_n 0, 1) := dk_42 (dk_at dksX6_valueOf_2 5 rfl rfl)
theorem dX6_valueOf_52 : decode cX6_valueOf 52 = .ok (.iload_n 3, 1) := dk_29 (dk_at dksX6_valueOf_2 6 rfl rfl)
theorem dX6_valueOf_53 : decode cX6_valueOf 53 = .ok (.invokevirtual 179, 3) := dk_182 0 179 (dk_at dksX6_valueOf_2 7 rfl rfl)
theorem dX6_valueOf_56 : decode cX6_valueOf 56 = .ok (.istore_n 3, 1) := dk_62 (dk_at dksX6_valueOf_2 10 rfl rfl)
theorem dX6_valueOf_57 : decode cX6_valueOf 57 = .ok (.goto (-43), 3) := dk_167 255 213 (dk_at dksX6_valueOf_2 11 rfl rfl)
theorem dX6_valueOf_60 : decode cX6_valueOf 60 = .ok (.iload_n 2, 1) := dk_28 (dk_at dksX6_valueOf_2 14 rfl rfl)
theorem dX6_valueOf_61 : decode cX6_valueOf 61 = .ok (.ireturn, 1) := dk_172 (dk_at dksX6_valueOf_2 15 rfl rfl)
abbrev cX6_valueBy : ByteArray := prog_26_method_72_code
def yX6_valueBy : MethodName := ⟨RX6, "valueBy", "(II)I"⟩
def dkwX6_valueBy_1 : List UInt8 := [184, 0, 250, 54, 5, 42, 27, 29, 21, 4, 182, 0, 185, 21, 5, 172]
abbrev dktX6_valueBy_1 : List UInt8 := dkwX6_valueBy_1 ++ []
def dkwX6_valueBy_0 : List UInt8 := [42, 27, 182, 0, 175, 42, 180, 0, 165, 62, 42, 180, 0, 168, 54, 4, 42, 28, 4, 100, 182, 0, 247]
abbrev dktX6_valueBy_0 : List UInt8 := dkwX6_valueBy_0 ++ dktX6_valueBy_1
theorem dksX6_valueBy_0 : cX6_valueBy.data.toList.drop 0 = dktX6_valueBy_0 := by decide +kernel
theorem dksX6_valueBy_1 : cX6_valueBy.data.toList.drop 23 = dktX6_valueBy_1 := dk_seg dksX6_valueBy_0 23 rfl rfl
theorem dX6_valueBy_0 : decode cX6_valueBy 0 = .ok (.aload_n 0, 1) := dk_42 (dk_at dksX6_valueBy_0 0 rfl rfl)
theorem dX6_valueBy_1 : decode cX6_valueBy 1 = .ok (.iload_n 1, 1) := dk_27 (dk_at dksX6_valueBy_0 1 rfl rfl)
theorem dX6_valueBy_2 : decode cX6_valueBy 2 = .ok (.invokevirtual 175, 3) := dk_182 0 175 (dk_at dksX6_valueBy_0 2 rfl rfl)
theorem dX6_valueBy_5 : decode cX6_valueBy 5 = .ok (.aload_n 0, 1) := dk_42 (dk_at dksX6_valueBy_0 5 rfl rfl)
theorem dX6_valueBy_6 : decode cX6_valueBy 6 = .ok (.getfield 165, 3) := dk_180 0 165 (dk_at dksX6_valueBy_0 6 rfl rfl)
theorem dX6_valueBy_9 : decode cX6_valueBy 9 = .ok (.istore_n 3, 1) := dk_62 (dk_at dksX6_valueBy_0 9 rfl rfl)
theorem dX6_valueBy_10 : decode cX6_valueBy 10 = .ok (.aload_n 0, 1) := dk_42 (dk_at dksX6_valueBy_0 10 rfl rfl)
theorem dX6_valueBy_11 : decode cX6_valueBy 11 = .ok (.getfield 168, 3) := dk_180 0 168 (dk_at dksX6_valueBy_0 11 rfl rfl)
theorem dX6_valueBy_14 : decode cX6_valueBy 14 = .ok (.istore 4, 2) := dk_54 4 (dk_at dksX6_valueBy_0 14 rfl rfl)
theorem dX6_valueBy_16 : decode cX6_valueBy 16 = .ok (.aload_n 0, 1) := dk_42 (dk_at dksX6_valueBy_0 16 rfl rfl)
theorem dX6_valueBy_17 : decode cX6_valueBy 17 = .ok (.iload_n 2, 1) := dk_28 (dk_at dksX6_valueBy_0 17 rfl rfl)
theorem dX6_valueBy_18 : decode cX6_valueBy 18 = .ok (.iconst 1, 1) := dk_4 (dk_at dksX6_valueBy_0 18 rfl rfl)
theorem dX6_valueBy_19 : decode cX6_valueBy 19 = .ok (.isub, 1) := dk_100 (dk_at dksX6_valueBy_0 19 rfl rfl)
theorem dX6_valueBy_20 : decode cX6_valueBy 20 = .ok (.invokevirtual 247, 3) := dk_182 0 247 (dk_at dksX6_valueBy_0 20 rfl rfl)
theorem dX6_valueBy_23 : decode cX6_valueBy 23 = .ok (.invokestatic 250, 3) := dk_184 0 250 (dk_at dksX6_valueBy_1 0 rfl rfl)
theorem dX6_valueBy_26 : decode cX6_valueBy 26 = .ok (.istore 5, 2) := dk_54 5 (dk_at dksX6_valueBy_1 3 rfl rfl)
theorem dX6_valueBy_28 : decode cX6_valueBy 28 = .ok (.aload_n 0, 1) := dk_42 (dk_at dksX6_valueBy_1 5 rfl rfl)
theorem dX6_valueBy_29 : decode cX6_valueBy 29 = .ok (.iload_n 1, 1) := dk_27 (dk_at dksX6_valueBy_1 6 rfl rfl)
theorem dX6_valueBy_30 : decode cX6_valueBy 30 = .ok (.iload_n 3, 1) := dk_29 (dk_at dksX6_valueBy_1 7 rfl rfl)
theorem dX6_valueBy_31 : decode cX6_valueBy 31 = .ok (.iload 4, 2) := dk_21 4 (dk_at dksX6_valueBy_1 8 rfl rfl)
theorem dX6_valueBy_33 : decode cX6_valueBy 33 = .ok (.invokevirtual 185, 3) := dk_182 0 185 (dk_at dksX6_valueBy_1 10 rfl rfl)
theorem dX6_valueBy_36 : decode cX6_valueBy 36 = .ok (.iload 5, 2) := dk_21 5 (dk_at dksX6_valueBy_1 13 rfl rfl)
theorem dX6_valueBy_38 : decode cX6_valueBy 38 = .ok (.ireturn, 1) := dk_172 (dk_at dksX6_valueBy_1 15 rfl rfl)
abbrev cX6_turned : ByteArray := prog_26_method_71_code
def yX6_turned : MethodName := ⟨RX6, "turned", "(I)I"⟩
def dkwX6_turned_0 : List UInt8 := [26, 5, 160, 0, 7, 5, 167, 0, 6, 4, 26, 100, 172]
abbrev dktX6_turned_0 : List UInt8 := dkwX6_turned_0 ++ []
theorem dksX6_turned_0 : cX6_turned.data.toList.drop 0 = dktX6_turned_0 := by decide +kernel
theorem dX6_turned_0 : decode cX6_turned 0 = .ok (.iload_n 0, 1) := dk_26 (dk_at dksX6_turned_0 0 rfl rfl)
theorem dX6_turned_1 : decode cX6_turned 1 = .ok (.iconst 2, 1) := dk_5 (dk_at dksX6_turned_0 1 rfl rfl)
theorem dX6_turned_2 : decode cX6_turned 2 = .ok (.if_icmp .ne 7, 3) := dk_160 0 7 (dk_at dksX6_turned_0 2 rfl rfl)
theorem dX6_turned_5 : decode cX6_turned 5 = .ok (.iconst 2, 1) := dk_5 (dk_at dksX6_turned_0 5 rfl rfl)
theorem dX6_turned_6 : decode cX6_turned 6 = .ok (.goto 6, 3) := dk_167 0 6 (dk_at dksX6_turned_0 6 rfl rfl)
theorem dX6_turned_9 : decode cX6_turned 9 = .ok (.iconst 1, 1) := dk_4 (dk_at dksX6_turned_0 9 rfl rfl)
theorem dX6_turned_10 : decode cX6_turned 10 = .ok (.iload_n 0, 1) := dk_26 (dk_at dksX6_turned_0 10 rfl rfl)
theorem dX6_turned_11 : decode cX6_turned 11 = .ok (.isub, 1) := dk_100 (dk_at dksX6_turned_0 11 rfl rfl)
theorem dX6_turned_12 : decode cX6_turned 12 = .ok (.ireturn, 1) := dk_172 (dk_at dksX6_turned_0 12 rfl rfl)
abbrev cX6_play : ByteArray := prog_26_method_76_code
def yX6_play : MethodName := ⟨RX6, "play", "(I)I"⟩
def dkwX6_play_2 : List UInt8 := [16, 253, 172]
abbrev dktX6_play_2 : List UInt8 := dkwX6_play_2 ++ []
def dkwX6_play_1 : List UInt8 := [155, 0, 24, 42, 29, 27, 182, 0, 253, 28, 160, 0, 5, 29, 172, 42, 29, 182, 0, 179, 62, 167, 255, 234]
abbrev dktX6_play_1 : List UInt8 := dkwX6_play_1 ++ dktX6_play_2
def dkwX6_play_0 : List UInt8 := [27, 184, 1, 0, 154, 0, 5, 2, 172, 42, 27, 182, 0, 247, 61, 42, 2, 182, 0, 179, 62, 29]
abbrev dktX6_play_0 : List UInt8 := dkwX6_play_0 ++ dktX6_play_1
theorem dksX6_play_0 : cX6_play.data.toList.drop 0 = dktX6_play_0 := by decide +kernel
theorem dksX6_play_1 : cX6_play.data.toList.drop 22 = dktX6_play_1 := dk_seg dksX6_play_0 22 rfl rfl
theorem dksX6_play_2 : cX6_play.data.toList.drop 46 = dktX6_play_2 := dk_seg dksX6_play_1 24 rfl rfl
theorem dX6_play_0 : decode cX6_play 0 = .ok (.iload_n 1, 1) := dk_27 (dk_at dksX6_play_0 0 rfl rfl)
theorem dX6_play_1 : decode cX6_play 1 = .ok (.invokestatic 256, 3) := dk_184 1 0 (dk_at dksX6_play_0 1 rfl rfl)
theorem dX6_play_4 : decode cX6_play 4 = .ok (.ifCond .ne 5, 3) := dk_154 0 5 (dk_at dksX6_play_0 4 rfl rfl)
theorem dX6_play_7 : decode cX6_play 7 = .ok (.iconst (-1), 1) := dk_2 (dk_at dksX6_play_0 7 rfl rfl)
theorem dX6_play_8 : decode cX6_play 8 = .ok (.ireturn, 1) := dk_172 (dk_at dksX6_play_0 8 rfl rfl)
theorem dX6_play_9 : decode cX6_play 9 = .ok (.aload_n 0, 1) := dk_42 (dk_at dksX6_play_0 9 rfl rfl)
theorem dX6_play_10 : decode cX6_play 10 = .ok (.iload_n 1, 1) := dk_27 (dk_at dksX6_play_0 10 rfl rfl)
theorem dX6_play_11 : decode cX6_play 11 = .ok (.invokevirtual 247, 3) := dk_182 0 247 (dk_at dksX6_play_0 11 rfl rfl)
theorem dX6_play_14 : decode cX6_play 14 = .ok (.istore_n 2, 1) := dk_61 (dk_at dksX6_play_0 14 rfl rfl)
theorem dX6_play_15 : decode cX6_play 15 = .ok (.aload_n 0, 1) := dk_42 (dk_at dksX6_play_0 15 rfl rfl)
theorem dX6_play_16 : decode cX6_play 16 = .ok (.iconst (-1), 1) := dk_2 (dk_at dksX6_play_0 16 rfl rfl)
theorem dX6_play_17 : decode cX6_play 17 = .ok (.invokevirtual 179, 3) := dk_182 0 179 (dk_at dksX6_play_0 17 rfl rfl)
theorem dX6_play_20 : decode cX6_play 20 = .ok (.istore_n 3, 1) := dk_62 (dk_at dksX6_play_0 20 rfl rfl)
theorem dX6_play_21 : decode cX6_play 21 = .ok (.iload_n 3, 1) := dk_29 (dk_at dksX6_play_0 21 rfl rfl)
theorem dX6_play_22 : decode cX6_play 22 = .ok (.ifCond .lt 24, 3) := dk_155 0 24 (dk_at dksX6_play_1 0 rfl rfl)
theorem dX6_play_25 : decode cX6_play 25 = .ok (.aload_n 0, 1) := dk_42 (dk_at dksX6_play_1 3 rfl rfl)
theorem dX6_play_26 : decode cX6_play 26 = .ok (.iload_n 3, 1) := dk_29 (dk_at dksX6_play_1 4 rfl rfl)
theorem dX6_play_27 : decode cX6_play 27 = .ok (.iload_n 1, 1) := dk_27 (dk_at dksX6_play_1 5 rfl rfl)
theorem dX6_play_28 : decode cX6_play 28 = .ok (.invokevirtual 253, 3) := dk_182 0 253 (dk_at dksX6_play_1 6 rfl rfl)
theorem dX6_play_31 : decode cX6_play 31 = .ok (.iload_n 2, 1) := dk_28 (dk_at dksX6_play_1 9 rfl rfl)
theorem dX6_play_32 : decode cX6_play 32 = .ok (.if_icmp .ne 5, 3) := dk_160 0 5 (dk_at dksX6_play_1 10 rfl rfl)
theorem dX6_play_35 : decode cX6_play 35 = .ok (.iload_n 3, 1) := dk_29 (dk_at dksX6_play_1 13 rfl rfl)
theorem dX6_play_36 : decode cX6_play 36 = .ok (.ireturn, 1) := dk_172 (dk_at dksX6_play_1 14 rfl rfl)
theorem dX6_play_37 : decode cX6_play 37 = .ok (.aload_n 0, 1) := dk_42 (dk_at dksX6_play_1 15 rfl rfl)
theorem dX6_play_38 : decode cX6_play 38 = .ok (.iload_n 3, 1) := dk_29 (dk_at dksX6_play_1 16 rfl rfl)
theorem dX6_play_39 : decode cX6_play 39 = .ok (.invokevirtual 179, 3) := dk_182 0 179 (dk_at dksX6_play_1 17 rfl rfl)
theorem dX6_play_42 : decode cX6_play 42 = .ok (.istore_n 3, 1) := dk_62 (dk_at dksX6_play_1 20 rfl rfl)
theorem dX6_play_43 : decode cX6_play 43 = .ok (.goto (-22), 3) := dk_167 255 234 (dk_at dksX6_play_1 21 rfl rfl)
theorem dX6_play_46 : decode cX6_play 46 = .ok (.bipush (-3), 2) := dk_16 253 (dk_at dksX6_play_2 0 rfl rfl)
theorem dX6_play_48 : decode cX6_play 48 = .ok (.ireturn, 1) := dk_172 (dk_at dksX6_play_2 2 rfl rfl)
abbrev cX6_report : ByteArray := prog_26_method_77_code
def yX6_report : MethodName := ⟨RX6, "report", "(III)I"⟩
def dkwX6_report_4 : List UInt8 := [42, 180, 0, 7, 6, 92, 46, 4, 96, 79, 42, 180, 0, 7, 6, 46, 4, 100, 172]
abbrev dktX6_report_4 : List UInt8 := dkwX6_report_4 ++ []
def dkwX6_report_3 : List UInt8 := [21, 4, 27, 79, 42, 180, 0, 7, 21, 4, 4, 96, 28, 79, 42, 180, 0, 7, 21, 4, 5, 96, 29, 79]
abbrev dktX6_report_3 : List UInt8 := dkwX6_report_3 ++ dktX6_report_4
def dkwX6_report_2 : List UInt8 := [160, 0, 6, 16, 254, 172, 16, 52, 6, 42, 180, 0, 7, 6, 46, 104, 96, 54, 4, 42, 180, 0, 7]
abbrev dktX6_report_2 : List UInt8 := dkwX6_report_2 ++ dktX6_report_3
def dkwX6_report_1 : List UInt8 := [29, 133, 9, 20, 0, 84, 184, 0, 68, 154, 0, 5, 2, 172, 42, 180, 0, 7, 6, 46, 16, 6]
abbrev dktX6_report_1 : List UInt8 := dkwX6_report_1 ++ dktX6_report_2
def dkwX6_report_0 : List UInt8 := [27, 133, 9, 20, 0, 141, 184, 0, 68, 153, 0, 27, 28, 133, 9, 20, 0, 141, 184, 0, 68, 153, 0, 15]
abbrev dktX6_report_0 : List UInt8 := dkwX6_report_0 ++ dktX6_report_1
theorem dksX6_report_0 : cX6_report.data.toList.drop 0 = dktX6_report_0 := by decide +kernel
theorem dksX6_report_1 : cX6_report.data.toList.drop 24 = dktX6_report_1 := dk_seg dksX6_report_0 24 rfl rfl
theorem dksX6_report_2 : cX6_report.data.toList.drop 46 = dktX6_report_2 := dk_seg dksX6_report_1 22 rfl rfl
theorem dksX6_report_3 : cX6_report.data.toList.drop 69 = dktX6_report_3 := dk_seg dksX6_report_2 23 rfl rfl
theorem dksX6_report_4 : cX6_report.data.toList.drop 93 = dktX6_report_4 := dk_seg dksX6_report_3 24 rfl rfl
theorem dX6_report_0 : decode cX6_report 0 = .ok (.iload_n 1, 1) := dk_27 (dk_at dksX6_report_0 0 rfl rfl)
theorem dX6_report_1 : decode cX6_report 1 = .ok (.i2l, 1) := dk_133 (dk_at dksX6_report_0 1 rfl rfl)
theorem dX6_report_2 : decode cX6_report 2 = .ok (.lconst 0, 1) := dk_9 (dk_at dksX6_report_0 2 rfl rfl)
theorem dX6_report_3 : decode cX6_report 3 = .ok (.ldc2_w 141, 3) := dk_20 0 141 (dk_at dksX6_report_0 3 rfl rfl)
theorem dX6_report_6 : decode cX6_report 6 = .ok (.invokestatic 68, 3) := dk_184 0 68 (dk_at dksX6_report_0 6 rfl rfl)
theorem dX6_report_9 : decode cX6_report 9 = .ok (.ifCond .eq 27, 3) := dk_153 0 27 (dk_at dksX6_report_0 9 rfl rfl)
theorem dX6_report_12 : decode cX6_report 12 = .ok (.iload_n 2, 1) := dk_28 (dk_at dksX6_report_0 12 rfl rfl)
theorem dX6_report_13 : decode cX6_report 13 = .ok (.i2l, 1) := dk_133 (dk_at dksX6_report_0 13 rfl rfl)
theorem dX6_report_14 : decode cX6_report 14 = .ok (.lconst 0, 1) := dk_9 (dk_at dksX6_report_0 14 rfl rfl)
theorem dX6_report_15 : decode cX6_report 15 = .ok (.ldc2_w 141, 3) := dk_20 0 141 (dk_at dksX6_report_0 15 rfl rfl)
theorem dX6_report_18 : decode cX6_report 18 = .ok (.invokestatic 68, 3) := dk_184 0 68 (dk_at dksX6_report_0 18 rfl rfl)
theorem dX6_report_21 : decode cX6_report 21 = .ok (.ifCond .eq 15, 3) := dk_153 0 15 (dk_at dksX6_report_0 21 rfl rfl)
theorem dX6_report_24 : decode cX6_report 24 = .ok (.iload_n 3, 1) := dk_29 (dk_at dksX6_report_1 0 rfl rfl)
theorem dX6_report_25 : decode cX6_report 25 = .ok (.i2l, 1) := dk_133 (dk_at dksX6_report_1 1 rfl rfl)
theorem dX6_report_26 : decode cX6_report 26 = .ok (.lconst 0, 1) := dk_9 (dk_at dksX6_report_1 2 rfl rfl)
theorem dX6_report_27 : decode cX6_report 27 = .ok (.ldc2_w 84, 3) := dk_20 0 84 (dk_at dksX6_report_1 3 rfl rfl)
theorem dX6_report_30 : decode cX6_report 30 = .ok (.invokestatic 68, 3) := dk_184 0 68 (dk_at dksX6_report_1 6 rfl rfl)
theorem dX6_report_33 : decode cX6_report 33 = .ok (.ifCond .ne 5, 3) := dk_154 0 5 (dk_at dksX6_report_1 9 rfl rfl)
theorem dX6_report_36 : decode cX6_report 36 = .ok (.iconst (-1), 1) := dk_2 (dk_at dksX6_report_1 12 rfl rfl)
theorem dX6_report_37 : decode cX6_report 37 = .ok (.ireturn, 1) := dk_172 (dk_at dksX6_report_1 13 rfl rfl)
theorem dX6_report_38 : decode cX6_report 38 = .ok (.aload_n 0, 1) := dk_42 (dk_at dksX6_report_1 14 rfl rfl)
theorem dX6_report_39 : decode cX6_report 39 = .ok (.getfield 7, 3) := dk_180 0 7 (dk_at dksX6_report_1 15 rfl rfl)
theorem dX6_report_42 : decode cX6_report 42 = .ok (.iconst 3, 1) := dk_6 (dk_at dksX6_report_1 18 rfl rfl)
theorem dX6_report_43 : decode cX6_report 43 = .ok (.iaload, 1) := dk_46 (dk_at dksX6_report_1 19 rfl rfl)
theorem dX6_report_44 : decode cX6_report 44 = .ok (.bipush 6, 2) := dk_16 6 (dk_at dksX6_report_1 20 rfl rfl)
theorem dX6_report_46 : decode cX6_report 46 = .ok (.if_icmp .ne 6, 3) := dk_160 0 6 (dk_at dksX6_report_2 0 rfl rfl)
theorem dX6_report_49 : decode cX6_report 49 = .ok (.bipush (-2), 2) := dk_16 254 (dk_at dksX6_report_2 3 rfl rfl)
theorem dX6_report_51 : decode cX6_report 51 = .ok (.ireturn, 1) := dk_172 (dk_at dksX6_report_2 5 rfl rfl)
theorem dX6_report_52 : decode cX6_report 52 = .ok (.bipush 52, 2) := dk_16 52 (dk_at dksX6_report_2 6 rfl rfl)
theorem dX6_report_54 : decode cX6_report 54 = .ok (.iconst 3, 1) := dk_6 (dk_at dksX6_report_2 8 rfl rfl)
theorem dX6_report_55 : decode cX6_report 55 = .ok (.aload_n 0, 1) := dk_42 (dk_at dksX6_report_2 9 rfl rfl)
theorem dX6_report_56 : decode cX6_report 56 = .ok (.getfield 7, 3) := dk_180 0 7 (dk_at dksX6_report_2 10 rfl rfl)
theorem dX6_report_59 : decode cX6_report 59 = .ok (.iconst 3, 1) := dk_6 (dk_at dksX6_report_2 13 rfl rfl)
theorem dX6_report_60 : decode cX6_report 60 = .ok (.iaload, 1) := dk_46 (dk_at dksX6_report_2 14 rfl rfl)
theorem dX6_report_61 : decode cX6_report 61 = .ok (.imul, 1) := dk_104 (dk_at dksX6_report_2 15 rfl rfl)
theorem dX6_report_62 : decode cX6_report 62 = .ok (.iadd, 1) := dk_96 (dk_at dksX6_report_2 16 rfl rfl)
theorem dX6_report_63 : decode cX6_report 63 = .ok (.istore 4, 2) := dk_54 4 (dk_at dksX6_report_2 17 rfl rfl)
theorem dX6_report_65 : decode cX6_report 65 = .ok (.aload_n 0, 1) := dk_42 (dk_at dksX6_report_2 19 rfl rfl)
theorem dX6_report_66 : decode cX6_report 66 = .ok (.getfield 7, 3) := dk_180 0 7 (dk_at dksX6_report_2 20 rfl rfl)
theorem dX6_report_69 : decode cX6_report 69 = .ok (.iload 4, 2) := dk_21 4 (dk_at dksX6_report_3 0 rfl rfl)
theorem dX6_report_71 : decode cX6_report 71 = .ok (.iload_n 1, 1) := dk_27 (dk_at dksX6_report_3 2 rfl rfl)
theorem dX6_report_72 : decode cX6_report 72 = .ok (.iastore, 1) := dk_79 (dk_at dksX6_report_3 3 rfl rfl)
theorem dX6_report_73 : decode cX6_report 73 = .ok (.aload_n 0, 1) := dk_42 (dk_at dksX6_report_3 4 rfl rfl)
theorem dX6_report_74 : decode cX6_report 74 = .ok (.getfield 7, 3) := dk_180 0 7 (dk_at dksX6_report_3 5 rfl rfl)
theorem dX6_report_77 : decode cX6_report 77 = .ok (.iload 4, 2) := dk_21 4 (dk_at dksX6_report_3 8 rfl rfl)
theorem dX6_report_79 : decode cX6_report 79 = .ok (.iconst 1, 1) := dk_4 (dk_at dksX6_report_3 10 rfl rfl)
theorem dX6_report_80 : decode cX6_report 80 = .ok (.iadd, 1) := dk_96 (dk_at dksX6_report_3 11 rfl rfl)
theorem dX6_report_81 : decode cX6_report 81 = .ok (.iload_n 2, 1) := dk_28 (dk_at dksX6_report_3 12 rfl rfl)
theorem dX6_report_82 : decode cX6_report 82 = .ok (.iastore, 1) := dk_79 (dk_at dksX6_report_3 13 rfl rfl)
theorem dX6_report_83 : decode cX6_report 83 = .ok (.aload_n 0, 1) := dk_42 (dk_at dksX6_report_3 14 rfl rfl)
theorem dX6_report_84 : decode cX6_report 84 = .ok (.getfield 7, 3) := dk_180 0 7 (dk_at dksX6_report_3 15 rfl rfl)
theorem dX6_report_87 : decode cX6_report 87 = .ok (.iload 4, 2) := dk_21 4 (dk_at dksX6_report_3 18 rfl rfl)
theorem dX6_report_89 : decode cX6_report 89 = .ok (.iconst 2, 1) := dk_5 (dk_at dksX6_report_3 20 rfl rfl)
theorem dX6_report_90 : decode cX6_report 90 = .ok (.iadd, 1) := dk_96 (dk_at dksX6_report_3 21 rfl rfl)
theorem dX6_report_91 : decode cX6_report 91 = .ok (.iload_n 3, 1) := dk_29 (dk_at dksX6_report_3 22 rfl rfl)
theorem dX6_report_92 : decode cX6_report 92 = .ok (.iastore, 1) := dk_79 (dk_at dksX6_report_3 23 rfl rfl)
theorem dX6_report_93 : decode cX6_report 93 = .ok (.aload_n 0, 1) := dk_42 (dk_at dksX6_report_4 0 rfl rfl)
theorem dX6_report_94 : decode cX6_report 94 = .ok (.getfield 7, 3) := dk_180 0 7 (dk_at dksX6_report_4 1 rfl rfl)
theorem dX6_report_97 : decode cX6_report 97 = .ok (.iconst 3, 1) := dk_6 (dk_at dksX6_report_4 4 rfl rfl)
theorem dX6_report_98 : decode cX6_report 98 = .ok (.dup2, 1) := dk_92 (dk_at dksX6_report_4 5 rfl rfl)
theorem dX6_report_99 : decode cX6_report 99 = .ok (.iaload, 1) := dk_46 (dk_at dksX6_report_4 6 rfl rfl)
theorem dX6_report_100 : decode cX6_report 100 = .ok (.iconst 1, 1) := dk_4 (dk_at dksX6_report_4 7 rfl rfl)
theorem dX6_report_101 : decode cX6_report 101 = .ok (.iadd, 1) := dk_96 (dk_at dksX6_report_4 8 rfl rfl)
theorem dX6_report_102 : decode cX6_report 102 = .ok (.iastore, 1) := dk_79 (dk_at dksX6_report_4 9 rfl rfl)
theorem dX6_report_103 : decode cX6_report 103 = .ok (.aload_n 0, 1) := dk_42 (dk_at dksX6_report_4 10 rfl rfl)
theorem dX6_report_104 : decode cX6_report 104 = .ok (.getfield 7, 3) := dk_180 0 7 (dk_at dksX6_report_4 11 rfl rfl)
theorem dX6_report_107 : decode cX6_report 107 = .ok (.iconst 3, 1) := dk_6 (dk_at dksX6_report_4 14 rfl rfl)
theorem dX6_report_108 : decode cX6_report 108 = .ok (.iaload, 1) := dk_46 (dk_at dksX6_report_4 15 rfl rfl)
theorem dX6_report_109 : decode cX6_report 109 = .ok (.iconst 1, 1) := dk_4 (dk_at dksX6_report_4 16 rfl rfl)
theorem dX6_report_110 : decode cX6_report 110 = .ok (.isub, 1) := dk_100 (dk_at dksX6_report_4 17 rfl rfl)
theorem dX6_report_111 : decode cX6_report 111 = .ok (.ireturn, 1) := dk_172 (dk_at dksX6_report_4 18 rfl rfl)
abbrev cX6_forget : ByteArray := prog_26_method_78_code
def yX6_forget : MethodName := ⟨RX6, "forget", "()I"⟩
def dkwX6_forget_0 : List UInt8 := [42, 6, 3, 182, 0, 131, 172]
abbrev dktX6_forget_0 : List UInt8 := dkwX6_forget_0 ++ []
theorem dksX6_forget_0 : cX6_forget.data.toList.drop 0 = dktX6_forget_0 := by decide +kernel
theorem dX6_forget_0 : decode cX6_forget 0 = .ok (.aload_n 0, 1) := dk_42 (dk_at dksX6_forget_0 0 rfl rfl)
theorem dX6_forget_1 : decode cX6_forget 1 = .ok (.iconst 3, 1) := dk_6 (dk_at dksX6_forget_0 1 rfl rfl)
theorem dX6_forget_2 : decode cX6_forget 2 = .ok (.iconst 0, 1) := dk_3 (dk_at dksX6_forget_0 2 rfl rfl)
theorem dX6_forget_3 : decode cX6_forget 3 = .ok (.invokevirtual 131, 3) := dk_182 0 131 (dk_at dksX6_forget_0 3 rfl rfl)
theorem dX6_forget_6 : decode cX6_forget 6 = .ok (.ireturn, 1) := dk_172 (dk_at dksX6_forget_0 6 rfl rfl)
abbrev cX6_span : ByteArray := prog_26_method_81_code
def yX6_span : MethodName := ⟨RX6, "span", "(I)I"⟩
def dkwX6_span_2 : List UInt8 := [180, 1, 9, 167, 0, 7, 42, 180, 1, 12, 172]
abbrev dktX6_span_2 : List UInt8 := dkwX6_span_2 ++ []
def dkwX6_span_1 : List UInt8 := [180, 1, 3, 167, 0, 31, 42, 180, 1, 3, 154, 0, 8, 16, 253, 167, 0, 19, 27, 4, 160, 0, 10, 42]
abbrev dktX6_span_1 : List UInt8 := dkwX6_span_1 ++ dktX6_span_2
def dkwX6_span_0 : List UInt8 := [27, 133, 9, 20, 0, 231, 184, 0, 68, 154, 0, 5, 2, 172, 42, 2, 182, 1, 15, 27, 154, 0, 10, 42]
abbrev dktX6_span_0 : List UInt8 := dkwX6_span_0 ++ dktX6_span_1
theorem dksX6_span_0 : cX6_span.data.toList.drop 0 = dktX6_span_0 := by decide +kernel
theorem dksX6_span_1 : cX6_span.data.toList.drop 24 = dktX6_span_1 := dk_seg dksX6_span_0 24 rfl rfl
theorem dksX6_span_2 : cX6_span.data.toList.drop 48 = dktX6_span_2 := dk_seg dksX6_span_1 24 rfl rfl
theorem dX6_span_0 : decode cX6_span 0 = .ok (.iload_n 1, 1) := dk_27 (dk_at dksX6_span_0 0 rfl rfl)
theorem dX6_span_1 : decode cX6_span 1 = .ok (.i2l, 1) := dk_133 (dk_at dksX6_span_0 1 rfl rfl)
theorem dX6_span_2 : decode cX6_span 2 = .ok (.lconst 0, 1) := dk_9 (dk_at dksX6_span_0 2 rfl rfl)
theorem dX6_span_3 : decode cX6_span 3 = .ok (.ldc2_w 231, 3) := dk_20 0 231 (dk_at dksX6_span_0 3 rfl rfl)
theorem dX6_span_6 : decode cX6_span 6 = .ok (.invokestatic 68, 3) := dk_184 0 68 (dk_at dksX6_span_0 6 rfl rfl)
theorem dX6_span_9 : decode cX6_span 9 = .ok (.ifCond .ne 5, 3) := dk_154 0 5 (dk_at dksX6_span_0 9 rfl rfl)
theorem dX6_span_12 : decode cX6_span 12 = .ok (.iconst (-1), 1) := dk_2 (dk_at dksX6_span_0 12 rfl rfl)
theorem dX6_span_13 : decode cX6_span 13 = .ok (.ireturn, 1) := dk_172 (dk_at dksX6_span_0 13 rfl rfl)
theorem dX6_span_14 : decode cX6_span 14 = .ok (.aload_n 0, 1) := dk_42 (dk_at dksX6_span_0 14 rfl rfl)
theorem dX6_span_15 : decode cX6_span 15 = .ok (.iconst (-1), 1) := dk_2 (dk_at dksX6_span_0 15 rfl rfl)
theorem dX6_span_16 : decode cX6_span 16 = .ok (.invokevirtual 271, 3) := dk_182 1 15 (dk_at dksX6_span_0 16 rfl rfl)
theorem dX6_span_19 : decode cX6_span 19 = .ok (.iload_n 1, 1) := dk_27 (dk_at dksX6_span_0 19 rfl rfl)
theorem dX6_span_20 : decode cX6_span 20 = .ok (.ifCond .ne 10, 3) := dk_154 0 10 (dk_at dksX6_span_0 20 rfl rfl)
theorem dX6_span_23 : decode cX6_span 23 = .ok (.aload_n 0, 1) := dk_42 (dk_at dksX6_span_0 23 rfl rfl)
theorem dX6_span_24 : decode cX6_span 24 = .ok (.getfield 259, 3) := dk_180 1 3 (dk_at dksX6_span_1 0 rfl rfl)
theorem dX6_span_27 : decode cX6_span 27 = .ok (.goto 31, 3) := dk_167 0 31 (dk_at dksX6_span_1 3 rfl rfl)
theorem dX6_span_30 : decode cX6_span 30 = .ok (.aload_n 0, 1) := dk_42 (dk_at dksX6_span_1 6 rfl rfl)
theorem dX6_span_31 : decode cX6_span 31 = .ok (.getfield 259, 3) := dk_180 1 3 (dk_at dksX6_span_1 7 rfl rfl)
theorem dX6_span_34 : decode cX6_span 34 = .ok (.ifCond .ne 8, 3) := dk_154 0 8 (dk_at dksX6_span_1 10 rfl rfl)
theorem dX6_span_37 : decode cX6_span 37 = .ok (.bipush (-3), 2) := dk_16 253 (dk_at dksX6_span_1 13 rfl rfl)
theorem dX6_span_39 : decode cX6_span 39 = .ok (.goto 19, 3) := dk_167 0 19 (dk_at dksX6_span_1 15 rfl rfl)
theorem dX6_span_42 : decode cX6_span 42 = .ok (.iload_n 1, 1) := dk_27 (dk_at dksX6_span_1 18 rfl rfl)
theorem dX6_span_43 : decode cX6_span 43 = .ok (.iconst 1, 1) := dk_4 (dk_at dksX6_span_1 19 rfl rfl)
theorem dX6_span_44 : decode cX6_span 44 = .ok (.if_icmp .ne 10, 3) := dk_160 0 10 (dk_at dksX6_span_1 20 rfl rfl)
theorem dX6_span_47 : decode cX6_span 47 = .ok (.aload_n 0, 1) := dk_42 (dk_at dksX6_span_1 23 rfl rfl)
theorem dX6_span_48 : decode cX6_span 48 = .ok (.getfield 265, 3) := dk_180 1 9 (dk_at dksX6_span_2 0 rfl rfl)
theorem dX6_span_51 : decode cX6_span 51 = .ok (.goto 7, 3) := dk_167 0 7 (dk_at dksX6_span_2 3 rfl rfl)
theorem dX6_span_54 : decode cX6_span 54 = .ok (.aload_n 0, 1) := dk_42 (dk_at dksX6_span_2 6 rfl rfl)
theorem dX6_span_55 : decode cX6_span 55 = .ok (.getfield 268, 3) := dk_180 1 12 (dk_at dksX6_span_2 7 rfl rfl)
theorem dX6_span_58 : decode cX6_span 58 = .ok (.ireturn, 1) := dk_172 (dk_at dksX6_span_2 10 rfl rfl)
abbrev cX6_findFits : ByteArray := prog_26_method_80_code
def yX6_findFits : MethodName := ⟨RX6, "findFits", "(I)V"⟩
def dkwX6_findFits_3 : List UInt8 := [180, 1, 3, 4, 96, 181, 1, 3, 132, 3, 1, 167, 255, 189, 132, 2, 1, 167, 255, 176, 177]
abbrev dktX6_findFits_3 : List UInt8 := dkwX6_findFits_3 ++ []
def dkwX6_findFits_2 : List UInt8 := [181, 1, 9, 42, 42, 180, 1, 3, 154, 0, 7, 29, 167, 0, 7, 42, 180, 1, 12, 181, 1, 12, 42, 89]
abbrev dktX6_findFits_2 : List UInt8 := dkwX6_findFits_2 ++ dktX6_findFits_3
def dkwX6_findFits_1 : List UInt8 := [182, 1, 6, 153, 0, 51, 42, 42, 180, 1, 3, 154, 0, 7, 28, 167, 0, 7, 42, 180, 1, 9]
abbrev dktX6_findFits_1 : List UInt8 := dkwX6_findFits_1 ++ dktX6_findFits_2
def dkwX6_findFits_0 : List UInt8 := [42, 3, 181, 1, 3, 3, 61, 28, 7, 162, 0, 81, 3, 62, 29, 16, 50, 163, 0, 67, 42, 28, 29, 27]
abbrev dktX6_findFits_0 : List UInt8 := dkwX6_findFits_0 ++ dktX6_findFits_1
theorem dksX6_findFits_0 : cX6_findFits.data.toList.drop 0 = dktX6_findFits_0 := by decide +kernel
theorem dksX6_findFits_1 : cX6_findFits.data.toList.drop 24 = dktX6_findFits_1 := dk_seg dksX6_findFits_0 24 rfl rfl
theorem dksX6_findFits_2 : cX6_findFits.data.toList.drop 46 = dktX6_findFits_2 := dk_seg dksX6_findFits_1 22 rfl rfl
theorem dksX6_findFits_3 : cX6_findFits.data.toList.drop 70 = dktX6_findFits_3 := dk_seg dksX6_findFits_2 24 rfl rfl
theorem dX6_findFits_0 : decode cX6_findFits 0 = .ok (.aload_n 0, 1) := dk_42 (dk_at dksX6_findFits_0 0 rfl rfl)
theorem dX6_findFits_1 : decode cX6_findFits 1 = .ok (.iconst 0, 1) := dk_3 (dk_at dksX6_findFits_0 1 rfl rfl)
theorem dX6_findFits_2 : decode cX6_findFits 2 = .ok (.putfield 259, 3) := dk_181 1 3 (dk_at dksX6_findFits_0 2 rfl rfl)
theorem dX6_findFits_5 : decode cX6_findFits 5 = .ok (.iconst 0, 1) := dk_3 (dk_at dksX6_findFits_0 5 rfl rfl)
theorem dX6_findFits_6 : decode cX6_findFits 6 = .ok (.istore_n 2, 1) := dk_61 (dk_at dksX6_findFits_0 6 rfl rfl)
theorem dX6_findFits_7 : decode cX6_findFits 7 = .ok (.iload_n 2, 1) := dk_28 (dk_at dksX6_findFits_0 7 rfl rfl)
theorem dX6_findFits_8 : decode cX6_findFits 8 = .ok (.iconst 4, 1) := dk_7 (dk_at dksX6_findFits_0 8 rfl rfl)
theorem dX6_findFits_9 : decode cX6_findFits 9 = .ok (.if_icmp .ge 81, 3) := dk_162 0 81 (dk_at dksX6_findFits_0 9 rfl rfl)
theorem dX6_findFits_12 : decode cX6_findFits 12 = .ok (.iconst 0, 1) := dk_3 (dk_at dksX6_findFits_0 12 rfl rfl)
theorem dX6_findFits_13 : decode cX6_findFits 13 = .ok (.istore_n 3, 1) := dk_62 (dk_at dksX6_findFits_0 13 rfl rfl)
theorem dX6_findFits_14 : decode cX6_findFits 14 = .ok (.iload_n 3, 1) := dk_29 (dk_at dksX6_findFits_0 14 rfl rfl)
theorem dX6_findFits_15 : decode cX6_findFits 15 = .ok (.bipush 50, 2) := dk_16 50 (dk_at dksX6_findFits_0 15 rfl rfl)
theorem dX6_findFits_17 : decode cX6_findFits 17 = .ok (.if_icmp .gt 67, 3) := dk_163 0 67 (dk_at dksX6_findFits_0 17 rfl rfl)
theorem dX6_findFits_20 : decode cX6_findFits 20 = .ok (.aload_n 0, 1) := dk_42 (dk_at dksX6_findFits_0 20 rfl rfl)
theorem dX6_findFits_21 : decode cX6_findFits 21 = .ok (.iload_n 2, 1) := dk_28 (dk_at dksX6_findFits_0 21 rfl rfl)
theorem dX6_findFits_22 : decode cX6_findFits 22 = .ok (.iload_n 3, 1) := dk_29 (dk_at dksX6_findFits_0 22 rfl rfl)
theorem dX6_findFits_23 : decode cX6_findFits 23 = .ok (.iload_n 1, 1) := dk_27 (dk_at dksX6_findFits_0 23 rfl rfl)
theorem dX6_findFits_24 : decode cX6_findFits 24 = .ok (.invokevirtual 262, 3) := dk_182 1 6 (dk_at dksX6_findFits_1 0 rfl rfl)
theorem dX6_findFits_27 : decode cX6_findFits 27 = .ok (.ifCond .eq 51, 3) := dk_153 0 51 (dk_at dksX6_findFits_1 3 rfl rfl)
theorem dX6_findFits_30 : decode cX6_findFits 30 = .ok (.aload_n 0, 1) := dk_42 (dk_at dksX6_findFits_1 6 rfl rfl)
theorem dX6_findFits_31 : decode cX6_findFits 31 = .ok (.aload_n 0, 1) := dk_42 (dk_at dksX6_findFits_1 7 rfl rfl)
theorem dX6_findFits_32 : decode cX6_findFits 32 = .ok (.getfield 259, 3) := dk_180 1 3 (dk_at dksX6_findFits_1 8 rfl rfl)
theorem dX6_findFits_35 : decode cX6_findFits 35 = .ok (.ifCond .ne 7, 3) := dk_154 0 7 (dk_at dksX6_findFits_1 11 rfl rfl)
theorem dX6_findFits_38 : decode cX6_findFits 38 = .ok (.iload_n 2, 1) := dk_28 (dk_at dksX6_findFits_1 14 rfl rfl)
theorem dX6_findFits_39 : decode cX6_findFits 39 = .ok (.goto 7, 3) := dk_167 0 7 (dk_at dksX6_findFits_1 15 rfl rfl)
theorem dX6_findFits_42 : decode cX6_findFits 42 = .ok (.aload_n 0, 1) := dk_42 (dk_at dksX6_findFits_1 18 rfl rfl)
theorem dX6_findFits_43 : decode cX6_findFits 43 = .ok (.getfield 265, 3) := dk_180 1 9 (dk_at dksX6_findFits_1 19 rfl rfl)
theorem dX6_findFits_46 : decode cX6_findFits 46 = .ok (.putfield 265, 3) := dk_181 1 9 (dk_at dksX6_findFits_2 0 rfl rfl)
theorem dX6_findFits_49 : decode cX6_findFits 49 = .ok (.aload_n 0, 1) := dk_42 (dk_at dksX6_findFits_2 3 rfl rfl)
theorem dX6_findFits_50 : decode cX6_findFits 50 = .ok (.aload_n 0, 1) := dk_42 (dk_at dksX6_findFits_2 4 rfl rfl)
theorem dX6_findFits_51 : decode cX6_findFits 51 = .ok (.getfield 259, 3) := dk_180 1 3 (dk_at dksX6_findFits_2 5 rfl rfl)
theorem dX6_findFits_54 : decode cX6_findFits 54 = .ok (.ifCond .ne 7, 3) := dk_154 0 7 (dk_at dksX6_findFits_2 8 rfl rfl)
theorem dX6_findFits_57 : decode cX6_findFits 57 = .ok (.iload_n 3, 1) := dk_29 (dk_at dksX6_findFits_2 11 rfl rfl)
theorem dX6_findFits_58 : decode cX6_findFits 58 = .ok (.goto 7, 3) := dk_167 0 7 (dk_at dksX6_findFits_2 12 rfl rfl)
theorem dX6_findFits_61 : decode cX6_findFits 61 = .ok (.aload_n 0, 1) := dk_42 (dk_at dksX6_findFits_2 15 rfl rfl)
theorem dX6_findFits_62 : decode cX6_findFits 62 = .ok (.getfield 268, 3) := dk_180 1 12 (dk_at dksX6_findFits_2 16 rfl rfl)
theorem dX6_findFits_65 : decode cX6_findFits 65 = .ok (.putfield 268, 3) := dk_181 1 12 (dk_at dksX6_findFits_2 19 rfl rfl)
theorem dX6_findFits_68 : decode cX6_findFits 68 = .ok (.aload_n 0, 1) := dk_42 (dk_at dksX6_findFits_2 22 rfl rfl)
theorem dX6_findFits_69 : decode cX6_findFits 69 = .ok (.dup, 1) := dk_89 (dk_at dksX6_findFits_2 23 rfl rfl)
theorem dX6_findFits_70 : decode cX6_findFits 70 = .ok (.getfield 259, 3) := dk_180 1 3 (dk_at dksX6_findFits_3 0 rfl rfl)
theorem dX6_findFits_73 : decode cX6_findFits 73 = .ok (.iconst 1, 1) := dk_4 (dk_at dksX6_findFits_3 3 rfl rfl)
theorem dX6_findFits_74 : decode cX6_findFits 74 = .ok (.iadd, 1) := dk_96 (dk_at dksX6_findFits_3 4 rfl rfl)
theorem dX6_findFits_75 : decode cX6_findFits 75 = .ok (.putfield 259, 3) := dk_181 1 3 (dk_at dksX6_findFits_3 5 rfl rfl)
theorem dX6_findFits_78 : decode cX6_findFits 78 = .ok (.iinc 3 1, 3) := dk_132 3 1 (dk_at dksX6_findFits_3 8 rfl rfl)
theorem dX6_findFits_81 : decode cX6_findFits 81 = .ok (.goto (-67), 3) := dk_167 255 189 (dk_at dksX6_findFits_3 11 rfl rfl)
theorem dX6_findFits_84 : decode cX6_findFits 84 = .ok (.iinc 2 1, 3) := dk_132 2 1 (dk_at dksX6_findFits_3 14 rfl rfl)
theorem dX6_findFits_87 : decode cX6_findFits 87 = .ok (.goto (-80), 3) := dk_167 255 176 (dk_at dksX6_findFits_3 17 rfl rfl)
theorem dX6_findFits_90 : decode cX6_findFits 90 = .ok (.return_, 1) := dk_177 (dk_at dksX6_findFits_3 20 rfl rfl)
abbrev cX6_isFit : ByteArray := prog_26_method_79_code
def yX6_isFit : MethodName := ⟨RX6, "isFit", "(III)Z"⟩
def dkwX6_isFit_3 : List UInt8 := [167, 255, 189, 4, 172]
abbrev dktX6_isFit_3 : List UInt8 := dkwX6_isFit_3 ++ []
def dkwX6_isFit_2 : List UInt8 := [184, 0, 120, 104, 28, 96, 42, 180, 0, 7, 21, 5, 5, 96, 46, 159, 0, 5, 3, 172, 132, 4, 1]
abbrev dktX6_isFit_2 : List UInt8 := dkwX6_isFit_2 ++ dktX6_isFit_3
def dkwX6_isFit_1 : List UInt8 := [21, 4, 29, 159, 0, 41, 27, 42, 180, 0, 7, 21, 5, 4, 96, 46, 42, 180, 0, 7, 21, 5, 46, 100]
abbrev dktX6_isFit_1 : List UInt8 := dkwX6_isFit_1 ++ dktX6_isFit_2
def dkwX6_isFit_0 : List UInt8 := [3, 54, 4, 21, 4, 42, 180, 0, 7, 6, 46, 162, 0, 62, 16, 52, 6, 21, 4, 104, 96, 54, 5]
abbrev dktX6_isFit_0 : List UInt8 := dkwX6_isFit_0 ++ dktX6_isFit_1
theorem dksX6_isFit_0 : cX6_isFit.data.toList.drop 0 = dktX6_isFit_0 := by decide +kernel
theorem dksX6_isFit_1 : cX6_isFit.data.toList.drop 23 = dktX6_isFit_1 := dk_seg dksX6_isFit_0 23 rfl rfl
theorem dksX6_isFit_2 : cX6_isFit.data.toList.drop 47 = dktX6_isFit_2 := dk_seg dksX6_isFit_1 24 rfl rfl
theorem dksX6_isFit_3 : cX6_isFit.data.toList.drop 70 = dktX6_isFit_3 := dk_seg dksX6_isFit_2 23 rfl rfl
theorem dX6_isFit_0 : decode cX6_isFit 0 = .ok (.iconst 0, 1) := dk_3 (dk_at dksX6_isFit_0 0 rfl rfl)
theorem dX6_isFit_1 : decode cX6_isFit 1 = .ok (.istore 4, 2) := dk_54 4 (dk_at dksX6_isFit_0 1 rfl rfl)
theorem dX6_isFit_3 : decode cX6_isFit 3 = .ok (.iload 4, 2) := dk_21 4 (dk_at dksX6_isFit_0 3 rfl rfl)
theorem dX6_isFit_5 : decode cX6_isFit 5 = .ok (.aload_n 0, 1) := dk_42 (dk_at dksX6_isFit_0 5 rfl rfl)
theorem dX6_isFit_6 : decode cX6_isFit 6 = .ok (.getfield 7, 3) := dk_180 0 7 (dk_at dksX6_isFit_0 6 rfl rfl)
theorem dX6_isFit_9 : decode cX6_isFit 9 = .ok (.iconst 3, 1) := dk_6 (dk_at dksX6_isFit_0 9 rfl rfl)
theorem dX6_isFit_10 : decode cX6_isFit 10 = .ok (.iaload, 1) := dk_46 (dk_at dksX6_isFit_0 10 rfl rfl)
theorem dX6_isFit_11 : decode cX6_isFit 11 = .ok (.if_icmp .ge 62, 3) := dk_162 0 62 (dk_at dksX6_isFit_0 11 rfl rfl)
theorem dX6_isFit_14 : decode cX6_isFit 14 = .ok (.bipush 52, 2) := dk_16 52 (dk_at dksX6_isFit_0 14 rfl rfl)
theorem dX6_isFit_16 : decode cX6_isFit 16 = .ok (.iconst 3, 1) := dk_6 (dk_at dksX6_isFit_0 16 rfl rfl)
theorem dX6_isFit_17 : decode cX6_isFit 17 = .ok (.iload 4, 2) := dk_21 4 (dk_at dksX6_isFit_0 17 rfl rfl)
theorem dX6_isFit_19 : decode cX6_isFit 19 = .ok (.imul, 1) := dk_104 (dk_at dksX6_isFit_0 19 rfl rfl)
theorem dX6_isFit_20 : decode cX6_isFit 20 = .ok (.iadd, 1) := dk_96 (dk_at dksX6_isFit_0 20 rfl rfl)
theorem dX6_isFit_21 : decode cX6_isFit 21 = .ok (.istore 5, 2) := dk_54 5 (dk_at dksX6_isFit_0 21 rfl rfl)
theorem dX6_isFit_23 : decode cX6_isFit 23 = .ok (.iload 4, 2) := dk_21 4 (dk_at dksX6_isFit_1 0 rfl rfl)
theorem dX6_isFit_25 : decode cX6_isFit 25 = .ok (.iload_n 3, 1) := dk_29 (dk_at dksX6_isFit_1 2 rfl rfl)
theorem dX6_isFit_26 : decode cX6_isFit 26 = .ok (.if_icmp .eq 41, 3) := dk_159 0 41 (dk_at dksX6_isFit_1 3 rfl rfl)
theorem dX6_isFit_29 : decode cX6_isFit 29 = .ok (.iload_n 1, 1) := dk_27 (dk_at dksX6_isFit_1 6 rfl rfl)
theorem dX6_isFit_30 : decode cX6_isFit 30 = .ok (.aload_n 0, 1) := dk_42 (dk_at dksX6_isFit_1 7 rfl rfl)
theorem dX6_isFit_31 : decode cX6_isFit 31 = .ok (.getfield 7, 3) := dk_180 0 7 (dk_at dksX6_isFit_1 8 rfl rfl)
theorem dX6_isFit_34 : decode cX6_isFit 34 = .ok (.iload 5, 2) := dk_21 5 (dk_at dksX6_isFit_1 11 rfl rfl)
theorem dX6_isFit_36 : decode cX6_isFit 36 = .ok (.iconst 1, 1) := dk_4 (dk_at dksX6_isFit_1 13 rfl rfl)
theorem dX6_isFit_37 : decode cX6_isFit 37 = .ok (.iadd, 1) := dk_96 (dk_at dksX6_isFit_1 14 rfl rfl)
theorem dX6_isFit_38 : decode cX6_isFit 38 = .ok (.iaload, 1) := dk_46 (dk_at dksX6_isFit_1 15 rfl rfl)
theorem dX6_isFit_39 : decode cX6_isFit 39 = .ok (.aload_n 0, 1) := dk_42 (dk_at dksX6_isFit_1 16 rfl rfl)
theorem dX6_isFit_40 : decode cX6_isFit 40 = .ok (.getfield 7, 3) := dk_180 0 7 (dk_at dksX6_isFit_1 17 rfl rfl)
theorem dX6_isFit_43 : decode cX6_isFit 43 = .ok (.iload 5, 2) := dk_21 5 (dk_at dksX6_isFit_1 20 rfl rfl)
theorem dX6_isFit_45 : decode cX6_isFit 45 = .ok (.iaload, 1) := dk_46 (dk_at dksX6_isFit_1 22 rfl rfl)
theorem dX6_isFit_46 : decode cX6_isFit 46 = .ok (.isub, 1) := dk_100 (dk_at dksX6_isFit_1 23 rfl rfl)
theorem dX6_isFit_47 : decode cX6_isFit 47 = .ok (.invokestatic 120, 3) := dk_184 0 120 (dk_at dksX6_isFit_2 0 rfl rfl)
theorem dX6_isFit_50 : decode cX6_isFit 50 = .ok (.imul, 1) := dk_104 (dk_at dksX6_isFit_2 3 rfl rfl)
theorem dX6_isFit_51 : decode cX6_isFit 51 = .ok (.iload_n 2, 1) := dk_28 (dk_at dksX6_isFit_2 4 rfl rfl)
theorem dX6_isFit_52 : decode cX6_isFit 52 = .ok (.iadd, 1) := dk_96 (dk_at dksX6_isFit_2 5 rfl rfl)
theorem dX6_isFit_53 : decode cX6_isFit 53 = .ok (.aload_n 0, 1) := dk_42 (dk_at dksX6_isFit_2 6 rfl rfl)
theorem dX6_isFit_54 : decode cX6_isFit 54 = .ok (.getfield 7, 3) := dk_180 0 7 (dk_at dksX6_isFit_2 7 rfl rfl)
theorem dX6_isFit_57 : decode cX6_isFit 57 = .ok (.iload 5, 2) := dk_21 5 (dk_at dksX6_isFit_2 10 rfl rfl)
theorem dX6_isFit_59 : decode cX6_isFit 59 = .ok (.iconst 2, 1) := dk_5 (dk_at dksX6_isFit_2 12 rfl rfl)
theorem dX6_isFit_60 : decode cX6_isFit 60 = .ok (.iadd, 1) := dk_96 (dk_at dksX6_isFit_2 13 rfl rfl)
theorem dX6_isFit_61 : decode cX6_isFit 61 = .ok (.iaload, 1) := dk_46 (dk_at dksX6_isFit_2 14 rfl rfl)
theorem dX6_isFit_62 : decode cX6_isFit 62 = .ok (.if_icmp .eq 5, 3) := dk_159 0 5 (dk_at dksX6_isFit_2 15 rfl rfl)
theorem dX6_isFit_65 : decode cX6_isFit 65 = .ok (.iconst 0, 1) := dk_3 (dk_at dksX6_isFit_2 18 rfl rfl)
theorem dX6_isFit_66 : decode cX6_isFit 66 = .ok (.ireturn, 1) := dk_172 (dk_at dksX6_isFit_2 19 rfl rfl)
theorem dX6_isFit_67 : decode cX6_isFit 67 = .ok (.iinc 4 1, 3) := dk_132 4 1 (dk_at dksX6_isFit_2 20 rfl rfl)
theorem dX6_isFit_70 : decode cX6_isFit 70 = .ok (.goto (-67), 3) := dk_167 255 189 (dk_at dksX6_isFit_3 0 rfl rfl)
theorem dX6_isFit_73 : decode cX6_isFit 73 = .ok (.iconst 1, 1) := dk_4 (dk_at dksX6_isFit_3 3 rfl rfl)
theorem dX6_isFit_74 : decode cX6_isFit 74 = .ok (.ireturn, 1) := dk_172 (dk_at dksX6_isFit_3 4 rfl rfl)
abbrev cX6_liar : ByteArray := prog_26_method_82_code
def yX6_liar : MethodName := ⟨RX6, "liar", "()I"⟩
def dkwX6_liar_2 : List UInt8 := [28, 172, 132, 2, 1, 167, 255, 225, 16, 253, 172]
abbrev dktX6_liar_2 : List UInt8 := dkwX6_liar_2 ++ []
def dkwX6_liar_1 : List UInt8 := [180, 0, 7, 6, 46, 162, 0, 27, 27, 153, 0, 23, 42, 28, 182, 1, 15, 42, 180, 1, 3, 158, 0, 5]
abbrev dktX6_liar_1 : List UInt8 := dkwX6_liar_1 ++ dktX6_liar_2
def dkwX6_liar_0 : List UInt8 := [42, 2, 182, 1, 15, 42, 180, 1, 3, 154, 0, 7, 4, 167, 0, 4, 3, 60, 3, 61, 28, 42]
abbrev dktX6_liar_0 : List UInt8 := dkwX6_liar_0 ++ dktX6_liar_1
theorem dksX6_liar_0 : cX6_liar.data.toList.drop 0 = dktX6_liar_0 := by decide +kernel
theorem dksX6_liar_1 : cX6_liar.data.toList.drop 22 = dktX6_liar_1 := dk_seg dksX6_liar_0 22 rfl rfl
theorem dksX6_liar_2 : cX6_liar.data.toList.drop 46 = dktX6_liar_2 := dk_seg dksX6_liar_1 24 rfl rfl
theorem dX6_liar_0 : decode cX6_liar 0 = .ok (.aload_n 0, 1) := dk_42 (dk_at dksX6_liar_0 0 rfl rfl)
theorem dX6_liar_1 : decode cX6_liar 1 = .ok (.iconst (-1), 1) := dk_2 (dk_at dksX6_liar_0 1 rfl rfl)
theorem dX6_liar_2 : decode cX6_liar 2 = .ok (.invokevirtual 271, 3) := dk_182 1 15 (dk_at dksX6_liar_0 2 rfl rfl)
theorem dX6_liar_5 : decode cX6_liar 5 = .ok (.aload_n 0, 1) := dk_42 (dk_at dksX6_liar_0 5 rfl rfl)
theorem dX6_liar_6 : decode cX6_liar 6 = .ok (.getfield 259, 3) := dk_180 1 3 (dk_at dksX6_liar_0 6 rfl rfl)
theorem dX6_liar_9 : decode cX6_liar 9 = .ok (.ifCond .ne 7, 3) := dk_154 0 7 (dk_at dksX6_liar_0 9 rfl rfl)
theorem dX6_liar_12 : decode cX6_liar 12 = .ok (.iconst 1, 1) := dk_4 (dk_at dksX6_liar_0 12 rfl rfl)
theorem dX6_liar_13 : decode cX6_liar 13 = .ok (.goto 4, 3) := dk_167 0 4 (dk_at dksX6_liar_0 13 rfl rfl)
theorem dX6_liar_16 : decode cX6_liar 16 = .ok (.iconst 0, 1) := dk_3 (dk_at dksX6_liar_0 16 rfl rfl)
theorem dX6_liar_17 : decode cX6_liar 17 = .ok (.istore_n 1, 1) := dk_60 (dk_at dksX6_liar_0 17 rfl rfl)
theorem dX6_liar_18 : decode cX6_liar 18 = .ok (.iconst 0, 1) := dk_3 (dk_at dksX6_liar_0 18 rfl rfl)
theorem dX6_liar_19 : decode cX6_liar 19 = .ok (.istore_n 2, 1) := dk_61 (dk_at dksX6_liar_0 19 rfl rfl)
theorem dX6_liar_20 : decode cX6_liar 20 = .ok (.iload_n 2, 1) := dk_28 (dk_at dksX6_liar_0 20 rfl rfl)
theorem dX6_liar_21 : decode cX6_liar 21 = .ok (.aload_n 0, 1) := dk_42 (dk_at dksX6_liar_0 21 rfl rfl)
theorem dX6_liar_22 : decode cX6_liar 22 = .ok (.getfield 7, 3) := dk_180 0 7 (dk_at dksX6_liar_1 0 rfl rfl)
theorem dX6_liar_25 : decode cX6_liar 25 = .ok (.iconst 3, 1) := dk_6 (dk_at dksX6_liar_1 3 rfl rfl)
theorem dX6_liar_26 : decode cX6_liar 26 = .ok (.iaload, 1) := dk_46 (dk_at dksX6_liar_1 4 rfl rfl)
theorem dX6_liar_27 : decode cX6_liar 27 = .ok (.if_icmp .ge 27, 3) := dk_162 0 27 (dk_at dksX6_liar_1 5 rfl rfl)
theorem dX6_liar_30 : decode cX6_liar 30 = .ok (.iload_n 1, 1) := dk_27 (dk_at dksX6_liar_1 8 rfl rfl)
theorem dX6_liar_31 : decode cX6_liar 31 = .ok (.ifCond .eq 23, 3) := dk_153 0 23 (dk_at dksX6_liar_1 9 rfl rfl)
theorem dX6_liar_34 : decode cX6_liar 34 = .ok (.aload_n 0, 1) := dk_42 (dk_at dksX6_liar_1 12 rfl rfl)
theorem dX6_liar_35 : decode cX6_liar 35 = .ok (.iload_n 2, 1) := dk_28 (dk_at dksX6_liar_1 13 rfl rfl)
theorem dX6_liar_36 : decode cX6_liar 36 = .ok (.invokevirtual 271, 3) := dk_182 1 15 (dk_at dksX6_liar_1 14 rfl rfl)
theorem dX6_liar_39 : decode cX6_liar 39 = .ok (.aload_n 0, 1) := dk_42 (dk_at dksX6_liar_1 17 rfl rfl)
theorem dX6_liar_40 : decode cX6_liar 40 = .ok (.getfield 259, 3) := dk_180 1 3 (dk_at dksX6_liar_1 18 rfl rfl)
theorem dX6_liar_43 : decode cX6_liar 43 = .ok (.ifCond .le 5, 3) := dk_158 0 5 (dk_at dksX6_liar_1 21 rfl rfl)
theorem dX6_liar_46 : decode cX6_liar 46 = .ok (.iload_n 2, 1) := dk_28 (dk_at dksX6_liar_2 0 rfl rfl)
theorem dX6_liar_47 : decode cX6_liar 47 = .ok (.ireturn, 1) := dk_172 (dk_at dksX6_liar_2 1 rfl rfl)
theorem dX6_liar_48 : decode cX6_liar 48 = .ok (.iinc 2 1, 3) := dk_132 2 1 (dk_at dksX6_liar_2 2 rfl rfl)
theorem dX6_liar_51 : decode cX6_liar 51 = .ok (.goto (-31), 3) := dk_167 255 225 (dk_at dksX6_liar_2 5 rfl rfl)
theorem dX6_liar_54 : decode cX6_liar 54 = .ok (.bipush (-3), 2) := dk_16 253 (dk_at dksX6_liar_2 8 rfl rfl)
theorem dX6_liar_56 : decode cX6_liar 56 = .ok (.ireturn, 1) := dk_172 (dk_at dksX6_liar_2 10 rfl rfl)
abbrev cX6_seed : ByteArray := prog_26_method_83_code
def yX6_seed : MethodName := ⟨RX6, "seed", "(I)I"⟩
def dkwX6_seed_0 : List UInt8 := [42, 180, 0, 7, 8, 46, 61, 42, 180, 0, 7, 8, 27, 79, 28, 172]
abbrev dktX6_seed_0 : List UInt8 := dkwX6_seed_0 ++ []
theorem dksX6_seed_0 : cX6_seed.data.toList.drop 0 = dktX6_seed_0 := by decide +kernel
theorem dX6_seed_0 : decode cX6_seed 0 = .ok (.aload_n 0, 1) := dk_42 (dk_at dksX6_seed_0 0 rfl rfl)
theorem dX6_seed_1 : decode cX6_seed 1 = .ok (.getfield 7, 3) := dk_180 0 7 (dk_at dksX6_seed_0 1 rfl rfl)
theorem dX6_seed_4 : decode cX6_seed 4 = .ok (.iconst 5, 1) := dk_8 (dk_at dksX6_seed_0 4 rfl rfl)
theorem dX6_seed_5 : decode cX6_seed 5 = .ok (.iaload, 1) := dk_46 (dk_at dksX6_seed_0 5 rfl rfl)
theorem dX6_seed_6 : decode cX6_seed 6 = .ok (.istore_n 2, 1) := dk_61 (dk_at dksX6_seed_0 6 rfl rfl)
theorem dX6_seed_7 : decode cX6_seed 7 = .ok (.aload_n 0, 1) := dk_42 (dk_at dksX6_seed_0 7 rfl rfl)
theorem dX6_seed_8 : decode cX6_seed 8 = .ok (.getfield 7, 3) := dk_180 0 7 (dk_at dksX6_seed_0 8 rfl rfl)
theorem dX6_seed_11 : decode cX6_seed 11 = .ok (.iconst 5, 1) := dk_8 (dk_at dksX6_seed_0 11 rfl rfl)
theorem dX6_seed_12 : decode cX6_seed 12 = .ok (.iload_n 1, 1) := dk_27 (dk_at dksX6_seed_0 12 rfl rfl)
theorem dX6_seed_13 : decode cX6_seed 13 = .ok (.iastore, 1) := dk_79 (dk_at dksX6_seed_0 13 rfl rfl)
theorem dX6_seed_14 : decode cX6_seed 14 = .ok (.iload_n 2, 1) := dk_28 (dk_at dksX6_seed_0 14 rfl rfl)
theorem dX6_seed_15 : decode cX6_seed 15 = .ok (.ireturn, 1) := dk_172 (dk_at dksX6_seed_0 15 rfl rfl)
abbrev cX6_draw : ByteArray := prog_26_method_85_code
def yX6_draw : MethodName := ⟨RX6, "draw", "()I"⟩
def dkwX6_draw_0 : List UInt8 := [42, 182, 1, 19, 60, 27, 156, 0, 6, 16, 253, 172, 42, 27, 182, 0, 182, 27, 172]
abbrev dktX6_draw_0 : List UInt8 := dkwX6_draw_0 ++ []
theorem dksX6_draw_0 : cX6_draw.data.toList.drop 0 = dktX6_draw_0 := by decide +kernel
theorem dX6_draw_0 : decode cX6_draw 0 = .ok (.aload_n 0, 1) := dk_42 (dk_at dksX6_draw_0 0 rfl rfl)
theorem dX6_draw_1 : decode cX6_draw 1 = .ok (.invokevirtual 275, 3) := dk_182 1 19 (dk_at dksX6_draw_0 1 rfl rfl)
theorem dX6_draw_4 : decode cX6_draw 4 = .ok (.istore_n 1, 1) := dk_60 (dk_at dksX6_draw_0 4 rfl rfl)
theorem dX6_draw_5 : decode cX6_draw 5 = .ok (.iload_n 1, 1) := dk_27 (dk_at dksX6_draw_0 5 rfl rfl)
theorem dX6_draw_6 : decode cX6_draw 6 = .ok (.ifCond .ge 6, 3) := dk_156 0 6 (dk_at dksX6_draw_0 6 rfl rfl)
theorem dX6_draw_9 : decode cX6_draw 9 = .ok (.bipush (-3), 2) := dk_16 253 (dk_at dksX6_draw_0 9 rfl rfl)
theorem dX6_draw_11 : decode cX6_draw 11 = .ok (.ireturn, 1) := dk_172 (dk_at dksX6_draw_0 11 rfl rfl)
theorem dX6_draw_12 : decode cX6_draw 12 = .ok (.aload_n 0, 1) := dk_42 (dk_at dksX6_draw_0 12 rfl rfl)
theorem dX6_draw_13 : decode cX6_draw 13 = .ok (.iload_n 1, 1) := dk_27 (dk_at dksX6_draw_0 13 rfl rfl)
theorem dX6_draw_14 : decode cX6_draw 14 = .ok (.invokevirtual 182, 3) := dk_182 0 182 (dk_at dksX6_draw_0 14 rfl rfl)
theorem dX6_draw_17 : decode cX6_draw 17 = .ok (.iload_n 1, 1) := dk_27 (dk_at dksX6_draw_0 17 rfl rfl)
theorem dX6_draw_18 : decode cX6_draw 18 = .ok (.ireturn, 1) := dk_172 (dk_at dksX6_draw_0 18 rfl rfl)
abbrev cX6_drawn : ByteArray := prog_26_method_84_code
def yX6_drawn : MethodName := ⟨RX6, "drawn", "()I"⟩
def dkwX6_drawn_3 : List UInt8 := [42, 29, 182, 0, 179, 62, 132, 2, 255, 167, 255, 243, 29, 172]
abbrev dktX6_drawn_3 : List UInt8 := dkwX6_drawn_3 ++ []
def dkwX6_drawn_2 : List UInt8 := [96, 79, 42, 180, 0, 7, 8, 46, 16, 16, 124, 27, 112, 61, 42, 2, 182, 0, 179, 62, 28, 158, 0, 15]
abbrev dktX6_drawn_2 : List UInt8 := dkwX6_drawn_2 ++ dktX6_drawn_3
def dkwX6_drawn_1 : List UInt8 := [27, 154, 0, 5, 2, 172, 42, 180, 0, 7, 8, 42, 180, 0, 7, 8, 46, 19, 1, 18, 104, 17, 48, 57]
abbrev dktX6_drawn_1 : List UInt8 := dkwX6_drawn_1 ++ dktX6_drawn_2
def dkwX6_drawn_0 : List UInt8 := [3, 60, 42, 2, 182, 0, 179, 61, 28, 155, 0, 15, 132, 1, 1, 42, 28, 182, 0, 179, 61, 167, 255, 243]
abbrev dktX6_drawn_0 : List UInt8 := dkwX6_drawn_0 ++ dktX6_drawn_1
theorem dksX6_drawn_0 : cX6_drawn.data.toList.drop 0 = dktX6_drawn_0 := by decide +kernel
theorem dksX6_drawn_1 : cX6_drawn.data.toList.drop 24 = dktX6_drawn_1 := dk_seg dksX6_drawn_0 24 rfl rfl
theorem dksX6_drawn_2 : cX6_drawn.data.toList.drop 48 = dktX6_drawn_2 := dk_seg dksX6_drawn_1 24 rfl rfl
theorem dksX6_drawn_3 : cX6_drawn.data.toList.drop 72 = dktX6_drawn_3 := dk_seg dksX6_drawn_2 24 rfl rfl
theorem dX6_drawn_0 : decode cX6_drawn 0 = .ok (.iconst 0, 1) := dk_3 (dk_at dksX6_drawn_0 0 rfl rfl)
theorem dX6_drawn_1 : decode cX6_drawn 1 = .ok (.istore_n 1, 1) := dk_60 (dk_at dksX6_drawn_0 1 rfl rfl)
theorem dX6_drawn_2 : decode cX6_drawn 2 = .ok (.aload_n 0, 1) := dk_42 (dk_at dksX6_drawn_0 2 rfl rfl)
theorem dX6_drawn_3 : decode cX6_drawn 3 = .ok (.iconst (-1), 1) := dk_2 (dk_at dksX6_drawn_0 3 rfl rfl)
theorem dX6_drawn_4 : decode cX6_drawn 4 = .ok (.invokevirtual 179, 3) := dk_182 0 179 (dk_at dksX6_drawn_0 4 rfl rfl)
theorem dX6_drawn_7 : decode cX6_drawn 7 = .ok (.istore_n 2, 1) := dk_61 (dk_at dksX6_drawn_0 7 rfl rfl)
theorem dX6_drawn_8 : decode cX6_drawn 8 = .ok (.iload_n 2, 1) := dk_28 (dk_at dksX6_drawn_0 8 rfl rfl)
theorem dX6_drawn_9 : decode cX6_drawn 9 = .ok (.ifCond .lt 15, 3) := dk_155 0 15 (dk_at dksX6_drawn_0 9 rfl rfl)
theorem dX6_drawn_12 : decode cX6_drawn 12 = .ok (.iinc 1 1, 3) := dk_132 1 1 (dk_at dksX6_drawn_0 12 rfl rfl)
theorem dX6_drawn_15 : decode cX6_drawn 15 = .ok (.aload_n 0, 1) := dk_42 (dk_at dksX6_drawn_0 15 rfl rfl)
theorem dX6_drawn_16 : decode cX6_drawn 16 = .ok (.iload_n 2, 1) := dk_28 (dk_at dksX6_drawn_0 16 rfl rfl)
theorem dX6_drawn_17 : decode cX6_drawn 17 = .ok (.invokevirtual 179, 3) := dk_182 0 179 (dk_at dksX6_drawn_0 17 rfl rfl)
theorem dX6_drawn_20 : decode cX6_drawn 20 = .ok (.istore_n 2, 1) := dk_61 (dk_at dksX6_drawn_0 20 rfl rfl)
theorem dX6_drawn_21 : decode cX6_drawn 21 = .ok (.goto (-13), 3) := dk_167 255 243 (dk_at dksX6_drawn_0 21 rfl rfl)
theorem dX6_drawn_24 : decode cX6_drawn 24 = .ok (.iload_n 1, 1) := dk_27 (dk_at dksX6_drawn_1 0 rfl rfl)
theorem dX6_drawn_25 : decode cX6_drawn 25 = .ok (.ifCond .ne 5, 3) := dk_154 0 5 (dk_at dksX6_drawn_1 1 rfl rfl)
theorem dX6_drawn_28 : decode cX6_drawn 28 = .ok (.iconst (-1), 1) := dk_2 (dk_at dksX6_drawn_1 4 rfl rfl)
theorem dX6_drawn_29 : decode cX6_drawn 29 = .ok (.ireturn, 1) := dk_172 (dk_at dksX6_drawn_1 5 rfl rfl)
theorem dX6_drawn_30 : decode cX6_drawn 30 = .ok (.aload_n 0, 1) := dk_42 (dk_at dksX6_drawn_1 6 rfl rfl)
theorem dX6_drawn_31 : decode cX6_drawn 31 = .ok (.getfield 7, 3) := dk_180 0 7 (dk_at dksX6_drawn_1 7 rfl rfl)
theorem dX6_drawn_34 : decode cX6_drawn 34 = .ok (.iconst 5, 1) := dk_8 (dk_at dksX6_drawn_1 10 rfl rfl)
theorem dX6_drawn_35 : decode cX6_drawn 35 = .ok (.aload_n 0, 1) := dk_42 (dk_at dksX6_drawn_1 11 rfl rfl)
theorem dX6_drawn_36 : decode cX6_drawn 36 = .ok (.getfield 7, 3) := dk_180 0 7 (dk_at dksX6_drawn_1 12 rfl rfl)
theorem dX6_drawn_39 : decode cX6_drawn 39 = .ok (.iconst 5, 1) := dk_8 (dk_at dksX6_drawn_1 15 rfl rfl)
theorem dX6_drawn_40 : decode cX6_drawn 40 = .ok (.iaload, 1) := dk_46 (dk_at dksX6_drawn_1 16 rfl rfl)
theorem dX6_drawn_41 : decode cX6_drawn 41 = .ok (.ldc_w 274, 3) := dk_19 1 18 (dk_at dksX6_drawn_1 17 rfl rfl)
theorem dX6_drawn_44 : decode cX6_drawn 44 = .ok (.imul, 1) := dk_104 (dk_at dksX6_drawn_1 20 rfl rfl)
theorem dX6_drawn_45 : decode cX6_drawn 45 = .ok (.sipush 12345, 3) := dk_17 48 57 (dk_at dksX6_drawn_1 21 rfl rfl)
theorem dX6_drawn_48 : decode cX6_drawn 48 = .ok (.iadd, 1) := dk_96 (dk_at dksX6_drawn_2 0 rfl rfl)
theorem dX6_drawn_49 : decode cX6_drawn 49 = .ok (.iastore, 1) := dk_79 (dk_at dksX6_drawn_2 1 rfl rfl)
theorem dX6_drawn_50 : decode cX6_drawn 50 = .ok (.aload_n 0, 1) := dk_42 (dk_at dksX6_drawn_2 2 rfl rfl)
theorem dX6_drawn_51 : decode cX6_drawn 51 = .ok (.getfield 7, 3) := dk_180 0 7 (dk_at dksX6_drawn_2 3 rfl rfl)
theorem dX6_drawn_54 : decode cX6_drawn 54 = .ok (.iconst 5, 1) := dk_8 (dk_at dksX6_drawn_2 6 rfl rfl)
theorem dX6_drawn_55 : decode cX6_drawn 55 = .ok (.iaload, 1) := dk_46 (dk_at dksX6_drawn_2 7 rfl rfl)
theorem dX6_drawn_56 : decode cX6_drawn 56 = .ok (.bipush 16, 2) := dk_16 16 (dk_at dksX6_drawn_2 8 rfl rfl)
theorem dX6_drawn_58 : decode cX6_drawn 58 = .ok (.iushr, 1) := dk_124 (dk_at dksX6_drawn_2 10 rfl rfl)
theorem dX6_drawn_59 : decode cX6_drawn 59 = .ok (.iload_n 1, 1) := dk_27 (dk_at dksX6_drawn_2 11 rfl rfl)
theorem dX6_drawn_60 : decode cX6_drawn 60 = .ok (.irem, 1) := dk_112 (dk_at dksX6_drawn_2 12 rfl rfl)
theorem dX6_drawn_61 : decode cX6_drawn 61 = .ok (.istore_n 2, 1) := dk_61 (dk_at dksX6_drawn_2 13 rfl rfl)
theorem dX6_drawn_62 : decode cX6_drawn 62 = .ok (.aload_n 0, 1) := dk_42 (dk_at dksX6_drawn_2 14 rfl rfl)
theorem dX6_drawn_63 : decode cX6_drawn 63 = .ok (.iconst (-1), 1) := dk_2 (dk_at dksX6_drawn_2 15 rfl rfl)
theorem dX6_drawn_64 : decode cX6_drawn 64 = .ok (.invokevirtual 179, 3) := dk_182 0 179 (dk_at dksX6_drawn_2 16 rfl rfl)
theorem dX6_drawn_67 : decode cX6_drawn 67 = .ok (.istore_n 3, 1) := dk_62 (dk_at dksX6_drawn_2 19 rfl rfl)
theorem dX6_drawn_68 : decode cX6_drawn 68 = .ok (.iload_n 2, 1) := dk_28 (dk_at dksX6_drawn_2 20 rfl rfl)
theorem dX6_drawn_69 : decode cX6_drawn 69 = .ok (.ifCond .le 15, 3) := dk_158 0 15 (dk_at dksX6_drawn_2 21 rfl rfl)
theorem dX6_drawn_72 : decode cX6_drawn 72 = .ok (.aload_n 0, 1) := dk_42 (dk_at dksX6_drawn_3 0 rfl rfl)
theorem dX6_drawn_73 : decode cX6_drawn 73 = .ok (.iload_n 3, 1) := dk_29 (dk_at dksX6_drawn_3 1 rfl rfl)
theorem dX6_drawn_74 : decode cX6_drawn 74 = .ok (.invokevirtual 179, 3) := dk_182 0 179 (dk_at dksX6_drawn_3 2 rfl rfl)
theorem dX6_drawn_77 : decode cX6_drawn 77 = .ok (.istore_n 3, 1) := dk_62 (dk_at dksX6_drawn_3 5 rfl rfl)
theorem dX6_drawn_78 : decode cX6_drawn 78 = .ok (.iinc 2 (-1), 3) := dk_132 2 255 (dk_at dksX6_drawn_3 6 rfl rfl)
theorem dX6_drawn_81 : decode cX6_drawn 81 = .ok (.goto (-13), 3) := dk_167 255 243 (dk_at dksX6_drawn_3 9 rfl rfl)
theorem dX6_drawn_84 : decode cX6_drawn 84 = .ok (.iload_n 3, 1) := dk_29 (dk_at dksX6_drawn_3 12 rfl rfl)
theorem dX6_drawn_85 : decode cX6_drawn 85 = .ok (.ireturn, 1) := dk_172 (dk_at dksX6_drawn_3 13 rfl rfl)
abbrev cX6_often : ByteArray := prog_26_method_86_code
def yX6_often : MethodName := ⟨RX6, "often", "(I)I"⟩
def dkwX6_often_4 : List UInt8 := [167, 255, 183, 42, 182, 1, 27, 28, 172]
abbrev dktX6_often_4 : List UInt8 := dkwX6_often_4 ++ []
def dkwX6_often_3 : List UInt8 := [42, 180, 0, 7, 8, 46, 54, 4, 42, 182, 1, 27, 42, 180, 0, 7, 8, 21, 4, 79, 132, 3, 1]
abbrev dktX6_often_3 : List UInt8 := dkwX6_often_3 ++ dktX6_often_4
def dkwX6_often_2 : List UInt8 := [54, 4, 167, 255, 239, 28, 42, 182, 0, 99, 42, 182, 0, 204, 160, 0, 7, 4, 167, 0, 4, 3, 96, 61]
abbrev dktX6_often_2 : List UInt8 := dkwX6_often_2 ++ dktX6_often_3
def dkwX6_often_1 : List UInt8 := [162, 0, 74, 42, 182, 1, 19, 54, 4, 21, 4, 155, 0, 18, 42, 21, 4, 182, 0, 175, 42, 182, 1, 19]
abbrev dktX6_often_1 : List UInt8 := dkwX6_often_1 ++ dktX6_often_2
def dkwX6_often_0 : List UInt8 := [27, 133, 10, 20, 1, 22, 184, 0, 68, 154, 0, 5, 2, 172, 42, 182, 1, 24, 3, 61, 3, 62, 29, 27]
abbrev dktX6_often_0 : List UInt8 := dkwX6_often_0 ++ dktX6_often_1
theorem dksX6_often_0 : cX6_often.data.toList.drop 0 = dktX6_often_0 := by decide +kernel
theorem dksX6_often_1 : cX6_often.data.toList.drop 24 = dktX6_often_1 := dk_seg dksX6_often_0 24 rfl rfl
theorem dksX6_often_2 : cX6_often.data.toList.drop 48 = dktX6_often_2 := dk_seg dksX6_often_1 24 rfl rfl
theorem dksX6_often_3 : cX6_often.data.toList.drop 72 = dktX6_often_3 := dk_seg dksX6_often_2 24 rfl rfl
theorem dksX6_often_4 : cX6_often.data.toList.drop 95 = dktX6_often_4 := dk_seg dksX6_often_3 23 rfl rfl
theorem dX6_often_0 : decode cX6_often 0 = .ok (.iload_n 1, 1) := dk_27 (dk_at dksX6_often_0 0 rfl rfl)
theorem dX6_often_1 : decode cX6_often 1 = .ok (.i2l, 1) := dk_133 (dk_at dksX6_often_0 1 rfl rfl)
theorem dX6_often_2 : decode cX6_often 2 = .ok (.lconst 1, 1) := dk_10 (dk_at dksX6_often_0 2 rfl rfl)
theorem dX6_often_3 : decode cX6_often 3 = .ok (.ldc2_w 278, 3) := dk_20 1 22 (dk_at dksX6_often_0 3 rfl rfl)
theorem dX6_often_6 : decode cX6_often 6 = .ok (.invokestatic 68, 3) := dk_184 0 68 (dk_at dksX6_often_0 6 rfl rfl)
theorem dX6_often_9 : decode cX6_often 9 = .ok (.ifCond .ne 5, 3) := dk_154 0 5 (dk_at dksX6_often_0 9 rfl rfl)
theorem dX6_often_12 : decode cX6_often 12 = .ok (.iconst (-1), 1) := dk_2 (dk_at dksX6_often_0 12 rfl rfl)
theorem dX6_often_13 : decode cX6_often 13 = .ok (.ireturn, 1) := dk_172 (dk_at dksX6_often_0 13 rfl rfl)
theorem dX6_often_14 : decode cX6_often 14 = .ok (.aload_n 0, 1) := dk_42 (dk_at dksX6_often_0 14 rfl rfl)
theorem dX6_often_15 : decode cX6_often 15 = .ok (.invokevirtual 280, 3) := dk_182 1 24 (dk_at dksX6_often_0 15 rfl rfl)
theorem dX6_often_18 : decode cX6_often 18 = .ok (.iconst 0, 1) := dk_3 (dk_at dksX6_often_0 18 rfl rfl)
theorem dX6_often_19 : decode cX6_often 19 = .ok (.istore_n 2, 1) := dk_61 (dk_at dksX6_often_0 19 rfl rfl)
theorem dX6_often_20 : decode cX6_often 20 = .ok (.iconst 0, 1) := dk_3 (dk_at dksX6_often_0 20 rfl rfl)
theorem dX6_often_21 : decode cX6_often 21 = .ok (.istore_n 3, 1) := dk_62 (dk_at dksX6_often_0 21 rfl rfl)
theorem dX6_often_22 : decode cX6_often 22 = .ok (.iload_n 3, 1) := dk_29 (dk_at dksX6_often_0 22 rfl rfl)
theorem dX6_often_23 : decode cX6_often 23 = .ok (.iload_n 1, 1) := dk_27 (dk_at dksX6_often_0 23 rfl rfl)
theorem dX6_often_24 : decode cX6_often 24 = .ok (.if_icmp .ge 74, 3) := dk_162 0 74 (dk_at dksX6_often_1 0 rfl rfl)
theorem dX6_often_27 : decode cX6_often 27 = .ok (.aload_n 0, 1) := dk_42 (dk_at dksX6_often_1 3 rfl rfl)
theorem dX6_often_28 : decode cX6_often 28 = .ok (.invokevirtual 275, 3) := dk_182 1 19 (dk_at dksX6_often_1 4 rfl rfl)
theorem dX6_often_31 : decode cX6_often 31 = .ok (.istore 4, 2) := dk_54 4 (dk_at dksX6_often_1 7 rfl rfl)
theorem dX6_often_33 : decode cX6_often 33 = .ok (.iload 4, 2) := dk_21 4 (dk_at dksX6_often_1 9 rfl rfl)
theorem dX6_often_35 : decode cX6_often 35 = .ok (.ifCond .lt 18, 3) := dk_155 0 18 (dk_at dksX6_often_1 11 rfl rfl)
theorem dX6_often_38 : decode cX6_often 38 = .ok (.aload_n 0, 1) := dk_42 (dk_at dksX6_often_1 14 rfl rfl)
theorem dX6_often_39 : decode cX6_often 39 = .ok (.iload 4, 2) := dk_21 4 (dk_at dksX6_often_1 15 rfl rfl)
theorem dX6_often_41 : decode cX6_often 41 = .ok (.invokevirtual 175, 3) := dk_182 0 175 (dk_at dksX6_often_1 17 rfl rfl)
theorem dX6_often_44 : decode cX6_often 44 = .ok (.aload_n 0, 1) := dk_42 (dk_at dksX6_often_1 20 rfl rfl)
theorem dX6_often_45 : decode cX6_often 45 = .ok (.invokevirtual 275, 3) := dk_182 1 19 (dk_at dksX6_often_1 21 rfl rfl)
theorem dX6_often_48 : decode cX6_often 48 = .ok (.istore 4, 2) := dk_54 4 (dk_at dksX6_often_2 0 rfl rfl)
theorem dX6_often_50 : decode cX6_often 50 = .ok (.goto (-17), 3) := dk_167 255 239 (dk_at dksX6_often_2 2 rfl rfl)
theorem dX6_often_53 : decode cX6_often 53 = .ok (.iload_n 2, 1) := dk_28 (dk_at dksX6_often_2 5 rfl rfl)
theorem dX6_often_54 : decode cX6_often 54 = .ok (.aload_n 0, 1) := dk_42 (dk_at dksX6_often_2 6 rfl rfl)
theorem dX6_often_55 : decode cX6_often 55 = .ok (.invokevirtual 99, 3) := dk_182 0 99 (dk_at dksX6_often_2 7 rfl rfl)
theorem dX6_often_58 : decode cX6_often 58 = .ok (.aload_n 0, 1) := dk_42 (dk_at dksX6_often_2 10 rfl rfl)
theorem dX6_often_59 : decode cX6_often 59 = .ok (.invokevirtual 204, 3) := dk_182 0 204 (dk_at dksX6_often_2 11 rfl rfl)
theorem dX6_often_62 : decode cX6_often 62 = .ok (.if_icmp .ne 7, 3) := dk_160 0 7 (dk_at dksX6_often_2 14 rfl rfl)
theorem dX6_often_65 : decode cX6_often 65 = .ok (.iconst 1, 1) := dk_4 (dk_at dksX6_often_2 17 rfl rfl)
theorem dX6_often_66 : decode cX6_often 66 = .ok (.goto 4, 3) := dk_167 0 4 (dk_at dksX6_often_2 18 rfl rfl)
theorem dX6_often_69 : decode cX6_often 69 = .ok (.iconst 0, 1) := dk_3 (dk_at dksX6_often_2 21 rfl rfl)
theorem dX6_often_70 : decode cX6_often 70 = .ok (.iadd, 1) := dk_96 (dk_at dksX6_often_2 22 rfl rfl)
theorem dX6_often_71 : decode cX6_often 71 = .ok (.istore_n 2, 1) := dk_61 (dk_at dksX6_often_2 23 rfl rfl)
theorem dX6_often_72 : decode cX6_often 72 = .ok (.aload_n 0, 1) := dk_42 (dk_at dksX6_often_3 0 rfl rfl)
theorem dX6_often_73 : decode cX6_often 73 = .ok (.getfield 7, 3) := dk_180 0 7 (dk_at dksX6_often_3 1 rfl rfl)
theorem dX6_often_76 : decode cX6_often 76 = .ok (.iconst 5, 1) := dk_8 (dk_at dksX6_often_3 4 rfl rfl)
theorem dX6_often_77 : decode cX6_often 77 = .ok (.iaload, 1) := dk_46 (dk_at dksX6_often_3 5 rfl rfl)
theorem dX6_often_78 : decode cX6_often 78 = .ok (.istore 4, 2) := dk_54 4 (dk_at dksX6_often_3 6 rfl rfl)
theorem dX6_often_80 : decode cX6_often 80 = .ok (.aload_n 0, 1) := dk_42 (dk_at dksX6_often_3 8 rfl rfl)
theorem dX6_often_81 : decode cX6_often 81 = .ok (.invokevirtual 283, 3) := dk_182 1 27 (dk_at dksX6_often_3 9 rfl rfl)
theorem dX6_often_84 : decode cX6_often 84 = .ok (.aload_n 0, 1) := dk_42 (dk_at dksX6_often_3 12 rfl rfl)
theorem dX6_often_85 : decode cX6_often 85 = .ok (.getfield 7, 3) := dk_180 0 7 (dk_at dksX6_often_3 13 rfl rfl)
theorem dX6_often_88 : decode cX6_often 88 = .ok (.iconst 5, 1) := dk_8 (dk_at dksX6_often_3 16 rfl rfl)
theorem dX6_often_89 : decode cX6_often 89 = .ok (.iload 4, 2) := dk_21 4 (dk_at dksX6_often_3 17 rfl rfl)
theorem dX6_often_91 : decode cX6_often 91 = .ok (.iastore, 1) := dk_79 (dk_at dksX6_often_3 19 rfl rfl)
theorem dX6_often_92 : decode cX6_often 92 = .ok (.iinc 3 1, 3) := dk_132 3 1 (dk_at dksX6_often_3 20 rfl rfl)
theorem dX6_often_95 : decode cX6_often 95 = .ok (.goto (-73), 3) := dk_167 255 183 (dk_at dksX6_often_4 0 rfl rfl)
theorem dX6_often_98 : decode cX6_often 98 = .ok (.aload_n 0, 1) := dk_42 (dk_at dksX6_often_4 3 rfl rfl)
theorem dX6_often_99 : decode cX6_often 99 = .ok (.invokevirtual 283, 3) := dk_182 1 27 (dk_at dksX6_often_4 4 rfl rfl)
theorem dX6_often_102 : decode cX6_often 102 = .ok (.iload_n 2, 1) := dk_28 (dk_at dksX6_often_4 7 rfl rfl)
theorem dX6_often_103 : decode cX6_often 103 = .ok (.ireturn, 1) := dk_172 (dk_at dksX6_often_4 8 rfl rfl)
abbrev cX6_puts : ByteArray := prog_26_method_5_code
def yX6_puts : MethodName := ⟨RX6, "puts", "()V"⟩
def dkwX6_puts_1 : List UInt8 := [167, 255, 234, 177]
abbrev dktX6_puts_1 : List UInt8 := dkwX6_puts_1 ++ []
def dkwX6_puts_0 : List UInt8 := [3, 60, 27, 17, 1, 84, 162, 0, 21, 42, 180, 0, 16, 27, 42, 180, 0, 7, 27, 46, 79, 132, 1, 1]
abbrev dktX6_puts_0 : List UInt8 := dkwX6_puts_0 ++ dktX6_puts_1
theorem dksX6_puts_0 : cX6_puts.data.toList.drop 0 = dktX6_puts_0 := by decide +kernel
theorem dksX6_puts_1 : cX6_puts.data.toList.drop 24 = dktX6_puts_1 := dk_seg dksX6_puts_0 24 rfl rfl
theorem dX6_puts_0 : decode cX6_puts 0 = .ok (.iconst 0, 1) := dk_3 (dk_at dksX6_puts_0 0 rfl rfl)
theorem dX6_puts_1 : decode cX6_puts 1 = .ok (.istore_n 1, 1) := dk_60 (dk_at dksX6_puts_0 1 rfl rfl)
theorem dX6_puts_2 : decode cX6_puts 2 = .ok (.iload_n 1, 1) := dk_27 (dk_at dksX6_puts_0 2 rfl rfl)
theorem dX6_puts_3 : decode cX6_puts 3 = .ok (.sipush 340, 3) := dk_17 1 84 (dk_at dksX6_puts_0 3 rfl rfl)
theorem dX6_puts_6 : decode cX6_puts 6 = .ok (.if_icmp .ge 21, 3) := dk_162 0 21 (dk_at dksX6_puts_0 6 rfl rfl)
theorem dX6_puts_9 : decode cX6_puts 9 = .ok (.aload_n 0, 1) := dk_42 (dk_at dksX6_puts_0 9 rfl rfl)
theorem dX6_puts_10 : decode cX6_puts 10 = .ok (.getfield 16, 3) := dk_180 0 16 (dk_at dksX6_puts_0 10 rfl rfl)
theorem dX6_puts_13 : decode cX6_puts 13 = .ok (.iload_n 1, 1) := dk_27 (dk_at dksX6_puts_0 13 rfl rfl)
theorem dX6_puts_14 : decode cX6_puts 14 = .ok (.aload_n 0, 1) := dk_42 (dk_at dksX6_puts_0 14 rfl rfl)
theorem dX6_puts_15 : decode cX6_puts 15 = .ok (.getfield 7, 3) := dk_180 0 7 (dk_at dksX6_puts_0 15 rfl rfl)
theorem dX6_puts_18 : decode cX6_puts 18 = .ok (.iload_n 1, 1) := dk_27 (dk_at dksX6_puts_0 18 rfl rfl)
theorem dX6_puts_19 : decode cX6_puts 19 = .ok (.iaload, 1) := dk_46 (dk_at dksX6_puts_0 19 rfl rfl)
theorem dX6_puts_20 : decode cX6_puts 20 = .ok (.iastore, 1) := dk_79 (dk_at dksX6_puts_0 20 rfl rfl)
theorem dX6_puts_21 : decode cX6_puts 21 = .ok (.iinc 1 1, 3) := dk_132 1 1 (dk_at dksX6_puts_0 21 rfl rfl)
theorem dX6_puts_24 : decode cX6_puts 24 = .ok (.goto (-22), 3) := dk_167 255 234 (dk_at dksX6_puts_1 0 rfl rfl)
theorem dX6_puts_27 : decode cX6_puts 27 = .ok (.return_, 1) := dk_177 (dk_at dksX6_puts_1 3 rfl rfl)
abbrev cX6_putsBack : ByteArray := prog_26_method_6_code
def yX6_putsBack : MethodName := ⟨RX6, "putsBack", "()V"⟩
def dkwX6_putsBack_1 : List UInt8 := [167, 255, 234, 177]
abbrev dktX6_putsBack_1 : List UInt8 := dkwX6_putsBack_1 ++ []
def dkwX6_putsBack_0 : List UInt8 := [3, 60, 27, 17, 1, 84, 162, 0, 21, 42, 180, 0, 7, 27, 42, 180, 0, 16, 27, 46, 79, 132, 1, 1]
abbrev dktX6_putsBack_0 : List UInt8 := dkwX6_putsBack_0 ++ dktX6_putsBack_1
theorem dksX6_putsBack_0 : cX6_putsBack.data.toList.drop 0 = dktX6_putsBack_0 := by decide +kernel
theorem dksX6_putsBack_1 : cX6_putsBack.data.toList.drop 24 = dktX6_putsBack_1 := dk_seg dksX6_putsBack_0 24 rfl rfl
theorem dX6_putsBack_0 : decode cX6_putsBack 0 = .ok (.iconst 0, 1) := dk_3 (dk_at dksX6_putsBack_0 0 rfl rfl)
theorem dX6_putsBack_1 : decode cX6_putsBack 1 = .ok (.istore_n 1, 1) := dk_60 (dk_at dksX6_putsBack_0 1 rfl rfl)
theorem dX6_putsBack_2 : decode cX6_putsBack 2 = .ok (.iload_n 1, 1) := dk_27 (dk_at dksX6_putsBack_0 2 rfl rfl)
theorem dX6_putsBack_3 : decode cX6_putsBack 3 = .ok (.sipush 340, 3) := dk_17 1 84 (dk_at dksX6_putsBack_0 3 rfl rfl)
theorem dX6_putsBack_6 : decode cX6_putsBack 6 = .ok (.if_icmp .ge 21, 3) := dk_162 0 21 (dk_at dksX6_putsBack_0 6 rfl rfl)
theorem dX6_putsBack_9 : decode cX6_putsBack 9 = .ok (.aload_n 0, 1) := dk_42 (dk_at dksX6_putsBack_0 9 rfl rfl)
theorem dX6_putsBack_10 : decode cX6_putsBack 10 = .ok (.getfield 7, 3) := dk_180 0 7 (dk_at dksX6_putsBack_0 10 rfl rfl)
theorem dX6_putsBack_13 : decode cX6_putsBack 13 = .ok (.iload_n 1, 1) := dk_27 (dk_at dksX6_putsBack_0 13 rfl rfl)
theorem dX6_putsBack_14 : decode cX6_putsBack 14 = .ok (.aload_n 0, 1) := dk_42 (dk_at dksX6_putsBack_0 14 rfl rfl)
theorem dX6_putsBack_15 : decode cX6_putsBack 15 = .ok (.getfield 16, 3) := dk_180 0 16 (dk_at dksX6_putsBack_0 15 rfl rfl)
theorem dX6_putsBack_18 : decode cX6_putsBack 18 = .ok (.iload_n 1, 1) := dk_27 (dk_at dksX6_putsBack_0 18 rfl rfl)
theorem dX6_putsBack_19 : decode cX6_putsBack 19 = .ok (.iaload, 1) := dk_46 (dk_at dksX6_putsBack_0 19 rfl rfl)
theorem dX6_putsBack_20 : decode cX6_putsBack 20 = .ok (.iastore, 1) := dk_79 (dk_at dksX6_putsBack_0 20 rfl rfl)
theorem dX6_putsBack_21 : decode cX6_putsBack 21 = .ok (.iinc 1 1, 3) := dk_132 1 1 (dk_at dksX6_putsBack_0 21 rfl rfl)
theorem dX6_putsBack_24 : decode cX6_putsBack 24 = .ok (.goto (-22), 3) := dk_167 255 234 (dk_at dksX6_putsBack_1 0 rfl rfl)
theorem dX6_putsBack_27 : decode cX6_putsBack 27 = .ok (.return_, 1) := dk_177 (dk_at dksX6_putsBack_1 3 rfl rfl)
abbrev cX6_prove : ByteArray := prog_26_method_87_code
def yX6_prove : MethodName := ⟨RX6, "prove", "()I"⟩
def dkwX6_prove_4 : List UInt8 := [167, 255, 193, 42, 182, 1, 27, 42, 180, 1, 30, 172]
abbrev dktX6_prove_4 : List UInt8 := dkwX6_prove_4 ++ []
def dkwX6_prove_3 : List UInt8 := [4, 96, 42, 182, 0, 150, 79, 42, 180, 0, 41, 6, 27, 104, 5, 96, 42, 182, 0, 99, 79, 132, 1, 1]
abbrev dktX6_prove_3 : List UInt8 := dkwX6_prove_3 ++ dktX6_prove_4
def dkwX6_prove_2 : List UInt8 := [182, 0, 175, 42, 180, 0, 41, 6, 27, 104, 42, 180, 0, 29, 27, 46, 79, 42, 180, 0, 41, 6, 27, 104]
abbrev dktX6_prove_2 : List UInt8 := dkwX6_prove_2 ++ dktX6_prove_3
def dkwX6_prove_1 : List UInt8 := [180, 0, 192, 181, 1, 30, 3, 60, 27, 42, 180, 1, 30, 162, 0, 61, 42, 42, 180, 0, 29, 27, 46]
abbrev dktX6_prove_1 : List UInt8 := dkwX6_prove_1 ++ dktX6_prove_2
def dkwX6_prove_0 : List UInt8 := [42, 16, 6, 182, 0, 213, 42, 180, 0, 192, 156, 0, 6, 16, 253, 172, 42, 182, 1, 24, 42, 42]
abbrev dktX6_prove_0 : List UInt8 := dkwX6_prove_0 ++ dktX6_prove_1
theorem dksX6_prove_0 : cX6_prove.data.toList.drop 0 = dktX6_prove_0 := by decide +kernel
theorem dksX6_prove_1 : cX6_prove.data.toList.drop 22 = dktX6_prove_1 := dk_seg dksX6_prove_0 22 rfl rfl
theorem dksX6_prove_2 : cX6_prove.data.toList.drop 45 = dktX6_prove_2 := dk_seg dksX6_prove_1 23 rfl rfl
theorem dksX6_prove_3 : cX6_prove.data.toList.drop 69 = dktX6_prove_3 := dk_seg dksX6_prove_2 24 rfl rfl
theorem dksX6_prove_4 : cX6_prove.data.toList.drop 93 = dktX6_prove_4 := dk_seg dksX6_prove_3 24 rfl rfl
theorem dX6_prove_0 : decode cX6_prove 0 = .ok (.aload_n 0, 1) := dk_42 (dk_at dksX6_prove_0 0 rfl rfl)
theorem dX6_prove_1 : decode cX6_prove 1 = .ok (.bipush 6, 2) := dk_16 6 (dk_at dksX6_prove_0 1 rfl rfl)
theorem dX6_prove_3 : decode cX6_prove 3 = .ok (.invokevirtual 213, 3) := dk_182 0 213 (dk_at dksX6_prove_0 3 rfl rfl)
theorem dX6_prove_6 : decode cX6_prove 6 = .ok (.aload_n 0, 1) := dk_42 (dk_at dksX6_prove_0 6 rfl rfl)
theorem dX6_prove_7 : decode cX6_prove 7 = .ok (.getfield 192, 3) := dk_180 0 192 (dk_at dksX6_prove_0 7 rfl rfl)
theorem dX6_prove_10 : decode cX6_prove 10 = .ok (.ifCond .ge 6, 3) := dk_156 0 6 (dk_at dksX6_prove_0 10 rfl rfl)
theorem dX6_prove_13 : decode cX6_prove 13 = .ok (.bipush (-3), 2) := dk_16 253 (dk_at dksX6_prove_0 13 rfl rfl)
theorem dX6_prove_15 : decode cX6_prove 15 = .ok (.ireturn, 1) := dk_172 (dk_at dksX6_prove_0 15 rfl rfl)
theorem dX6_prove_16 : decode cX6_prove 16 = .ok (.aload_n 0, 1) := dk_42 (dk_at dksX6_prove_0 16 rfl rfl)
theorem dX6_prove_17 : decode cX6_prove 17 = .ok (.invokevirtual 280, 3) := dk_182 1 24 (dk_at dksX6_prove_0 17 rfl rfl)
theorem dX6_prove_20 : decode cX6_prove 20 = .ok (.aload_n 0, 1) := dk_42 (dk_at dksX6_prove_0 20 rfl rfl)
theorem dX6_prove_21 : decode cX6_prove 21 = .ok (.aload_n 0, 1) := dk_42 (dk_at dksX6_prove_0 21 rfl rfl)
theorem dX6_prove_22 : decode cX6_prove 22 = .ok (.getfield 192, 3) := dk_180 0 192 (dk_at dksX6_prove_1 0 rfl rfl)
theorem dX6_prove_25 : decode cX6_prove 25 = .ok (.putfield 286, 3) := dk_181 1 30 (dk_at dksX6_prove_1 3 rfl rfl)
theorem dX6_prove_28 : decode cX6_prove 28 = .ok (.iconst 0, 1) := dk_3 (dk_at dksX6_prove_1 6 rfl rfl)
theorem dX6_prove_29 : decode cX6_prove 29 = .ok (.istore_n 1, 1) := dk_60 (dk_at dksX6_prove_1 7 rfl rfl)
theorem dX6_prove_30 : decode cX6_prove 30 = .ok (.iload_n 1, 1) := dk_27 (dk_at dksX6_prove_1 8 rfl rfl)
theorem dX6_prove_31 : decode cX6_prove 31 = .ok (.aload_n 0, 1) := dk_42 (dk_at dksX6_prove_1 9 rfl rfl)
theorem dX6_prove_32 : decode cX6_prove 32 = .ok (.getfield 286, 3) := dk_180 1 30 (dk_at dksX6_prove_1 10 rfl rfl)
theorem dX6_prove_35 : decode cX6_prove 35 = .ok (.if_icmp .ge 61, 3) := dk_162 0 61 (dk_at dksX6_prove_1 13 rfl rfl)
theorem dX6_prove_38 : decode cX6_prove 38 = .ok (.aload_n 0, 1) := dk_42 (dk_at dksX6_prove_1 16 rfl rfl)
theorem dX6_prove_39 : decode cX6_prove 39 = .ok (.aload_n 0, 1) := dk_42 (dk_at dksX6_prove_1 17 rfl rfl)
theorem dX6_prove_40 : decode cX6_prove 40 = .ok (.getfield 29, 3) := dk_180 0 29 (dk_at dksX6_prove_1 18 rfl rfl)
theorem dX6_prove_43 : decode cX6_prove 43 = .ok (.iload_n 1, 1) := dk_27 (dk_at dksX6_prove_1 21 rfl rfl)
theorem dX6_prove_44 : decode cX6_prove 44 = .ok (.iaload, 1) := dk_46 (dk_at dksX6_prove_1 22 rfl rfl)
theorem dX6_prove_45 : decode cX6_prove 45 = .ok (.invokevirtual 175, 3) := dk_182 0 175 (dk_at dksX6_prove_2 0 rfl rfl)
theorem dX6_prove_48 : decode cX6_prove 48 = .ok (.aload_n 0, 1) := dk_42 (dk_at dksX6_prove_2 3 rfl rfl)
theorem dX6_prove_49 : decode cX6_prove 49 = .ok (.getfield 41, 3) := dk_180 0 41 (dk_at dksX6_prove_2 4 rfl rfl)
theorem dX6_prove_52 : decode cX6_prove 52 = .ok (.iconst 3, 1) := dk_6 (dk_at dksX6_prove_2 7 rfl rfl)
theorem dX6_prove_53 : decode cX6_prove 53 = .ok (.iload_n 1, 1) := dk_27 (dk_at dksX6_prove_2 8 rfl rfl)
theorem dX6_prove_54 : decode cX6_prove 54 = .ok (.imul, 1) := dk_104 (dk_at dksX6_prove_2 9 rfl rfl)
theorem dX6_prove_55 : decode cX6_prove 55 = .ok (.aload_n 0, 1) := dk_42 (dk_at dksX6_prove_2 10 rfl rfl)
theorem dX6_prove_56 : decode cX6_prove 56 = .ok (.getfield 29, 3) := dk_180 0 29 (dk_at dksX6_prove_2 11 rfl rfl)
theorem dX6_prove_59 : decode cX6_prove 59 = .ok (.iload_n 1, 1) := dk_27 (dk_at dksX6_prove_2 14 rfl rfl)
theorem dX6_prove_60 : decode cX6_prove 60 = .ok (.iaload, 1) := dk_46 (dk_at dksX6_prove_2 15 rfl rfl)
theorem dX6_prove_61 : decode cX6_prove 61 = .ok (.iastore, 1) := dk_79 (dk_at dksX6_prove_2 16 rfl rfl)
theorem dX6_prove_62 : decode cX6_prove 62 = .ok (.aload_n 0, 1) := dk_42 (dk_at dksX6_prove_2 17 rfl rfl)
theorem dX6_prove_63 : decode cX6_prove 63 = .ok (.getfield 41, 3) := dk_180 0 41 (dk_at dksX6_prove_2 18 rfl rfl)
theorem dX6_prove_66 : decode cX6_prove 66 = .ok (.iconst 3, 1) := dk_6 (dk_at dksX6_prove_2 21 rfl rfl)
theorem dX6_prove_67 : decode cX6_prove 67 = .ok (.iload_n 1, 1) := dk_27 (dk_at dksX6_prove_2 22 rfl rfl)
theorem dX6_prove_68 : decode cX6_prove 68 = .ok (.imul, 1) := dk_104 (dk_at dksX6_prove_2 23 rfl rfl)
theorem dX6_prove_69 : decode cX6_prove 69 = .ok (.iconst 1, 1) := dk_4 (dk_at dksX6_prove_3 0 rfl rfl)
theorem dX6_prove_70 : decode cX6_prove 70 = .ok (.iadd, 1) := dk_96 (dk_at dksX6_prove_3 1 rfl rfl)
theorem dX6_prove_71 : decode cX6_prove 71 = .ok (.aload_n 0, 1) := dk_42 (dk_at dksX6_prove_3 2 rfl rfl)
theorem dX6_prove_72 : decode cX6_prove 72 = .ok (.invokevirtual 150, 3) := dk_182 0 150 (dk_at dksX6_prove_3 3 rfl rfl)
theorem dX6_prove_75 : decode cX6_prove 75 = .ok (.iastore, 1) := dk_79 (dk_at dksX6_prove_3 6 rfl rfl)
theorem dX6_prove_76 : decode cX6_prove 76 = .ok (.aload_n 0, 1) := dk_42 (dk_at dksX6_prove_3 7 rfl rfl)
theorem dX6_prove_77 : decode cX6_prove 77 = .ok (.getfield 41, 3) := dk_180 0 41 (dk_at dksX6_prove_3 8 rfl rfl)
theorem dX6_prove_80 : decode cX6_prove 80 = .ok (.iconst 3, 1) := dk_6 (dk_at dksX6_prove_3 11 rfl rfl)
theorem dX6_prove_81 : decode cX6_prove 81 = .ok (.iload_n 1, 1) := dk_27 (dk_at dksX6_prove_3 12 rfl rfl)
theorem dX6_prove_82 : decode cX6_prove 82 = .ok (.imul, 1) := dk_104 (dk_at dksX6_prove_3 13 rfl rfl)
theorem dX6_prove_83 : decode cX6_prove 83 = .ok (.iconst 2, 1) := dk_5 (dk_at dksX6_prove_3 14 rfl rfl)
theorem dX6_prove_84 : decode cX6_prove 84 = .ok (.iadd, 1) := dk_96 (dk_at dksX6_prove_3 15 rfl rfl)
theorem dX6_prove_85 : decode cX6_prove 85 = .ok (.aload_n 0, 1) := dk_42 (dk_at dksX6_prove_3 16 rfl rfl)
theorem dX6_prove_86 : decode cX6_prove 86 = .ok (.invokevirtual 99, 3) := dk_182 0 99 (dk_at dksX6_prove_3 17 rfl rfl)
theorem dX6_prove_89 : decode cX6_prove 89 = .ok (.iastore, 1) := dk_79 (dk_at dksX6_prove_3 20 rfl rfl)
theorem dX6_prove_90 : decode cX6_prove 90 = .ok (.iinc 1 1, 3) := dk_132 1 1 (dk_at dksX6_prove_3 21 rfl rfl)
theorem dX6_prove_93 : decode cX6_prove 93 = .ok (.goto (-63), 3) := dk_167 255 193 (dk_at dksX6_prove_4 0 rfl rfl)
theorem dX6_prove_96 : decode cX6_prove 96 = .ok (.aload_n 0, 1) := dk_42 (dk_at dksX6_prove_4 3 rfl rfl)
theorem dX6_prove_97 : decode cX6_prove 97 = .ok (.invokevirtual 283, 3) := dk_182 1 27 (dk_at dksX6_prove_4 4 rfl rfl)
theorem dX6_prove_100 : decode cX6_prove 100 = .ok (.aload_n 0, 1) := dk_42 (dk_at dksX6_prove_4 7 rfl rfl)
theorem dX6_prove_101 : decode cX6_prove 101 = .ok (.getfield 286, 3) := dk_180 1 30 (dk_at dksX6_prove_4 8 rfl rfl)
theorem dX6_prove_104 : decode cX6_prove 104 = .ok (.ireturn, 1) := dk_172 (dk_at dksX6_prove_4 11 rfl rfl)
abbrev cX6_row : ByteArray := prog_26_method_89_code
def yX6_row : MethodName := ⟨RX6, "row", "(II)I"⟩
def dkwX6_row_1 : List UInt8 := [172]
abbrev dktX6_row_1 : List UInt8 := dkwX6_row_1 ++ []
def dkwX6_row_0 : List UInt8 := [42, 27, 28, 182, 1, 33, 153, 0, 16, 42, 180, 0, 41, 6, 27, 104, 28, 96, 46, 167, 0, 5, 16, 247]
abbrev dktX6_row_0 : List UInt8 := dkwX6_row_0 ++ dktX6_row_1
theorem dksX6_row_0 : cX6_row.data.toList.drop 0 = dktX6_row_0 := by decide +kernel
theorem dksX6_row_1 : cX6_row.data.toList.drop 24 = dktX6_row_1 := dk_seg dksX6_row_0 24 rfl rfl
theorem dX6_row_0 : decode cX6_row 0 = .ok (.aload_n 0, 1) := dk_42 (dk_at dksX6_row_0 0 rfl rfl)
theorem dX6_row_1 : decode cX6_row 1 = .ok (.iload_n 1, 1) := dk_27 (dk_at dksX6_row_0 1 rfl rfl)
theorem dX6_row_2 : decode cX6_row 2 = .ok (.iload_n 2, 1) := dk_28 (dk_at dksX6_row_0 2 rfl rfl)
theorem dX6_row_3 : decode cX6_row 3 = .ok (.invokevirtual 289, 3) := dk_182 1 33 (dk_at dksX6_row_0 3 rfl rfl)
theorem dX6_row_6 : decode cX6_row 6 = .ok (.ifCond .eq 16, 3) := dk_153 0 16 (dk_at dksX6_row_0 6 rfl rfl)
theorem dX6_row_9 : decode cX6_row 9 = .ok (.aload_n 0, 1) := dk_42 (dk_at dksX6_row_0 9 rfl rfl)
theorem dX6_row_10 : decode cX6_row 10 = .ok (.getfield 41, 3) := dk_180 0 41 (dk_at dksX6_row_0 10 rfl rfl)
theorem dX6_row_13 : decode cX6_row 13 = .ok (.iconst 3, 1) := dk_6 (dk_at dksX6_row_0 13 rfl rfl)
theorem dX6_row_14 : decode cX6_row 14 = .ok (.iload_n 1, 1) := dk_27 (dk_at dksX6_row_0 14 rfl rfl)
theorem dX6_row_15 : decode cX6_row 15 = .ok (.imul, 1) := dk_104 (dk_at dksX6_row_0 15 rfl rfl)
theorem dX6_row_16 : decode cX6_row 16 = .ok (.iload_n 2, 1) := dk_28 (dk_at dksX6_row_0 16 rfl rfl)
theorem dX6_row_17 : decode cX6_row 17 = .ok (.iadd, 1) := dk_96 (dk_at dksX6_row_0 17 rfl rfl)
theorem dX6_row_18 : decode cX6_row 18 = .ok (.iaload, 1) := dk_46 (dk_at dksX6_row_0 18 rfl rfl)
theorem dX6_row_19 : decode cX6_row 19 = .ok (.goto 5, 3) := dk_167 0 5 (dk_at dksX6_row_0 19 rfl rfl)
theorem dX6_row_22 : decode cX6_row 22 = .ok (.bipush (-9), 2) := dk_16 247 (dk_at dksX6_row_0 22 rfl rfl)
theorem dX6_row_24 : decode cX6_row 24 = .ok (.ireturn, 1) := dk_172 (dk_at dksX6_row_1 0 rfl rfl)
abbrev cX6_isRow : ByteArray := prog_26_method_88_code
def yX6_isRow : MethodName := ⟨RX6, "isRow", "(II)Z"⟩
def dkwX6_isRow_1 : List UInt8 := [184, 0, 68, 153, 0, 7, 4, 167, 0, 4, 3, 172]
abbrev dktX6_isRow_1 : List UInt8 := dkwX6_isRow_1 ++ []
def dkwX6_isRow_0 : List UInt8 := [27, 133, 9, 42, 180, 1, 30, 4, 100, 133, 184, 0, 68, 153, 0, 19, 28, 133, 9, 20, 0, 231]
abbrev dktX6_isRow_0 : List UInt8 := dkwX6_isRow_0 ++ dktX6_isRow_1
theorem dksX6_isRow_0 : cX6_isRow.data.toList.drop 0 = dktX6_isRow_0 := by decide +kernel
theorem dksX6_isRow_1 : cX6_isRow.data.toList.drop 22 = dktX6_isRow_1 := dk_seg dksX6_isRow_0 22 rfl rfl
theorem dX6_isRow_0 : decode cX6_isRow 0 = .ok (.iload_n 1, 1) := dk_27 (dk_at dksX6_isRow_0 0 rfl rfl)
theorem dX6_isRow_1 : decode cX6_isRow 1 = .ok (.i2l, 1) := dk_133 (dk_at dksX6_isRow_0 1 rfl rfl)
theorem dX6_isRow_2 : decode cX6_isRow 2 = .ok (.lconst 0, 1) := dk_9 (dk_at dksX6_isRow_0 2 rfl rfl)
theorem dX6_isRow_3 : decode cX6_isRow 3 = .ok (.aload_n 0, 1) := dk_42 (dk_at dksX6_isRow_0 3 rfl rfl)
theorem dX6_isRow_4 : decode cX6_isRow 4 = .ok (.getfield 286, 3) := dk_180 1 30 (dk_at dksX6_isRow_0 4 rfl rfl)
theorem dX6_isRow_7 : decode cX6_isRow 7 = .ok (.iconst 1, 1) := dk_4 (dk_at dksX6_isRow_0 7 rfl rfl)
theorem dX6_isRow_8 : decode cX6_isRow 8 = .ok (.isub, 1) := dk_100 (dk_at dksX6_isRow_0 8 rfl rfl)
theorem dX6_isRow_9 : decode cX6_isRow 9 = .ok (.i2l, 1) := dk_133 (dk_at dksX6_isRow_0 9 rfl rfl)
theorem dX6_isRow_10 : decode cX6_isRow 10 = .ok (.invokestatic 68, 3) := dk_184 0 68 (dk_at dksX6_isRow_0 10 rfl rfl)
theorem dX6_isRow_13 : decode cX6_isRow 13 = .ok (.ifCond .eq 19, 3) := dk_153 0 19 (dk_at dksX6_isRow_0 13 rfl rfl)
theorem dX6_isRow_16 : decode cX6_isRow 16 = .ok (.iload_n 2, 1) := dk_28 (dk_at dksX6_isRow_0 16 rfl rfl)
theorem dX6_isRow_17 : decode cX6_isRow 17 = .ok (.i2l, 1) := dk_133 (dk_at dksX6_isRow_0 17 rfl rfl)
theorem dX6_isRow_18 : decode cX6_isRow 18 = .ok (.lconst 0, 1) := dk_9 (dk_at dksX6_isRow_0 18 rfl rfl)
theorem dX6_isRow_19 : decode cX6_isRow 19 = .ok (.ldc2_w 231, 3) := dk_20 0 231 (dk_at dksX6_isRow_0 19 rfl rfl)
theorem dX6_isRow_22 : decode cX6_isRow 22 = .ok (.invokestatic 68, 3) := dk_184 0 68 (dk_at dksX6_isRow_1 0 rfl rfl)
theorem dX6_isRow_25 : decode cX6_isRow 25 = .ok (.ifCond .eq 7, 3) := dk_153 0 7 (dk_at dksX6_isRow_1 3 rfl rfl)
theorem dX6_isRow_28 : decode cX6_isRow 28 = .ok (.iconst 1, 1) := dk_4 (dk_at dksX6_isRow_1 6 rfl rfl)
theorem dX6_isRow_29 : decode cX6_isRow 29 = .ok (.goto 4, 3) := dk_167 0 4 (dk_at dksX6_isRow_1 7 rfl rfl)
theorem dX6_isRow_32 : decode cX6_isRow 32 = .ok (.iconst 0, 1) := dk_3 (dk_at dksX6_isRow_1 10 rfl rfl)
theorem dX6_isRow_33 : decode cX6_isRow 33 = .ok (.ireturn, 1) := dk_172 (dk_at dksX6_isRow_1 11 rfl rfl)
abbrev cX6_alterRow : ByteArray := prog_26_method_90_code
def yX6_alterRow : MethodName := ⟨RX6, "alterRow", "(III)I"⟩
def dkwX6_alterRow_1 : List UInt8 := [42, 180, 0, 41, 6, 27, 104, 28, 96, 29, 79, 21, 4, 172]
abbrev dktX6_alterRow_1 : List UInt8 := dkwX6_alterRow_1 ++ []
def dkwX6_alterRow_0 : List UInt8 := [42, 27, 28, 182, 1, 33, 154, 0, 6, 16, 247, 172, 42, 180, 0, 41, 6, 27, 104, 28, 96, 46, 54, 4]
abbrev dktX6_alterRow_0 : List UInt8 := dkwX6_alterRow_0 ++ dktX6_alterRow_1
theorem dksX6_alterRow_0 : cX6_alterRow.data.toList.drop 0 = dktX6_alterRow_0 := by decide +kernel
theorem dksX6_alterRow_1 : cX6_alterRow.data.toList.drop 24 = dktX6_alterRow_1 := dk_seg dksX6_alterRow_0 24 rfl rfl
theorem dX6_alterRow_0 : decode cX6_alterRow 0 = .ok (.aload_n 0, 1) := dk_42 (dk_at dksX6_alterRow_0 0 rfl rfl)
theorem dX6_alterRow_1 : decode cX6_alterRow 1 = .ok (.iload_n 1, 1) := dk_27 (dk_at dksX6_alterRow_0 1 rfl rfl)
theorem dX6_alterRow_2 : decode cX6_alterRow 2 = .ok (.iload_n 2, 1) := dk_28 (dk_at dksX6_alterRow_0 2 rfl rfl)
theorem dX6_alterRow_3 : decode cX6_alterRow 3 = .ok (.invokevirtual 289, 3) := dk_182 1 33 (dk_at dksX6_alterRow_0 3 rfl rfl)
theorem dX6_alterRow_6 : decode cX6_alterRow 6 = .ok (.ifCond .ne 6, 3) := dk_154 0 6 (dk_at dksX6_alterRow_0 6 rfl rfl)
theorem dX6_alterRow_9 : decode cX6_alterRow 9 = .ok (.bipush (-9), 2) := dk_16 247 (dk_at dksX6_alterRow_0 9 rfl rfl)
theorem dX6_alterRow_11 : decode cX6_alterRow 11 = .ok (.ireturn, 1) := dk_172 (dk_at dksX6_alterRow_0 11 rfl rfl)
theorem dX6_alterRow_12 : decode cX6_alterRow 12 = .ok (.aload_n 0, 1) := dk_42 (dk_at dksX6_alterRow_0 12 rfl rfl)
theorem dX6_alterRow_13 : decode cX6_alterRow 13 = .ok (.getfield 41, 3) := dk_180 0 41 (dk_at dksX6_alterRow_0 13 rfl rfl)
theorem dX6_alterRow_16 : decode cX6_alterRow 16 = .ok (.iconst 3, 1) := dk_6 (dk_at dksX6_alterRow_0 16 rfl rfl)
theorem dX6_alterRow_17 : decode cX6_alterRow 17 = .ok (.iload_n 1, 1) := dk_27 (dk_at dksX6_alterRow_0 17 rfl rfl)
theorem dX6_alterRow_18 : decode cX6_alterRow 18 = .ok (.imul, 1) := dk_104 (dk_at dksX6_alterRow_0 18 rfl rfl)
theorem dX6_alterRow_19 : decode cX6_alterRow 19 = .ok (.iload_n 2, 1) := dk_28 (dk_at dksX6_alterRow_0 19 rfl rfl)
theorem dX6_alterRow_20 : decode cX6_alterRow 20 = .ok (.iadd, 1) := dk_96 (dk_at dksX6_alterRow_0 20 rfl rfl)
theorem dX6_alterRow_21 : decode cX6_alterRow 21 = .ok (.iaload, 1) := dk_46 (dk_at dksX6_alterRow_0 21 rfl rfl)
theorem dX6_alterRow_22 : decode cX6_alterRow 22 = .ok (.istore 4, 2) := dk_54 4 (dk_at dksX6_alterRow_0 22 rfl rfl)
theorem dX6_alterRow_24 : decode cX6_alterRow 24 = .ok (.aload_n 0, 1) := dk_42 (dk_at dksX6_alterRow_1 0 rfl rfl)
theorem dX6_alterRow_25 : decode cX6_alterRow 25 = .ok (.getfield 41, 3) := dk_180 0 41 (dk_at dksX6_alterRow_1 1 rfl rfl)
theorem dX6_alterRow_28 : decode cX6_alterRow 28 = .ok (.iconst 3, 1) := dk_6 (dk_at dksX6_alterRow_1 4 rfl rfl)
theorem dX6_alterRow_29 : decode cX6_alterRow 29 = .ok (.iload_n 1, 1) := dk_27 (dk_at dksX6_alterRow_1 5 rfl rfl)
theorem dX6_alterRow_30 : decode cX6_alterRow 30 = .ok (.imul, 1) := dk_104 (dk_at dksX6_alterRow_1 6 rfl rfl)
theorem dX6_alterRow_31 : decode cX6_alterRow 31 = .ok (.iload_n 2, 1) := dk_28 (dk_at dksX6_alterRow_1 7 rfl rfl)
theorem dX6_alterRow_32 : decode cX6_alterRow 32 = .ok (.iadd, 1) := dk_96 (dk_at dksX6_alterRow_1 8 rfl rfl)
theorem dX6_alterRow_33 : decode cX6_alterRow 33 = .ok (.iload_n 3, 1) := dk_29 (dk_at dksX6_alterRow_1 9 rfl rfl)
theorem dX6_alterRow_34 : decode cX6_alterRow 34 = .ok (.iastore, 1) := dk_79 (dk_at dksX6_alterRow_1 10 rfl rfl)
theorem dX6_alterRow_35 : decode cX6_alterRow 35 = .ok (.iload 4, 2) := dk_21 4 (dk_at dksX6_alterRow_1 11 rfl rfl)
theorem dX6_alterRow_37 : decode cX6_alterRow 37 = .ok (.ireturn, 1) := dk_172 (dk_at dksX6_alterRow_1 13 rfl rfl)
abbrev cX6_judge : ByteArray := prog_26_method_91_code
def yX6_judge : MethodName := ⟨RX6, "judge", "()I"⟩
def dkwX6_judge_6 : List UInt8 := [3, 167, 0, 6, 28, 4, 96, 60, 132, 2, 1, 167, 255, 116, 42, 182, 1, 27, 27, 172]
abbrev dktX6_judge_6 : List UInt8 := dkwX6_judge_6 ++ []
def dkwX6_judge_5 : List UInt8 := [161, 0, 14, 42, 182, 0, 99, 42, 182, 0, 204, 160, 0, 7, 4, 167, 0, 4, 3, 62, 29, 153, 0, 7]
abbrev dktX6_judge_5 : List UInt8 := dkwX6_judge_5 ++ dktX6_judge_6
def dkwX6_judge_4 : List UInt8 := [180, 0, 41, 6, 28, 104, 5, 96, 46, 42, 182, 0, 99, 160, 0, 28, 28, 42, 180, 1, 30, 4, 100]
abbrev dktX6_judge_4 : List UInt8 := dkwX6_judge_4 ++ dktX6_judge_5
def dkwX6_judge_3 : List UInt8 := [46, 182, 0, 175, 42, 180, 0, 41, 6, 28, 104, 4, 96, 46, 42, 182, 0, 150, 160, 0, 45, 42]
abbrev dktX6_judge_3 : List UInt8 := dkwX6_judge_3 ++ dktX6_judge_4
def dkwX6_judge_2 : List UInt8 := [182, 0, 162, 153, 0, 7, 4, 167, 0, 4, 3, 62, 29, 153, 0, 76, 42, 42, 180, 0, 41, 6, 28, 104]
abbrev dktX6_judge_2 : List UInt8 := dkwX6_judge_2 ++ dktX6_judge_3
def dkwX6_judge_1 : List UInt8 := [180, 0, 41, 6, 28, 104, 46, 182, 0, 159, 153, 0, 22, 42, 42, 180, 0, 41, 6, 28, 104, 46]
abbrev dktX6_judge_1 : List UInt8 := dkwX6_judge_1 ++ dktX6_judge_2
def dkwX6_judge_0 : List UInt8 := [42, 182, 1, 24, 3, 60, 3, 61, 28, 42, 180, 1, 30, 162, 0, 138, 27, 154, 0, 134, 42, 42]
abbrev dktX6_judge_0 : List UInt8 := dkwX6_judge_0 ++ dktX6_judge_1
theorem dksX6_judge_0 : cX6_judge.data.toList.drop 0 = dktX6_judge_0 := by decide +kernel
theorem dksX6_judge_1 : cX6_judge.data.toList.drop 22 = dktX6_judge_1 := dk_seg dksX6_judge_0 22 rfl rfl
theorem dksX6_judge_2 : cX6_judge.data.toList.drop 44 = dktX6_judge_2 := dk_seg dksX6_judge_1 22 rfl rfl
theorem dksX6_judge_3 : cX6_judge.data.toList.drop 68 = dktX6_judge_3 := dk_seg dksX6_judge_2 24 rfl rfl
theorem dksX6_judge_4 : cX6_judge.data.toList.drop 90 = dktX6_judge_4 := dk_seg dksX6_judge_3 22 rfl rfl
theorem dksX6_judge_5 : cX6_judge.data.toList.drop 113 = dktX6_judge_5 := dk_seg dksX6_judge_4 23 rfl rfl
theorem dksX6_judge_6 : cX6_judge.data.toList.drop 137 = dktX6_judge_6 := dk_seg dksX6_judge_5 24 rfl rfl
theorem dX6_judge_0 : decode cX6_judge 0 = .ok (.aload_n 0, 1) := dk_42 (dk_at dksX6_judge_0 0 rfl rfl)
theorem dX6_judge_1 : decode cX6_judge 1 = .ok (.invokevirtual 280, 3) := dk_182 1 24 (dk_at dksX6_judge_0 1 rfl rfl)
theorem dX6_judge_4 : decode cX6_judge 4 = .ok (.iconst 0, 1) := dk_3 (dk_at dksX6_judge_0 4 rfl rfl)
theorem dX6_judge_5 : decode cX6_judge 5 = .ok (.istore_n 1, 1) := dk_60 (dk_at dksX6_judge_0 5 rfl rfl)
theorem dX6_judge_6 : decode cX6_judge 6 = .ok (.iconst 0, 1) := dk_3 (dk_at dksX6_judge_0 6 rfl rfl)
theorem dX6_judge_7 : decode cX6_judge 7 = .ok (.istore_n 2, 1) := dk_61 (dk_at dksX6_judge_0 7 rfl rfl)
theorem dX6_judge_8 : decode cX6_judge 8 = .ok (.iload_n 2, 1) := dk_28 (dk_at dksX6_judge_0 8 rfl rfl)
theorem dX6_judge_9 : decode cX6_judge 9 = .ok (.aload_n 0, 1) := dk_42 (dk_at dksX6_judge_0 9 rfl rfl)
theorem dX6_judge_10 : decode cX6_judge 10 = .ok (.getfield 286, 3) := dk_180 1 30 (dk_at dksX6_judge_0 10 rfl rfl)
theorem dX6_judge_13 : decode cX6_judge 13 = .ok (.if_icmp .ge 138, 3) := dk_162 0 138 (dk_at dksX6_judge_0 13 rfl rfl)
theorem dX6_judge_16 : decode cX6_judge 16 = .ok (.iload_n 1, 1) := dk_27 (dk_at dksX6_judge_0 16 rfl rfl)
theorem dX6_judge_17 : decode cX6_judge 17 = .ok (.ifCond .ne 134, 3) := dk_154 0 134 (dk_at dksX6_judge_0 17 rfl rfl)
theorem dX6_judge_20 : decode cX6_judge 20 = .ok (.aload_n 0, 1) := dk_42 (dk_at dksX6_judge_0 20 rfl rfl)
theorem dX6_judge_21 : decode cX6_judge 21 = .ok (.aload_n 0, 1) := dk_42 (dk_at dksX6_judge_0 21 rfl rfl)
theorem dX6_judge_22 : decode cX6_judge 22 = .ok (.getfield 41, 3) := dk_180 0 41 (dk_at dksX6_judge_1 0 rfl rfl)
theorem dX6_judge_25 : decode cX6_judge 25 = .ok (.iconst 3, 1) := dk_6 (dk_at dksX6_judge_1 3 rfl rfl)
theorem dX6_judge_26 : decode cX6_judge 26 = .ok (.iload_n 2, 1) := dk_28 (dk_at dksX6_judge_1 4 rfl rfl)
theorem dX6_judge_27 : decode cX6_judge 27 = .ok (.imul, 1) := dk_104 (dk_at dksX6_judge_1 5 rfl rfl)
theorem dX6_judge_28 : decode cX6_judge 28 = .ok (.iaload, 1) := dk_46 (dk_at dksX6_judge_1 6 rfl rfl)
theorem dX6_judge_29 : decode cX6_judge 29 = .ok (.invokevirtual 159, 3) := dk_182 0 159 (dk_at dksX6_judge_1 7 rfl rfl)
theorem dX6_judge_32 : decode cX6_judge 32 = .ok (.ifCond .eq 22, 3) := dk_153 0 22 (dk_at dksX6_judge_1 10 rfl rfl)
theorem dX6_judge_35 : decode cX6_judge 35 = .ok (.aload_n 0, 1) := dk_42 (dk_at dksX6_judge_1 13 rfl rfl)
theorem dX6_judge_36 : decode cX6_judge 36 = .ok (.aload_n 0, 1) := dk_42 (dk_at dksX6_judge_1 14 rfl rfl)
theorem dX6_judge_37 : decode cX6_judge 37 = .ok (.getfield 41, 3) := dk_180 0 41 (dk_at dksX6_judge_1 15 rfl rfl)
theorem dX6_judge_40 : decode cX6_judge 40 = .ok (.iconst 3, 1) := dk_6 (dk_at dksX6_judge_1 18 rfl rfl)
theorem dX6_judge_41 : decode cX6_judge 41 = .ok (.iload_n 2, 1) := dk_28 (dk_at dksX6_judge_1 19 rfl rfl)
theorem dX6_judge_42 : decode cX6_judge 42 = .ok (.imul, 1) := dk_104 (dk_at dksX6_judge_1 20 rfl rfl)
theorem dX6_judge_43 : decode cX6_judge 43 = .ok (.iaload, 1) := dk_46 (dk_at dksX6_judge_1 21 rfl rfl)
theorem dX6_judge_44 : decode cX6_judge 44 = .ok (.invokevirtual 162, 3) := dk_182 0 162 (dk_at dksX6_judge_2 0 rfl rfl)
theorem dX6_judge_47 : decode cX6_judge 47 = .ok (.ifCond .eq 7, 3) := dk_153 0 7 (dk_at dksX6_judge_2 3 rfl rfl)
theorem dX6_judge_50 : decode cX6_judge 50 = .ok (.iconst 1, 1) := dk_4 (dk_at dksX6_judge_2 6 rfl rfl)
theorem dX6_judge_51 : decode cX6_judge 51 = .ok (.goto 4, 3) := dk_167 0 4 (dk_at dksX6_judge_2 7 rfl rfl)
theorem dX6_judge_54 : decode cX6_judge 54 = .ok (.iconst 0, 1) := dk_3 (dk_at dksX6_judge_2 10 rfl rfl)
theorem dX6_judge_55 : decode cX6_judge 55 = .ok (.istore_n 3, 1) := dk_62 (dk_at dksX6_judge_2 11 rfl rfl)
theorem dX6_judge_56 : decode cX6_judge 56 = .ok (.iload_n 3, 1) := dk_29 (dk_at dksX6_judge_2 12 rfl rfl)
theorem dX6_judge_57 : decode cX6_judge 57 = .ok (.ifCond .eq 76, 3) := dk_153 0 76 (dk_at dksX6_judge_2 13 rfl rfl)
theorem dX6_judge_60 : decode cX6_judge 60 = .ok (.aload_n 0, 1) := dk_42 (dk_at dksX6_judge_2 16 rfl rfl)
theorem dX6_judge_61 : decode cX6_judge 61 = .ok (.aload_n 0, 1) := dk_42 (dk_at dksX6_judge_2 17 rfl rfl)
theorem dX6_judge_62 : decode cX6_judge 62 = .ok (.getfield 41, 3) := dk_180 0 41 (dk_at dksX6_judge_2 18 rfl rfl)
theorem dX6_judge_65 : decode cX6_judge 65 = .ok (.iconst 3, 1) := dk_6 (dk_at dksX6_judge_2 21 rfl rfl)
theorem dX6_judge_66 : decode cX6_judge 66 = .ok (.iload_n 2, 1) := dk_28 (dk_at dksX6_judge_2 22 rfl rfl)
theorem dX6_judge_67 : decode cX6_judge 67 = .ok (.imul, 1) := dk_104 (dk_at dksX6_judge_2 23 rfl rfl)
theorem dX6_judge_68 : decode cX6_judge 68 = .ok (.iaload, 1) := dk_46 (dk_at dksX6_judge_3 0 rfl rfl)
theorem dX6_judge_69 : decode cX6_judge 69 = .ok (.invokevirtual 175, 3) := dk_182 0 175 (dk_at dksX6_judge_3 1 rfl rfl)
theorem dX6_judge_72 : decode cX6_judge 72 = .ok (.aload_n 0, 1) := dk_42 (dk_at dksX6_judge_3 4 rfl rfl)
theorem dX6_judge_73 : decode cX6_judge 73 = .ok (.getfield 41, 3) := dk_180 0 41 (dk_at dksX6_judge_3 5 rfl rfl)
theorem dX6_judge_76 : decode cX6_judge 76 = .ok (.iconst 3, 1) := dk_6 (dk_at dksX6_judge_3 8 rfl rfl)
theorem dX6_judge_77 : decode cX6_judge 77 = .ok (.iload_n 2, 1) := dk_28 (dk_at dksX6_judge_3 9 rfl rfl)
theorem dX6_judge_78 : decode cX6_judge 78 = .ok (.imul, 1) := dk_104 (dk_at dksX6_judge_3 10 rfl rfl)
theorem dX6_judge_79 : decode cX6_judge 79 = .ok (.iconst 1, 1) := dk_4 (dk_at dksX6_judge_3 11 rfl rfl)
theorem dX6_judge_80 : decode cX6_judge 80 = .ok (.iadd, 1) := dk_96 (dk_at dksX6_judge_3 12 rfl rfl)
theorem dX6_judge_81 : decode cX6_judge 81 = .ok (.iaload, 1) := dk_46 (dk_at dksX6_judge_3 13 rfl rfl)
theorem dX6_judge_82 : decode cX6_judge 82 = .ok (.aload_n 0, 1) := dk_42 (dk_at dksX6_judge_3 14 rfl rfl)
theorem dX6_judge_83 : decode cX6_judge 83 = .ok (.invokevirtual 150, 3) := dk_182 0 150 (dk_at dksX6_judge_3 15 rfl rfl)
theorem dX6_judge_86 : decode cX6_judge 86 = .ok (.if_icmp .ne 45, 3) := dk_160 0 45 (dk_at dksX6_judge_3 18 rfl rfl)
theorem dX6_judge_89 : decode cX6_judge 89 = .ok (.aload_n 0, 1) := dk_42 (dk_at dksX6_judge_3 21 rfl rfl)
theorem dX6_judge_90 : decode cX6_judge 90 = .ok (.getfield 41, 3) := dk_180 0 41 (dk_at dksX6_judge_4 0 rfl rfl)
theorem dX6_judge_93 : decode cX6_judge 93 = .ok (.iconst 3, 1) := dk_6 (dk_at dksX6_judge_4 3 rfl rfl)
theorem dX6_judge_94 : decode cX6_judge 94 = .ok (.iload_n 2, 1) := dk_28 (dk_at dksX6_judge_4 4 rfl rfl)
theorem dX6_judge_95 : decode cX6_judge 95 = .ok (.imul, 1) := dk_104 (dk_at dksX6_judge_4 5 rfl rfl)
theorem dX6_judge_96 : decode cX6_judge 96 = .ok (.iconst 2, 1) := dk_5 (dk_at dksX6_judge_4 6 rfl rfl)
theorem dX6_judge_97 : decode cX6_judge 97 = .ok (.iadd, 1) := dk_96 (dk_at dksX6_judge_4 7 rfl rfl)
theorem dX6_judge_98 : decode cX6_judge 98 = .ok (.iaload, 1) := dk_46 (dk_at dksX6_judge_4 8 rfl rfl)
theorem dX6_judge_99 : decode cX6_judge 99 = .ok (.aload_n 0, 1) := dk_42 (dk_at dksX6_judge_4 9 rfl rfl)
theorem dX6_judge_100 : decode cX6_judge 100 = .ok (.invokevirtual 99, 3) := dk_182 0 99 (dk_at dksX6_judge_4 10 rfl rfl)
theorem dX6_judge_103 : decode cX6_judge 103 = .ok (.if_icmp .ne 28, 3) := dk_160 0 28 (dk_at dksX6_judge_4 13 rfl rfl)
theorem dX6_judge_106 : decode cX6_judge 106 = .ok (.iload_n 2, 1) := dk_28 (dk_at dksX6_judge_4 16 rfl rfl)
theorem dX6_judge_107 : decode cX6_judge 107 = .ok (.aload_n 0, 1) := dk_42 (dk_at dksX6_judge_4 17 rfl rfl)
theorem dX6_judge_108 : decode cX6_judge 108 = .ok (.getfield 286, 3) := dk_180 1 30 (dk_at dksX6_judge_4 18 rfl rfl)
theorem dX6_judge_111 : decode cX6_judge 111 = .ok (.iconst 1, 1) := dk_4 (dk_at dksX6_judge_4 21 rfl rfl)
theorem dX6_judge_112 : decode cX6_judge 112 = .ok (.isub, 1) := dk_100 (dk_at dksX6_judge_4 22 rfl rfl)
theorem dX6_judge_113 : decode cX6_judge 113 = .ok (.if_icmp .lt 14, 3) := dk_161 0 14 (dk_at dksX6_judge_5 0 rfl rfl)
theorem dX6_judge_116 : decode cX6_judge 116 = .ok (.aload_n 0, 1) := dk_42 (dk_at dksX6_judge_5 3 rfl rfl)
theorem dX6_judge_117 : decode cX6_judge 117 = .ok (.invokevirtual 99, 3) := dk_182 0 99 (dk_at dksX6_judge_5 4 rfl rfl)
theorem dX6_judge_120 : decode cX6_judge 120 = .ok (.aload_n 0, 1) := dk_42 (dk_at dksX6_judge_5 7 rfl rfl)
theorem dX6_judge_121 : decode cX6_judge 121 = .ok (.invokevirtual 204, 3) := dk_182 0 204 (dk_at dksX6_judge_5 8 rfl rfl)
theorem dX6_judge_124 : decode cX6_judge 124 = .ok (.if_icmp .ne 7, 3) := dk_160 0 7 (dk_at dksX6_judge_5 11 rfl rfl)
theorem dX6_judge_127 : decode cX6_judge 127 = .ok (.iconst 1, 1) := dk_4 (dk_at dksX6_judge_5 14 rfl rfl)
theorem dX6_judge_128 : decode cX6_judge 128 = .ok (.goto 4, 3) := dk_167 0 4 (dk_at dksX6_judge_5 15 rfl rfl)
theorem dX6_judge_131 : decode cX6_judge 131 = .ok (.iconst 0, 1) := dk_3 (dk_at dksX6_judge_5 18 rfl rfl)
theorem dX6_judge_132 : decode cX6_judge 132 = .ok (.istore_n 3, 1) := dk_62 (dk_at dksX6_judge_5 19 rfl rfl)
theorem dX6_judge_133 : decode cX6_judge 133 = .ok (.iload_n 3, 1) := dk_29 (dk_at dksX6_judge_5 20 rfl rfl)
theorem dX6_judge_134 : decode cX6_judge 134 = .ok (.ifCond .eq 7, 3) := dk_153 0 7 (dk_at dksX6_judge_5 21 rfl rfl)
theorem dX6_judge_137 : decode cX6_judge 137 = .ok (.iconst 0, 1) := dk_3 (dk_at dksX6_judge_6 0 rfl rfl)
theorem dX6_judge_138 : decode cX6_judge 138 = .ok (.goto 6, 3) := dk_167 0 6 (dk_at dksX6_judge_6 1 rfl rfl)
theorem dX6_judge_141 : decode cX6_judge 141 = .ok (.iload_n 2, 1) := dk_28 (dk_at dksX6_judge_6 4 rfl rfl)
theorem dX6_judge_142 : decode cX6_judge 142 = .ok (.iconst 1, 1) := dk_4 (dk_at dksX6_judge_6 5 rfl rfl)
theorem dX6_judge_143 : decode cX6_judge 143 = .ok (.iadd, 1) := dk_96 (dk_at dksX6_judge_6 6 rfl rfl)
theorem dX6_judge_144 : decode cX6_judge 144 = .ok (.istore_n 1, 1) := dk_60 (dk_at dksX6_judge_6 7 rfl rfl)
theorem dX6_judge_145 : decode cX6_judge 145 = .ok (.iinc 2 1, 3) := dk_132 2 1 (dk_at dksX6_judge_6 8 rfl rfl)
theorem dX6_judge_148 : decode cX6_judge 148 = .ok (.goto (-140), 3) := dk_167 255 116 (dk_at dksX6_judge_6 11 rfl rfl)
theorem dX6_judge_151 : decode cX6_judge 151 = .ok (.aload_n 0, 1) := dk_42 (dk_at dksX6_judge_6 14 rfl rfl)
theorem dX6_judge_152 : decode cX6_judge 152 = .ok (.invokevirtual 283, 3) := dk_182 1 27 (dk_at dksX6_judge_6 15 rfl rfl)
theorem dX6_judge_155 : decode cX6_judge 155 = .ok (.iload_n 1, 1) := dk_27 (dk_at dksX6_judge_6 18 rfl rfl)
theorem dX6_judge_156 : decode cX6_judge 156 = .ok (.ireturn, 1) := dk_172 (dk_at dksX6_judge_6 19 rfl rfl)
abbrev cX6_feed : ByteArray := prog_26_method_92_code
def yX6_feed : MethodName := ⟨RX6, "feed", "(JI)I"⟩
def dkwX6_feed_3 : List UInt8 := [132, 4, 1, 167, 255, 216, 42, 180, 1, 38, 172]
abbrev dktX6_feed_3 : List UInt8 := dkwX6_feed_3 ++ []
def dkwX6_feed_2 : List UInt8 := [16, 8, 21, 4, 104, 123, 20, 1, 41, 127, 136, 79, 42, 89, 180, 1, 38, 4, 96, 181, 1, 38]
abbrev dktX6_feed_2 : List UInt8 := dkwX6_feed_2 ++ dktX6_feed_3
def dkwX6_feed_1 : List UInt8 := [164, 0, 6, 16, 254, 172, 3, 54, 4, 21, 4, 29, 162, 0, 40, 42, 180, 0, 44, 42, 180, 1, 38, 31]
abbrev dktX6_feed_1 : List UInt8 := dkwX6_feed_1 ++ dktX6_feed_2
def dkwX6_feed_0 : List UInt8 := [29, 133, 10, 20, 1, 36, 184, 0, 68, 154, 0, 5, 2, 172, 42, 180, 1, 38, 29, 96, 17, 0, 200]
abbrev dktX6_feed_0 : List UInt8 := dkwX6_feed_0 ++ dktX6_feed_1
theorem dksX6_feed_0 : cX6_feed.data.toList.drop 0 = dktX6_feed_0 := by decide +kernel
theorem dksX6_feed_1 : cX6_feed.data.toList.drop 23 = dktX6_feed_1 := dk_seg dksX6_feed_0 23 rfl rfl
theorem dksX6_feed_2 : cX6_feed.data.toList.drop 47 = dktX6_feed_2 := dk_seg dksX6_feed_1 24 rfl rfl
theorem dksX6_feed_3 : cX6_feed.data.toList.drop 69 = dktX6_feed_3 := dk_seg dksX6_feed_2 22 rfl rfl
theorem dX6_feed_0 : decode cX6_feed 0 = .ok (.iload_n 3, 1) := dk_29 (dk_at dksX6_feed_0 0 rfl rfl)
theorem dX6_feed_1 : decode cX6_feed 1 = .ok (.i2l, 1) := dk_133 (dk_at dksX6_feed_0 1 rfl rfl)
theorem dX6_feed_2 : decode cX6_feed 2 = .ok (.lconst 1, 1) := dk_10 (dk_at dksX6_feed_0 2 rfl rfl)
theorem dX6_feed_3 : decode cX6_feed 3 = .ok (.ldc2_w 292, 3) := dk_20 1 36 (dk_at dksX6_feed_0 3 rfl rfl)
theorem dX6_feed_6 : decode cX6_feed 6 = .ok (.invokestatic 68, 3) := dk_184 0 68 (dk_at dksX6_feed_0 6 rfl rfl)
theorem dX6_feed_9 : decode cX6_feed 9 = .ok (.ifCond .ne 5, 3) := dk_154 0 5 (dk_at dksX6_feed_0 9 rfl rfl)
theorem dX6_feed_12 : decode cX6_feed 12 = .ok (.iconst (-1), 1) := dk_2 (dk_at dksX6_feed_0 12 rfl rfl)
theorem dX6_feed_13 : decode cX6_feed 13 = .ok (.ireturn, 1) := dk_172 (dk_at dksX6_feed_0 13 rfl rfl)
theorem dX6_feed_14 : decode cX6_feed 14 = .ok (.aload_n 0, 1) := dk_42 (dk_at dksX6_feed_0 14 rfl rfl)
theorem dX6_feed_15 : decode cX6_feed 15 = .ok (.getfield 294, 3) := dk_180 1 38 (dk_at dksX6_feed_0 15 rfl rfl)
theorem dX6_feed_18 : decode cX6_feed 18 = .ok (.iload_n 3, 1) := dk_29 (dk_at dksX6_feed_0 18 rfl rfl)
theorem dX6_feed_19 : decode cX6_feed 19 = .ok (.iadd, 1) := dk_96 (dk_at dksX6_feed_0 19 rfl rfl)
theorem dX6_feed_20 : decode cX6_feed 20 = .ok (.sipush 200, 3) := dk_17 0 200 (dk_at dksX6_feed_0 20 rfl rfl)
theorem dX6_feed_23 : decode cX6_feed 23 = .ok (.if_icmp .le 6, 3) := dk_164 0 6 (dk_at dksX6_feed_1 0 rfl rfl)
theorem dX6_feed_26 : decode cX6_feed 26 = .ok (.bipush (-2), 2) := dk_16 254 (dk_at dksX6_feed_1 3 rfl rfl)
theorem dX6_feed_28 : decode cX6_feed 28 = .ok (.ireturn, 1) := dk_172 (dk_at dksX6_feed_1 5 rfl rfl)
theorem dX6_feed_29 : decode cX6_feed 29 = .ok (.iconst 0, 1) := dk_3 (dk_at dksX6_feed_1 6 rfl rfl)
theorem dX6_feed_30 : decode cX6_feed 30 = .ok (.istore 4, 2) := dk_54 4 (dk_at dksX6_feed_1 7 rfl rfl)
theorem dX6_feed_32 : decode cX6_feed 32 = .ok (.iload 4, 2) := dk_21 4 (dk_at dksX6_feed_1 9 rfl rfl)
theorem dX6_feed_34 : decode cX6_feed 34 = .ok (.iload_n 3, 1) := dk_29 (dk_at dksX6_feed_1 11 rfl rfl)
theorem dX6_feed_35 : decode cX6_feed 35 = .ok (.if_icmp .ge 40, 3) := dk_162 0 40 (dk_at dksX6_feed_1 12 rfl rfl)
theorem dX6_feed_38 : decode cX6_feed 38 = .ok (.aload_n 0, 1) := dk_42 (dk_at dksX6_feed_1 15 rfl rfl)
theorem dX6_feed_39 : decode cX6_feed 39 = .ok (.getfield 44, 3) := dk_180 0 44 (dk_at dksX6_feed_1 16 rfl rfl)
theorem dX6_feed_42 : decode cX6_feed 42 = .ok (.aload_n 0, 1) := dk_42 (dk_at dksX6_feed_1 19 rfl rfl)
theorem dX6_feed_43 : decode cX6_feed 43 = .ok (.getfield 294, 3) := dk_180 1 38 (dk_at dksX6_feed_1 20 rfl rfl)
theorem dX6_feed_46 : decode cX6_feed 46 = .ok (.lload_n 1, 1) := dk_31 (dk_at dksX6_feed_1 23 rfl rfl)
theorem dX6_feed_47 : decode cX6_feed 47 = .ok (.bipush 8, 2) := dk_16 8 (dk_at dksX6_feed_2 0 rfl rfl)
theorem dX6_feed_49 : decode cX6_feed 49 = .ok (.iload 4, 2) := dk_21 4 (dk_at dksX6_feed_2 2 rfl rfl)
theorem dX6_feed_51 : decode cX6_feed 51 = .ok (.imul, 1) := dk_104 (dk_at dksX6_feed_2 4 rfl rfl)
theorem dX6_feed_52 : decode cX6_feed 52 = .ok (.lshr, 1) := dk_123 (dk_at dksX6_feed_2 5 rfl rfl)
theorem dX6_feed_53 : decode cX6_feed 53 = .ok (.ldc2_w 297, 3) := dk_20 1 41 (dk_at dksX6_feed_2 6 rfl rfl)
theorem dX6_feed_56 : decode cX6_feed 56 = .ok (.land, 1) := dk_127 (dk_at dksX6_feed_2 9 rfl rfl)
theorem dX6_feed_57 : decode cX6_feed 57 = .ok (.l2i, 1) := dk_136 (dk_at dksX6_feed_2 10 rfl rfl)
theorem dX6_feed_58 : decode cX6_feed 58 = .ok (.iastore, 1) := dk_79 (dk_at dksX6_feed_2 11 rfl rfl)
theorem dX6_feed_59 : decode cX6_feed 59 = .ok (.aload_n 0, 1) := dk_42 (dk_at dksX6_feed_2 12 rfl rfl)
theorem dX6_feed_60 : decode cX6_feed 60 = .ok (.dup, 1) := dk_89 (dk_at dksX6_feed_2 13 rfl rfl)
theorem dX6_feed_61 : decode cX6_feed 61 = .ok (.getfield 294, 3) := dk_180 1 38 (dk_at dksX6_feed_2 14 rfl rfl)
theorem dX6_feed_64 : decode cX6_feed 64 = .ok (.iconst 1, 1) := dk_4 (dk_at dksX6_feed_2 17 rfl rfl)
theorem dX6_feed_65 : decode cX6_feed 65 = .ok (.iadd, 1) := dk_96 (dk_at dksX6_feed_2 18 rfl rfl)
theorem dX6_feed_66 : decode cX6_feed 66 = .ok (.putfield 294, 3) := dk_181 1 38 (dk_at dksX6_feed_2 19 rfl rfl)
theorem dX6_feed_69 : decode cX6_feed 69 = .ok (.iinc 4 1, 3) := dk_132 4 1 (dk_at dksX6_feed_3 0 rfl rfl)
theorem dX6_feed_72 : decode cX6_feed 72 = .ok (.goto (-40), 3) := dk_167 255 216 (dk_at dksX6_feed_3 3 rfl rfl)
theorem dX6_feed_75 : decode cX6_feed 75 = .ok (.aload_n 0, 1) := dk_42 (dk_at dksX6_feed_3 6 rfl rfl)
theorem dX6_feed_76 : decode cX6_feed 76 = .ok (.getfield 294, 3) := dk_180 1 38 (dk_at dksX6_feed_3 7 rfl rfl)
theorem dX6_feed_79 : decode cX6_feed 79 = .ok (.ireturn, 1) := dk_172 (dk_at dksX6_feed_3 10 rfl rfl)
abbrev cX6_rules : ByteArray := prog_26_method_109_code
def yX6_rules : MethodName := ⟨RX6, "rules", "()I"⟩
def dkwX6_rules_3 : List UInt8 := [153, 0, 15, 42, 182, 1, 27, 16, 156, 42, 180, 1, 54, 100, 172, 42, 180, 0, 7, 4, 46, 172]
abbrev dktX6_rules_3 : List UInt8 := dkwX6_rules_3 ++ []
def dkwX6_rules_2 : List UInt8 := [180, 1, 38, 162, 0, 10, 42, 182, 1, 157, 167, 255, 234, 42, 3, 181, 1, 38, 42, 180, 1, 66]
abbrev dktX6_rules_2 : List UInt8 := dkwX6_rules_2 ++ dktX6_rules_3
def dkwX6_rules_1 : List UInt8 := [181, 1, 51, 42, 3, 181, 1, 66, 42, 182, 1, 70, 42, 180, 1, 66, 154, 0, 21, 42, 180, 1, 54, 42]
abbrev dktX6_rules_1 : List UInt8 := dkwX6_rules_1 ++ dktX6_rules_2
def dkwX6_rules_0 : List UInt8 := [42, 182, 1, 24, 42, 180, 0, 7, 4, 3, 79, 42, 3, 181, 1, 110, 42, 3, 181, 1, 127, 42, 3]
abbrev dktX6_rules_0 : List UInt8 := dkwX6_rules_0 ++ dktX6_rules_1
theorem dksX6_rules_0 : cX6_rules.data.toList.drop 0 = dktX6_rules_0 := by decide +kernel
theorem dksX6_rules_1 : cX6_rules.data.toList.drop 23 = dktX6_rules_1 := dk_seg dksX6_rules_0 23 rfl rfl
theorem dksX6_rules_2 : cX6_rules.data.toList.drop 47 = dktX6_rules_2 := dk_seg dksX6_rules_1 24 rfl rfl
theorem dksX6_rules_3 : cX6_rules.data.toList.drop 69 = dktX6_rules_3 := dk_seg dksX6_rules_2 22 rfl rfl
theorem dX6_rules_0 : decode cX6_rules 0 = .ok (.aload_n 0, 1) := dk_42 (dk_at dksX6_rules_0 0 rfl rfl)
theorem dX6_rules_1 : decode cX6_rules 1 = .ok (.invokevirtual 280, 3) := dk_182 1 24 (dk_at dksX6_rules_0 1 rfl rfl)
theorem dX6_rules_4 : decode cX6_rules 4 = .ok (.aload_n 0, 1) := dk_42 (dk_at dksX6_rules_0 4 rfl rfl)
theorem dX6_rules_5 : decode cX6_rules 5 = .ok (.getfield 7, 3) := dk_180 0 7 (dk_at dksX6_rules_0 5 rfl rfl)
theorem dX6_rules_8 : decode cX6_rules 8 = .ok (.iconst 1, 1) := dk_4 (dk_at dksX6_rules_0 8 rfl rfl)
theorem dX6_rules_9 : decode cX6_rules 9 = .ok (.iconst 0, 1) := dk_3 (dk_at dksX6_rules_0 9 rfl rfl)
theorem dX6_rules_10 : decode cX6_rules 10 = .ok (.iastore, 1) := dk_79 (dk_at dksX6_rules_0 10 rfl rfl)
theorem dX6_rules_11 : decode cX6_rules 11 = .ok (.aload_n 0, 1) := dk_42 (dk_at dksX6_rules_0 11 rfl rfl)
theorem dX6_rules_12 : decode cX6_rules 12 = .ok (.iconst 0, 1) := dk_3 (dk_at dksX6_rules_0 12 rfl rfl)
theorem dX6_rules_13 : decode cX6_rules 13 = .ok (.putfield 366, 3) := dk_181 1 110 (dk_at dksX6_rules_0 13 rfl rfl)
theorem dX6_rules_16 : decode cX6_rules 16 = .ok (.aload_n 0, 1) := dk_42 (dk_at dksX6_rules_0 16 rfl rfl)
theorem dX6_rules_17 : decode cX6_rules 17 = .ok (.iconst 0, 1) := dk_3 (dk_at dksX6_rules_0 17 rfl rfl)
theorem dX6_rules_18 : decode cX6_rules 18 = .ok (.putfield 383, 3) := dk_181 1 127 (dk_at dksX6_rules_0 18 rfl rfl)
theorem dX6_rules_21 : decode cX6_rules 21 = .ok (.aload_n 0, 1) := dk_42 (dk_at dksX6_rules_0 21 rfl rfl)
theorem dX6_rules_22 : decode cX6_rules 22 = .ok (.iconst 0, 1) := dk_3 (dk_at dksX6_rules_0 22 rfl rfl)
theorem dX6_rules_23 : decode cX6_rules 23 = .ok (.putfield 307, 3) := dk_181 1 51 (dk_at dksX6_rules_1 0 rfl rfl)
theorem dX6_rules_26 : decode cX6_rules 26 = .ok (.aload_n 0, 1) := dk_42 (dk_at dksX6_rules_1 3 rfl rfl)
theorem dX6_rules_27 : decode cX6_rules 27 = .ok (.iconst 0, 1) := dk_3 (dk_at dksX6_rules_1 4 rfl rfl)
theorem dX6_rules_28 : decode cX6_rules 28 = .ok (.putfield 322, 3) := dk_181 1 66 (dk_at dksX6_rules_1 5 rfl rfl)
theorem dX6_rules_31 : decode cX6_rules 31 = .ok (.aload_n 0, 1) := dk_42 (dk_at dksX6_rules_1 8 rfl rfl)
theorem dX6_rules_32 : decode cX6_rules 32 = .ok (.invokevirtual 326, 3) := dk_182 1 70 (dk_at dksX6_rules_1 9 rfl rfl)
theorem dX6_rules_35 : decode cX6_rules 35 = .ok (.aload_n 0, 1) := dk_42 (dk_at dksX6_rules_1 12 rfl rfl)
theorem dX6_rules_36 : decode cX6_rules 36 = .ok (.getfield 322, 3) := dk_180 1 66 (dk_at dksX6_rules_1 13 rfl rfl)
theorem dX6_rules_39 : decode cX6_rules 39 = .ok (.ifCond .ne 21, 3) := dk_154 0 21 (dk_at dksX6_rules_1 16 rfl rfl)
theorem dX6_rules_42 : decode cX6_rules 42 = .ok (.aload_n 0, 1) := dk_42 (dk_at dksX6_rules_1 19 rfl rfl)
theorem dX6_rules_43 : decode cX6_rules 43 = .ok (.getfield 310, 3) := dk_180 1 54 (dk_at dksX6_rules_1 20 rfl rfl)
theorem dX6_rules_46 : decode cX6_rules 46 = .ok (.aload_n 0, 1) := dk_42 (dk_at dksX6_rules_1 23 rfl rfl)
theorem dX6_rules_47 : decode cX6_rules 47 = .ok (.getfield 294, 3) := dk_180 1 38 (dk_at dksX6_rules_2 0 rfl rfl)
theorem dX6_rules_50 : decode cX6_rules 50 = .ok (.if_icmp .ge 10, 3) := dk_162 0 10 (dk_at dksX6_rules_2 3 rfl rfl)
theorem dX6_rules_53 : decode cX6_rules 53 = .ok (.aload_n 0, 1) := dk_42 (dk_at dksX6_rules_2 6 rfl rfl)
theorem dX6_rules_54 : decode cX6_rules 54 = .ok (.invokevirtual 413, 3) := dk_182 1 157 (dk_at dksX6_rules_2 7 rfl rfl)
theorem dX6_rules_57 : decode cX6_rules 57 = .ok (.goto (-22), 3) := dk_167 255 234 (dk_at dksX6_rules_2 10 rfl rfl)
theorem dX6_rules_60 : decode cX6_rules 60 = .ok (.aload_n 0, 1) := dk_42 (dk_at dksX6_rules_2 13 rfl rfl)
theorem dX6_rules_61 : decode cX6_rules 61 = .ok (.iconst 0, 1) := dk_3 (dk_at dksX6_rules_2 14 rfl rfl)
theorem dX6_rules_62 : decode cX6_rules 62 = .ok (.putfield 294, 3) := dk_181 1 38 (dk_at dksX6_rules_2 15 rfl rfl)
theorem dX6_rules_65 : decode cX6_rules 65 = .ok (.aload_n 0, 1) := dk_42 (dk_at dksX6_rules_2 18 rfl rfl)
theorem dX6_rules_66 : decode cX6_rules 66 = .ok (.getfield 322, 3) := dk_180 1 66 (dk_at dksX6_rules_2 19 rfl rfl)
theorem dX6_rules_69 : decode cX6_rules 69 = .ok (.ifCond .eq 15, 3) := dk_153 0 15 (dk_at dksX6_rules_3 0 rfl rfl)
theorem dX6_rules_72 : decode cX6_rules 72 = .ok (.aload_n 0, 1) := dk_42 (dk_at dksX6_rules_3 3 rfl rfl)
theorem dX6_rules_73 : decode cX6_rules 73 = .ok (.invokevirtual 283, 3) := dk_182 1 27 (dk_at dksX6_rules_3 4 rfl rfl)
theorem dX6_rules_76 : decode cX6_rules 76 = .ok (.bipush (-100), 2) := dk_16 156 (dk_at dksX6_rules_3 7 rfl rfl)
theorem dX6_rules_78 : decode cX6_rules 78 = .ok (.aload_n 0, 1) := dk_42 (dk_at dksX6_rules_3 9 rfl rfl)
theorem dX6_rules_79 : decode cX6_rules 79 = .ok (.getfield 310, 3) := dk_180 1 54 (dk_at dksX6_rules_3 10 rfl rfl)
theorem dX6_rules_82 : decode cX6_rules 82 = .ok (.isub, 1) := dk_100 (dk_at dksX6_rules_3 13 rfl rfl)
theorem dX6_rules_83 : decode cX6_rules 83 = .ok (.ireturn, 1) := dk_172 (dk_at dksX6_rules_3 14 rfl rfl)
theorem dX6_rules_84 : decode cX6_rules 84 = .ok (.aload_n 0, 1) := dk_42 (dk_at dksX6_rules_3 15 rfl rfl)
theorem dX6_rules_85 : decode cX6_rules 85 = .ok (.getfield 7, 3) := dk_180 0 7 (dk_at dksX6_rules_3 16 rfl rfl)
theorem dX6_rules_88 : decode cX6_rules 88 = .ok (.iconst 1, 1) := dk_4 (dk_at dksX6_rules_3 19 rfl rfl)
theorem dX6_rules_89 : decode cX6_rules 89 = .ok (.iaload, 1) := dk_46 (dk_at dksX6_rules_3 20 rfl rfl)
theorem dX6_rules_90 : decode cX6_rules 90 = .ok (.ireturn, 1) := dk_172 (dk_at dksX6_rules_3 21 rfl rfl)
abbrev cX6_token : ByteArray := prog_26_method_96_code
def yX6_token : MethodName := ⟨RX6, "token", "()V"⟩
def dkwX6_token_5 : List UInt8 := [153, 0, 16, 42, 89, 180, 1, 51, 4, 96, 181, 1, 51, 167, 255, 210, 177]
abbrev dktX6_token_5 : List UInt8 := dkwX6_token_5 ++ []
def dkwX6_token_4 : List UInt8 := [182, 1, 57, 184, 1, 60, 154, 0, 21, 28, 153, 0, 30, 42, 42, 180, 1, 51, 182, 1, 57, 184, 1, 63]
abbrev dktX6_token_4 : List UInt8 := dkwX6_token_4 ++ dktX6_token_5
def dkwX6_token_3 : List UInt8 := [180, 1, 54, 4, 96, 167, 0, 7, 42, 180, 1, 54, 181, 1, 51, 27, 153, 0, 17, 42, 42, 180, 1, 51]
abbrev dktX6_token_3 : List UInt8 := dkwX6_token_3 ++ dktX6_token_4
def dkwX6_token_2 : List UInt8 := [42, 180, 1, 54, 182, 1, 57, 184, 1, 63, 61, 42, 42, 180, 1, 54, 42, 180, 1, 38, 162, 0, 12, 42]
abbrev dktX6_token_2 : List UInt8 := dkwX6_token_2 ++ dktX6_token_3
def dkwX6_token_1 : List UInt8 := [180, 1, 54, 4, 96, 181, 1, 54, 167, 255, 233, 42, 42, 180, 1, 54, 182, 1, 57, 184, 1, 60, 60, 42]
abbrev dktX6_token_1 : List UInt8 := dkwX6_token_1 ++ dktX6_token_2
def dkwX6_token_0 : List UInt8 := [42, 42, 180, 1, 51, 181, 1, 54, 42, 42, 180, 1, 54, 182, 1, 57, 16, 32, 160, 0, 16, 42, 89]
abbrev dktX6_token_0 : List UInt8 := dkwX6_token_0 ++ dktX6_token_1
theorem dksX6_token_0 : cX6_token.data.toList.drop 0 = dktX6_token_0 := by decide +kernel
theorem dksX6_token_1 : cX6_token.data.toList.drop 23 = dktX6_token_1 := dk_seg dksX6_token_0 23 rfl rfl
theorem dksX6_token_2 : cX6_token.data.toList.drop 47 = dktX6_token_2 := dk_seg dksX6_token_1 24 rfl rfl
theorem dksX6_token_3 : cX6_token.data.toList.drop 71 = dktX6_token_3 := dk_seg dksX6_token_2 24 rfl rfl
theorem dksX6_token_4 : cX6_token.data.toList.drop 95 = dktX6_token_4 := dk_seg dksX6_token_3 24 rfl rfl
theorem dksX6_token_5 : cX6_token.data.toList.drop 119 = dktX6_token_5 := dk_seg dksX6_token_4 24 rfl rfl
theorem dX6_token_0 : decode cX6_token 0 = .ok (.aload_n 0, 1) := dk_42 (dk_at dksX6_token_0 0 rfl rfl)
theorem dX6_token_1 : decode cX6_token 1 = .ok (.aload_n 0, 1) := dk_42 (dk_at dksX6_token_0 1 rfl rfl)
theorem dX6_token_2 : decode cX6_token 2 = .ok (.getfield 307, 3) := dk_180 1 51 (dk_at dksX6_token_0 2 rfl rfl)
theorem dX6_token_5 : decode cX6_token 5 = .ok (.putfield 310, 3) := dk_181 1 54 (dk_at dksX6_token_0 5 rfl rfl)
theorem dX6_token_8 : decode cX6_token 8 = .ok (.aload_n 0, 1) := dk_42 (dk_at dksX6_token_0 8 rfl rfl)
theorem dX6_token_9 : decode cX6_token 9 = .ok (.aload_n 0, 1) := dk_42 (dk_at dksX6_token_0 9 rfl rfl)
theorem dX6_token_10 : decode cX6_token 10 = .ok (.getfield 310, 3) := dk_180 1 54 (dk_at dksX6_token_0 10 rfl rfl)
theorem dX6_token_13 : decode cX6_token 13 = .ok (.invokevirtual 313, 3) := dk_182 1 57 (dk_at dksX6_token_0 13 rfl rfl)
theorem dX6_token_16 : decode cX6_token 16 = .ok (.bipush 32, 2) := dk_16 32 (dk_at dksX6_token_0 16 rfl rfl)
theorem dX6_token_18 : decode cX6_token 18 = .ok (.if_icmp .ne 16, 3) := dk_160 0 16 (dk_at dksX6_token_0 18 rfl rfl)
theorem dX6_token_21 : decode cX6_token 21 = .ok (.aload_n 0, 1) := dk_42 (dk_at dksX6_token_0 21 rfl rfl)
theorem dX6_token_22 : decode cX6_token 22 = .ok (.dup, 1) := dk_89 (dk_at dksX6_token_0 22 rfl rfl)
theorem dX6_token_23 : decode cX6_token 23 = .ok (.getfield 310, 3) := dk_180 1 54 (dk_at dksX6_token_1 0 rfl rfl)
theorem dX6_token_26 : decode cX6_token 26 = .ok (.iconst 1, 1) := dk_4 (dk_at dksX6_token_1 3 rfl rfl)
theorem dX6_token_27 : decode cX6_token 27 = .ok (.iadd, 1) := dk_96 (dk_at dksX6_token_1 4 rfl rfl)
theorem dX6_token_28 : decode cX6_token 28 = .ok (.putfield 310, 3) := dk_181 1 54 (dk_at dksX6_token_1 5 rfl rfl)
theorem dX6_token_31 : decode cX6_token 31 = .ok (.goto (-23), 3) := dk_167 255 233 (dk_at dksX6_token_1 8 rfl rfl)
theorem dX6_token_34 : decode cX6_token 34 = .ok (.aload_n 0, 1) := dk_42 (dk_at dksX6_token_1 11 rfl rfl)
theorem dX6_token_35 : decode cX6_token 35 = .ok (.aload_n 0, 1) := dk_42 (dk_at dksX6_token_1 12 rfl rfl)
theorem dX6_token_36 : decode cX6_token 36 = .ok (.getfield 310, 3) := dk_180 1 54 (dk_at dksX6_token_1 13 rfl rfl)
theorem dX6_token_39 : decode cX6_token 39 = .ok (.invokevirtual 313, 3) := dk_182 1 57 (dk_at dksX6_token_1 16 rfl rfl)
theorem dX6_token_42 : decode cX6_token 42 = .ok (.invokestatic 316, 3) := dk_184 1 60 (dk_at dksX6_token_1 19 rfl rfl)
theorem dX6_token_45 : decode cX6_token 45 = .ok (.istore_n 1, 1) := dk_60 (dk_at dksX6_token_1 22 rfl rfl)
theorem dX6_token_46 : decode cX6_token 46 = .ok (.aload_n 0, 1) := dk_42 (dk_at dksX6_token_1 23 rfl rfl)
theorem dX6_token_47 : decode cX6_token 47 = .ok (.aload_n 0, 1) := dk_42 (dk_at dksX6_token_2 0 rfl rfl)
theorem dX6_token_48 : decode cX6_token 48 = .ok (.getfield 310, 3) := dk_180 1 54 (dk_at dksX6_token_2 1 rfl rfl)
theorem dX6_token_51 : decode cX6_token 51 = .ok (.invokevirtual 313, 3) := dk_182 1 57 (dk_at dksX6_token_2 4 rfl rfl)
theorem dX6_token_54 : decode cX6_token 54 = .ok (.invokestatic 319, 3) := dk_184 1 63 (dk_at dksX6_token_2 7 rfl rfl)
theorem dX6_token_57 : decode cX6_token 57 = .ok (.istore_n 2, 1) := dk_61 (dk_at dksX6_token_2 10 rfl rfl)
theorem dX6_token_58 : decode cX6_token 58 = .ok (.aload_n 0, 1) := dk_42 (dk_at dksX6_token_2 11 rfl rfl)
theorem dX6_token_59 : decode cX6_token 59 = .ok (.aload_n 0, 1) := dk_42 (dk_at dksX6_token_2 12 rfl rfl)
theorem dX6_token_60 : decode cX6_token 60 = .ok (.getfield 310, 3) := dk_180 1 54 (dk_at dksX6_token_2 13 rfl rfl)
theorem dX6_token_63 : decode cX6_token 63 = .ok (.aload_n 0, 1) := dk_42 (dk_at dksX6_token_2 16 rfl rfl)
theorem dX6_token_64 : decode cX6_token 64 = .ok (.getfield 294, 3) := dk_180 1 38 (dk_at dksX6_token_2 17 rfl rfl)
theorem dX6_token_67 : decode cX6_token 67 = .ok (.if_icmp .ge 12, 3) := dk_162 0 12 (dk_at dksX6_token_2 20 rfl rfl)
theorem dX6_token_70 : decode cX6_token 70 = .ok (.aload_n 0, 1) := dk_42 (dk_at dksX6_token_2 23 rfl rfl)
theorem dX6_token_71 : decode cX6_token 71 = .ok (.getfield 310, 3) := dk_180 1 54 (dk_at dksX6_token_3 0 rfl rfl)
theorem dX6_token_74 : decode cX6_token 74 = .ok (.iconst 1, 1) := dk_4 (dk_at dksX6_token_3 3 rfl rfl)
theorem dX6_token_75 : decode cX6_token 75 = .ok (.iadd, 1) := dk_96 (dk_at dksX6_token_3 4 rfl rfl)
theorem dX6_token_76 : decode cX6_token 76 = .ok (.goto 7, 3) := dk_167 0 7 (dk_at dksX6_token_3 5 rfl rfl)
theorem dX6_token_79 : decode cX6_token 79 = .ok (.aload_n 0, 1) := dk_42 (dk_at dksX6_token_3 8 rfl rfl)
theorem dX6_token_80 : decode cX6_token 80 = .ok (.getfield 310, 3) := dk_180 1 54 (dk_at dksX6_token_3 9 rfl rfl)
theorem dX6_token_83 : decode cX6_token 83 = .ok (.putfield 307, 3) := dk_181 1 51 (dk_at dksX6_token_3 12 rfl rfl)
theorem dX6_token_86 : decode cX6_token 86 = .ok (.iload_n 1, 1) := dk_27 (dk_at dksX6_token_3 15 rfl rfl)
theorem dX6_token_87 : decode cX6_token 87 = .ok (.ifCond .eq 17, 3) := dk_153 0 17 (dk_at dksX6_token_3 16 rfl rfl)
theorem dX6_token_90 : decode cX6_token 90 = .ok (.aload_n 0, 1) := dk_42 (dk_at dksX6_token_3 19 rfl rfl)
theorem dX6_token_91 : decode cX6_token 91 = .ok (.aload_n 0, 1) := dk_42 (dk_at dksX6_token_3 20 rfl rfl)
theorem dX6_token_92 : decode cX6_token 92 = .ok (.getfield 307, 3) := dk_180 1 51 (dk_at dksX6_token_3 21 rfl rfl)
theorem dX6_token_95 : decode cX6_token 95 = .ok (.invokevirtual 313, 3) := dk_182 1 57 (dk_at dksX6_token_4 0 rfl rfl)
theorem dX6_token_98 : decode cX6_token 98 = .ok (.invokestatic 316, 3) := dk_184 1 60 (dk_at dksX6_token_4 3 rfl rfl)
theorem dX6_token_101 : decode cX6_token 101 = .ok (.ifCond .ne 21, 3) := dk_154 0 21 (dk_at dksX6_token_4 6 rfl rfl)
theorem dX6_token_104 : decode cX6_token 104 = .ok (.iload_n 2, 1) := dk_28 (dk_at dksX6_token_4 9 rfl rfl)
theorem dX6_token_105 : decode cX6_token 105 = .ok (.ifCond .eq 30, 3) := dk_153 0 30 (dk_at dksX6_token_4 10 rfl rfl)
theorem dX6_token_108 : decode cX6_token 108 = .ok (.aload_n 0, 1) := dk_42 (dk_at dksX6_token_4 13 rfl rfl)
theorem dX6_token_109 : decode cX6_token 109 = .ok (.aload_n 0, 1) := dk_42 (dk_at dksX6_token_4 14 rfl rfl)
theorem dX6_token_110 : decode cX6_token 110 = .ok (.getfield 307, 3) := dk_180 1 51 (dk_at dksX6_token_4 15 rfl rfl)
theorem dX6_token_113 : decode cX6_token 113 = .ok (.invokevirtual 313, 3) := dk_182 1 57 (dk_at dksX6_token_4 18 rfl rfl)
theorem dX6_token_116 : decode cX6_token 116 = .ok (.invokestatic 319, 3) := dk_184 1 63 (dk_at dksX6_token_4 21 rfl rfl)
theorem dX6_token_119 : decode cX6_token 119 = .ok (.ifCond .eq 16, 3) := dk_153 0 16 (dk_at dksX6_token_5 0 rfl rfl)
theorem dX6_token_122 : decode cX6_token 122 = .ok (.aload_n 0, 1) := dk_42 (dk_at dksX6_token_5 3 rfl rfl)
theorem dX6_token_123 : decode cX6_token 123 = .ok (.dup, 1) := dk_89 (dk_at dksX6_token_5 4 rfl rfl)
theorem dX6_token_124 : decode cX6_token 124 = .ok (.getfield 307, 3) := dk_180 1 51 (dk_at dksX6_token_5 5 rfl rfl)
theorem dX6_token_127 : decode cX6_token 127 = .ok (.iconst 1, 1) := dk_4 (dk_at dksX6_token_5 8 rfl rfl)
theorem dX6_token_128 : decode cX6_token 128 = .ok (.iadd, 1) := dk_96 (dk_at dksX6_token_5 9 rfl rfl)
theorem dX6_token_129 : decode cX6_token 129 = .ok (.putfield 307, 3) := dk_181 1 51 (dk_at dksX6_token_5 10 rfl rfl)
theorem dX6_token_132 : decode cX6_token 132 = .ok (.goto (-46), 3) := dk_167 255 210 (dk_at dksX6_token_5 13 rfl rfl)
theorem dX6_token_135 : decode cX6_token 135 = .ok (.return_, 1) := dk_177 (dk_at dksX6_token_5 16 rfl rfl)
abbrev cX6_byteAt : ByteArray := prog_26_method_93_code
def yX6_byteAt : MethodName := ⟨RX6, "byteAt", "(I)I"⟩
def dkwX6_byteAt_0 : List UInt8 := [27, 42, 180, 1, 38, 162, 0, 12, 42, 180, 0, 44, 27, 46, 167, 0, 4, 2, 172]
abbrev dktX6_byteAt_0 : List UInt8 := dkwX6_byteAt_0 ++ []
theorem dksX6_byteAt_0 : cX6_byteAt.data.toList.drop 0 = dktX6_byteAt_0 := by decide +kernel
theorem dX6_byteAt_0 : decode cX6_byteAt 0 = .ok (.iload_n 1, 1) := dk_27 (dk_at dksX6_byteAt_0 0 rfl rfl)
theorem dX6_byteAt_1 : decode cX6_byteAt 1 = .ok (.aload_n 0, 1) := dk_42 (dk_at dksX6_byteAt_0 1 rfl rfl)
theorem dX6_byteAt_2 : decode cX6_byteAt 2 = .ok (.getfield 294, 3) := dk_180 1 38 (dk_at dksX6_byteAt_0 2 rfl rfl)
theorem dX6_byteAt_5 : decode cX6_byteAt 5 = .ok (.if_icmp .ge 12, 3) := dk_162 0 12 (dk_at dksX6_byteAt_0 5 rfl rfl)
theorem dX6_byteAt_8 : decode cX6_byteAt 8 = .ok (.aload_n 0, 1) := dk_42 (dk_at dksX6_byteAt_0 8 rfl rfl)
theorem dX6_byteAt_9 : decode cX6_byteAt 9 = .ok (.getfield 44, 3) := dk_180 0 44 (dk_at dksX6_byteAt_0 9 rfl rfl)
theorem dX6_byteAt_12 : decode cX6_byteAt 12 = .ok (.iload_n 1, 1) := dk_27 (dk_at dksX6_byteAt_0 12 rfl rfl)
theorem dX6_byteAt_13 : decode cX6_byteAt 13 = .ok (.iaload, 1) := dk_46 (dk_at dksX6_byteAt_0 13 rfl rfl)
theorem dX6_byteAt_14 : decode cX6_byteAt 14 = .ok (.goto 4, 3) := dk_167 0 4 (dk_at dksX6_byteAt_0 14 rfl rfl)
theorem dX6_byteAt_17 : decode cX6_byteAt 17 = .ok (.iconst (-1), 1) := dk_2 (dk_at dksX6_byteAt_0 17 rfl rfl)
theorem dX6_byteAt_18 : decode cX6_byteAt 18 = .ok (.ireturn, 1) := dk_172 (dk_at dksX6_byteAt_0 18 rfl rfl)
abbrev cX6_isLetter : ByteArray := prog_26_method_94_code
def yX6_isLetter : MethodName := ⟨RX6, "isLetter", "(I)Z"⟩
def dkwX6_isLetter_0 : List UInt8 := [26, 133, 20, 1, 43, 20, 1, 45, 184, 0, 68, 172]
abbrev dktX6_isLetter_0 : List UInt8 := dkwX6_isLetter_0 ++ []
theorem dksX6_isLetter_0 : cX6_isLetter.data.toList.drop 0 = dktX6_isLetter_0 := by decide +kernel
theorem dX6_isLetter_0 : decode cX6_isLetter 0 = .ok (.iload_n 0, 1) := dk_26 (dk_at dksX6_isLetter_0 0 rfl rfl)
theorem dX6_isLetter_1 : decode cX6_isLetter 1 = .ok (.i2l, 1) := dk_133 (dk_at dksX6_isLetter_0 1 rfl rfl)
theorem dX6_isLetter_2 : decode cX6_isLetter 2 = .ok (.ldc2_w 299, 3) := dk_20 1 43 (dk_at dksX6_isLetter_0 2 rfl rfl)
theorem dX6_isLetter_5 : decode cX6_isLetter 5 = .ok (.ldc2_w 301, 3) := dk_20 1 45 (dk_at dksX6_isLetter_0 5 rfl rfl)
theorem dX6_isLetter_8 : decode cX6_isLetter 8 = .ok (.invokestatic 68, 3) := dk_184 0 68 (dk_at dksX6_isLetter_0 8 rfl rfl)
theorem dX6_isLetter_11 : decode cX6_isLetter 11 = .ok (.ireturn, 1) := dk_172 (dk_at dksX6_isLetter_0 11 rfl rfl)
abbrev cX6_isDigit : ByteArray := prog_26_method_95_code
def yX6_isDigit : MethodName := ⟨RX6, "isDigit", "(I)Z"⟩
def dkwX6_isDigit_0 : List UInt8 := [26, 133, 20, 1, 47, 20, 1, 49, 184, 0, 68, 172]
abbrev dktX6_isDigit_0 : List UInt8 := dkwX6_isDigit_0 ++ []
theorem dksX6_isDigit_0 : cX6_isDigit.data.toList.drop 0 = dktX6_isDigit_0 := by decide +kernel
theorem dX6_isDigit_0 : decode cX6_isDigit 0 = .ok (.iload_n 0, 1) := dk_26 (dk_at dksX6_isDigit_0 0 rfl rfl)
theorem dX6_isDigit_1 : decode cX6_isDigit 1 = .ok (.i2l, 1) := dk_133 (dk_at dksX6_isDigit_0 1 rfl rfl)
theorem dX6_isDigit_2 : decode cX6_isDigit 2 = .ok (.ldc2_w 303, 3) := dk_20 1 47 (dk_at dksX6_isDigit_0 2 rfl rfl)
theorem dX6_isDigit_5 : decode cX6_isDigit 5 = .ok (.ldc2_w 305, 3) := dk_20 1 49 (dk_at dksX6_isDigit_0 5 rfl rfl)
theorem dX6_isDigit_8 : decode cX6_isDigit 8 = .ok (.invokestatic 68, 3) := dk_184 0 68 (dk_at dksX6_isDigit_0 8 rfl rfl)
theorem dX6_isDigit_11 : decode cX6_isDigit 11 = .ok (.ireturn, 1) := dk_172 (dk_at dksX6_isDigit_0 11 rfl rfl)
abbrev cX6_rule : ByteArray := prog_26_method_108_code
def yX6_rule : MethodName := ⟨RX6, "rule", "()V"⟩
def dkwX6_rule_10 : List UInt8 := [42, 180, 0, 7, 4, 92, 46, 4, 96, 79, 177]
abbrev dktX6_rule_10 : List UInt8 := dkwX6_rule_10 ++ []
def dkwX6_rule_9 : List UInt8 := [42, 180, 0, 7, 21, 6, 5, 96, 21, 5, 79, 42, 180, 0, 7, 21, 6, 6, 96, 42, 180, 1, 110, 79]
abbrev dktX6_rule_9 : List UInt8 := dkwX6_rule_9 ++ dktX6_rule_10
def dkwX6_rule_8 : List UInt8 := [96, 54, 6, 42, 180, 0, 7, 21, 6, 3, 96, 27, 79, 42, 180, 0, 7, 21, 6, 4, 96, 21, 4, 79]
abbrev dktX6_rule_8 : List UInt8 := dkwX6_rule_8 ++ dktX6_rule_9
def dkwX6_rule_7 : List UInt8 := [167, 0, 4, 3, 182, 1, 80, 42, 180, 1, 66, 154, 0, 71, 16, 106, 7, 42, 180, 0, 7, 4, 46, 104]
abbrev dktX6_rule_7 : List UInt8 := dkwX6_rule_7 ++ dktX6_rule_8
def dkwX6_rule_6 : List UInt8 := [54, 5, 42, 42, 180, 1, 66, 154, 0, 20, 42, 42, 180, 1, 54, 182, 1, 57, 16, 59, 160, 0, 7, 4]
abbrev dktX6_rule_6 : List UInt8 := dkwX6_rule_6 ++ dktX6_rule_7
def dkwX6_rule_5 : List UInt8 := [21, 4, 5, 159, 0, 16, 42, 180, 1, 66, 154, 0, 9, 42, 16, 99, 182, 1, 119, 42, 180, 1, 77]
abbrev dktX6_rule_5 : List UInt8 := dkwX6_rule_5 ++ dktX6_rule_6
def dkwX6_rule_4 : List UInt8 := [21, 4, 155, 0, 7, 4, 167, 0, 4, 3, 182, 1, 80, 42, 3, 181, 1, 77, 21, 4, 155, 0, 22]
abbrev dktX6_rule_4 : List UInt8 := dkwX6_rule_4 ++ dktX6_rule_5
def dkwX6_rule_3 : List UInt8 := [148, 154, 0, 7, 4, 167, 0, 16, 32, 20, 1, 155, 148, 154, 0, 7, 5, 167, 0, 4, 2, 54, 4, 42]
abbrev dktX6_rule_3 : List UInt8 := dkwX6_rule_3 ++ dktX6_rule_4
def dkwX6_rule_2 : List UInt8 := [182, 1, 130, 42, 182, 1, 84, 65, 32, 20, 1, 151, 148, 154, 0, 7, 3, 167, 0, 28, 32, 20, 1, 153]
abbrev dktX6_rule_2 : List UInt8 := dkwX6_rule_2 ++ dktX6_rule_3
def dkwX6_rule_1 : List UInt8 := [167, 0, 4, 3, 182, 1, 80, 42, 182, 1, 84, 20, 1, 149, 148, 154, 0, 12, 42, 4, 182, 1, 80, 42]
abbrev dktX6_rule_1 : List UInt8 := dkwX6_rule_1 ++ dktX6_rule_2
def dkwX6_rule_0 : List UInt8 := [42, 182, 1, 146, 60, 42, 27, 155, 0, 18, 42, 180, 0, 7, 4, 46, 16, 8, 162, 0, 7, 4]
abbrev dktX6_rule_0 : List UInt8 := dkwX6_rule_0 ++ dktX6_rule_1
theorem dksX6_rule_0 : cX6_rule.data.toList.drop 0 = dktX6_rule_0 := by decide +kernel
theorem dksX6_rule_1 : cX6_rule.data.toList.drop 22 = dktX6_rule_1 := dk_seg dksX6_rule_0 22 rfl rfl
theorem dksX6_rule_2 : cX6_rule.data.toList.drop 46 = dktX6_rule_2 := dk_seg dksX6_rule_1 24 rfl rfl
theorem dksX6_rule_3 : cX6_rule.data.toList.drop 70 = dktX6_rule_3 := dk_seg dksX6_rule_2 24 rfl rfl
theorem dksX6_rule_4 : cX6_rule.data.toList.drop 94 = dktX6_rule_4 := dk_seg dksX6_rule_3 24 rfl rfl
theorem dksX6_rule_5 : cX6_rule.data.toList.drop 117 = dktX6_rule_5 := dk_seg dksX6_rule_4 23 rfl rfl
theorem dksX6_rule_6 : cX6_rule.data.toList.drop 140 = dktX6_rule_6 := dk_seg dksX6_rule_5 23 rfl rfl
theorem dksX6_rule_7 : cX6_rule.data.toList.drop 164 = dktX6_rule_7 := dk_seg dksX6_rule_6 24 rfl rfl
theorem dksX6_rule_8 : cX6_rule.data.toList.drop 188 = dktX6_rule_8 := dk_seg dksX6_rule_7 24 rfl rfl
theorem dksX6_rule_9 : cX6_rule.data.toList.drop 212 = dktX6_rule_9 := dk_seg dksX6_rule_8 24 rfl rfl
theorem dksX6_rule_10 : cX6_rule.data.toList.drop 236 = dktX6_rule_10 := dk_seg dksX6_rule_9 24 rfl rfl
theorem dX6_rule_0 : decode cX6_rule 0 = .ok (.aload_n 0, 1) := dk_42 (dk_at dksX6_rule_0 0 rfl rfl)
theorem dX6_rule_1 : decode cX6_rule 1 = .ok (.invokevirtual 402, 3) := dk_182 1 146 (dk_at dksX6_rule_0 1 rfl rfl)
theorem dX6_rule_4 : decode cX6_rule 4 = .ok (.istore_n 1, 1) := dk_60 (dk_at dksX6_rule_0 4 rfl rfl)
theorem dX6_rule_5 : decode cX6_rule 5 = .ok (.aload_n 0, 1) := dk_42 (dk_at dksX6_rule_0 5 rfl rfl)
theorem dX6_rule_6 : decode cX6_rule 6 = .ok (.iload_n 1, 1) := dk_27 (dk_at dksX6_rule_0 6 rfl rfl)
theorem dX6_rule_7 : decode cX6_rule 7 = .ok (.ifCond .lt 18, 3) := dk_155 0 18 (dk_at dksX6_rule_0 7 rfl rfl)
theorem dX6_rule_10 : decode cX6_rule 10 = .ok (.aload_n 0, 1) := dk_42 (dk_at dksX6_rule_0 10 rfl rfl)
theorem dX6_rule_11 : decode cX6_rule 11 = .ok (.getfield 7, 3) := dk_180 0 7 (dk_at dksX6_rule_0 11 rfl rfl)
theorem dX6_rule_14 : decode cX6_rule 14 = .ok (.iconst 1, 1) := dk_4 (dk_at dksX6_rule_0 14 rfl rfl)
theorem dX6_rule_15 : decode cX6_rule 15 = .ok (.iaload, 1) := dk_46 (dk_at dksX6_rule_0 15 rfl rfl)
theorem dX6_rule_16 : decode cX6_rule 16 = .ok (.bipush 8, 2) := dk_16 8 (dk_at dksX6_rule_0 16 rfl rfl)
theorem dX6_rule_18 : decode cX6_rule 18 = .ok (.if_icmp .ge 7, 3) := dk_162 0 7 (dk_at dksX6_rule_0 18 rfl rfl)
theorem dX6_rule_21 : decode cX6_rule 21 = .ok (.iconst 1, 1) := dk_4 (dk_at dksX6_rule_0 21 rfl rfl)
theorem dX6_rule_22 : decode cX6_rule 22 = .ok (.goto 4, 3) := dk_167 0 4 (dk_at dksX6_rule_1 0 rfl rfl)
theorem dX6_rule_25 : decode cX6_rule 25 = .ok (.iconst 0, 1) := dk_3 (dk_at dksX6_rule_1 3 rfl rfl)
theorem dX6_rule_26 : decode cX6_rule 26 = .ok (.invokevirtual 336, 3) := dk_182 1 80 (dk_at dksX6_rule_1 4 rfl rfl)
theorem dX6_rule_29 : decode cX6_rule 29 = .ok (.aload_n 0, 1) := dk_42 (dk_at dksX6_rule_1 7 rfl rfl)
theorem dX6_rule_30 : decode cX6_rule 30 = .ok (.invokevirtual 340, 3) := dk_182 1 84 (dk_at dksX6_rule_1 8 rfl rfl)
theorem dX6_rule_33 : decode cX6_rule 33 = .ok (.ldc2_w 405, 3) := dk_20 1 149 (dk_at dksX6_rule_1 11 rfl rfl)
theorem dX6_rule_36 : decode cX6_rule 36 = .ok (.lcmp, 1) := dk_148 (dk_at dksX6_rule_1 14 rfl rfl)
theorem dX6_rule_37 : decode cX6_rule 37 = .ok (.ifCond .ne 12, 3) := dk_154 0 12 (dk_at dksX6_rule_1 15 rfl rfl)
theorem dX6_rule_40 : decode cX6_rule 40 = .ok (.aload_n 0, 1) := dk_42 (dk_at dksX6_rule_1 18 rfl rfl)
theorem dX6_rule_41 : decode cX6_rule 41 = .ok (.iconst 1, 1) := dk_4 (dk_at dksX6_rule_1 19 rfl rfl)
theorem dX6_rule_42 : decode cX6_rule 42 = .ok (.invokevirtual 336, 3) := dk_182 1 80 (dk_at dksX6_rule_1 20 rfl rfl)
theorem dX6_rule_45 : decode cX6_rule 45 = .ok (.aload_n 0, 1) := dk_42 (dk_at dksX6_rule_1 23 rfl rfl)
theorem dX6_rule_46 : decode cX6_rule 46 = .ok (.invokevirtual 386, 3) := dk_182 1 130 (dk_at dksX6_rule_2 0 rfl rfl)
theorem dX6_rule_49 : decode cX6_rule 49 = .ok (.aload_n 0, 1) := dk_42 (dk_at dksX6_rule_2 3 rfl rfl)
theorem dX6_rule_50 : decode cX6_rule 50 = .ok (.invokevirtual 340, 3) := dk_182 1 84 (dk_at dksX6_rule_2 4 rfl rfl)
theorem dX6_rule_53 : decode cX6_rule 53 = .ok (.lstore_n 2, 1) := dk_65 (dk_at dksX6_rule_2 7 rfl rfl)
theorem dX6_rule_54 : decode cX6_rule 54 = .ok (.lload_n 2, 1) := dk_32 (dk_at dksX6_rule_2 8 rfl rfl)
theorem dX6_rule_55 : decode cX6_rule 55 = .ok (.ldc2_w 407, 3) := dk_20 1 151 (dk_at dksX6_rule_2 9 rfl rfl)
theorem dX6_rule_58 : decode cX6_rule 58 = .ok (.lcmp, 1) := dk_148 (dk_at dksX6_rule_2 12 rfl rfl)
theorem dX6_rule_59 : decode cX6_rule 59 = .ok (.ifCond .ne 7, 3) := dk_154 0 7 (dk_at dksX6_rule_2 13 rfl rfl)
theorem dX6_rule_62 : decode cX6_rule 62 = .ok (.iconst 0, 1) := dk_3 (dk_at dksX6_rule_2 16 rfl rfl)
theorem dX6_rule_63 : decode cX6_rule 63 = .ok (.goto 28, 3) := dk_167 0 28 (dk_at dksX6_rule_2 17 rfl rfl)
theorem dX6_rule_66 : decode cX6_rule 66 = .ok (.lload_n 2, 1) := dk_32 (dk_at dksX6_rule_2 20 rfl rfl)
theorem dX6_rule_67 : decode cX6_rule 67 = .ok (.ldc2_w 409, 3) := dk_20 1 153 (dk_at dksX6_rule_2 21 rfl rfl)
theorem dX6_rule_70 : decode cX6_rule 70 = .ok (.lcmp, 1) := dk_148 (dk_at dksX6_rule_3 0 rfl rfl)
theorem dX6_rule_71 : decode cX6_rule 71 = .ok (.ifCond .ne 7, 3) := dk_154 0 7 (dk_at dksX6_rule_3 1 rfl rfl)
theorem dX6_rule_74 : decode cX6_rule 74 = .ok (.iconst 1, 1) := dk_4 (dk_at dksX6_rule_3 4 rfl rfl)
theorem dX6_rule_75 : decode cX6_rule 75 = .ok (.goto 16, 3) := dk_167 0 16 (dk_at dksX6_rule_3 5 rfl rfl)
theorem dX6_rule_78 : decode cX6_rule 78 = .ok (.lload_n 2, 1) := dk_32 (dk_at dksX6_rule_3 8 rfl rfl)
theorem dX6_rule_79 : decode cX6_rule 79 = .ok (.ldc2_w 411, 3) := dk_20 1 155 (dk_at dksX6_rule_3 9 rfl rfl)
theorem dX6_rule_82 : decode cX6_rule 82 = .ok (.lcmp, 1) := dk_148 (dk_at dksX6_rule_3 12 rfl rfl)
theorem dX6_rule_83 : decode cX6_rule 83 = .ok (.ifCond .ne 7, 3) := dk_154 0 7 (dk_at dksX6_rule_3 13 rfl rfl)
theorem dX6_rule_86 : decode cX6_rule 86 = .ok (.iconst 2, 1) := dk_5 (dk_at dksX6_rule_3 16 rfl rfl)
theorem dX6_rule_87 : decode cX6_rule 87 = .ok (.goto 4, 3) := dk_167 0 4 (dk_at dksX6_rule_3 17 rfl rfl)
theorem dX6_rule_90 : decode cX6_rule 90 = .ok (.iconst (-1), 1) := dk_2 (dk_at dksX6_rule_3 20 rfl rfl)
theorem dX6_rule_91 : decode cX6_rule 91 = .ok (.istore 4, 2) := dk_54 4 (dk_at dksX6_rule_3 21 rfl rfl)
theorem dX6_rule_93 : decode cX6_rule 93 = .ok (.aload_n 0, 1) := dk_42 (dk_at dksX6_rule_3 23 rfl rfl)
theorem dX6_rule_94 : decode cX6_rule 94 = .ok (.iload 4, 2) := dk_21 4 (dk_at dksX6_rule_4 0 rfl rfl)
theorem dX6_rule_96 : decode cX6_rule 96 = .ok (.ifCond .lt 7, 3) := dk_155 0 7 (dk_at dksX6_rule_4 2 rfl rfl)
theorem dX6_rule_99 : decode cX6_rule 99 = .ok (.iconst 1, 1) := dk_4 (dk_at dksX6_rule_4 5 rfl rfl)
theorem dX6_rule_100 : decode cX6_rule 100 = .ok (.goto 4, 3) := dk_167 0 4 (dk_at dksX6_rule_4 6 rfl rfl)
theorem dX6_rule_103 : decode cX6_rule 103 = .ok (.iconst 0, 1) := dk_3 (dk_at dksX6_rule_4 9 rfl rfl)
theorem dX6_rule_104 : decode cX6_rule 104 = .ok (.invokevirtual 336, 3) := dk_182 1 80 (dk_at dksX6_rule_4 10 rfl rfl)
theorem dX6_rule_107 : decode cX6_rule 107 = .ok (.aload_n 0, 1) := dk_42 (dk_at dksX6_rule_4 13 rfl rfl)
theorem dX6_rule_108 : decode cX6_rule 108 = .ok (.iconst 0, 1) := dk_3 (dk_at dksX6_rule_4 14 rfl rfl)
theorem dX6_rule_109 : decode cX6_rule 109 = .ok (.putfield 333, 3) := dk_181 1 77 (dk_at dksX6_rule_4 15 rfl rfl)
theorem dX6_rule_112 : decode cX6_rule 112 = .ok (.iload 4, 2) := dk_21 4 (dk_at dksX6_rule_4 18 rfl rfl)
theorem dX6_rule_114 : decode cX6_rule 114 = .ok (.ifCond .lt 22, 3) := dk_155 0 22 (dk_at dksX6_rule_4 20 rfl rfl)
theorem dX6_rule_117 : decode cX6_rule 117 = .ok (.iload 4, 2) := dk_21 4 (dk_at dksX6_rule_5 0 rfl rfl)
theorem dX6_rule_119 : decode cX6_rule 119 = .ok (.iconst 2, 1) := dk_5 (dk_at dksX6_rule_5 2 rfl rfl)
theorem dX6_rule_120 : decode cX6_rule 120 = .ok (.if_icmp .eq 16, 3) := dk_159 0 16 (dk_at dksX6_rule_5 3 rfl rfl)
theorem dX6_rule_123 : decode cX6_rule 123 = .ok (.aload_n 0, 1) := dk_42 (dk_at dksX6_rule_5 6 rfl rfl)
theorem dX6_rule_124 : decode cX6_rule 124 = .ok (.getfield 322, 3) := dk_180 1 66 (dk_at dksX6_rule_5 7 rfl rfl)
theorem dX6_rule_127 : decode cX6_rule 127 = .ok (.ifCond .ne 9, 3) := dk_154 0 9 (dk_at dksX6_rule_5 10 rfl rfl)
theorem dX6_rule_130 : decode cX6_rule 130 = .ok (.aload_n 0, 1) := dk_42 (dk_at dksX6_rule_5 13 rfl rfl)
theorem dX6_rule_131 : decode cX6_rule 131 = .ok (.bipush 99, 2) := dk_16 99 (dk_at dksX6_rule_5 14 rfl rfl)
theorem dX6_rule_133 : decode cX6_rule 133 = .ok (.invokevirtual 375, 3) := dk_182 1 119 (dk_at dksX6_rule_5 16 rfl rfl)
theorem dX6_rule_136 : decode cX6_rule 136 = .ok (.aload_n 0, 1) := dk_42 (dk_at dksX6_rule_5 19 rfl rfl)
theorem dX6_rule_137 : decode cX6_rule 137 = .ok (.getfield 333, 3) := dk_180 1 77 (dk_at dksX6_rule_5 20 rfl rfl)
theorem dX6_rule_140 : decode cX6_rule 140 = .ok (.istore 5, 2) := dk_54 5 (dk_at dksX6_rule_6 0 rfl rfl)
theorem dX6_rule_142 : decode cX6_rule 142 = .ok (.aload_n 0, 1) := dk_42 (dk_at dksX6_rule_6 2 rfl rfl)
theorem dX6_rule_143 : decode cX6_rule 143 = .ok (.aload_n 0, 1) := dk_42 (dk_at dksX6_rule_6 3 rfl rfl)
theorem dX6_rule_144 : decode cX6_rule 144 = .ok (.getfield 322, 3) := dk_180 1 66 (dk_at dksX6_rule_6 4 rfl rfl)
theorem dX6_rule_147 : decode cX6_rule 147 = .ok (.ifCond .ne 20, 3) := dk_154 0 20 (dk_at dksX6_rule_6 7 rfl rfl)
theorem dX6_rule_150 : decode cX6_rule 150 = .ok (.aload_n 0, 1) := dk_42 (dk_at dksX6_rule_6 10 rfl rfl)
theorem dX6_rule_151 : decode cX6_rule 151 = .ok (.aload_n 0, 1) := dk_42 (dk_at dksX6_rule_6 11 rfl rfl)
theorem dX6_rule_152 : decode cX6_rule 152 = .ok (.getfield 310, 3) := dk_180 1 54 (dk_at dksX6_rule_6 12 rfl rfl)
theorem dX6_rule_155 : decode cX6_rule 155 = .ok (.invokevirtual 313, 3) := dk_182 1 57 (dk_at dksX6_rule_6 15 rfl rfl)
theorem dX6_rule_158 : decode cX6_rule 158 = .ok (.bipush 59, 2) := dk_16 59 (dk_at dksX6_rule_6 18 rfl rfl)
theorem dX6_rule_160 : decode cX6_rule 160 = .ok (.if_icmp .ne 7, 3) := dk_160 0 7 (dk_at dksX6_rule_6 20 rfl rfl)
theorem dX6_rule_163 : decode cX6_rule 163 = .ok (.iconst 1, 1) := dk_4 (dk_at dksX6_rule_6 23 rfl rfl)
theorem dX6_rule_164 : decode cX6_rule 164 = .ok (.goto 4, 3) := dk_167 0 4 (dk_at dksX6_rule_7 0 rfl rfl)
theorem dX6_rule_167 : decode cX6_rule 167 = .ok (.iconst 0, 1) := dk_3 (dk_at dksX6_rule_7 3 rfl rfl)
theorem dX6_rule_168 : decode cX6_rule 168 = .ok (.invokevirtual 336, 3) := dk_182 1 80 (dk_at dksX6_rule_7 4 rfl rfl)
theorem dX6_rule_171 : decode cX6_rule 171 = .ok (.aload_n 0, 1) := dk_42 (dk_at dksX6_rule_7 7 rfl rfl)
theorem dX6_rule_172 : decode cX6_rule 172 = .ok (.getfield 322, 3) := dk_180 1 66 (dk_at dksX6_rule_7 8 rfl rfl)
theorem dX6_rule_175 : decode cX6_rule 175 = .ok (.ifCond .ne 71, 3) := dk_154 0 71 (dk_at dksX6_rule_7 11 rfl rfl)
theorem dX6_rule_178 : decode cX6_rule 178 = .ok (.bipush 106, 2) := dk_16 106 (dk_at dksX6_rule_7 14 rfl rfl)
theorem dX6_rule_180 : decode cX6_rule 180 = .ok (.iconst 4, 1) := dk_7 (dk_at dksX6_rule_7 16 rfl rfl)
theorem dX6_rule_181 : decode cX6_rule 181 = .ok (.aload_n 0, 1) := dk_42 (dk_at dksX6_rule_7 17 rfl rfl)
theorem dX6_rule_182 : decode cX6_rule 182 = .ok (.getfield 7, 3) := dk_180 0 7 (dk_at dksX6_rule_7 18 rfl rfl)
theorem dX6_rule_185 : decode cX6_rule 185 = .ok (.iconst 1, 1) := dk_4 (dk_at dksX6_rule_7 21 rfl rfl)
theorem dX6_rule_186 : decode cX6_rule 186 = .ok (.iaload, 1) := dk_46 (dk_at dksX6_rule_7 22 rfl rfl)
theorem dX6_rule_187 : decode cX6_rule 187 = .ok (.imul, 1) := dk_104 (dk_at dksX6_rule_7 23 rfl rfl)
theorem dX6_rule_188 : decode cX6_rule 188 = .ok (.iadd, 1) := dk_96 (dk_at dksX6_rule_8 0 rfl rfl)
theorem dX6_rule_189 : decode cX6_rule 189 = .ok (.istore 6, 2) := dk_54 6 (dk_at dksX6_rule_8 1 rfl rfl)
theorem dX6_rule_191 : decode cX6_rule 191 = .ok (.aload_n 0, 1) := dk_42 (dk_at dksX6_rule_8 3 rfl rfl)
theorem dX6_rule_192 : decode cX6_rule 192 = .ok (.getfield 7, 3) := dk_180 0 7 (dk_at dksX6_rule_8 4 rfl rfl)
theorem dX6_rule_195 : decode cX6_rule 195 = .ok (.iload 6, 2) := dk_21 6 (dk_at dksX6_rule_8 7 rfl rfl)
theorem dX6_rule_197 : decode cX6_rule 197 = .ok (.iconst 0, 1) := dk_3 (dk_at dksX6_rule_8 9 rfl rfl)
theorem dX6_rule_198 : decode cX6_rule 198 = .ok (.iadd, 1) := dk_96 (dk_at dksX6_rule_8 10 rfl rfl)
theorem dX6_rule_199 : decode cX6_rule 199 = .ok (.iload_n 1, 1) := dk_27 (dk_at dksX6_rule_8 11 rfl rfl)
theorem dX6_rule_200 : decode cX6_rule 200 = .ok (.iastore, 1) := dk_79 (dk_at dksX6_rule_8 12 rfl rfl)
theorem dX6_rule_201 : decode cX6_rule 201 = .ok (.aload_n 0, 1) := dk_42 (dk_at dksX6_rule_8 13 rfl rfl)
theorem dX6_rule_202 : decode cX6_rule 202 = .ok (.getfield 7, 3) := dk_180 0 7 (dk_at dksX6_rule_8 14 rfl rfl)
theorem dX6_rule_205 : decode cX6_rule 205 = .ok (.iload 6, 2) := dk_21 6 (dk_at dksX6_rule_8 17 rfl rfl)
theorem dX6_rule_207 : decode cX6_rule 207 = .ok (.iconst 1, 1) := dk_4 (dk_at dksX6_rule_8 19 rfl rfl)
theorem dX6_rule_208 : decode cX6_rule 208 = .ok (.iadd, 1) := dk_96 (dk_at dksX6_rule_8 20 rfl rfl)
theorem dX6_rule_209 : decode cX6_rule 209 = .ok (.iload 4, 2) := dk_21 4 (dk_at dksX6_rule_8 21 rfl rfl)
theorem dX6_rule_211 : decode cX6_rule 211 = .ok (.iastore, 1) := dk_79 (dk_at dksX6_rule_8 23 rfl rfl)
theorem dX6_rule_212 : decode cX6_rule 212 = .ok (.aload_n 0, 1) := dk_42 (dk_at dksX6_rule_9 0 rfl rfl)
theorem dX6_rule_213 : decode cX6_rule 213 = .ok (.getfield 7, 3) := dk_180 0 7 (dk_at dksX6_rule_9 1 rfl rfl)
theorem dX6_rule_216 : decode cX6_rule 216 = .ok (.iload 6, 2) := dk_21 6 (dk_at dksX6_rule_9 4 rfl rfl)
theorem dX6_rule_218 : decode cX6_rule 218 = .ok (.iconst 2, 1) := dk_5 (dk_at dksX6_rule_9 6 rfl rfl)
theorem dX6_rule_219 : decode cX6_rule 219 = .ok (.iadd, 1) := dk_96 (dk_at dksX6_rule_9 7 rfl rfl)
theorem dX6_rule_220 : decode cX6_rule 220 = .ok (.iload 5, 2) := dk_21 5 (dk_at dksX6_rule_9 8 rfl rfl)
theorem dX6_rule_222 : decode cX6_rule 222 = .ok (.iastore, 1) := dk_79 (dk_at dksX6_rule_9 10 rfl rfl)
theorem dX6_rule_223 : decode cX6_rule 223 = .ok (.aload_n 0, 1) := dk_42 (dk_at dksX6_rule_9 11 rfl rfl)
theorem dX6_rule_224 : decode cX6_rule 224 = .ok (.getfield 7, 3) := dk_180 0 7 (dk_at dksX6_rule_9 12 rfl rfl)
theorem dX6_rule_227 : decode cX6_rule 227 = .ok (.iload 6, 2) := dk_21 6 (dk_at dksX6_rule_9 15 rfl rfl)
theorem dX6_rule_229 : decode cX6_rule 229 = .ok (.iconst 3, 1) := dk_6 (dk_at dksX6_rule_9 17 rfl rfl)
theorem dX6_rule_230 : decode cX6_rule 230 = .ok (.iadd, 1) := dk_96 (dk_at dksX6_rule_9 18 rfl rfl)
theorem dX6_rule_231 : decode cX6_rule 231 = .ok (.aload_n 0, 1) := dk_42 (dk_at dksX6_rule_9 19 rfl rfl)
theorem dX6_rule_232 : decode cX6_rule 232 = .ok (.getfield 366, 3) := dk_180 1 110 (dk_at dksX6_rule_9 20 rfl rfl)
theorem dX6_rule_235 : decode cX6_rule 235 = .ok (.iastore, 1) := dk_79 (dk_at dksX6_rule_9 23 rfl rfl)
theorem dX6_rule_236 : decode cX6_rule 236 = .ok (.aload_n 0, 1) := dk_42 (dk_at dksX6_rule_10 0 rfl rfl)
theorem dX6_rule_237 : decode cX6_rule 237 = .ok (.getfield 7, 3) := dk_180 0 7 (dk_at dksX6_rule_10 1 rfl rfl)
theorem dX6_rule_240 : decode cX6_rule 240 = .ok (.iconst 1, 1) := dk_4 (dk_at dksX6_rule_10 4 rfl rfl)
theorem dX6_rule_241 : decode cX6_rule 241 = .ok (.dup2, 1) := dk_92 (dk_at dksX6_rule_10 5 rfl rfl)
theorem dX6_rule_242 : decode cX6_rule 242 = .ok (.iaload, 1) := dk_46 (dk_at dksX6_rule_10 6 rfl rfl)
theorem dX6_rule_243 : decode cX6_rule 243 = .ok (.iconst 1, 1) := dk_4 (dk_at dksX6_rule_10 7 rfl rfl)
theorem dX6_rule_244 : decode cX6_rule 244 = .ok (.iadd, 1) := dk_96 (dk_at dksX6_rule_10 8 rfl rfl)
theorem dX6_rule_245 : decode cX6_rule 245 = .ok (.iastore, 1) := dk_79 (dk_at dksX6_rule_10 9 rfl rfl)
theorem dX6_rule_246 : decode cX6_rule 246 = .ok (.return_, 1) := dk_177 (dk_at dksX6_rule_10 10 rfl rfl)
abbrev cX6_kindHere : ByteArray := prog_26_method_100_code
def yX6_kindHere : MethodName := ⟨RX6, "kindHere", "()I"⟩
def dkwX6_kindHere_3 : List UInt8 := [154, 0, 7, 8, 167, 0, 4, 2, 172]
abbrev dktX6_kindHere_3 : List UInt8 := dkwX6_kindHere_3 ++ []
def dkwX6_kindHere_2 : List UInt8 := [154, 0, 7, 6, 167, 0, 28, 31, 20, 1, 96, 148, 154, 0, 7, 7, 167, 0, 16, 31, 20, 1, 98, 148]
abbrev dktX6_kindHere_2 : List UInt8 := dkwX6_kindHere_2 ++ dktX6_kindHere_3
def dkwX6_kindHere_1 : List UInt8 := [154, 0, 7, 4, 167, 0, 52, 31, 20, 1, 92, 148, 154, 0, 7, 5, 167, 0, 40, 31, 20, 1, 94, 148]
abbrev dktX6_kindHere_1 : List UInt8 := dkwX6_kindHere_1 ++ dktX6_kindHere_2
def dkwX6_kindHere_0 : List UInt8 := [42, 182, 1, 84, 64, 31, 20, 1, 88, 148, 154, 0, 7, 3, 167, 0, 64, 31, 20, 1, 90, 148]
abbrev dktX6_kindHere_0 : List UInt8 := dkwX6_kindHere_0 ++ dktX6_kindHere_1
theorem dksX6_kindHere_0 : cX6_kindHere.data.toList.drop 0 = dktX6_kindHere_0 := by decide +kernel
theorem dksX6_kindHere_1 : cX6_kindHere.data.toList.drop 22 = dktX6_kindHere_1 := dk_seg dksX6_kindHere_0 22 rfl rfl
theorem dksX6_kindHere_2 : cX6_kindHere.data.toList.drop 46 = dktX6_kindHere_2 := dk_seg dksX6_kindHere_1 24 rfl rfl
theorem dksX6_kindHere_3 : cX6_kindHere.data.toList.drop 70 = dktX6_kindHere_3 := dk_seg dksX6_kindHere_2 24 rfl rfl
theorem dX6_kindHere_0 : decode cX6_kindHere 0 = .ok (.aload_n 0, 1) := dk_42 (dk_at dksX6_kindHere_0 0 rfl rfl)
theorem dX6_kindHere_1 : decode cX6_kindHere 1 = .ok (.invokevirtual 340, 3) := dk_182 1 84 (dk_at dksX6_kindHere_0 1 rfl rfl)
theorem dX6_kindHere_4 : decode cX6_kindHere 4 = .ok (.lstore_n 1, 1) := dk_64 (dk_at dksX6_kindHere_0 4 rfl rfl)
theorem dX6_kindHere_5 : decode cX6_kindHere 5 = .ok (.lload_n 1, 1) := dk_31 (dk_at dksX6_kindHere_0 5 rfl rfl)
theorem dX6_kindHere_6 : decode cX6_kindHere 6 = .ok (.ldc2_w 344, 3) := dk_20 1 88 (dk_at dksX6_kindHere_0 6 rfl rfl)
theorem dX6_kindHere_9 : decode cX6_kindHere 9 = .ok (.lcmp, 1) := dk_148 (dk_at dksX6_kindHere_0 9 rfl rfl)
theorem dX6_kindHere_10 : decode cX6_kindHere 10 = .ok (.ifCond .ne 7, 3) := dk_154 0 7 (dk_at dksX6_kindHere_0 10 rfl rfl)
theorem dX6_kindHere_13 : decode cX6_kindHere 13 = .ok (.iconst 0, 1) := dk_3 (dk_at dksX6_kindHere_0 13 rfl rfl)
theorem dX6_kindHere_14 : decode cX6_kindHere 14 = .ok (.goto 64, 3) := dk_167 0 64 (dk_at dksX6_kindHere_0 14 rfl rfl)
theorem dX6_kindHere_17 : decode cX6_kindHere 17 = .ok (.lload_n 1, 1) := dk_31 (dk_at dksX6_kindHere_0 17 rfl rfl)
theorem dX6_kindHere_18 : decode cX6_kindHere 18 = .ok (.ldc2_w 346, 3) := dk_20 1 90 (dk_at dksX6_kindHere_0 18 rfl rfl)
theorem dX6_kindHere_21 : decode cX6_kindHere 21 = .ok (.lcmp, 1) := dk_148 (dk_at dksX6_kindHere_0 21 rfl rfl)
theorem dX6_kindHere_22 : decode cX6_kindHere 22 = .ok (.ifCond .ne 7, 3) := dk_154 0 7 (dk_at dksX6_kindHere_1 0 rfl rfl)
theorem dX6_kindHere_25 : decode cX6_kindHere 25 = .ok (.iconst 1, 1) := dk_4 (dk_at dksX6_kindHere_1 3 rfl rfl)
theorem dX6_kindHere_26 : decode cX6_kindHere 26 = .ok (.goto 52, 3) := dk_167 0 52 (dk_at dksX6_kindHere_1 4 rfl rfl)
theorem dX6_kindHere_29 : decode cX6_kindHere 29 = .ok (.lload_n 1, 1) := dk_31 (dk_at dksX6_kindHere_1 7 rfl rfl)
theorem dX6_kindHere_30 : decode cX6_kindHere 30 = .ok (.ldc2_w 348, 3) := dk_20 1 92 (dk_at dksX6_kindHere_1 8 rfl rfl)
theorem dX6_kindHere_33 : decode cX6_kindHere 33 = .ok (.lcmp, 1) := dk_148 (dk_at dksX6_kindHere_1 11 rfl rfl)
theorem dX6_kindHere_34 : decode cX6_kindHere 34 = .ok (.ifCond .ne 7, 3) := dk_154 0 7 (dk_at dksX6_kindHere_1 12 rfl rfl)
theorem dX6_kindHere_37 : decode cX6_kindHere 37 = .ok (.iconst 2, 1) := dk_5 (dk_at dksX6_kindHere_1 15 rfl rfl)
theorem dX6_kindHere_38 : decode cX6_kindHere 38 = .ok (.goto 40, 3) := dk_167 0 40 (dk_at dksX6_kindHere_1 16 rfl rfl)
theorem dX6_kindHere_41 : decode cX6_kindHere 41 = .ok (.lload_n 1, 1) := dk_31 (dk_at dksX6_kindHere_1 19 rfl rfl)
theorem dX6_kindHere_42 : decode cX6_kindHere 42 = .ok (.ldc2_w 350, 3) := dk_20 1 94 (dk_at dksX6_kindHere_1 20 rfl rfl)
theorem dX6_kindHere_45 : decode cX6_kindHere 45 = .ok (.lcmp, 1) := dk_148 (dk_at dksX6_kindHere_1 23 rfl rfl)
theorem dX6_kindHere_46 : decode cX6_kindHere 46 = .ok (.ifCond .ne 7, 3) := dk_154 0 7 (dk_at dksX6_kindHere_2 0 rfl rfl)
theorem dX6_kindHere_49 : decode cX6_kindHere 49 = .ok (.iconst 3, 1) := dk_6 (dk_at dksX6_kindHere_2 3 rfl rfl)
theorem dX6_kindHere_50 : decode cX6_kindHere 50 = .ok (.goto 28, 3) := dk_167 0 28 (dk_at dksX6_kindHere_2 4 rfl rfl)
theorem dX6_kindHere_53 : decode cX6_kindHere 53 = .ok (.lload_n 1, 1) := dk_31 (dk_at dksX6_kindHere_2 7 rfl rfl)
theorem dX6_kindHere_54 : decode cX6_kindHere 54 = .ok (.ldc2_w 352, 3) := dk_20 1 96 (dk_at dksX6_kindHere_2 8 rfl rfl)
theorem dX6_kindHere_57 : decode cX6_kindHere 57 = .ok (.lcmp, 1) := dk_148 (dk_at dksX6_kindHere_2 11 rfl rfl)
theorem dX6_kindHere_58 : decode cX6_kindHere 58 = .ok (.ifCond .ne 7, 3) := dk_154 0 7 (dk_at dksX6_kindHere_2 12 rfl rfl)
theorem dX6_kindHere_61 : decode cX6_kindHere 61 = .ok (.iconst 4, 1) := dk_7 (dk_at dksX6_kindHere_2 15 rfl rfl)
theorem dX6_kindHere_62 : decode cX6_kindHere 62 = .ok (.goto 16, 3) := dk_167 0 16 (dk_at dksX6_kindHere_2 16 rfl rfl)
theorem dX6_kindHere_65 : decode cX6_kindHere 65 = .ok (.lload_n 1, 1) := dk_31 (dk_at dksX6_kindHere_2 19 rfl rfl)
theorem dX6_kindHere_66 : decode cX6_kindHere 66 = .ok (.ldc2_w 354, 3) := dk_20 1 98 (dk_at dksX6_kindHere_2 20 rfl rfl)
theorem dX6_kindHere_69 : decode cX6_kindHere 69 = .ok (.lcmp, 1) := dk_148 (dk_at dksX6_kindHere_2 23 rfl rfl)
theorem dX6_kindHere_70 : decode cX6_kindHere 70 = .ok (.ifCond .ne 7, 3) := dk_154 0 7 (dk_at dksX6_kindHere_3 0 rfl rfl)
theorem dX6_kindHere_73 : decode cX6_kindHere 73 = .ok (.iconst 5, 1) := dk_8 (dk_at dksX6_kindHere_3 3 rfl rfl)
theorem dX6_kindHere_74 : decode cX6_kindHere 74 = .ok (.goto 4, 3) := dk_167 0 4 (dk_at dksX6_kindHere_3 4 rfl rfl)
theorem dX6_kindHere_77 : decode cX6_kindHere 77 = .ok (.iconst (-1), 1) := dk_2 (dk_at dksX6_kindHere_3 7 rfl rfl)
theorem dX6_kindHere_78 : decode cX6_kindHere 78 = .ok (.ireturn, 1) := dk_172 (dk_at dksX6_kindHere_3 8 rfl rfl)
abbrev cX6_word : ByteArray := prog_26_method_98_code
def yX6_word : MethodName := ⟨RX6, "word", "()J"⟩
def dkwX6_word_3 : List UInt8 := [9, 167, 0, 4, 31, 173]
abbrev dktX6_word_3 : List UInt8 := dkwX6_word_3 ++ []
def dkwX6_word_2 : List UInt8 := [167, 255, 216, 42, 180, 1, 66, 154, 0, 17, 42, 42, 180, 1, 54, 182, 1, 57, 184, 1, 60, 154, 0, 7]
abbrev dktX6_word_2 : List UInt8 := dkwX6_word_2 ++ dktX6_word_3
def dkwX6_word_1 : List UInt8 := [167, 0, 19, 20, 1, 75, 31, 105, 42, 180, 0, 44, 29, 46, 16, 96, 100, 133, 97, 64, 132, 3, 1]
abbrev dktX6_word_1 : List UInt8 := dkwX6_word_1 ++ dktX6_word_2
def dkwX6_word_0 : List UInt8 := [9, 64, 42, 180, 1, 54, 62, 29, 42, 180, 1, 51, 162, 0, 38, 31, 20, 1, 73, 148, 158, 0, 7, 31]
abbrev dktX6_word_0 : List UInt8 := dkwX6_word_0 ++ dktX6_word_1
theorem dksX6_word_0 : cX6_word.data.toList.drop 0 = dktX6_word_0 := by decide +kernel
theorem dksX6_word_1 : cX6_word.data.toList.drop 24 = dktX6_word_1 := dk_seg dksX6_word_0 24 rfl rfl
theorem dksX6_word_2 : cX6_word.data.toList.drop 47 = dktX6_word_2 := dk_seg dksX6_word_1 23 rfl rfl
theorem dksX6_word_3 : cX6_word.data.toList.drop 71 = dktX6_word_3 := dk_seg dksX6_word_2 24 rfl rfl
theorem dX6_word_0 : decode cX6_word 0 = .ok (.lconst 0, 1) := dk_9 (dk_at dksX6_word_0 0 rfl rfl)
theorem dX6_word_1 : decode cX6_word 1 = .ok (.lstore_n 1, 1) := dk_64 (dk_at dksX6_word_0 1 rfl rfl)
theorem dX6_word_2 : decode cX6_word 2 = .ok (.aload_n 0, 1) := dk_42 (dk_at dksX6_word_0 2 rfl rfl)
theorem dX6_word_3 : decode cX6_word 3 = .ok (.getfield 310, 3) := dk_180 1 54 (dk_at dksX6_word_0 3 rfl rfl)
theorem dX6_word_6 : decode cX6_word 6 = .ok (.istore_n 3, 1) := dk_62 (dk_at dksX6_word_0 6 rfl rfl)
theorem dX6_word_7 : decode cX6_word 7 = .ok (.iload_n 3, 1) := dk_29 (dk_at dksX6_word_0 7 rfl rfl)
theorem dX6_word_8 : decode cX6_word 8 = .ok (.aload_n 0, 1) := dk_42 (dk_at dksX6_word_0 8 rfl rfl)
theorem dX6_word_9 : decode cX6_word 9 = .ok (.getfield 307, 3) := dk_180 1 51 (dk_at dksX6_word_0 9 rfl rfl)
theorem dX6_word_12 : decode cX6_word 12 = .ok (.if_icmp .ge 38, 3) := dk_162 0 38 (dk_at dksX6_word_0 12 rfl rfl)
theorem dX6_word_15 : decode cX6_word 15 = .ok (.lload_n 1, 1) := dk_31 (dk_at dksX6_word_0 15 rfl rfl)
theorem dX6_word_16 : decode cX6_word 16 = .ok (.ldc2_w 329, 3) := dk_20 1 73 (dk_at dksX6_word_0 16 rfl rfl)
theorem dX6_word_19 : decode cX6_word 19 = .ok (.lcmp, 1) := dk_148 (dk_at dksX6_word_0 19 rfl rfl)
theorem dX6_word_20 : decode cX6_word 20 = .ok (.ifCond .le 7, 3) := dk_158 0 7 (dk_at dksX6_word_0 20 rfl rfl)
theorem dX6_word_23 : decode cX6_word 23 = .ok (.lload_n 1, 1) := dk_31 (dk_at dksX6_word_0 23 rfl rfl)
theorem dX6_word_24 : decode cX6_word 24 = .ok (.goto 19, 3) := dk_167 0 19 (dk_at dksX6_word_1 0 rfl rfl)
theorem dX6_word_27 : decode cX6_word 27 = .ok (.ldc2_w 331, 3) := dk_20 1 75 (dk_at dksX6_word_1 3 rfl rfl)
theorem dX6_word_30 : decode cX6_word 30 = .ok (.lload_n 1, 1) := dk_31 (dk_at dksX6_word_1 6 rfl rfl)
theorem dX6_word_31 : decode cX6_word 31 = .ok (.lmul, 1) := dk_105 (dk_at dksX6_word_1 7 rfl rfl)
theorem dX6_word_32 : decode cX6_word 32 = .ok (.aload_n 0, 1) := dk_42 (dk_at dksX6_word_1 8 rfl rfl)
theorem dX6_word_33 : decode cX6_word 33 = .ok (.getfield 44, 3) := dk_180 0 44 (dk_at dksX6_word_1 9 rfl rfl)
theorem dX6_word_36 : decode cX6_word 36 = .ok (.iload_n 3, 1) := dk_29 (dk_at dksX6_word_1 12 rfl rfl)
theorem dX6_word_37 : decode cX6_word 37 = .ok (.iaload, 1) := dk_46 (dk_at dksX6_word_1 13 rfl rfl)
theorem dX6_word_38 : decode cX6_word 38 = .ok (.bipush 96, 2) := dk_16 96 (dk_at dksX6_word_1 14 rfl rfl)
theorem dX6_word_40 : decode cX6_word 40 = .ok (.isub, 1) := dk_100 (dk_at dksX6_word_1 16 rfl rfl)
theorem dX6_word_41 : decode cX6_word 41 = .ok (.i2l, 1) := dk_133 (dk_at dksX6_word_1 17 rfl rfl)
theorem dX6_word_42 : decode cX6_word 42 = .ok (.ladd, 1) := dk_97 (dk_at dksX6_word_1 18 rfl rfl)
theorem dX6_word_43 : decode cX6_word 43 = .ok (.lstore_n 1, 1) := dk_64 (dk_at dksX6_word_1 19 rfl rfl)
theorem dX6_word_44 : decode cX6_word 44 = .ok (.iinc 3 1, 3) := dk_132 3 1 (dk_at dksX6_word_1 20 rfl rfl)
theorem dX6_word_47 : decode cX6_word 47 = .ok (.goto (-40), 3) := dk_167 255 216 (dk_at dksX6_word_2 0 rfl rfl)
theorem dX6_word_50 : decode cX6_word 50 = .ok (.aload_n 0, 1) := dk_42 (dk_at dksX6_word_2 3 rfl rfl)
theorem dX6_word_51 : decode cX6_word 51 = .ok (.getfield 322, 3) := dk_180 1 66 (dk_at dksX6_word_2 4 rfl rfl)
theorem dX6_word_54 : decode cX6_word 54 = .ok (.ifCond .ne 17, 3) := dk_154 0 17 (dk_at dksX6_word_2 7 rfl rfl)
theorem dX6_word_57 : decode cX6_word 57 = .ok (.aload_n 0, 1) := dk_42 (dk_at dksX6_word_2 10 rfl rfl)
theorem dX6_word_58 : decode cX6_word 58 = .ok (.aload_n 0, 1) := dk_42 (dk_at dksX6_word_2 11 rfl rfl)
theorem dX6_word_59 : decode cX6_word 59 = .ok (.getfield 310, 3) := dk_180 1 54 (dk_at dksX6_word_2 12 rfl rfl)
theorem dX6_word_62 : decode cX6_word 62 = .ok (.invokevirtual 313, 3) := dk_182 1 57 (dk_at dksX6_word_2 15 rfl rfl)
theorem dX6_word_65 : decode cX6_word 65 = .ok (.invokestatic 316, 3) := dk_184 1 60 (dk_at dksX6_word_2 18 rfl rfl)
theorem dX6_word_68 : decode cX6_word 68 = .ok (.ifCond .ne 7, 3) := dk_154 0 7 (dk_at dksX6_word_2 21 rfl rfl)
theorem dX6_word_71 : decode cX6_word 71 = .ok (.lconst 0, 1) := dk_9 (dk_at dksX6_word_3 0 rfl rfl)
theorem dX6_word_72 : decode cX6_word 72 = .ok (.goto 4, 3) := dk_167 0 4 (dk_at dksX6_word_3 1 rfl rfl)
theorem dX6_word_75 : decode cX6_word 75 = .ok (.lload_n 1, 1) := dk_31 (dk_at dksX6_word_3 4 rfl rfl)
theorem dX6_word_76 : decode cX6_word 76 = .ok (.lreturn, 1) := dk_173 (dk_at dksX6_word_3 5 rfl rfl)
abbrev cX6_wants : ByteArray := prog_26_method_97_code
def yX6_wants : MethodName := ⟨RX6, "wants", "(Z)V"⟩
def dkwX6_wants_1 : List UInt8 := [154, 0, 7, 42, 182, 1, 70, 177]
abbrev dktX6_wants_1 : List UInt8 := dkwX6_wants_1 ++ []
def dkwX6_wants_0 : List UInt8 := [42, 42, 180, 1, 66, 154, 0, 7, 27, 154, 0, 7, 4, 167, 0, 4, 3, 181, 1, 66, 42, 180, 1, 66]
abbrev dktX6_wants_0 : List UInt8 := dkwX6_wants_0 ++ dktX6_wants_1
theorem dksX6_wants_0 : cX6_wants.data.toList.drop 0 = dktX6_wants_0 := by decide +kernel
theorem dksX6_wants_1 : cX6_wants.data.toList.drop 24 = dktX6_wants_1 := dk_seg dksX6_wants_0 24 rfl rfl
theorem dX6_wants_0 : decode cX6_wants 0 = .ok (.aload_n 0, 1) := dk_42 (dk_at dksX6_wants_0 0 rfl rfl)
theorem dX6_wants_1 : decode cX6_wants 1 = .ok (.aload_n 0, 1) := dk_42 (dk_at dksX6_wants_0 1 rfl rfl)
theorem dX6_wants_2 : decode cX6_wants 2 = .ok (.getfield 322, 3) := dk_180 1 66 (dk_at dksX6_wants_0 2 rfl rfl)
theorem dX6_wants_5 : decode cX6_wants 5 = .ok (.ifCond .ne 7, 3) := dk_154 0 7 (dk_at dksX6_wants_0 5 rfl rfl)
theorem dX6_wants_8 : decode cX6_wants 8 = .ok (.iload_n 1, 1) := dk_27 (dk_at dksX6_wants_0 8 rfl rfl)
theorem dX6_wants_9 : decode cX6_wants 9 = .ok (.ifCond .ne 7, 3) := dk_154 0 7 (dk_at dksX6_wants_0 9 rfl rfl)
theorem dX6_wants_12 : decode cX6_wants 12 = .ok (.iconst 1, 1) := dk_4 (dk_at dksX6_wants_0 12 rfl rfl)
theorem dX6_wants_13 : decode cX6_wants 13 = .ok (.goto 4, 3) := dk_167 0 4 (dk_at dksX6_wants_0 13 rfl rfl)
theorem dX6_wants_16 : decode cX6_wants 16 = .ok (.iconst 0, 1) := dk_3 (dk_at dksX6_wants_0 16 rfl rfl)
theorem dX6_wants_17 : decode cX6_wants 17 = .ok (.putfield 322, 3) := dk_181 1 66 (dk_at dksX6_wants_0 17 rfl rfl)
theorem dX6_wants_20 : decode cX6_wants 20 = .ok (.aload_n 0, 1) := dk_42 (dk_at dksX6_wants_0 20 rfl rfl)
theorem dX6_wants_21 : decode cX6_wants 21 = .ok (.getfield 322, 3) := dk_180 1 66 (dk_at dksX6_wants_0 21 rfl rfl)
theorem dX6_wants_24 : decode cX6_wants 24 = .ok (.ifCond .ne 7, 3) := dk_154 0 7 (dk_at dksX6_wants_1 0 rfl rfl)
theorem dX6_wants_27 : decode cX6_wants 27 = .ok (.aload_n 0, 1) := dk_42 (dk_at dksX6_wants_1 3 rfl rfl)
theorem dX6_wants_28 : decode cX6_wants 28 = .ok (.invokevirtual 326, 3) := dk_182 1 70 (dk_at dksX6_wants_1 4 rfl rfl)
theorem dX6_wants_31 : decode cX6_wants 31 = .ok (.return_, 1) := dk_177 (dk_at dksX6_wants_1 7 rfl rfl)
abbrev cX6_condition : ByteArray := prog_26_method_107_code
def yX6_condition : MethodName := ⟨RX6, "condition", "()V"⟩
def dkwX6_condition_1 : List UInt8 := [4, 182, 1, 80, 42, 182, 1, 141, 42, 16, 234, 182, 1, 116, 167, 255, 230, 177]
abbrev dktX6_condition_1 : List UInt8 := dkwX6_condition_1 ++ []
def dkwX6_condition_0 : List UInt8 := [42, 180, 1, 66, 153, 0, 4, 177, 42, 182, 1, 141, 42, 182, 1, 84, 20, 1, 144, 148, 154, 0, 21, 42]
abbrev dktX6_condition_0 : List UInt8 := dkwX6_condition_0 ++ dktX6_condition_1
theorem dksX6_condition_0 : cX6_condition.data.toList.drop 0 = dktX6_condition_0 := by decide +kernel
theorem dksX6_condition_1 : cX6_condition.data.toList.drop 24 = dktX6_condition_1 := dk_seg dksX6_condition_0 24 rfl rfl
theorem dX6_condition_0 : decode cX6_condition 0 = .ok (.aload_n 0, 1) := dk_42 (dk_at dksX6_condition_0 0 rfl rfl)
theorem dX6_condition_1 : decode cX6_condition 1 = .ok (.getfield 322, 3) := dk_180 1 66 (dk_at dksX6_condition_0 1 rfl rfl)
theorem dX6_condition_4 : decode cX6_condition 4 = .ok (.ifCond .eq 4, 3) := dk_153 0 4 (dk_at dksX6_condition_0 4 rfl rfl)
theorem dX6_condition_7 : decode cX6_condition 7 = .ok (.return_, 1) := dk_177 (dk_at dksX6_condition_0 7 rfl rfl)
theorem dX6_condition_8 : decode cX6_condition 8 = .ok (.aload_n 0, 1) := dk_42 (dk_at dksX6_condition_0 8 rfl rfl)
theorem dX6_condition_9 : decode cX6_condition 9 = .ok (.invokevirtual 397, 3) := dk_182 1 141 (dk_at dksX6_condition_0 9 rfl rfl)
theorem dX6_condition_12 : decode cX6_condition 12 = .ok (.aload_n 0, 1) := dk_42 (dk_at dksX6_condition_0 12 rfl rfl)
theorem dX6_condition_13 : decode cX6_condition 13 = .ok (.invokevirtual 340, 3) := dk_182 1 84 (dk_at dksX6_condition_0 13 rfl rfl)
theorem dX6_condition_16 : decode cX6_condition 16 = .ok (.ldc2_w 400, 3) := dk_20 1 144 (dk_at dksX6_condition_0 16 rfl rfl)
theorem dX6_condition_19 : decode cX6_condition 19 = .ok (.lcmp, 1) := dk_148 (dk_at dksX6_condition_0 19 rfl rfl)
theorem dX6_condition_20 : decode cX6_condition 20 = .ok (.ifCond .ne 21, 3) := dk_154 0 21 (dk_at dksX6_condition_0 20 rfl rfl)
theorem dX6_condition_23 : decode cX6_condition 23 = .ok (.aload_n 0, 1) := dk_42 (dk_at dksX6_condition_0 23 rfl rfl)
theorem dX6_condition_24 : decode cX6_condition 24 = .ok (.iconst 1, 1) := dk_4 (dk_at dksX6_condition_1 0 rfl rfl)
theorem dX6_condition_25 : decode cX6_condition 25 = .ok (.invokevirtual 336, 3) := dk_182 1 80 (dk_at dksX6_condition_1 1 rfl rfl)
theorem dX6_condition_28 : decode cX6_condition 28 = .ok (.aload_n 0, 1) := dk_42 (dk_at dksX6_condition_1 4 rfl rfl)
theorem dX6_condition_29 : decode cX6_condition 29 = .ok (.invokevirtual 397, 3) := dk_182 1 141 (dk_at dksX6_condition_1 5 rfl rfl)
theorem dX6_condition_32 : decode cX6_condition 32 = .ok (.aload_n 0, 1) := dk_42 (dk_at dksX6_condition_1 8 rfl rfl)
theorem dX6_condition_33 : decode cX6_condition 33 = .ok (.bipush (-22), 2) := dk_16 234 (dk_at dksX6_condition_1 9 rfl rfl)
theorem dX6_condition_35 : decode cX6_condition 35 = .ok (.invokevirtual 372, 3) := dk_182 1 116 (dk_at dksX6_condition_1 11 rfl rfl)
theorem dX6_condition_38 : decode cX6_condition 38 = .ok (.goto (-26), 3) := dk_167 255 230 (dk_at dksX6_condition_1 14 rfl rfl)
theorem dX6_condition_41 : decode cX6_condition 41 = .ok (.return_, 1) := dk_177 (dk_at dksX6_condition_1 17 rfl rfl)
abbrev cX6_all : ByteArray := prog_26_method_106_code
def yX6_all : MethodName := ⟨RX6, "all", "()V"⟩
def dkwX6_all_1 : List UInt8 := [42, 16, 235, 182, 1, 116, 167, 255, 230, 177]
abbrev dktX6_all_1 : List UInt8 := dkwX6_all_1 ++ []
def dkwX6_all_0 : List UInt8 := [42, 182, 1, 136, 42, 182, 1, 84, 20, 1, 139, 148, 154, 0, 21, 42, 4, 182, 1, 80, 42, 182, 1, 136]
abbrev dktX6_all_0 : List UInt8 := dkwX6_all_0 ++ dktX6_all_1
theorem dksX6_all_0 : cX6_all.data.toList.drop 0 = dktX6_all_0 := by decide +kernel
theorem dksX6_all_1 : cX6_all.data.toList.drop 24 = dktX6_all_1 := dk_seg dksX6_all_0 24 rfl rfl
theorem dX6_all_0 : decode cX6_all 0 = .ok (.aload_n 0, 1) := dk_42 (dk_at dksX6_all_0 0 rfl rfl)
theorem dX6_all_1 : decode cX6_all 1 = .ok (.invokevirtual 392, 3) := dk_182 1 136 (dk_at dksX6_all_0 1 rfl rfl)
theorem dX6_all_4 : decode cX6_all 4 = .ok (.aload_n 0, 1) := dk_42 (dk_at dksX6_all_0 4 rfl rfl)
theorem dX6_all_5 : decode cX6_all 5 = .ok (.invokevirtual 340, 3) := dk_182 1 84 (dk_at dksX6_all_0 5 rfl rfl)
theorem dX6_all_8 : decode cX6_all 8 = .ok (.ldc2_w 395, 3) := dk_20 1 139 (dk_at dksX6_all_0 8 rfl rfl)
theorem dX6_all_11 : decode cX6_all 11 = .ok (.lcmp, 1) := dk_148 (dk_at dksX6_all_0 11 rfl rfl)
theorem dX6_all_12 : decode cX6_all 12 = .ok (.ifCond .ne 21, 3) := dk_154 0 21 (dk_at dksX6_all_0 12 rfl rfl)
theorem dX6_all_15 : decode cX6_all 15 = .ok (.aload_n 0, 1) := dk_42 (dk_at dksX6_all_0 15 rfl rfl)
theorem dX6_all_16 : decode cX6_all 16 = .ok (.iconst 1, 1) := dk_4 (dk_at dksX6_all_0 16 rfl rfl)
theorem dX6_all_17 : decode cX6_all 17 = .ok (.invokevirtual 336, 3) := dk_182 1 80 (dk_at dksX6_all_0 17 rfl rfl)
theorem dX6_all_20 : decode cX6_all 20 = .ok (.aload_n 0, 1) := dk_42 (dk_at dksX6_all_0 20 rfl rfl)
theorem dX6_all_21 : decode cX6_all 21 = .ok (.invokevirtual 392, 3) := dk_182 1 136 (dk_at dksX6_all_0 21 rfl rfl)
theorem dX6_all_24 : decode cX6_all 24 = .ok (.aload_n 0, 1) := dk_42 (dk_at dksX6_all_1 0 rfl rfl)
theorem dX6_all_25 : decode cX6_all 25 = .ok (.bipush (-21), 2) := dk_16 235 (dk_at dksX6_all_1 1 rfl rfl)
theorem dX6_all_27 : decode cX6_all 27 = .ok (.invokevirtual 372, 3) := dk_182 1 116 (dk_at dksX6_all_1 3 rfl rfl)
theorem dX6_all_30 : decode cX6_all 30 = .ok (.goto (-26), 3) := dk_167 255 230 (dk_at dksX6_all_1 6 rfl rfl)
theorem dX6_all_33 : decode cX6_all 33 = .ok (.return_, 1) := dk_177 (dk_at dksX6_all_1 9 rfl rfl)
abbrev cX6_one : ByteArray := prog_26_method_105_code
def yX6_one : MethodName := ⟨RX6, "one", "()V"⟩
def dkwX6_one_5 : List UInt8 := [182, 1, 80, 167, 0, 7, 42, 182, 1, 133, 27, 153, 0, 9, 42, 16, 236, 182, 1, 116, 177]
abbrev dktX6_one_5 : List UInt8 := dkwX6_one_5 ++ []
def dkwX6_one_4 : List UInt8 := [180, 1, 66, 154, 0, 20, 42, 42, 180, 1, 54, 182, 1, 57, 16, 41, 160, 0, 7, 4, 167, 0, 4, 3]
abbrev dktX6_one_4 : List UInt8 := dkwX6_one_4 ++ dktX6_one_5
def dkwX6_one_3 : List UInt8 := [180, 1, 127, 4, 96, 181, 1, 127, 42, 182, 1, 130, 42, 89, 180, 1, 127, 4, 100, 181, 1, 127, 42, 42]
abbrev dktX6_one_3 : List UInt8 := dkwX6_one_3 ++ dktX6_one_4
def dkwX6_one_2 : List UInt8 := [160, 0, 76, 42, 42, 180, 1, 127, 6, 162, 0, 7, 4, 167, 0, 4, 3, 182, 1, 80, 42, 89]
abbrev dktX6_one_2 : List UInt8 := dkwX6_one_2 ++ dktX6_one_3
def dkwX6_one_1 : List UInt8 := [4, 182, 1, 80, 167, 255, 230, 42, 180, 1, 66, 154, 0, 89, 42, 42, 180, 1, 54, 182, 1, 57, 16, 40]
abbrev dktX6_one_1 : List UInt8 := dkwX6_one_1 ++ dktX6_one_2
def dkwX6_one_0 : List UInt8 := [3, 60, 42, 182, 1, 84, 20, 1, 125, 148, 154, 0, 21, 27, 154, 0, 7, 4, 167, 0, 4, 3, 60, 42]
abbrev dktX6_one_0 : List UInt8 := dkwX6_one_0 ++ dktX6_one_1
theorem dksX6_one_0 : cX6_one.data.toList.drop 0 = dktX6_one_0 := by decide +kernel
theorem dksX6_one_1 : cX6_one.data.toList.drop 24 = dktX6_one_1 := dk_seg dksX6_one_0 24 rfl rfl
theorem dksX6_one_2 : cX6_one.data.toList.drop 48 = dktX6_one_2 := dk_seg dksX6_one_1 24 rfl rfl
theorem dksX6_one_3 : cX6_one.data.toList.drop 70 = dktX6_one_3 := dk_seg dksX6_one_2 22 rfl rfl
theorem dksX6_one_4 : cX6_one.data.toList.drop 94 = dktX6_one_4 := dk_seg dksX6_one_3 24 rfl rfl
theorem dksX6_one_5 : cX6_one.data.toList.drop 118 = dktX6_one_5 := dk_seg dksX6_one_4 24 rfl rfl
theorem dX6_one_0 : decode cX6_one 0 = .ok (.iconst 0, 1) := dk_3 (dk_at dksX6_one_0 0 rfl rfl)
theorem dX6_one_1 : decode cX6_one 1 = .ok (.istore_n 1, 1) := dk_60 (dk_at dksX6_one_0 1 rfl rfl)
theorem dX6_one_2 : decode cX6_one 2 = .ok (.aload_n 0, 1) := dk_42 (dk_at dksX6_one_0 2 rfl rfl)
theorem dX6_one_3 : decode cX6_one 3 = .ok (.invokevirtual 340, 3) := dk_182 1 84 (dk_at dksX6_one_0 3 rfl rfl)
theorem dX6_one_6 : decode cX6_one 6 = .ok (.ldc2_w 381, 3) := dk_20 1 125 (dk_at dksX6_one_0 6 rfl rfl)
theorem dX6_one_9 : decode cX6_one 9 = .ok (.lcmp, 1) := dk_148 (dk_at dksX6_one_0 9 rfl rfl)
theorem dX6_one_10 : decode cX6_one 10 = .ok (.ifCond .ne 21, 3) := dk_154 0 21 (dk_at dksX6_one_0 10 rfl rfl)
theorem dX6_one_13 : decode cX6_one 13 = .ok (.iload_n 1, 1) := dk_27 (dk_at dksX6_one_0 13 rfl rfl)
theorem dX6_one_14 : decode cX6_one 14 = .ok (.ifCond .ne 7, 3) := dk_154 0 7 (dk_at dksX6_one_0 14 rfl rfl)
theorem dX6_one_17 : decode cX6_one 17 = .ok (.iconst 1, 1) := dk_4 (dk_at dksX6_one_0 17 rfl rfl)
theorem dX6_one_18 : decode cX6_one 18 = .ok (.goto 4, 3) := dk_167 0 4 (dk_at dksX6_one_0 18 rfl rfl)
theorem dX6_one_21 : decode cX6_one 21 = .ok (.iconst 0, 1) := dk_3 (dk_at dksX6_one_0 21 rfl rfl)
theorem dX6_one_22 : decode cX6_one 22 = .ok (.istore_n 1, 1) := dk_60 (dk_at dksX6_one_0 22 rfl rfl)
theorem dX6_one_23 : decode cX6_one 23 = .ok (.aload_n 0, 1) := dk_42 (dk_at dksX6_one_0 23 rfl rfl)
theorem dX6_one_24 : decode cX6_one 24 = .ok (.iconst 1, 1) := dk_4 (dk_at dksX6_one_1 0 rfl rfl)
theorem dX6_one_25 : decode cX6_one 25 = .ok (.invokevirtual 336, 3) := dk_182 1 80 (dk_at dksX6_one_1 1 rfl rfl)
theorem dX6_one_28 : decode cX6_one 28 = .ok (.goto (-26), 3) := dk_167 255 230 (dk_at dksX6_one_1 4 rfl rfl)
theorem dX6_one_31 : decode cX6_one 31 = .ok (.aload_n 0, 1) := dk_42 (dk_at dksX6_one_1 7 rfl rfl)
theorem dX6_one_32 : decode cX6_one 32 = .ok (.getfield 322, 3) := dk_180 1 66 (dk_at dksX6_one_1 8 rfl rfl)
theorem dX6_one_35 : decode cX6_one 35 = .ok (.ifCond .ne 89, 3) := dk_154 0 89 (dk_at dksX6_one_1 11 rfl rfl)
theorem dX6_one_38 : decode cX6_one 38 = .ok (.aload_n 0, 1) := dk_42 (dk_at dksX6_one_1 14 rfl rfl)
theorem dX6_one_39 : decode cX6_one 39 = .ok (.aload_n 0, 1) := dk_42 (dk_at dksX6_one_1 15 rfl rfl)
theorem dX6_one_40 : decode cX6_one 40 = .ok (.getfield 310, 3) := dk_180 1 54 (dk_at dksX6_one_1 16 rfl rfl)
theorem dX6_one_43 : decode cX6_one 43 = .ok (.invokevirtual 313, 3) := dk_182 1 57 (dk_at dksX6_one_1 19 rfl rfl)
theorem dX6_one_46 : decode cX6_one 46 = .ok (.bipush 40, 2) := dk_16 40 (dk_at dksX6_one_1 22 rfl rfl)
theorem dX6_one_48 : decode cX6_one 48 = .ok (.if_icmp .ne 76, 3) := dk_160 0 76 (dk_at dksX6_one_2 0 rfl rfl)
theorem dX6_one_51 : decode cX6_one 51 = .ok (.aload_n 0, 1) := dk_42 (dk_at dksX6_one_2 3 rfl rfl)
theorem dX6_one_52 : decode cX6_one 52 = .ok (.aload_n 0, 1) := dk_42 (dk_at dksX6_one_2 4 rfl rfl)
theorem dX6_one_53 : decode cX6_one 53 = .ok (.getfield 383, 3) := dk_180 1 127 (dk_at dksX6_one_2 5 rfl rfl)
theorem dX6_one_56 : decode cX6_one 56 = .ok (.iconst 3, 1) := dk_6 (dk_at dksX6_one_2 8 rfl rfl)
theorem dX6_one_57 : decode cX6_one 57 = .ok (.if_icmp .ge 7, 3) := dk_162 0 7 (dk_at dksX6_one_2 9 rfl rfl)
theorem dX6_one_60 : decode cX6_one 60 = .ok (.iconst 1, 1) := dk_4 (dk_at dksX6_one_2 12 rfl rfl)
theorem dX6_one_61 : decode cX6_one 61 = .ok (.goto 4, 3) := dk_167 0 4 (dk_at dksX6_one_2 13 rfl rfl)
theorem dX6_one_64 : decode cX6_one 64 = .ok (.iconst 0, 1) := dk_3 (dk_at dksX6_one_2 16 rfl rfl)
theorem dX6_one_65 : decode cX6_one 65 = .ok (.invokevirtual 336, 3) := dk_182 1 80 (dk_at dksX6_one_2 17 rfl rfl)
theorem dX6_one_68 : decode cX6_one 68 = .ok (.aload_n 0, 1) := dk_42 (dk_at dksX6_one_2 20 rfl rfl)
theorem dX6_one_69 : decode cX6_one 69 = .ok (.dup, 1) := dk_89 (dk_at dksX6_one_2 21 rfl rfl)
theorem dX6_one_70 : decode cX6_one 70 = .ok (.getfield 383, 3) := dk_180 1 127 (dk_at dksX6_one_3 0 rfl rfl)
theorem dX6_one_73 : decode cX6_one 73 = .ok (.iconst 1, 1) := dk_4 (dk_at dksX6_one_3 3 rfl rfl)
theorem dX6_one_74 : decode cX6_one 74 = .ok (.iadd, 1) := dk_96 (dk_at dksX6_one_3 4 rfl rfl)
theorem dX6_one_75 : decode cX6_one 75 = .ok (.putfield 383, 3) := dk_181 1 127 (dk_at dksX6_one_3 5 rfl rfl)
theorem dX6_one_78 : decode cX6_one 78 = .ok (.aload_n 0, 1) := dk_42 (dk_at dksX6_one_3 8 rfl rfl)
theorem dX6_one_79 : decode cX6_one 79 = .ok (.invokevirtual 386, 3) := dk_182 1 130 (dk_at dksX6_one_3 9 rfl rfl)
theorem dX6_one_82 : decode cX6_one 82 = .ok (.aload_n 0, 1) := dk_42 (dk_at dksX6_one_3 12 rfl rfl)
theorem dX6_one_83 : decode cX6_one 83 = .ok (.dup, 1) := dk_89 (dk_at dksX6_one_3 13 rfl rfl)
theorem dX6_one_84 : decode cX6_one 84 = .ok (.getfield 383, 3) := dk_180 1 127 (dk_at dksX6_one_3 14 rfl rfl)
theorem dX6_one_87 : decode cX6_one 87 = .ok (.iconst 1, 1) := dk_4 (dk_at dksX6_one_3 17 rfl rfl)
theorem dX6_one_88 : decode cX6_one 88 = .ok (.isub, 1) := dk_100 (dk_at dksX6_one_3 18 rfl rfl)
theorem dX6_one_89 : decode cX6_one 89 = .ok (.putfield 383, 3) := dk_181 1 127 (dk_at dksX6_one_3 19 rfl rfl)
theorem dX6_one_92 : decode cX6_one 92 = .ok (.aload_n 0, 1) := dk_42 (dk_at dksX6_one_3 22 rfl rfl)
theorem dX6_one_93 : decode cX6_one 93 = .ok (.aload_n 0, 1) := dk_42 (dk_at dksX6_one_3 23 rfl rfl)
theorem dX6_one_94 : decode cX6_one 94 = .ok (.getfield 322, 3) := dk_180 1 66 (dk_at dksX6_one_4 0 rfl rfl)
theorem dX6_one_97 : decode cX6_one 97 = .ok (.ifCond .ne 20, 3) := dk_154 0 20 (dk_at dksX6_one_4 3 rfl rfl)
theorem dX6_one_100 : decode cX6_one 100 = .ok (.aload_n 0, 1) := dk_42 (dk_at dksX6_one_4 6 rfl rfl)
theorem dX6_one_101 : decode cX6_one 101 = .ok (.aload_n 0, 1) := dk_42 (dk_at dksX6_one_4 7 rfl rfl)
theorem dX6_one_102 : decode cX6_one 102 = .ok (.getfield 310, 3) := dk_180 1 54 (dk_at dksX6_one_4 8 rfl rfl)
theorem dX6_one_105 : decode cX6_one 105 = .ok (.invokevirtual 313, 3) := dk_182 1 57 (dk_at dksX6_one_4 11 rfl rfl)
theorem dX6_one_108 : decode cX6_one 108 = .ok (.bipush 41, 2) := dk_16 41 (dk_at dksX6_one_4 14 rfl rfl)
theorem dX6_one_110 : decode cX6_one 110 = .ok (.if_icmp .ne 7, 3) := dk_160 0 7 (dk_at dksX6_one_4 16 rfl rfl)
theorem dX6_one_113 : decode cX6_one 113 = .ok (.iconst 1, 1) := dk_4 (dk_at dksX6_one_4 19 rfl rfl)
theorem dX6_one_114 : decode cX6_one 114 = .ok (.goto 4, 3) := dk_167 0 4 (dk_at dksX6_one_4 20 rfl rfl)
theorem dX6_one_117 : decode cX6_one 117 = .ok (.iconst 0, 1) := dk_3 (dk_at dksX6_one_4 23 rfl rfl)
theorem dX6_one_118 : decode cX6_one 118 = .ok (.invokevirtual 336, 3) := dk_182 1 80 (dk_at dksX6_one_5 0 rfl rfl)
theorem dX6_one_121 : decode cX6_one 121 = .ok (.goto 7, 3) := dk_167 0 7 (dk_at dksX6_one_5 3 rfl rfl)
theorem dX6_one_124 : decode cX6_one 124 = .ok (.aload_n 0, 1) := dk_42 (dk_at dksX6_one_5 6 rfl rfl)
theorem dX6_one_125 : decode cX6_one 125 = .ok (.invokevirtual 389, 3) := dk_182 1 133 (dk_at dksX6_one_5 7 rfl rfl)
theorem dX6_one_128 : decode cX6_one 128 = .ok (.iload_n 1, 1) := dk_27 (dk_at dksX6_one_5 10 rfl rfl)
theorem dX6_one_129 : decode cX6_one 129 = .ok (.ifCond .eq 9, 3) := dk_153 0 9 (dk_at dksX6_one_5 11 rfl rfl)
theorem dX6_one_132 : decode cX6_one 132 = .ok (.aload_n 0, 1) := dk_42 (dk_at dksX6_one_5 14 rfl rfl)
theorem dX6_one_133 : decode cX6_one 133 = .ok (.bipush (-20), 2) := dk_16 236 (dk_at dksX6_one_5 15 rfl rfl)
theorem dX6_one_135 : decode cX6_one 135 = .ok (.invokevirtual 372, 3) := dk_182 1 116 (dk_at dksX6_one_5 17 rfl rfl)
theorem dX6_one_138 : decode cX6_one 138 = .ok (.return_, 1) := dk_177 (dk_at dksX6_one_5 20 rfl rfl)
abbrev cX6_comparison : ByteArray := prog_26_method_104_code
def yX6_comparison : MethodName := ⟨RX6, "comparison", "()V"⟩
def dkwX6_comparison_3 : List UInt8 := [160, 0, 8, 16, 244, 167, 0, 5, 16, 243, 182, 1, 116, 177]
abbrev dktX6_comparison_3 : List UInt8 := dkwX6_comparison_3 ++ []
def dkwX6_comparison_2 : List UInt8 := [182, 1, 80, 42, 182, 1, 122, 42, 27, 16, 60, 160, 0, 8, 16, 245, 167, 0, 16, 27, 16, 61]
abbrev dktX6_comparison_2 : List UInt8 := dkwX6_comparison_2 ++ dktX6_comparison_3
def dkwX6_comparison_1 : List UInt8 := [42, 27, 16, 60, 159, 0, 15, 27, 16, 61, 159, 0, 9, 27, 16, 62, 160, 0, 7, 4, 167, 0, 4, 3]
abbrev dktX6_comparison_1 : List UInt8 := dkwX6_comparison_1 ++ dktX6_comparison_2
def dkwX6_comparison_0 : List UInt8 := [42, 182, 1, 122, 42, 180, 1, 66, 153, 0, 7, 2, 167, 0, 11, 42, 42, 180, 1, 54, 182, 1, 57, 60]
abbrev dktX6_comparison_0 : List UInt8 := dkwX6_comparison_0 ++ dktX6_comparison_1
theorem dksX6_comparison_0 : cX6_comparison.data.toList.drop 0 = dktX6_comparison_0 := by decide +kernel
theorem dksX6_comparison_1 : cX6_comparison.data.toList.drop 24 = dktX6_comparison_1 := dk_seg dksX6_comparison_0 24 rfl rfl
theorem dksX6_comparison_2 : cX6_comparison.data.toList.drop 48 = dktX6_comparison_2 := dk_seg dksX6_comparison_1 24 rfl rfl
theorem dksX6_comparison_3 : cX6_comparison.data.toList.drop 70 = dktX6_comparison_3 := dk_seg dksX6_comparison_2 22 rfl rfl
theorem dX6_comparison_0 : decode cX6_comparison 0 = .ok (.aload_n 0, 1) := dk_42 (dk_at dksX6_comparison_0 0 rfl rfl)
theorem dX6_comparison_1 : decode cX6_comparison 1 = .ok (.invokevirtual 378, 3) := dk_182 1 122 (dk_at dksX6_comparison_0 1 rfl rfl)
theorem dX6_comparison_4 : decode cX6_comparison 4 = .ok (.aload_n 0, 1) := dk_42 (dk_at dksX6_comparison_0 4 rfl rfl)
theorem dX6_comparison_5 : decode cX6_comparison 5 = .ok (.getfield 322, 3) := dk_180 1 66 (dk_at dksX6_comparison_0 5 rfl rfl)
theorem dX6_comparison_8 : decode cX6_comparison 8 = .ok (.ifCond .eq 7, 3) := dk_153 0 7 (dk_at dksX6_comparison_0 8 rfl rfl)
theorem dX6_comparison_11 : decode cX6_comparison 11 = .ok (.iconst (-1), 1) := dk_2 (dk_at dksX6_comparison_0 11 rfl rfl)
theorem dX6_comparison_12 : decode cX6_comparison 12 = .ok (.goto 11, 3) := dk_167 0 11 (dk_at dksX6_comparison_0 12 rfl rfl)
theorem dX6_comparison_15 : decode cX6_comparison 15 = .ok (.aload_n 0, 1) := dk_42 (dk_at dksX6_comparison_0 15 rfl rfl)
theorem dX6_comparison_16 : decode cX6_comparison 16 = .ok (.aload_n 0, 1) := dk_42 (dk_at dksX6_comparison_0 16 rfl rfl)
theorem dX6_comparison_17 : decode cX6_comparison 17 = .ok (.getfield 310, 3) := dk_180 1 54 (dk_at dksX6_comparison_0 17 rfl rfl)
theorem dX6_comparison_20 : decode cX6_comparison 20 = .ok (.invokevirtual 313, 3) := dk_182 1 57 (dk_at dksX6_comparison_0 20 rfl rfl)
theorem dX6_comparison_23 : decode cX6_comparison 23 = .ok (.istore_n 1, 1) := dk_60 (dk_at dksX6_comparison_0 23 rfl rfl)
theorem dX6_comparison_24 : decode cX6_comparison 24 = .ok (.aload_n 0, 1) := dk_42 (dk_at dksX6_comparison_1 0 rfl rfl)
theorem dX6_comparison_25 : decode cX6_comparison 25 = .ok (.iload_n 1, 1) := dk_27 (dk_at dksX6_comparison_1 1 rfl rfl)
theorem dX6_comparison_26 : decode cX6_comparison 26 = .ok (.bipush 60, 2) := dk_16 60 (dk_at dksX6_comparison_1 2 rfl rfl)
theorem dX6_comparison_28 : decode cX6_comparison 28 = .ok (.if_icmp .eq 15, 3) := dk_159 0 15 (dk_at dksX6_comparison_1 4 rfl rfl)
theorem dX6_comparison_31 : decode cX6_comparison 31 = .ok (.iload_n 1, 1) := dk_27 (dk_at dksX6_comparison_1 7 rfl rfl)
theorem dX6_comparison_32 : decode cX6_comparison 32 = .ok (.bipush 61, 2) := dk_16 61 (dk_at dksX6_comparison_1 8 rfl rfl)
theorem dX6_comparison_34 : decode cX6_comparison 34 = .ok (.if_icmp .eq 9, 3) := dk_159 0 9 (dk_at dksX6_comparison_1 10 rfl rfl)
theorem dX6_comparison_37 : decode cX6_comparison 37 = .ok (.iload_n 1, 1) := dk_27 (dk_at dksX6_comparison_1 13 rfl rfl)
theorem dX6_comparison_38 : decode cX6_comparison 38 = .ok (.bipush 62, 2) := dk_16 62 (dk_at dksX6_comparison_1 14 rfl rfl)
theorem dX6_comparison_40 : decode cX6_comparison 40 = .ok (.if_icmp .ne 7, 3) := dk_160 0 7 (dk_at dksX6_comparison_1 16 rfl rfl)
theorem dX6_comparison_43 : decode cX6_comparison 43 = .ok (.iconst 1, 1) := dk_4 (dk_at dksX6_comparison_1 19 rfl rfl)
theorem dX6_comparison_44 : decode cX6_comparison 44 = .ok (.goto 4, 3) := dk_167 0 4 (dk_at dksX6_comparison_1 20 rfl rfl)
theorem dX6_comparison_47 : decode cX6_comparison 47 = .ok (.iconst 0, 1) := dk_3 (dk_at dksX6_comparison_1 23 rfl rfl)
theorem dX6_comparison_48 : decode cX6_comparison 48 = .ok (.invokevirtual 336, 3) := dk_182 1 80 (dk_at dksX6_comparison_2 0 rfl rfl)
theorem dX6_comparison_51 : decode cX6_comparison 51 = .ok (.aload_n 0, 1) := dk_42 (dk_at dksX6_comparison_2 3 rfl rfl)
theorem dX6_comparison_52 : decode cX6_comparison 52 = .ok (.invokevirtual 378, 3) := dk_182 1 122 (dk_at dksX6_comparison_2 4 rfl rfl)
theorem dX6_comparison_55 : decode cX6_comparison 55 = .ok (.aload_n 0, 1) := dk_42 (dk_at dksX6_comparison_2 7 rfl rfl)
theorem dX6_comparison_56 : decode cX6_comparison 56 = .ok (.iload_n 1, 1) := dk_27 (dk_at dksX6_comparison_2 8 rfl rfl)
theorem dX6_comparison_57 : decode cX6_comparison 57 = .ok (.bipush 60, 2) := dk_16 60 (dk_at dksX6_comparison_2 9 rfl rfl)
theorem dX6_comparison_59 : decode cX6_comparison 59 = .ok (.if_icmp .ne 8, 3) := dk_160 0 8 (dk_at dksX6_comparison_2 11 rfl rfl)
theorem dX6_comparison_62 : decode cX6_comparison 62 = .ok (.bipush (-11), 2) := dk_16 245 (dk_at dksX6_comparison_2 14 rfl rfl)
theorem dX6_comparison_64 : decode cX6_comparison 64 = .ok (.goto 16, 3) := dk_167 0 16 (dk_at dksX6_comparison_2 16 rfl rfl)
theorem dX6_comparison_67 : decode cX6_comparison 67 = .ok (.iload_n 1, 1) := dk_27 (dk_at dksX6_comparison_2 19 rfl rfl)
theorem dX6_comparison_68 : decode cX6_comparison 68 = .ok (.bipush 61, 2) := dk_16 61 (dk_at dksX6_comparison_2 20 rfl rfl)
theorem dX6_comparison_70 : decode cX6_comparison 70 = .ok (.if_icmp .ne 8, 3) := dk_160 0 8 (dk_at dksX6_comparison_3 0 rfl rfl)
theorem dX6_comparison_73 : decode cX6_comparison 73 = .ok (.bipush (-12), 2) := dk_16 244 (dk_at dksX6_comparison_3 3 rfl rfl)
theorem dX6_comparison_75 : decode cX6_comparison 75 = .ok (.goto 5, 3) := dk_167 0 5 (dk_at dksX6_comparison_3 5 rfl rfl)
theorem dX6_comparison_78 : decode cX6_comparison 78 = .ok (.bipush (-13), 2) := dk_16 243 (dk_at dksX6_comparison_3 8 rfl rfl)
theorem dX6_comparison_80 : decode cX6_comparison 80 = .ok (.invokevirtual 372, 3) := dk_182 1 116 (dk_at dksX6_comparison_3 10 rfl rfl)
theorem dX6_comparison_83 : decode cX6_comparison 83 = .ok (.return_, 1) := dk_177 (dk_at dksX6_comparison_3 13 rfl rfl)
abbrev cX6_valueHere : ByteArray := prog_26_method_103_code
def yX6_valueHere : MethodName := ⟨RX6, "valueHere", "()V"⟩
def dkwX6_valueHere_1 : List UInt8 := [180, 1, 66, 154, 0, 18, 42, 17, 39, 15, 182, 1, 119, 42, 42, 180, 1, 77, 182, 1, 116, 177]
abbrev dktX6_valueHere_1 : List UInt8 := dkwX6_valueHere_1 ++ []
def dkwX6_valueHere_0 : List UInt8 := [42, 182, 1, 113, 60, 27, 156, 0, 16, 42, 4, 182, 1, 80, 42, 27, 182, 1, 116, 167, 0, 25, 42]
abbrev dktX6_valueHere_0 : List UInt8 := dkwX6_valueHere_0 ++ dktX6_valueHere_1
theorem dksX6_valueHere_0 : cX6_valueHere.data.toList.drop 0 = dktX6_valueHere_0 := by decide +kernel
theorem dksX6_valueHere_1 : cX6_valueHere.data.toList.drop 23 = dktX6_valueHere_1 := dk_seg dksX6_valueHere_0 23 rfl rfl
theorem dX6_valueHere_0 : decode cX6_valueHere 0 = .ok (.aload_n 0, 1) := dk_42 (dk_at dksX6_valueHere_0 0 rfl rfl)
theorem dX6_valueHere_1 : decode cX6_valueHere 1 = .ok (.invokevirtual 369, 3) := dk_182 1 113 (dk_at dksX6_valueHere_0 1 rfl rfl)
theorem dX6_valueHere_4 : decode cX6_valueHere 4 = .ok (.istore_n 1, 1) := dk_60 (dk_at dksX6_valueHere_0 4 rfl rfl)
theorem dX6_valueHere_5 : decode cX6_valueHere 5 = .ok (.iload_n 1, 1) := dk_27 (dk_at dksX6_valueHere_0 5 rfl rfl)
theorem dX6_valueHere_6 : decode cX6_valueHere 6 = .ok (.ifCond .ge 16, 3) := dk_156 0 16 (dk_at dksX6_valueHere_0 6 rfl rfl)
theorem dX6_valueHere_9 : decode cX6_valueHere 9 = .ok (.aload_n 0, 1) := dk_42 (dk_at dksX6_valueHere_0 9 rfl rfl)
theorem dX6_valueHere_10 : decode cX6_valueHere 10 = .ok (.iconst 1, 1) := dk_4 (dk_at dksX6_valueHere_0 10 rfl rfl)
theorem dX6_valueHere_11 : decode cX6_valueHere 11 = .ok (.invokevirtual 336, 3) := dk_182 1 80 (dk_at dksX6_valueHere_0 11 rfl rfl)
theorem dX6_valueHere_14 : decode cX6_valueHere 14 = .ok (.aload_n 0, 1) := dk_42 (dk_at dksX6_valueHere_0 14 rfl rfl)
theorem dX6_valueHere_15 : decode cX6_valueHere 15 = .ok (.iload_n 1, 1) := dk_27 (dk_at dksX6_valueHere_0 15 rfl rfl)
theorem dX6_valueHere_16 : decode cX6_valueHere 16 = .ok (.invokevirtual 372, 3) := dk_182 1 116 (dk_at dksX6_valueHere_0 16 rfl rfl)
theorem dX6_valueHere_19 : decode cX6_valueHere 19 = .ok (.goto 25, 3) := dk_167 0 25 (dk_at dksX6_valueHere_0 19 rfl rfl)
theorem dX6_valueHere_22 : decode cX6_valueHere 22 = .ok (.aload_n 0, 1) := dk_42 (dk_at dksX6_valueHere_0 22 rfl rfl)
theorem dX6_valueHere_23 : decode cX6_valueHere 23 = .ok (.getfield 322, 3) := dk_180 1 66 (dk_at dksX6_valueHere_1 0 rfl rfl)
theorem dX6_valueHere_26 : decode cX6_valueHere 26 = .ok (.ifCond .ne 18, 3) := dk_154 0 18 (dk_at dksX6_valueHere_1 3 rfl rfl)
theorem dX6_valueHere_29 : decode cX6_valueHere 29 = .ok (.aload_n 0, 1) := dk_42 (dk_at dksX6_valueHere_1 6 rfl rfl)
theorem dX6_valueHere_30 : decode cX6_valueHere 30 = .ok (.sipush 9999, 3) := dk_17 39 15 (dk_at dksX6_valueHere_1 7 rfl rfl)
theorem dX6_valueHere_33 : decode cX6_valueHere 33 = .ok (.invokevirtual 375, 3) := dk_182 1 119 (dk_at dksX6_valueHere_1 10 rfl rfl)
theorem dX6_valueHere_36 : decode cX6_valueHere 36 = .ok (.aload_n 0, 1) := dk_42 (dk_at dksX6_valueHere_1 13 rfl rfl)
theorem dX6_valueHere_37 : decode cX6_valueHere 37 = .ok (.aload_n 0, 1) := dk_42 (dk_at dksX6_valueHere_1 14 rfl rfl)
theorem dX6_valueHere_38 : decode cX6_valueHere 38 = .ok (.getfield 333, 3) := dk_180 1 77 (dk_at dksX6_valueHere_1 15 rfl rfl)
theorem dX6_valueHere_41 : decode cX6_valueHere 41 = .ok (.invokevirtual 372, 3) := dk_182 1 116 (dk_at dksX6_valueHere_1 18 rfl rfl)
theorem dX6_valueHere_44 : decode cX6_valueHere 44 = .ok (.return_, 1) := dk_177 (dk_at dksX6_valueHere_1 21 rfl rfl)
abbrev cX6_factHere : ByteArray := prog_26_method_101_code
def yX6_factHere : MethodName := ⟨RX6, "factHere", "()I"⟩
def dkwX6_factHere_3 : List UInt8 := [167, 0, 4, 3, 172]
abbrev dktX6_factHere_3 : List UInt8 := dkwX6_factHere_3 ++ []
def dkwX6_factHere_2 : List UInt8 := [20, 1, 106, 148, 154, 0, 8, 16, 252, 167, 0, 17, 31, 20, 1, 108, 148, 154, 0, 8, 16, 251]
abbrev dktX6_factHere_2 : List UInt8 := dkwX6_factHere_2 ++ dktX6_factHere_3
def dkwX6_factHere_1 : List UInt8 := [154, 0, 8, 16, 254, 167, 0, 43, 31, 20, 1, 104, 148, 154, 0, 8, 16, 253, 167, 0, 30, 31]
abbrev dktX6_factHere_1 : List UInt8 := dkwX6_factHere_1 ++ dktX6_factHere_2
def dkwX6_factHere_0 : List UInt8 := [42, 182, 1, 84, 64, 31, 20, 1, 100, 148, 154, 0, 7, 2, 167, 0, 56, 31, 20, 1, 102, 148]
abbrev dktX6_factHere_0 : List UInt8 := dkwX6_factHere_0 ++ dktX6_factHere_1
theorem dksX6_factHere_0 : cX6_factHere.data.toList.drop 0 = dktX6_factHere_0 := by decide +kernel
theorem dksX6_factHere_1 : cX6_factHere.data.toList.drop 22 = dktX6_factHere_1 := dk_seg dksX6_factHere_0 22 rfl rfl
theorem dksX6_factHere_2 : cX6_factHere.data.toList.drop 44 = dktX6_factHere_2 := dk_seg dksX6_factHere_1 22 rfl rfl
theorem dksX6_factHere_3 : cX6_factHere.data.toList.drop 66 = dktX6_factHere_3 := dk_seg dksX6_factHere_2 22 rfl rfl
theorem dX6_factHere_0 : decode cX6_factHere 0 = .ok (.aload_n 0, 1) := dk_42 (dk_at dksX6_factHere_0 0 rfl rfl)
theorem dX6_factHere_1 : decode cX6_factHere 1 = .ok (.invokevirtual 340, 3) := dk_182 1 84 (dk_at dksX6_factHere_0 1 rfl rfl)
theorem dX6_factHere_4 : decode cX6_factHere 4 = .ok (.lstore_n 1, 1) := dk_64 (dk_at dksX6_factHere_0 4 rfl rfl)
theorem dX6_factHere_5 : decode cX6_factHere 5 = .ok (.lload_n 1, 1) := dk_31 (dk_at dksX6_factHere_0 5 rfl rfl)
theorem dX6_factHere_6 : decode cX6_factHere 6 = .ok (.ldc2_w 356, 3) := dk_20 1 100 (dk_at dksX6_factHere_0 6 rfl rfl)
theorem dX6_factHere_9 : decode cX6_factHere 9 = .ok (.lcmp, 1) := dk_148 (dk_at dksX6_factHere_0 9 rfl rfl)
theorem dX6_factHere_10 : decode cX6_factHere 10 = .ok (.ifCond .ne 7, 3) := dk_154 0 7 (dk_at dksX6_factHere_0 10 rfl rfl)
theorem dX6_factHere_13 : decode cX6_factHere 13 = .ok (.iconst (-1), 1) := dk_2 (dk_at dksX6_factHere_0 13 rfl rfl)
theorem dX6_factHere_14 : decode cX6_factHere 14 = .ok (.goto 56, 3) := dk_167 0 56 (dk_at dksX6_factHere_0 14 rfl rfl)
theorem dX6_factHere_17 : decode cX6_factHere 17 = .ok (.lload_n 1, 1) := dk_31 (dk_at dksX6_factHere_0 17 rfl rfl)
theorem dX6_factHere_18 : decode cX6_factHere 18 = .ok (.ldc2_w 358, 3) := dk_20 1 102 (dk_at dksX6_factHere_0 18 rfl rfl)
theorem dX6_factHere_21 : decode cX6_factHere 21 = .ok (.lcmp, 1) := dk_148 (dk_at dksX6_factHere_0 21 rfl rfl)
theorem dX6_factHere_22 : decode cX6_factHere 22 = .ok (.ifCond .ne 8, 3) := dk_154 0 8 (dk_at dksX6_factHere_1 0 rfl rfl)
theorem dX6_factHere_25 : decode cX6_factHere 25 = .ok (.bipush (-2), 2) := dk_16 254 (dk_at dksX6_factHere_1 3 rfl rfl)
theorem dX6_factHere_27 : decode cX6_factHere 27 = .ok (.goto 43, 3) := dk_167 0 43 (dk_at dksX6_factHere_1 5 rfl rfl)
theorem dX6_factHere_30 : decode cX6_factHere 30 = .ok (.lload_n 1, 1) := dk_31 (dk_at dksX6_factHere_1 8 rfl rfl)
theorem dX6_factHere_31 : decode cX6_factHere 31 = .ok (.ldc2_w 360, 3) := dk_20 1 104 (dk_at dksX6_factHere_1 9 rfl rfl)
theorem dX6_factHere_34 : decode cX6_factHere 34 = .ok (.lcmp, 1) := dk_148 (dk_at dksX6_factHere_1 12 rfl rfl)
theorem dX6_factHere_35 : decode cX6_factHere 35 = .ok (.ifCond .ne 8, 3) := dk_154 0 8 (dk_at dksX6_factHere_1 13 rfl rfl)
theorem dX6_factHere_38 : decode cX6_factHere 38 = .ok (.bipush (-3), 2) := dk_16 253 (dk_at dksX6_factHere_1 16 rfl rfl)
theorem dX6_factHere_40 : decode cX6_factHere 40 = .ok (.goto 30, 3) := dk_167 0 30 (dk_at dksX6_factHere_1 18 rfl rfl)
theorem dX6_factHere_43 : decode cX6_factHere 43 = .ok (.lload_n 1, 1) := dk_31 (dk_at dksX6_factHere_1 21 rfl rfl)
theorem dX6_factHere_44 : decode cX6_factHere 44 = .ok (.ldc2_w 362, 3) := dk_20 1 106 (dk_at dksX6_factHere_2 0 rfl rfl)
theorem dX6_factHere_47 : decode cX6_factHere 47 = .ok (.lcmp, 1) := dk_148 (dk_at dksX6_factHere_2 3 rfl rfl)
theorem dX6_factHere_48 : decode cX6_factHere 48 = .ok (.ifCond .ne 8, 3) := dk_154 0 8 (dk_at dksX6_factHere_2 4 rfl rfl)
theorem dX6_factHere_51 : decode cX6_factHere 51 = .ok (.bipush (-4), 2) := dk_16 252 (dk_at dksX6_factHere_2 7 rfl rfl)
theorem dX6_factHere_53 : decode cX6_factHere 53 = .ok (.goto 17, 3) := dk_167 0 17 (dk_at dksX6_factHere_2 9 rfl rfl)
theorem dX6_factHere_56 : decode cX6_factHere 56 = .ok (.lload_n 1, 1) := dk_31 (dk_at dksX6_factHere_2 12 rfl rfl)
theorem dX6_factHere_57 : decode cX6_factHere 57 = .ok (.ldc2_w 364, 3) := dk_20 1 108 (dk_at dksX6_factHere_2 13 rfl rfl)
theorem dX6_factHere_60 : decode cX6_factHere 60 = .ok (.lcmp, 1) := dk_148 (dk_at dksX6_factHere_2 16 rfl rfl)
theorem dX6_factHere_61 : decode cX6_factHere 61 = .ok (.ifCond .ne 8, 3) := dk_154 0 8 (dk_at dksX6_factHere_2 17 rfl rfl)
theorem dX6_factHere_64 : decode cX6_factHere 64 = .ok (.bipush (-5), 2) := dk_16 251 (dk_at dksX6_factHere_2 20 rfl rfl)
theorem dX6_factHere_66 : decode cX6_factHere 66 = .ok (.goto 4, 3) := dk_167 0 4 (dk_at dksX6_factHere_3 0 rfl rfl)
theorem dX6_factHere_69 : decode cX6_factHere 69 = .ok (.iconst 0, 1) := dk_3 (dk_at dksX6_factHere_3 3 rfl rfl)
theorem dX6_factHere_70 : decode cX6_factHere 70 = .ok (.ireturn, 1) := dk_172 (dk_at dksX6_factHere_3 4 rfl rfl)
abbrev cX6_writes : ByteArray := prog_26_method_102_code
def yX6_writes : MethodName := ⟨RX6, "writes", "(I)V"⟩
def dkwX6_writes_1 : List UInt8 := [180, 1, 110, 4, 96, 181, 1, 110, 177]
abbrev dktX6_writes_1 : List UInt8 := dkwX6_writes_1 ++ []
def dkwX6_writes_0 : List UInt8 := [42, 180, 1, 66, 154, 0, 27, 42, 180, 0, 7, 17, 0, 138, 42, 180, 1, 110, 96, 27, 79, 42, 89]
abbrev dktX6_writes_0 : List UInt8 := dkwX6_writes_0 ++ dktX6_writes_1
theorem dksX6_writes_0 : cX6_writes.data.toList.drop 0 = dktX6_writes_0 := by decide +kernel
theorem dksX6_writes_1 : cX6_writes.data.toList.drop 23 = dktX6_writes_1 := dk_seg dksX6_writes_0 23 rfl rfl
theorem dX6_writes_0 : decode cX6_writes 0 = .ok (.aload_n 0, 1) := dk_42 (dk_at dksX6_writes_0 0 rfl rfl)
theorem dX6_writes_1 : decode cX6_writes 1 = .ok (.getfield 322, 3) := dk_180 1 66 (dk_at dksX6_writes_0 1 rfl rfl)
theorem dX6_writes_4 : decode cX6_writes 4 = .ok (.ifCond .ne 27, 3) := dk_154 0 27 (dk_at dksX6_writes_0 4 rfl rfl)
theorem dX6_writes_7 : decode cX6_writes 7 = .ok (.aload_n 0, 1) := dk_42 (dk_at dksX6_writes_0 7 rfl rfl)
theorem dX6_writes_8 : decode cX6_writes 8 = .ok (.getfield 7, 3) := dk_180 0 7 (dk_at dksX6_writes_0 8 rfl rfl)
theorem dX6_writes_11 : decode cX6_writes 11 = .ok (.sipush 138, 3) := dk_17 0 138 (dk_at dksX6_writes_0 11 rfl rfl)
theorem dX6_writes_14 : decode cX6_writes 14 = .ok (.aload_n 0, 1) := dk_42 (dk_at dksX6_writes_0 14 rfl rfl)
theorem dX6_writes_15 : decode cX6_writes 15 = .ok (.getfield 366, 3) := dk_180 1 110 (dk_at dksX6_writes_0 15 rfl rfl)
theorem dX6_writes_18 : decode cX6_writes 18 = .ok (.iadd, 1) := dk_96 (dk_at dksX6_writes_0 18 rfl rfl)
theorem dX6_writes_19 : decode cX6_writes 19 = .ok (.iload_n 1, 1) := dk_27 (dk_at dksX6_writes_0 19 rfl rfl)
theorem dX6_writes_20 : decode cX6_writes 20 = .ok (.iastore, 1) := dk_79 (dk_at dksX6_writes_0 20 rfl rfl)
theorem dX6_writes_21 : decode cX6_writes 21 = .ok (.aload_n 0, 1) := dk_42 (dk_at dksX6_writes_0 21 rfl rfl)
theorem dX6_writes_22 : decode cX6_writes 22 = .ok (.dup, 1) := dk_89 (dk_at dksX6_writes_0 22 rfl rfl)
theorem dX6_writes_23 : decode cX6_writes 23 = .ok (.getfield 366, 3) := dk_180 1 110 (dk_at dksX6_writes_1 0 rfl rfl)
theorem dX6_writes_26 : decode cX6_writes 26 = .ok (.iconst 1, 1) := dk_4 (dk_at dksX6_writes_1 3 rfl rfl)
theorem dX6_writes_27 : decode cX6_writes 27 = .ok (.iadd, 1) := dk_96 (dk_at dksX6_writes_1 4 rfl rfl)
theorem dX6_writes_28 : decode cX6_writes 28 = .ok (.putfield 366, 3) := dk_181 1 110 (dk_at dksX6_writes_1 5 rfl rfl)
theorem dX6_writes_31 : decode cX6_writes 31 = .ok (.return_, 1) := dk_177 (dk_at dksX6_writes_1 8 rfl rfl)
abbrev cX6_number : ByteArray := prog_26_method_99_code
def yX6_number : MethodName := ⟨RX6, "number", "(I)V"⟩
def dkwX6_number_4 : List UInt8 := [167, 0, 4, 3, 182, 1, 80, 177]
abbrev dktX6_number_4 : List UInt8 := dkwX6_number_4 ++ []
def dkwX6_number_3 : List UInt8 := [100, 181, 1, 77, 132, 3, 1, 167, 255, 220, 42, 28, 153, 0, 15, 42, 180, 1, 77, 27, 163, 0, 7, 4]
abbrev dktX6_number_3 : List UInt8 := dkwX6_number_3 ++ dktX6_number_4
def dkwX6_number_2 : List UInt8 := [162, 0, 34, 28, 153, 0, 30, 42, 16, 10, 42, 180, 1, 77, 104, 42, 180, 0, 44, 29, 46, 96, 16, 48]
abbrev dktX6_number_2 : List UInt8 := dkwX6_number_2 ++ dktX6_number_3
def dkwX6_number_1 : List UInt8 := [162, 0, 7, 4, 167, 0, 4, 3, 61, 42, 3, 181, 1, 77, 42, 180, 1, 54, 62, 29, 42, 180, 1, 51]
abbrev dktX6_number_1 : List UInt8 := dkwX6_number_1 ++ dktX6_number_2
def dkwX6_number_0 : List UInt8 := [42, 42, 180, 1, 54, 182, 1, 57, 184, 1, 63, 153, 0, 20, 42, 180, 1, 51, 42, 180, 1, 54, 100, 8]
abbrev dktX6_number_0 : List UInt8 := dkwX6_number_0 ++ dktX6_number_1
theorem dksX6_number_0 : cX6_number.data.toList.drop 0 = dktX6_number_0 := by decide +kernel
theorem dksX6_number_1 : cX6_number.data.toList.drop 24 = dktX6_number_1 := dk_seg dksX6_number_0 24 rfl rfl
theorem dksX6_number_2 : cX6_number.data.toList.drop 48 = dktX6_number_2 := dk_seg dksX6_number_1 24 rfl rfl
theorem dksX6_number_3 : cX6_number.data.toList.drop 72 = dktX6_number_3 := dk_seg dksX6_number_2 24 rfl rfl
theorem dksX6_number_4 : cX6_number.data.toList.drop 96 = dktX6_number_4 := dk_seg dksX6_number_3 24 rfl rfl
theorem dX6_number_0 : decode cX6_number 0 = .ok (.aload_n 0, 1) := dk_42 (dk_at dksX6_number_0 0 rfl rfl)
theorem dX6_number_1 : decode cX6_number 1 = .ok (.aload_n 0, 1) := dk_42 (dk_at dksX6_number_0 1 rfl rfl)
theorem dX6_number_2 : decode cX6_number 2 = .ok (.getfield 310, 3) := dk_180 1 54 (dk_at dksX6_number_0 2 rfl rfl)
theorem dX6_number_5 : decode cX6_number 5 = .ok (.invokevirtual 313, 3) := dk_182 1 57 (dk_at dksX6_number_0 5 rfl rfl)
theorem dX6_number_8 : decode cX6_number 8 = .ok (.invokestatic 319, 3) := dk_184 1 63 (dk_at dksX6_number_0 8 rfl rfl)
theorem dX6_number_11 : decode cX6_number 11 = .ok (.ifCond .eq 20, 3) := dk_153 0 20 (dk_at dksX6_number_0 11 rfl rfl)
theorem dX6_number_14 : decode cX6_number 14 = .ok (.aload_n 0, 1) := dk_42 (dk_at dksX6_number_0 14 rfl rfl)
theorem dX6_number_15 : decode cX6_number 15 = .ok (.getfield 307, 3) := dk_180 1 51 (dk_at dksX6_number_0 15 rfl rfl)
theorem dX6_number_18 : decode cX6_number 18 = .ok (.aload_n 0, 1) := dk_42 (dk_at dksX6_number_0 18 rfl rfl)
theorem dX6_number_19 : decode cX6_number 19 = .ok (.getfield 310, 3) := dk_180 1 54 (dk_at dksX6_number_0 19 rfl rfl)
theorem dX6_number_22 : decode cX6_number 22 = .ok (.isub, 1) := dk_100 (dk_at dksX6_number_0 22 rfl rfl)
theorem dX6_number_23 : decode cX6_number 23 = .ok (.iconst 5, 1) := dk_8 (dk_at dksX6_number_0 23 rfl rfl)
theorem dX6_number_24 : decode cX6_number 24 = .ok (.if_icmp .ge 7, 3) := dk_162 0 7 (dk_at dksX6_number_1 0 rfl rfl)
theorem dX6_number_27 : decode cX6_number 27 = .ok (.iconst 1, 1) := dk_4 (dk_at dksX6_number_1 3 rfl rfl)
theorem dX6_number_28 : decode cX6_number 28 = .ok (.goto 4, 3) := dk_167 0 4 (dk_at dksX6_number_1 4 rfl rfl)
theorem dX6_number_31 : decode cX6_number 31 = .ok (.iconst 0, 1) := dk_3 (dk_at dksX6_number_1 7 rfl rfl)
theorem dX6_number_32 : decode cX6_number 32 = .ok (.istore_n 2, 1) := dk_61 (dk_at dksX6_number_1 8 rfl rfl)
theorem dX6_number_33 : decode cX6_number 33 = .ok (.aload_n 0, 1) := dk_42 (dk_at dksX6_number_1 9 rfl rfl)
theorem dX6_number_34 : decode cX6_number 34 = .ok (.iconst 0, 1) := dk_3 (dk_at dksX6_number_1 10 rfl rfl)
theorem dX6_number_35 : decode cX6_number 35 = .ok (.putfield 333, 3) := dk_181 1 77 (dk_at dksX6_number_1 11 rfl rfl)
theorem dX6_number_38 : decode cX6_number 38 = .ok (.aload_n 0, 1) := dk_42 (dk_at dksX6_number_1 14 rfl rfl)
theorem dX6_number_39 : decode cX6_number 39 = .ok (.getfield 310, 3) := dk_180 1 54 (dk_at dksX6_number_1 15 rfl rfl)
theorem dX6_number_42 : decode cX6_number 42 = .ok (.istore_n 3, 1) := dk_62 (dk_at dksX6_number_1 18 rfl rfl)
theorem dX6_number_43 : decode cX6_number 43 = .ok (.iload_n 3, 1) := dk_29 (dk_at dksX6_number_1 19 rfl rfl)
theorem dX6_number_44 : decode cX6_number 44 = .ok (.aload_n 0, 1) := dk_42 (dk_at dksX6_number_1 20 rfl rfl)
theorem dX6_number_45 : decode cX6_number 45 = .ok (.getfield 307, 3) := dk_180 1 51 (dk_at dksX6_number_1 21 rfl rfl)
theorem dX6_number_48 : decode cX6_number 48 = .ok (.if_icmp .ge 34, 3) := dk_162 0 34 (dk_at dksX6_number_2 0 rfl rfl)
theorem dX6_number_51 : decode cX6_number 51 = .ok (.iload_n 2, 1) := dk_28 (dk_at dksX6_number_2 3 rfl rfl)
theorem dX6_number_52 : decode cX6_number 52 = .ok (.ifCond .eq 30, 3) := dk_153 0 30 (dk_at dksX6_number_2 4 rfl rfl)
theorem dX6_number_55 : decode cX6_number 55 = .ok (.aload_n 0, 1) := dk_42 (dk_at dksX6_number_2 7 rfl rfl)
theorem dX6_number_56 : decode cX6_number 56 = .ok (.bipush 10, 2) := dk_16 10 (dk_at dksX6_number_2 8 rfl rfl)
theorem dX6_number_58 : decode cX6_number 58 = .ok (.aload_n 0, 1) := dk_42 (dk_at dksX6_number_2 10 rfl rfl)
theorem dX6_number_59 : decode cX6_number 59 = .ok (.getfield 333, 3) := dk_180 1 77 (dk_at dksX6_number_2 11 rfl rfl)
theorem dX6_number_62 : decode cX6_number 62 = .ok (.imul, 1) := dk_104 (dk_at dksX6_number_2 14 rfl rfl)
theorem dX6_number_63 : decode cX6_number 63 = .ok (.aload_n 0, 1) := dk_42 (dk_at dksX6_number_2 15 rfl rfl)
theorem dX6_number_64 : decode cX6_number 64 = .ok (.getfield 44, 3) := dk_180 0 44 (dk_at dksX6_number_2 16 rfl rfl)
theorem dX6_number_67 : decode cX6_number 67 = .ok (.iload_n 3, 1) := dk_29 (dk_at dksX6_number_2 19 rfl rfl)
theorem dX6_number_68 : decode cX6_number 68 = .ok (.iaload, 1) := dk_46 (dk_at dksX6_number_2 20 rfl rfl)
theorem dX6_number_69 : decode cX6_number 69 = .ok (.iadd, 1) := dk_96 (dk_at dksX6_number_2 21 rfl rfl)
theorem dX6_number_70 : decode cX6_number 70 = .ok (.bipush 48, 2) := dk_16 48 (dk_at dksX6_number_2 22 rfl rfl)
theorem dX6_number_72 : decode cX6_number 72 = .ok (.isub, 1) := dk_100 (dk_at dksX6_number_3 0 rfl rfl)
theorem dX6_number_73 : decode cX6_number 73 = .ok (.putfield 333, 3) := dk_181 1 77 (dk_at dksX6_number_3 1 rfl rfl)
theorem dX6_number_76 : decode cX6_number 76 = .ok (.iinc 3 1, 3) := dk_132 3 1 (dk_at dksX6_number_3 4 rfl rfl)
theorem dX6_number_79 : decode cX6_number 79 = .ok (.goto (-36), 3) := dk_167 255 220 (dk_at dksX6_number_3 7 rfl rfl)
theorem dX6_number_82 : decode cX6_number 82 = .ok (.aload_n 0, 1) := dk_42 (dk_at dksX6_number_3 10 rfl rfl)
theorem dX6_number_83 : decode cX6_number 83 = .ok (.iload_n 2, 1) := dk_28 (dk_at dksX6_number_3 11 rfl rfl)
theorem dX6_number_84 : decode cX6_number 84 = .ok (.ifCond .eq 15, 3) := dk_153 0 15 (dk_at dksX6_number_3 12 rfl rfl)
theorem dX6_number_87 : decode cX6_number 87 = .ok (.aload_n 0, 1) := dk_42 (dk_at dksX6_number_3 15 rfl rfl)
theorem dX6_number_88 : decode cX6_number 88 = .ok (.getfield 333, 3) := dk_180 1 77 (dk_at dksX6_number_3 16 rfl rfl)
theorem dX6_number_91 : decode cX6_number 91 = .ok (.iload_n 1, 1) := dk_27 (dk_at dksX6_number_3 19 rfl rfl)
theorem dX6_number_92 : decode cX6_number 92 = .ok (.if_icmp .gt 7, 3) := dk_163 0 7 (dk_at dksX6_number_3 20 rfl rfl)
theorem dX6_number_95 : decode cX6_number 95 = .ok (.iconst 1, 1) := dk_4 (dk_at dksX6_number_3 23 rfl rfl)
theorem dX6_number_96 : decode cX6_number 96 = .ok (.goto 4, 3) := dk_167 0 4 (dk_at dksX6_number_4 0 rfl rfl)
theorem dX6_number_99 : decode cX6_number 99 = .ok (.iconst 0, 1) := dk_3 (dk_at dksX6_number_4 3 rfl rfl)
theorem dX6_number_100 : decode cX6_number 100 = .ok (.invokevirtual 336, 3) := dk_182 1 80 (dk_at dksX6_number_4 4 rfl rfl)
theorem dX6_number_103 : decode cX6_number 103 = .ok (.return_, 1) := dk_177 (dk_at dksX6_number_4 7 rfl rfl)
abbrev cX6_sheet : ByteArray := prog_26_method_111_code
def yX6_sheet : MethodName := ⟨RX6, "sheet", "(III)I"⟩
def dkwX6_sheet_4 : List UInt8 := [167, 255, 233, 4, 172]
abbrev dktX6_sheet_4 : List UInt8 := dkwX6_sheet_4 ++ []
def dkwX6_sheet_3 : List UInt8 := [21, 4, 16, 40, 162, 0, 22, 42, 180, 0, 53, 16, 40, 27, 104, 21, 4, 96, 3, 79, 132, 4, 1]
abbrev dktX6_sheet_3 : List UInt8 := dkwX6_sheet_3 ++ dktX6_sheet_4
def dkwX6_sheet_2 : List UInt8 := [180, 0, 47, 27, 28, 79, 42, 180, 0, 50, 27, 28, 156, 0, 7, 3, 167, 0, 4, 29, 79, 3, 54, 4]
abbrev dktX6_sheet_2 : List UInt8 := dkwX6_sheet_2 ++ dktX6_sheet_3
def dkwX6_sheet_1 : List UInt8 := [155, 0, 11, 29, 16, 40, 164, 0, 5, 2, 172, 28, 155, 0, 10, 29, 156, 0, 6, 16, 242, 172, 42]
abbrev dktX6_sheet_1 : List UInt8 := dkwX6_sheet_1 ++ dktX6_sheet_2
def dkwX6_sheet_0 : List UInt8 := [27, 184, 1, 162, 153, 0, 27, 28, 133, 20, 1, 165, 20, 0, 242, 184, 0, 68, 153, 0, 13, 28]
abbrev dktX6_sheet_0 : List UInt8 := dkwX6_sheet_0 ++ dktX6_sheet_1
theorem dksX6_sheet_0 : cX6_sheet.data.toList.drop 0 = dktX6_sheet_0 := by decide +kernel
theorem dksX6_sheet_1 : cX6_sheet.data.toList.drop 22 = dktX6_sheet_1 := dk_seg dksX6_sheet_0 22 rfl rfl
theorem dksX6_sheet_2 : cX6_sheet.data.toList.drop 45 = dktX6_sheet_2 := dk_seg dksX6_sheet_1 23 rfl rfl
theorem dksX6_sheet_3 : cX6_sheet.data.toList.drop 69 = dktX6_sheet_3 := dk_seg dksX6_sheet_2 24 rfl rfl
theorem dksX6_sheet_4 : cX6_sheet.data.toList.drop 92 = dktX6_sheet_4 := dk_seg dksX6_sheet_3 23 rfl rfl
theorem dX6_sheet_0 : decode cX6_sheet 0 = .ok (.iload_n 1, 1) := dk_27 (dk_at dksX6_sheet_0 0 rfl rfl)
theorem dX6_sheet_1 : decode cX6_sheet 1 = .ok (.invokestatic 418, 3) := dk_184 1 162 (dk_at dksX6_sheet_0 1 rfl rfl)
theorem dX6_sheet_4 : decode cX6_sheet 4 = .ok (.ifCond .eq 27, 3) := dk_153 0 27 (dk_at dksX6_sheet_0 4 rfl rfl)
theorem dX6_sheet_7 : decode cX6_sheet 7 = .ok (.iload_n 2, 1) := dk_28 (dk_at dksX6_sheet_0 7 rfl rfl)
theorem dX6_sheet_8 : decode cX6_sheet 8 = .ok (.i2l, 1) := dk_133 (dk_at dksX6_sheet_0 8 rfl rfl)
theorem dX6_sheet_9 : decode cX6_sheet 9 = .ok (.ldc2_w 421, 3) := dk_20 1 165 (dk_at dksX6_sheet_0 9 rfl rfl)
theorem dX6_sheet_12 : decode cX6_sheet 12 = .ok (.ldc2_w 242, 3) := dk_20 0 242 (dk_at dksX6_sheet_0 12 rfl rfl)
theorem dX6_sheet_15 : decode cX6_sheet 15 = .ok (.invokestatic 68, 3) := dk_184 0 68 (dk_at dksX6_sheet_0 15 rfl rfl)
theorem dX6_sheet_18 : decode cX6_sheet 18 = .ok (.ifCond .eq 13, 3) := dk_153 0 13 (dk_at dksX6_sheet_0 18 rfl rfl)
theorem dX6_sheet_21 : decode cX6_sheet 21 = .ok (.iload_n 2, 1) := dk_28 (dk_at dksX6_sheet_0 21 rfl rfl)
theorem dX6_sheet_22 : decode cX6_sheet 22 = .ok (.ifCond .lt 11, 3) := dk_155 0 11 (dk_at dksX6_sheet_1 0 rfl rfl)
theorem dX6_sheet_25 : decode cX6_sheet 25 = .ok (.iload_n 3, 1) := dk_29 (dk_at dksX6_sheet_1 3 rfl rfl)
theorem dX6_sheet_26 : decode cX6_sheet 26 = .ok (.bipush 40, 2) := dk_16 40 (dk_at dksX6_sheet_1 4 rfl rfl)
theorem dX6_sheet_28 : decode cX6_sheet 28 = .ok (.if_icmp .le 5, 3) := dk_164 0 5 (dk_at dksX6_sheet_1 6 rfl rfl)
theorem dX6_sheet_31 : decode cX6_sheet 31 = .ok (.iconst (-1), 1) := dk_2 (dk_at dksX6_sheet_1 9 rfl rfl)
theorem dX6_sheet_32 : decode cX6_sheet 32 = .ok (.ireturn, 1) := dk_172 (dk_at dksX6_sheet_1 10 rfl rfl)
theorem dX6_sheet_33 : decode cX6_sheet 33 = .ok (.iload_n 2, 1) := dk_28 (dk_at dksX6_sheet_1 11 rfl rfl)
theorem dX6_sheet_34 : decode cX6_sheet 34 = .ok (.ifCond .lt 10, 3) := dk_155 0 10 (dk_at dksX6_sheet_1 12 rfl rfl)
theorem dX6_sheet_37 : decode cX6_sheet 37 = .ok (.iload_n 3, 1) := dk_29 (dk_at dksX6_sheet_1 15 rfl rfl)
theorem dX6_sheet_38 : decode cX6_sheet 38 = .ok (.ifCond .ge 6, 3) := dk_156 0 6 (dk_at dksX6_sheet_1 16 rfl rfl)
theorem dX6_sheet_41 : decode cX6_sheet 41 = .ok (.bipush (-14), 2) := dk_16 242 (dk_at dksX6_sheet_1 19 rfl rfl)
theorem dX6_sheet_43 : decode cX6_sheet 43 = .ok (.ireturn, 1) := dk_172 (dk_at dksX6_sheet_1 21 rfl rfl)
theorem dX6_sheet_44 : decode cX6_sheet 44 = .ok (.aload_n 0, 1) := dk_42 (dk_at dksX6_sheet_1 22 rfl rfl)
theorem dX6_sheet_45 : decode cX6_sheet 45 = .ok (.getfield 47, 3) := dk_180 0 47 (dk_at dksX6_sheet_2 0 rfl rfl)
theorem dX6_sheet_48 : decode cX6_sheet 48 = .ok (.iload_n 1, 1) := dk_27 (dk_at dksX6_sheet_2 3 rfl rfl)
theorem dX6_sheet_49 : decode cX6_sheet 49 = .ok (.iload_n 2, 1) := dk_28 (dk_at dksX6_sheet_2 4 rfl rfl)
theorem dX6_sheet_50 : decode cX6_sheet 50 = .ok (.iastore, 1) := dk_79 (dk_at dksX6_sheet_2 5 rfl rfl)
theorem dX6_sheet_51 : decode cX6_sheet 51 = .ok (.aload_n 0, 1) := dk_42 (dk_at dksX6_sheet_2 6 rfl rfl)
theorem dX6_sheet_52 : decode cX6_sheet 52 = .ok (.getfield 50, 3) := dk_180 0 50 (dk_at dksX6_sheet_2 7 rfl rfl)
theorem dX6_sheet_55 : decode cX6_sheet 55 = .ok (.iload_n 1, 1) := dk_27 (dk_at dksX6_sheet_2 10 rfl rfl)
theorem dX6_sheet_56 : decode cX6_sheet 56 = .ok (.iload_n 2, 1) := dk_28 (dk_at dksX6_sheet_2 11 rfl rfl)
theorem dX6_sheet_57 : decode cX6_sheet 57 = .ok (.ifCond .ge 7, 3) := dk_156 0 7 (dk_at dksX6_sheet_2 12 rfl rfl)
theorem dX6_sheet_60 : decode cX6_sheet 60 = .ok (.iconst 0, 1) := dk_3 (dk_at dksX6_sheet_2 15 rfl rfl)
theorem dX6_sheet_61 : decode cX6_sheet 61 = .ok (.goto 4, 3) := dk_167 0 4 (dk_at dksX6_sheet_2 16 rfl rfl)
theorem dX6_sheet_64 : decode cX6_sheet 64 = .ok (.iload_n 3, 1) := dk_29 (dk_at dksX6_sheet_2 19 rfl rfl)
theorem dX6_sheet_65 : decode cX6_sheet 65 = .ok (.iastore, 1) := dk_79 (dk_at dksX6_sheet_2 20 rfl rfl)
theorem dX6_sheet_66 : decode cX6_sheet 66 = .ok (.iconst 0, 1) := dk_3 (dk_at dksX6_sheet_2 21 rfl rfl)
theorem dX6_sheet_67 : decode cX6_sheet 67 = .ok (.istore 4, 2) := dk_54 4 (dk_at dksX6_sheet_2 22 rfl rfl)
theorem dX6_sheet_69 : decode cX6_sheet 69 = .ok (.iload 4, 2) := dk_21 4 (dk_at dksX6_sheet_3 0 rfl rfl)
theorem dX6_sheet_71 : decode cX6_sheet 71 = .ok (.bipush 40, 2) := dk_16 40 (dk_at dksX6_sheet_3 2 rfl rfl)
theorem dX6_sheet_73 : decode cX6_sheet 73 = .ok (.if_icmp .ge 22, 3) := dk_162 0 22 (dk_at dksX6_sheet_3 4 rfl rfl)
theorem dX6_sheet_76 : decode cX6_sheet 76 = .ok (.aload_n 0, 1) := dk_42 (dk_at dksX6_sheet_3 7 rfl rfl)
theorem dX6_sheet_77 : decode cX6_sheet 77 = .ok (.getfield 53, 3) := dk_180 0 53 (dk_at dksX6_sheet_3 8 rfl rfl)
theorem dX6_sheet_80 : decode cX6_sheet 80 = .ok (.bipush 40, 2) := dk_16 40 (dk_at dksX6_sheet_3 11 rfl rfl)
theorem dX6_sheet_82 : decode cX6_sheet 82 = .ok (.iload_n 1, 1) := dk_27 (dk_at dksX6_sheet_3 13 rfl rfl)
theorem dX6_sheet_83 : decode cX6_sheet 83 = .ok (.imul, 1) := dk_104 (dk_at dksX6_sheet_3 14 rfl rfl)
theorem dX6_sheet_84 : decode cX6_sheet 84 = .ok (.iload 4, 2) := dk_21 4 (dk_at dksX6_sheet_3 15 rfl rfl)
theorem dX6_sheet_86 : decode cX6_sheet 86 = .ok (.iadd, 1) := dk_96 (dk_at dksX6_sheet_3 17 rfl rfl)
theorem dX6_sheet_87 : decode cX6_sheet 87 = .ok (.iconst 0, 1) := dk_3 (dk_at dksX6_sheet_3 18 rfl rfl)
theorem dX6_sheet_88 : decode cX6_sheet 88 = .ok (.iastore, 1) := dk_79 (dk_at dksX6_sheet_3 19 rfl rfl)
theorem dX6_sheet_89 : decode cX6_sheet 89 = .ok (.iinc 4 1, 3) := dk_132 4 1 (dk_at dksX6_sheet_3 20 rfl rfl)
theorem dX6_sheet_92 : decode cX6_sheet 92 = .ok (.goto (-23), 3) := dk_167 255 233 (dk_at dksX6_sheet_4 0 rfl rfl)
theorem dX6_sheet_95 : decode cX6_sheet 95 = .ok (.iconst 1, 1) := dk_4 (dk_at dksX6_sheet_4 3 rfl rfl)
theorem dX6_sheet_96 : decode cX6_sheet 96 = .ok (.ireturn, 1) := dk_172 (dk_at dksX6_sheet_4 4 rfl rfl)
abbrev cX6_isOne : ByteArray := prog_26_method_110_code
def yX6_isOne : MethodName := ⟨RX6, "isOne", "(I)Z"⟩
def dkwX6_isOne_0 : List UInt8 := [26, 133, 9, 20, 1, 160, 184, 0, 68, 172]
abbrev dktX6_isOne_0 : List UInt8 := dkwX6_isOne_0 ++ []
theorem dksX6_isOne_0 : cX6_isOne.data.toList.drop 0 = dktX6_isOne_0 := by decide +kernel
theorem dX6_isOne_0 : decode cX6_isOne 0 = .ok (.iload_n 0, 1) := dk_26 (dk_at dksX6_isOne_0 0 rfl rfl)
theorem dX6_isOne_1 : decode cX6_isOne 1 = .ok (.i2l, 1) := dk_133 (dk_at dksX6_isOne_0 1 rfl rfl)
theorem dX6_isOne_2 : decode cX6_isOne 2 = .ok (.lconst 0, 1) := dk_9 (dk_at dksX6_isOne_0 2 rfl rfl)
theorem dX6_isOne_3 : decode cX6_isOne 3 = .ok (.ldc2_w 416, 3) := dk_20 1 160 (dk_at dksX6_isOne_0 3 rfl rfl)
theorem dX6_isOne_6 : decode cX6_isOne 6 = .ok (.invokestatic 68, 3) := dk_184 0 68 (dk_at dksX6_isOne_0 6 rfl rfl)
theorem dX6_isOne_9 : decode cX6_isOne 9 = .ok (.ireturn, 1) := dk_172 (dk_at dksX6_isOne_0 9 rfl rfl)
abbrev cX6_write : ByteArray := prog_26_method_113_code
def yX6_write : MethodName := ⟨RX6, "write", "(III)I"⟩
def dkwX6_write_2 : List UInt8 := [27, 104, 28, 96, 42, 180, 0, 47, 27, 46, 29, 184, 1, 167, 79, 4, 172]
abbrev dktX6_write_2 : List UInt8 := dkwX6_write_2 ++ []
def dkwX6_write_1 : List UInt8 := [42, 180, 0, 50, 27, 46, 4, 100, 133, 184, 0, 68, 154, 0, 6, 16, 244, 172, 42, 180, 0, 53, 16, 40]
abbrev dktX6_write_1 : List UInt8 := dkwX6_write_1 ++ dktX6_write_2
def dkwX6_write_0 : List UInt8 := [27, 184, 1, 162, 154, 0, 5, 2, 172, 42, 180, 0, 47, 27, 46, 156, 0, 6, 16, 245, 172, 28, 133, 9]
abbrev dktX6_write_0 : List UInt8 := dkwX6_write_0 ++ dktX6_write_1
theorem dksX6_write_0 : cX6_write.data.toList.drop 0 = dktX6_write_0 := by decide +kernel
theorem dksX6_write_1 : cX6_write.data.toList.drop 24 = dktX6_write_1 := dk_seg dksX6_write_0 24 rfl rfl
theorem dksX6_write_2 : cX6_write.data.toList.drop 48 = dktX6_write_2 := dk_seg dksX6_write_1 24 rfl rfl
theorem dX6_write_0 : decode cX6_write 0 = .ok (.iload_n 1, 1) := dk_27 (dk_at dksX6_write_0 0 rfl rfl)
theorem dX6_write_1 : decode cX6_write 1 = .ok (.invokestatic 418, 3) := dk_184 1 162 (dk_at dksX6_write_0 1 rfl rfl)
theorem dX6_write_4 : decode cX6_write 4 = .ok (.ifCond .ne 5, 3) := dk_154 0 5 (dk_at dksX6_write_0 4 rfl rfl)
theorem dX6_write_7 : decode cX6_write 7 = .ok (.iconst (-1), 1) := dk_2 (dk_at dksX6_write_0 7 rfl rfl)
theorem dX6_write_8 : decode cX6_write 8 = .ok (.ireturn, 1) := dk_172 (dk_at dksX6_write_0 8 rfl rfl)
theorem dX6_write_9 : decode cX6_write 9 = .ok (.aload_n 0, 1) := dk_42 (dk_at dksX6_write_0 9 rfl rfl)
theorem dX6_write_10 : decode cX6_write 10 = .ok (.getfield 47, 3) := dk_180 0 47 (dk_at dksX6_write_0 10 rfl rfl)
theorem dX6_write_13 : decode cX6_write 13 = .ok (.iload_n 1, 1) := dk_27 (dk_at dksX6_write_0 13 rfl rfl)
theorem dX6_write_14 : decode cX6_write 14 = .ok (.iaload, 1) := dk_46 (dk_at dksX6_write_0 14 rfl rfl)
theorem dX6_write_15 : decode cX6_write 15 = .ok (.ifCond .ge 6, 3) := dk_156 0 6 (dk_at dksX6_write_0 15 rfl rfl)
theorem dX6_write_18 : decode cX6_write 18 = .ok (.bipush (-11), 2) := dk_16 245 (dk_at dksX6_write_0 18 rfl rfl)
theorem dX6_write_20 : decode cX6_write 20 = .ok (.ireturn, 1) := dk_172 (dk_at dksX6_write_0 20 rfl rfl)
theorem dX6_write_21 : decode cX6_write 21 = .ok (.iload_n 2, 1) := dk_28 (dk_at dksX6_write_0 21 rfl rfl)
theorem dX6_write_22 : decode cX6_write 22 = .ok (.i2l, 1) := dk_133 (dk_at dksX6_write_0 22 rfl rfl)
theorem dX6_write_23 : decode cX6_write 23 = .ok (.lconst 0, 1) := dk_9 (dk_at dksX6_write_0 23 rfl rfl)
theorem dX6_write_24 : decode cX6_write 24 = .ok (.aload_n 0, 1) := dk_42 (dk_at dksX6_write_1 0 rfl rfl)
theorem dX6_write_25 : decode cX6_write 25 = .ok (.getfield 50, 3) := dk_180 0 50 (dk_at dksX6_write_1 1 rfl rfl)
theorem dX6_write_28 : decode cX6_write 28 = .ok (.iload_n 1, 1) := dk_27 (dk_at dksX6_write_1 4 rfl rfl)
theorem dX6_write_29 : decode cX6_write 29 = .ok (.iaload, 1) := dk_46 (dk_at dksX6_write_1 5 rfl rfl)
theorem dX6_write_30 : decode cX6_write 30 = .ok (.iconst 1, 1) := dk_4 (dk_at dksX6_write_1 6 rfl rfl)
theorem dX6_write_31 : decode cX6_write 31 = .ok (.isub, 1) := dk_100 (dk_at dksX6_write_1 7 rfl rfl)
theorem dX6_write_32 : decode cX6_write 32 = .ok (.i2l, 1) := dk_133 (dk_at dksX6_write_1 8 rfl rfl)
theorem dX6_write_33 : decode cX6_write 33 = .ok (.invokestatic 68, 3) := dk_184 0 68 (dk_at dksX6_write_1 9 rfl rfl)
theorem dX6_write_36 : decode cX6_write 36 = .ok (.ifCond .ne 6, 3) := dk_154 0 6 (dk_at dksX6_write_1 12 rfl rfl)
theorem dX6_write_39 : decode cX6_write 39 = .ok (.bipush (-12), 2) := dk_16 244 (dk_at dksX6_write_1 15 rfl rfl)
theorem dX6_write_41 : decode cX6_write 41 = .ok (.ireturn, 1) := dk_172 (dk_at dksX6_write_1 17 rfl rfl)
theorem dX6_write_42 : decode cX6_write 42 = .ok (.aload_n 0, 1) := dk_42 (dk_at dksX6_write_1 18 rfl rfl)
theorem dX6_write_43 : decode cX6_write 43 = .ok (.getfield 53, 3) := dk_180 0 53 (dk_at dksX6_write_1 19 rfl rfl)
theorem dX6_write_46 : decode cX6_write 46 = .ok (.bipush 40, 2) := dk_16 40 (dk_at dksX6_write_1 22 rfl rfl)
theorem dX6_write_48 : decode cX6_write 48 = .ok (.iload_n 1, 1) := dk_27 (dk_at dksX6_write_2 0 rfl rfl)
theorem dX6_write_49 : decode cX6_write 49 = .ok (.imul, 1) := dk_104 (dk_at dksX6_write_2 1 rfl rfl)
theorem dX6_write_50 : decode cX6_write 50 = .ok (.iload_n 2, 1) := dk_28 (dk_at dksX6_write_2 2 rfl rfl)
theorem dX6_write_51 : decode cX6_write 51 = .ok (.iadd, 1) := dk_96 (dk_at dksX6_write_2 3 rfl rfl)
theorem dX6_write_52 : decode cX6_write 52 = .ok (.aload_n 0, 1) := dk_42 (dk_at dksX6_write_2 4 rfl rfl)
theorem dX6_write_53 : decode cX6_write 53 = .ok (.getfield 47, 3) := dk_180 0 47 (dk_at dksX6_write_2 5 rfl rfl)
theorem dX6_write_56 : decode cX6_write 56 = .ok (.iload_n 1, 1) := dk_27 (dk_at dksX6_write_2 8 rfl rfl)
theorem dX6_write_57 : decode cX6_write 57 = .ok (.iaload, 1) := dk_46 (dk_at dksX6_write_2 9 rfl rfl)
theorem dX6_write_58 : decode cX6_write 58 = .ok (.iload_n 3, 1) := dk_29 (dk_at dksX6_write_2 10 rfl rfl)
theorem dX6_write_59 : decode cX6_write 59 = .ok (.invokestatic 423, 3) := dk_184 1 167 (dk_at dksX6_write_2 11 rfl rfl)
theorem dX6_write_62 : decode cX6_write 62 = .ok (.iastore, 1) := dk_79 (dk_at dksX6_write_2 14 rfl rfl)
theorem dX6_write_63 : decode cX6_write 63 = .ok (.iconst 1, 1) := dk_4 (dk_at dksX6_write_2 15 rfl rfl)
theorem dX6_write_64 : decode cX6_write 64 = .ok (.ireturn, 1) := dk_172 (dk_at dksX6_write_2 16 rfl rfl)
abbrev cX6_narrowed : ByteArray := prog_26_method_112_code
def yX6_narrowed : MethodName := ⟨RX6, "narrowed", "(II)I"⟩
def dkwX6_narrowed_1 : List UInt8 := [27, 154, 0, 7, 3, 167, 0, 8, 4, 167, 0, 4, 27, 172]
abbrev dktX6_narrowed_1 : List UInt8 := dkwX6_narrowed_1 ++ []
def dkwX6_narrowed_0 : List UInt8 := [26, 154, 0, 8, 27, 145, 167, 0, 31, 26, 4, 160, 0, 8, 27, 147, 167, 0, 21, 26, 7, 160, 0, 15]
abbrev dktX6_narrowed_0 : List UInt8 := dkwX6_narrowed_0 ++ dktX6_narrowed_1
theorem dksX6_narrowed_0 : cX6_narrowed.data.toList.drop 0 = dktX6_narrowed_0 := by decide +kernel
theorem dksX6_narrowed_1 : cX6_narrowed.data.toList.drop 24 = dktX6_narrowed_1 := dk_seg dksX6_narrowed_0 24 rfl rfl
theorem dX6_narrowed_0 : decode cX6_narrowed 0 = .ok (.iload_n 0, 1) := dk_26 (dk_at dksX6_narrowed_0 0 rfl rfl)
theorem dX6_narrowed_1 : decode cX6_narrowed 1 = .ok (.ifCond .ne 8, 3) := dk_154 0 8 (dk_at dksX6_narrowed_0 1 rfl rfl)
theorem dX6_narrowed_4 : decode cX6_narrowed 4 = .ok (.iload_n 1, 1) := dk_27 (dk_at dksX6_narrowed_0 4 rfl rfl)
theorem dX6_narrowed_5 : decode cX6_narrowed 5 = .ok (.i2b, 1) := dk_145 (dk_at dksX6_narrowed_0 5 rfl rfl)
theorem dX6_narrowed_6 : decode cX6_narrowed 6 = .ok (.goto 31, 3) := dk_167 0 31 (dk_at dksX6_narrowed_0 6 rfl rfl)
theorem dX6_narrowed_9 : decode cX6_narrowed 9 = .ok (.iload_n 0, 1) := dk_26 (dk_at dksX6_narrowed_0 9 rfl rfl)
theorem dX6_narrowed_10 : decode cX6_narrowed 10 = .ok (.iconst 1, 1) := dk_4 (dk_at dksX6_narrowed_0 10 rfl rfl)
theorem dX6_narrowed_11 : decode cX6_narrowed 11 = .ok (.if_icmp .ne 8, 3) := dk_160 0 8 (dk_at dksX6_narrowed_0 11 rfl rfl)
theorem dX6_narrowed_14 : decode cX6_narrowed 14 = .ok (.iload_n 1, 1) := dk_27 (dk_at dksX6_narrowed_0 14 rfl rfl)
theorem dX6_narrowed_15 : decode cX6_narrowed 15 = .ok (.i2s, 1) := dk_147 (dk_at dksX6_narrowed_0 15 rfl rfl)
theorem dX6_narrowed_16 : decode cX6_narrowed 16 = .ok (.goto 21, 3) := dk_167 0 21 (dk_at dksX6_narrowed_0 16 rfl rfl)
theorem dX6_narrowed_19 : decode cX6_narrowed 19 = .ok (.iload_n 0, 1) := dk_26 (dk_at dksX6_narrowed_0 19 rfl rfl)
theorem dX6_narrowed_20 : decode cX6_narrowed 20 = .ok (.iconst 4, 1) := dk_7 (dk_at dksX6_narrowed_0 20 rfl rfl)
theorem dX6_narrowed_21 : decode cX6_narrowed 21 = .ok (.if_icmp .ne 15, 3) := dk_160 0 15 (dk_at dksX6_narrowed_0 21 rfl rfl)
theorem dX6_narrowed_24 : decode cX6_narrowed 24 = .ok (.iload_n 1, 1) := dk_27 (dk_at dksX6_narrowed_1 0 rfl rfl)
theorem dX6_narrowed_25 : decode cX6_narrowed 25 = .ok (.ifCond .ne 7, 3) := dk_154 0 7 (dk_at dksX6_narrowed_1 1 rfl rfl)
theorem dX6_narrowed_28 : decode cX6_narrowed 28 = .ok (.iconst 0, 1) := dk_3 (dk_at dksX6_narrowed_1 4 rfl rfl)
theorem dX6_narrowed_29 : decode cX6_narrowed 29 = .ok (.goto 8, 3) := dk_167 0 8 (dk_at dksX6_narrowed_1 5 rfl rfl)
theorem dX6_narrowed_32 : decode cX6_narrowed 32 = .ok (.iconst 1, 1) := dk_4 (dk_at dksX6_narrowed_1 8 rfl rfl)
theorem dX6_narrowed_33 : decode cX6_narrowed 33 = .ok (.goto 4, 3) := dk_167 0 4 (dk_at dksX6_narrowed_1 9 rfl rfl)
theorem dX6_narrowed_36 : decode cX6_narrowed 36 = .ok (.iload_n 1, 1) := dk_27 (dk_at dksX6_narrowed_1 12 rfl rfl)
theorem dX6_narrowed_37 : decode cX6_narrowed 37 = .ok (.ireturn, 1) := dk_172 (dk_at dksX6_narrowed_1 13 rfl rfl)
abbrev cX6_item : ByteArray := prog_26_method_115_code
def yX6_item : MethodName := ⟨RX6, "item", "(III)I"⟩
def dkwX6_item_3 : List UInt8 := [16, 244, 172]
abbrev dktX6_item_3 : List UInt8 := dkwX6_item_3 ++ []
def dkwX6_item_2 : List UInt8 := [4, 100, 133, 184, 0, 68, 153, 0, 17, 42, 180, 0, 53, 16, 40, 27, 104, 29, 96, 46, 167, 0, 5]
abbrev dktX6_item_2 : List UInt8 := dkwX6_item_2 ++ dktX6_item_3
def dkwX6_item_1 : List UInt8 := [182, 1, 170, 54, 4, 21, 4, 153, 0, 8, 21, 4, 167, 0, 37, 29, 133, 9, 42, 180, 0, 50, 27, 46]
abbrev dktX6_item_1 : List UInt8 := dkwX6_item_1 ++ dktX6_item_2
def dkwX6_item_0 : List UInt8 := [27, 184, 1, 162, 153, 0, 15, 28, 133, 9, 20, 0, 242, 184, 0, 68, 154, 0, 5, 2, 172, 42, 27, 28]
abbrev dktX6_item_0 : List UInt8 := dkwX6_item_0 ++ dktX6_item_1
theorem dksX6_item_0 : cX6_item.data.toList.drop 0 = dktX6_item_0 := by decide +kernel
theorem dksX6_item_1 : cX6_item.data.toList.drop 24 = dktX6_item_1 := dk_seg dksX6_item_0 24 rfl rfl
theorem dksX6_item_2 : cX6_item.data.toList.drop 48 = dktX6_item_2 := dk_seg dksX6_item_1 24 rfl rfl
theorem dksX6_item_3 : cX6_item.data.toList.drop 71 = dktX6_item_3 := dk_seg dksX6_item_2 23 rfl rfl
theorem dX6_item_0 : decode cX6_item 0 = .ok (.iload_n 1, 1) := dk_27 (dk_at dksX6_item_0 0 rfl rfl)
theorem dX6_item_1 : decode cX6_item 1 = .ok (.invokestatic 418, 3) := dk_184 1 162 (dk_at dksX6_item_0 1 rfl rfl)
theorem dX6_item_4 : decode cX6_item 4 = .ok (.ifCond .eq 15, 3) := dk_153 0 15 (dk_at dksX6_item_0 4 rfl rfl)
theorem dX6_item_7 : decode cX6_item 7 = .ok (.iload_n 2, 1) := dk_28 (dk_at dksX6_item_0 7 rfl rfl)
theorem dX6_item_8 : decode cX6_item 8 = .ok (.i2l, 1) := dk_133 (dk_at dksX6_item_0 8 rfl rfl)
theorem dX6_item_9 : decode cX6_item 9 = .ok (.lconst 0, 1) := dk_9 (dk_at dksX6_item_0 9 rfl rfl)
theorem dX6_item_10 : decode cX6_item 10 = .ok (.ldc2_w 242, 3) := dk_20 0 242 (dk_at dksX6_item_0 10 rfl rfl)
theorem dX6_item_13 : decode cX6_item 13 = .ok (.invokestatic 68, 3) := dk_184 0 68 (dk_at dksX6_item_0 13 rfl rfl)
theorem dX6_item_16 : decode cX6_item 16 = .ok (.ifCond .ne 5, 3) := dk_154 0 5 (dk_at dksX6_item_0 16 rfl rfl)
theorem dX6_item_19 : decode cX6_item 19 = .ok (.iconst (-1), 1) := dk_2 (dk_at dksX6_item_0 19 rfl rfl)
theorem dX6_item_20 : decode cX6_item 20 = .ok (.ireturn, 1) := dk_172 (dk_at dksX6_item_0 20 rfl rfl)
theorem dX6_item_21 : decode cX6_item 21 = .ok (.aload_n 0, 1) := dk_42 (dk_at dksX6_item_0 21 rfl rfl)
theorem dX6_item_22 : decode cX6_item 22 = .ok (.iload_n 1, 1) := dk_27 (dk_at dksX6_item_0 22 rfl rfl)
theorem dX6_item_23 : decode cX6_item 23 = .ok (.iload_n 2, 1) := dk_28 (dk_at dksX6_item_0 23 rfl rfl)
theorem dX6_item_24 : decode cX6_item 24 = .ok (.invokevirtual 426, 3) := dk_182 1 170 (dk_at dksX6_item_1 0 rfl rfl)
theorem dX6_item_27 : decode cX6_item 27 = .ok (.istore 4, 2) := dk_54 4 (dk_at dksX6_item_1 3 rfl rfl)
theorem dX6_item_29 : decode cX6_item 29 = .ok (.iload 4, 2) := dk_21 4 (dk_at dksX6_item_1 5 rfl rfl)
theorem dX6_item_31 : decode cX6_item 31 = .ok (.ifCond .eq 8, 3) := dk_153 0 8 (dk_at dksX6_item_1 7 rfl rfl)
theorem dX6_item_34 : decode cX6_item 34 = .ok (.iload 4, 2) := dk_21 4 (dk_at dksX6_item_1 10 rfl rfl)
theorem dX6_item_36 : decode cX6_item 36 = .ok (.goto 37, 3) := dk_167 0 37 (dk_at dksX6_item_1 12 rfl rfl)
theorem dX6_item_39 : decode cX6_item 39 = .ok (.iload_n 3, 1) := dk_29 (dk_at dksX6_item_1 15 rfl rfl)
theorem dX6_item_40 : decode cX6_item 40 = .ok (.i2l, 1) := dk_133 (dk_at dksX6_item_1 16 rfl rfl)
theorem dX6_item_41 : decode cX6_item 41 = .ok (.lconst 0, 1) := dk_9 (dk_at dksX6_item_1 17 rfl rfl)
theorem dX6_item_42 : decode cX6_item 42 = .ok (.aload_n 0, 1) := dk_42 (dk_at dksX6_item_1 18 rfl rfl)
theorem dX6_item_43 : decode cX6_item 43 = .ok (.getfield 50, 3) := dk_180 0 50 (dk_at dksX6_item_1 19 rfl rfl)
theorem dX6_item_46 : decode cX6_item 46 = .ok (.iload_n 1, 1) := dk_27 (dk_at dksX6_item_1 22 rfl rfl)
theorem dX6_item_47 : decode cX6_item 47 = .ok (.iaload, 1) := dk_46 (dk_at dksX6_item_1 23 rfl rfl)
theorem dX6_item_48 : decode cX6_item 48 = .ok (.iconst 1, 1) := dk_4 (dk_at dksX6_item_2 0 rfl rfl)
theorem dX6_item_49 : decode cX6_item 49 = .ok (.isub, 1) := dk_100 (dk_at dksX6_item_2 1 rfl rfl)
theorem dX6_item_50 : decode cX6_item 50 = .ok (.i2l, 1) := dk_133 (dk_at dksX6_item_2 2 rfl rfl)
theorem dX6_item_51 : decode cX6_item 51 = .ok (.invokestatic 68, 3) := dk_184 0 68 (dk_at dksX6_item_2 3 rfl rfl)
theorem dX6_item_54 : decode cX6_item 54 = .ok (.ifCond .eq 17, 3) := dk_153 0 17 (dk_at dksX6_item_2 6 rfl rfl)
theorem dX6_item_57 : decode cX6_item 57 = .ok (.aload_n 0, 1) := dk_42 (dk_at dksX6_item_2 9 rfl rfl)
theorem dX6_item_58 : decode cX6_item 58 = .ok (.getfield 53, 3) := dk_180 0 53 (dk_at dksX6_item_2 10 rfl rfl)
theorem dX6_item_61 : decode cX6_item 61 = .ok (.bipush 40, 2) := dk_16 40 (dk_at dksX6_item_2 13 rfl rfl)
theorem dX6_item_63 : decode cX6_item 63 = .ok (.iload_n 1, 1) := dk_27 (dk_at dksX6_item_2 15 rfl rfl)
theorem dX6_item_64 : decode cX6_item 64 = .ok (.imul, 1) := dk_104 (dk_at dksX6_item_2 16 rfl rfl)
theorem dX6_item_65 : decode cX6_item 65 = .ok (.iload_n 3, 1) := dk_29 (dk_at dksX6_item_2 17 rfl rfl)
theorem dX6_item_66 : decode cX6_item 66 = .ok (.iadd, 1) := dk_96 (dk_at dksX6_item_2 18 rfl rfl)
theorem dX6_item_67 : decode cX6_item 67 = .ok (.iaload, 1) := dk_46 (dk_at dksX6_item_2 19 rfl rfl)
theorem dX6_item_68 : decode cX6_item 68 = .ok (.goto 5, 3) := dk_167 0 5 (dk_at dksX6_item_2 20 rfl rfl)
theorem dX6_item_71 : decode cX6_item 71 = .ok (.bipush (-12), 2) := dk_16 244 (dk_at dksX6_item_3 0 rfl rfl)
theorem dX6_item_73 : decode cX6_item 73 = .ok (.ireturn, 1) := dk_172 (dk_at dksX6_item_3 2 rfl rfl)
abbrev cX6_whyNot : ByteArray := prog_26_method_114_code
def yX6_whyNot : MethodName := ⟨RX6, "whyNot", "(II)I"⟩
def dkwX6_whyNot_1 : List UInt8 := [16, 243, 167, 0, 4, 3, 172]
abbrev dktX6_whyNot_1 : List UInt8 := dkwX6_whyNot_1 ++ []
def dkwX6_whyNot_0 : List UInt8 := [42, 180, 0, 47, 27, 46, 156, 0, 8, 16, 245, 167, 0, 19, 42, 180, 0, 47, 27, 46, 28, 159, 0, 8]
abbrev dktX6_whyNot_0 : List UInt8 := dkwX6_whyNot_0 ++ dktX6_whyNot_1
theorem dksX6_whyNot_0 : cX6_whyNot.data.toList.drop 0 = dktX6_whyNot_0 := by decide +kernel
theorem dksX6_whyNot_1 : cX6_whyNot.data.toList.drop 24 = dktX6_whyNot_1 := dk_seg dksX6_whyNot_0 24 rfl rfl
theorem dX6_whyNot_0 : decode cX6_whyNot 0 = .ok (.aload_n 0, 1) := dk_42 (dk_at dksX6_whyNot_0 0 rfl rfl)
theorem dX6_whyNot_1 : decode cX6_whyNot 1 = .ok (.getfield 47, 3) := dk_180 0 47 (dk_at dksX6_whyNot_0 1 rfl rfl)
theorem dX6_whyNot_4 : decode cX6_whyNot 4 = .ok (.iload_n 1, 1) := dk_27 (dk_at dksX6_whyNot_0 4 rfl rfl)
theorem dX6_whyNot_5 : decode cX6_whyNot 5 = .ok (.iaload, 1) := dk_46 (dk_at dksX6_whyNot_0 5 rfl rfl)
theorem dX6_whyNot_6 : decode cX6_whyNot 6 = .ok (.ifCond .ge 8, 3) := dk_156 0 8 (dk_at dksX6_whyNot_0 6 rfl rfl)
theorem dX6_whyNot_9 : decode cX6_whyNot 9 = .ok (.bipush (-11), 2) := dk_16 245 (dk_at dksX6_whyNot_0 9 rfl rfl)
theorem dX6_whyNot_11 : decode cX6_whyNot 11 = .ok (.goto 19, 3) := dk_167 0 19 (dk_at dksX6_whyNot_0 11 rfl rfl)
theorem dX6_whyNot_14 : decode cX6_whyNot 14 = .ok (.aload_n 0, 1) := dk_42 (dk_at dksX6_whyNot_0 14 rfl rfl)
theorem dX6_whyNot_15 : decode cX6_whyNot 15 = .ok (.getfield 47, 3) := dk_180 0 47 (dk_at dksX6_whyNot_0 15 rfl rfl)
theorem dX6_whyNot_18 : decode cX6_whyNot 18 = .ok (.iload_n 1, 1) := dk_27 (dk_at dksX6_whyNot_0 18 rfl rfl)
theorem dX6_whyNot_19 : decode cX6_whyNot 19 = .ok (.iaload, 1) := dk_46 (dk_at dksX6_whyNot_0 19 rfl rfl)
theorem dX6_whyNot_20 : decode cX6_whyNot 20 = .ok (.iload_n 2, 1) := dk_28 (dk_at dksX6_whyNot_0 20 rfl rfl)
theorem dX6_whyNot_21 : decode cX6_whyNot 21 = .ok (.if_icmp .eq 8, 3) := dk_159 0 8 (dk_at dksX6_whyNot_0 21 rfl rfl)
theorem dX6_whyNot_24 : decode cX6_whyNot 24 = .ok (.bipush (-13), 2) := dk_16 243 (dk_at dksX6_whyNot_1 0 rfl rfl)
theorem dX6_whyNot_26 : decode cX6_whyNot 26 = .ok (.goto 4, 3) := dk_167 0 4 (dk_at dksX6_whyNot_1 2 rfl rfl)
theorem dX6_whyNot_29 : decode cX6_whyNot 29 = .ok (.iconst 0, 1) := dk_3 (dk_at dksX6_whyNot_1 5 rfl rfl)
theorem dX6_whyNot_30 : decode cX6_whyNot 30 = .ok (.ireturn, 1) := dk_172 (dk_at dksX6_whyNot_1 6 rfl rfl)
abbrev cX6_makeAll : ByteArray := prog_26_method_119_code
def yX6_makeAll : MethodName := ⟨RX6, "makeAll", "(III)I"⟩
def dkwX6_makeAll_4 : List UInt8 := [167, 255, 197, 21, 5, 172]
abbrev dktX6_makeAll_4 : List UInt8 := dkwX6_makeAll_4 ++ []
def dkwX6_makeAll_3 : List UInt8 := [180, 0, 53, 16, 40, 27, 104, 28, 96, 21, 6, 96, 46, 182, 0, 182, 132, 5, 1, 132, 6, 1]
abbrev dktX6_makeAll_3 : List UInt8 := dkwX6_makeAll_3 ++ dktX6_makeAll_4
def dkwX6_makeAll_2 : List UInt8 := [182, 1, 178, 154, 0, 6, 16, 244, 172, 42, 27, 28, 21, 6, 96, 182, 1, 182, 153, 0, 24, 42, 42]
abbrev dktX6_makeAll_2 : List UInt8 := dkwX6_makeAll_2 ++ dktX6_makeAll_3
def dkwX6_makeAll_1 : List UInt8 := [21, 4, 172, 3, 54, 5, 3, 54, 6, 21, 6, 29, 162, 0, 59, 42, 27, 28, 133, 21, 6, 133, 97]
abbrev dktX6_makeAll_1 : List UInt8 := dkwX6_makeAll_1 ++ dktX6_makeAll_2
def dkwX6_makeAll_0 : List UInt8 := [42, 27, 29, 182, 1, 175, 154, 0, 5, 2, 172, 42, 27, 3, 182, 1, 170, 54, 4, 21, 4, 153, 0, 6]
abbrev dktX6_makeAll_0 : List UInt8 := dkwX6_makeAll_0 ++ dktX6_makeAll_1
theorem dksX6_makeAll_0 : cX6_makeAll.data.toList.drop 0 = dktX6_makeAll_0 := by decide +kernel
theorem dksX6_makeAll_1 : cX6_makeAll.data.toList.drop 24 = dktX6_makeAll_1 := dk_seg dksX6_makeAll_0 24 rfl rfl
theorem dksX6_makeAll_2 : cX6_makeAll.data.toList.drop 47 = dktX6_makeAll_2 := dk_seg dksX6_makeAll_1 23 rfl rfl
theorem dksX6_makeAll_3 : cX6_makeAll.data.toList.drop 70 = dktX6_makeAll_3 := dk_seg dksX6_makeAll_2 23 rfl rfl
theorem dksX6_makeAll_4 : cX6_makeAll.data.toList.drop 92 = dktX6_makeAll_4 := dk_seg dksX6_makeAll_3 22 rfl rfl
theorem dX6_makeAll_0 : decode cX6_makeAll 0 = .ok (.aload_n 0, 1) := dk_42 (dk_at dksX6_makeAll_0 0 rfl rfl)
theorem dX6_makeAll_1 : decode cX6_makeAll 1 = .ok (.iload_n 1, 1) := dk_27 (dk_at dksX6_makeAll_0 1 rfl rfl)
theorem dX6_makeAll_2 : decode cX6_makeAll 2 = .ok (.iload_n 3, 1) := dk_29 (dk_at dksX6_makeAll_0 2 rfl rfl)
theorem dX6_makeAll_3 : decode cX6_makeAll 3 = .ok (.invokevirtual 431, 3) := dk_182 1 175 (dk_at dksX6_makeAll_0 3 rfl rfl)
theorem dX6_makeAll_6 : decode cX6_makeAll 6 = .ok (.ifCond .ne 5, 3) := dk_154 0 5 (dk_at dksX6_makeAll_0 6 rfl rfl)
theorem dX6_makeAll_9 : decode cX6_makeAll 9 = .ok (.iconst (-1), 1) := dk_2 (dk_at dksX6_makeAll_0 9 rfl rfl)
theorem dX6_makeAll_10 : decode cX6_makeAll 10 = .ok (.ireturn, 1) := dk_172 (dk_at dksX6_makeAll_0 10 rfl rfl)
theorem dX6_makeAll_11 : decode cX6_makeAll 11 = .ok (.aload_n 0, 1) := dk_42 (dk_at dksX6_makeAll_0 11 rfl rfl)
theorem dX6_makeAll_12 : decode cX6_makeAll 12 = .ok (.iload_n 1, 1) := dk_27 (dk_at dksX6_makeAll_0 12 rfl rfl)
theorem dX6_makeAll_13 : decode cX6_makeAll 13 = .ok (.iconst 0, 1) := dk_3 (dk_at dksX6_makeAll_0 13 rfl rfl)
theorem dX6_makeAll_14 : decode cX6_makeAll 14 = .ok (.invokevirtual 426, 3) := dk_182 1 170 (dk_at dksX6_makeAll_0 14 rfl rfl)
theorem dX6_makeAll_17 : decode cX6_makeAll 17 = .ok (.istore 4, 2) := dk_54 4 (dk_at dksX6_makeAll_0 17 rfl rfl)
theorem dX6_makeAll_19 : decode cX6_makeAll 19 = .ok (.iload 4, 2) := dk_21 4 (dk_at dksX6_makeAll_0 19 rfl rfl)
theorem dX6_makeAll_21 : decode cX6_makeAll 21 = .ok (.ifCond .eq 6, 3) := dk_153 0 6 (dk_at dksX6_makeAll_0 21 rfl rfl)
theorem dX6_makeAll_24 : decode cX6_makeAll 24 = .ok (.iload 4, 2) := dk_21 4 (dk_at dksX6_makeAll_1 0 rfl rfl)
theorem dX6_makeAll_26 : decode cX6_makeAll 26 = .ok (.ireturn, 1) := dk_172 (dk_at dksX6_makeAll_1 2 rfl rfl)
theorem dX6_makeAll_27 : decode cX6_makeAll 27 = .ok (.iconst 0, 1) := dk_3 (dk_at dksX6_makeAll_1 3 rfl rfl)
theorem dX6_makeAll_28 : decode cX6_makeAll 28 = .ok (.istore 5, 2) := dk_54 5 (dk_at dksX6_makeAll_1 4 rfl rfl)
theorem dX6_makeAll_30 : decode cX6_makeAll 30 = .ok (.iconst 0, 1) := dk_3 (dk_at dksX6_makeAll_1 6 rfl rfl)
theorem dX6_makeAll_31 : decode cX6_makeAll 31 = .ok (.istore 6, 2) := dk_54 6 (dk_at dksX6_makeAll_1 7 rfl rfl)
theorem dX6_makeAll_33 : decode cX6_makeAll 33 = .ok (.iload 6, 2) := dk_21 6 (dk_at dksX6_makeAll_1 9 rfl rfl)
theorem dX6_makeAll_35 : decode cX6_makeAll 35 = .ok (.iload_n 3, 1) := dk_29 (dk_at dksX6_makeAll_1 11 rfl rfl)
theorem dX6_makeAll_36 : decode cX6_makeAll 36 = .ok (.if_icmp .ge 59, 3) := dk_162 0 59 (dk_at dksX6_makeAll_1 12 rfl rfl)
theorem dX6_makeAll_39 : decode cX6_makeAll 39 = .ok (.aload_n 0, 1) := dk_42 (dk_at dksX6_makeAll_1 15 rfl rfl)
theorem dX6_makeAll_40 : decode cX6_makeAll 40 = .ok (.iload_n 1, 1) := dk_27 (dk_at dksX6_makeAll_1 16 rfl rfl)
theorem dX6_makeAll_41 : decode cX6_makeAll 41 = .ok (.iload_n 2, 1) := dk_28 (dk_at dksX6_makeAll_1 17 rfl rfl)
theorem dX6_makeAll_42 : decode cX6_makeAll 42 = .ok (.i2l, 1) := dk_133 (dk_at dksX6_makeAll_1 18 rfl rfl)
theorem dX6_makeAll_43 : decode cX6_makeAll 43 = .ok (.iload 6, 2) := dk_21 6 (dk_at dksX6_makeAll_1 19 rfl rfl)
theorem dX6_makeAll_45 : decode cX6_makeAll 45 = .ok (.i2l, 1) := dk_133 (dk_at dksX6_makeAll_1 21 rfl rfl)
theorem dX6_makeAll_46 : decode cX6_makeAll 46 = .ok (.ladd, 1) := dk_97 (dk_at dksX6_makeAll_1 22 rfl rfl)
theorem dX6_makeAll_47 : decode cX6_makeAll 47 = .ok (.invokevirtual 434, 3) := dk_182 1 178 (dk_at dksX6_makeAll_2 0 rfl rfl)
theorem dX6_makeAll_50 : decode cX6_makeAll 50 = .ok (.ifCond .ne 6, 3) := dk_154 0 6 (dk_at dksX6_makeAll_2 3 rfl rfl)
theorem dX6_makeAll_53 : decode cX6_makeAll 53 = .ok (.bipush (-12), 2) := dk_16 244 (dk_at dksX6_makeAll_2 6 rfl rfl)
theorem dX6_makeAll_55 : decode cX6_makeAll 55 = .ok (.ireturn, 1) := dk_172 (dk_at dksX6_makeAll_2 8 rfl rfl)
theorem dX6_makeAll_56 : decode cX6_makeAll 56 = .ok (.aload_n 0, 1) := dk_42 (dk_at dksX6_makeAll_2 9 rfl rfl)
theorem dX6_makeAll_57 : decode cX6_makeAll 57 = .ok (.iload_n 1, 1) := dk_27 (dk_at dksX6_makeAll_2 10 rfl rfl)
theorem dX6_makeAll_58 : decode cX6_makeAll 58 = .ok (.iload_n 2, 1) := dk_28 (dk_at dksX6_makeAll_2 11 rfl rfl)
theorem dX6_makeAll_59 : decode cX6_makeAll 59 = .ok (.iload 6, 2) := dk_21 6 (dk_at dksX6_makeAll_2 12 rfl rfl)
theorem dX6_makeAll_61 : decode cX6_makeAll 61 = .ok (.iadd, 1) := dk_96 (dk_at dksX6_makeAll_2 14 rfl rfl)
theorem dX6_makeAll_62 : decode cX6_makeAll 62 = .ok (.invokevirtual 438, 3) := dk_182 1 182 (dk_at dksX6_makeAll_2 15 rfl rfl)
theorem dX6_makeAll_65 : decode cX6_makeAll 65 = .ok (.ifCond .eq 24, 3) := dk_153 0 24 (dk_at dksX6_makeAll_2 18 rfl rfl)
theorem dX6_makeAll_68 : decode cX6_makeAll 68 = .ok (.aload_n 0, 1) := dk_42 (dk_at dksX6_makeAll_2 21 rfl rfl)
theorem dX6_makeAll_69 : decode cX6_makeAll 69 = .ok (.aload_n 0, 1) := dk_42 (dk_at dksX6_makeAll_2 22 rfl rfl)
theorem dX6_makeAll_70 : decode cX6_makeAll 70 = .ok (.getfield 53, 3) := dk_180 0 53 (dk_at dksX6_makeAll_3 0 rfl rfl)
theorem dX6_makeAll_73 : decode cX6_makeAll 73 = .ok (.bipush 40, 2) := dk_16 40 (dk_at dksX6_makeAll_3 3 rfl rfl)
theorem dX6_makeAll_75 : decode cX6_makeAll 75 = .ok (.iload_n 1, 1) := dk_27 (dk_at dksX6_makeAll_3 5 rfl rfl)
theorem dX6_makeAll_76 : decode cX6_makeAll 76 = .ok (.imul, 1) := dk_104 (dk_at dksX6_makeAll_3 6 rfl rfl)
theorem dX6_makeAll_77 : decode cX6_makeAll 77 = .ok (.iload_n 2, 1) := dk_28 (dk_at dksX6_makeAll_3 7 rfl rfl)
theorem dX6_makeAll_78 : decode cX6_makeAll 78 = .ok (.iadd, 1) := dk_96 (dk_at dksX6_makeAll_3 8 rfl rfl)
theorem dX6_makeAll_79 : decode cX6_makeAll 79 = .ok (.iload 6, 2) := dk_21 6 (dk_at dksX6_makeAll_3 9 rfl rfl)
theorem dX6_makeAll_81 : decode cX6_makeAll 81 = .ok (.iadd, 1) := dk_96 (dk_at dksX6_makeAll_3 11 rfl rfl)
theorem dX6_makeAll_82 : decode cX6_makeAll 82 = .ok (.iaload, 1) := dk_46 (dk_at dksX6_makeAll_3 12 rfl rfl)
theorem dX6_makeAll_83 : decode cX6_makeAll 83 = .ok (.invokevirtual 182, 3) := dk_182 0 182 (dk_at dksX6_makeAll_3 13 rfl rfl)
theorem dX6_makeAll_86 : decode cX6_makeAll 86 = .ok (.iinc 5 1, 3) := dk_132 5 1 (dk_at dksX6_makeAll_3 16 rfl rfl)
theorem dX6_makeAll_89 : decode cX6_makeAll 89 = .ok (.iinc 6 1, 3) := dk_132 6 1 (dk_at dksX6_makeAll_3 19 rfl rfl)
theorem dX6_makeAll_92 : decode cX6_makeAll 92 = .ok (.goto (-59), 3) := dk_167 255 197 (dk_at dksX6_makeAll_4 0 rfl rfl)
theorem dX6_makeAll_95 : decode cX6_makeAll 95 = .ok (.iload 5, 2) := dk_21 5 (dk_at dksX6_makeAll_4 3 rfl rfl)
theorem dX6_makeAll_97 : decode cX6_makeAll 97 = .ok (.ireturn, 1) := dk_172 (dk_at dksX6_makeAll_4 5 rfl rfl)
abbrev cX6_isSpan : ByteArray := prog_26_method_117_code
def yX6_isSpan : MethodName := ⟨RX6, "isSpan", "(II)Z"⟩
def dkwX6_isSpan_1 : List UInt8 := [172]
abbrev dktX6_isSpan_1 : List UInt8 := dkwX6_isSpan_1 ++ []
def dkwX6_isSpan_0 : List UInt8 := [27, 184, 1, 162, 153, 0, 19, 28, 133, 9, 20, 1, 173, 184, 0, 68, 153, 0, 7, 4, 167, 0, 4, 3]
abbrev dktX6_isSpan_0 : List UInt8 := dkwX6_isSpan_0 ++ dktX6_isSpan_1
theorem dksX6_isSpan_0 : cX6_isSpan.data.toList.drop 0 = dktX6_isSpan_0 := by decide +kernel
theorem dksX6_isSpan_1 : cX6_isSpan.data.toList.drop 24 = dktX6_isSpan_1 := dk_seg dksX6_isSpan_0 24 rfl rfl
theorem dX6_isSpan_0 : decode cX6_isSpan 0 = .ok (.iload_n 1, 1) := dk_27 (dk_at dksX6_isSpan_0 0 rfl rfl)
theorem dX6_isSpan_1 : decode cX6_isSpan 1 = .ok (.invokestatic 418, 3) := dk_184 1 162 (dk_at dksX6_isSpan_0 1 rfl rfl)
theorem dX6_isSpan_4 : decode cX6_isSpan 4 = .ok (.ifCond .eq 19, 3) := dk_153 0 19 (dk_at dksX6_isSpan_0 4 rfl rfl)
theorem dX6_isSpan_7 : decode cX6_isSpan 7 = .ok (.iload_n 2, 1) := dk_28 (dk_at dksX6_isSpan_0 7 rfl rfl)
theorem dX6_isSpan_8 : decode cX6_isSpan 8 = .ok (.i2l, 1) := dk_133 (dk_at dksX6_isSpan_0 8 rfl rfl)
theorem dX6_isSpan_9 : decode cX6_isSpan 9 = .ok (.lconst 0, 1) := dk_9 (dk_at dksX6_isSpan_0 9 rfl rfl)
theorem dX6_isSpan_10 : decode cX6_isSpan 10 = .ok (.ldc2_w 429, 3) := dk_20 1 173 (dk_at dksX6_isSpan_0 10 rfl rfl)
theorem dX6_isSpan_13 : decode cX6_isSpan 13 = .ok (.invokestatic 68, 3) := dk_184 0 68 (dk_at dksX6_isSpan_0 13 rfl rfl)
theorem dX6_isSpan_16 : decode cX6_isSpan 16 = .ok (.ifCond .eq 7, 3) := dk_153 0 7 (dk_at dksX6_isSpan_0 16 rfl rfl)
theorem dX6_isSpan_19 : decode cX6_isSpan 19 = .ok (.iconst 1, 1) := dk_4 (dk_at dksX6_isSpan_0 19 rfl rfl)
theorem dX6_isSpan_20 : decode cX6_isSpan 20 = .ok (.goto 4, 3) := dk_167 0 4 (dk_at dksX6_isSpan_0 20 rfl rfl)
theorem dX6_isSpan_23 : decode cX6_isSpan 23 = .ok (.iconst 0, 1) := dk_3 (dk_at dksX6_isSpan_0 23 rfl rfl)
theorem dX6_isSpan_24 : decode cX6_isSpan 24 = .ok (.ireturn, 1) := dk_172 (dk_at dksX6_isSpan_1 0 rfl rfl)
abbrev cX6_isItem : ByteArray := prog_26_method_116_code
def yX6_isItem : MethodName := ⟨RX6, "isItem", "(IJ)Z"⟩
def dkwX6_isItem_0 : List UInt8 := [32, 9, 42, 180, 0, 50, 27, 46, 4, 100, 133, 184, 0, 68, 172]
abbrev dktX6_isItem_0 : List UInt8 := dkwX6_isItem_0 ++ []
theorem dksX6_isItem_0 : cX6_isItem.data.toList.drop 0 = dktX6_isItem_0 := by decide +kernel
theorem dX6_isItem_0 : decode cX6_isItem 0 = .ok (.lload_n 2, 1) := dk_32 (dk_at dksX6_isItem_0 0 rfl rfl)
theorem dX6_isItem_1 : decode cX6_isItem 1 = .ok (.lconst 0, 1) := dk_9 (dk_at dksX6_isItem_0 1 rfl rfl)
theorem dX6_isItem_2 : decode cX6_isItem 2 = .ok (.aload_n 0, 1) := dk_42 (dk_at dksX6_isItem_0 2 rfl rfl)
theorem dX6_isItem_3 : decode cX6_isItem 3 = .ok (.getfield 50, 3) := dk_180 0 50 (dk_at dksX6_isItem_0 3 rfl rfl)
theorem dX6_isItem_6 : decode cX6_isItem 6 = .ok (.iload_n 1, 1) := dk_27 (dk_at dksX6_isItem_0 6 rfl rfl)
theorem dX6_isItem_7 : decode cX6_isItem 7 = .ok (.iaload, 1) := dk_46 (dk_at dksX6_isItem_0 7 rfl rfl)
theorem dX6_isItem_8 : decode cX6_isItem 8 = .ok (.iconst 1, 1) := dk_4 (dk_at dksX6_isItem_0 8 rfl rfl)
theorem dX6_isItem_9 : decode cX6_isItem 9 = .ok (.isub, 1) := dk_100 (dk_at dksX6_isItem_0 9 rfl rfl)
theorem dX6_isItem_10 : decode cX6_isItem 10 = .ok (.i2l, 1) := dk_133 (dk_at dksX6_isItem_0 10 rfl rfl)
theorem dX6_isItem_11 : decode cX6_isItem 11 = .ok (.invokestatic 68, 3) := dk_184 0 68 (dk_at dksX6_isItem_0 11 rfl rfl)
theorem dX6_isItem_14 : decode cX6_isItem 14 = .ok (.ireturn, 1) := dk_172 (dk_at dksX6_isItem_0 14 rfl rfl)
abbrev cX6_isOnTurn : ByteArray := prog_26_method_118_code
def yX6_isOnTurn : MethodName := ⟨RX6, "isOnTurn", "(II)Z"⟩
def dkwX6_isOnTurn_1 : List UInt8 := [182, 0, 162, 153, 0, 7, 4, 167, 0, 4, 3, 172]
abbrev dktX6_isOnTurn_1 : List UInt8 := dkwX6_isOnTurn_1 ++ []
def dkwX6_isOnTurn_0 : List UInt8 := [42, 180, 0, 53, 16, 40, 27, 104, 28, 96, 46, 62, 42, 29, 182, 0, 159, 153, 0, 15, 42, 29]
abbrev dktX6_isOnTurn_0 : List UInt8 := dkwX6_isOnTurn_0 ++ dktX6_isOnTurn_1
theorem dksX6_isOnTurn_0 : cX6_isOnTurn.data.toList.drop 0 = dktX6_isOnTurn_0 := by decide +kernel
theorem dksX6_isOnTurn_1 : cX6_isOnTurn.data.toList.drop 22 = dktX6_isOnTurn_1 := dk_seg dksX6_isOnTurn_0 22 rfl rfl
theorem dX6_isOnTurn_0 : decode cX6_isOnTurn 0 = .ok (.aload_n 0, 1) := dk_42 (dk_at dksX6_isOnTurn_0 0 rfl rfl)
theorem dX6_isOnTurn_1 : decode cX6_isOnTurn 1 = .ok (.getfield 53, 3) := dk_180 0 53 (dk_at dksX6_isOnTurn_0 1 rfl rfl)
theorem dX6_isOnTurn_4 : decode cX6_isOnTurn 4 = .ok (.bipush 40, 2) := dk_16 40 (dk_at dksX6_isOnTurn_0 4 rfl rfl)
theorem dX6_isOnTurn_6 : decode cX6_isOnTurn 6 = .ok (.iload_n 1, 1) := dk_27 (dk_at dksX6_isOnTurn_0 6 rfl rfl)
theorem dX6_isOnTurn_7 : decode cX6_isOnTurn 7 = .ok (.imul, 1) := dk_104 (dk_at dksX6_isOnTurn_0 7 rfl rfl)
theorem dX6_isOnTurn_8 : decode cX6_isOnTurn 8 = .ok (.iload_n 2, 1) := dk_28 (dk_at dksX6_isOnTurn_0 8 rfl rfl)
theorem dX6_isOnTurn_9 : decode cX6_isOnTurn 9 = .ok (.iadd, 1) := dk_96 (dk_at dksX6_isOnTurn_0 9 rfl rfl)
theorem dX6_isOnTurn_10 : decode cX6_isOnTurn 10 = .ok (.iaload, 1) := dk_46 (dk_at dksX6_isOnTurn_0 10 rfl rfl)
theorem dX6_isOnTurn_11 : decode cX6_isOnTurn 11 = .ok (.istore_n 3, 1) := dk_62 (dk_at dksX6_isOnTurn_0 11 rfl rfl)
theorem dX6_isOnTurn_12 : decode cX6_isOnTurn 12 = .ok (.aload_n 0, 1) := dk_42 (dk_at dksX6_isOnTurn_0 12 rfl rfl)
theorem dX6_isOnTurn_13 : decode cX6_isOnTurn 13 = .ok (.iload_n 3, 1) := dk_29 (dk_at dksX6_isOnTurn_0 13 rfl rfl)
theorem dX6_isOnTurn_14 : decode cX6_isOnTurn 14 = .ok (.invokevirtual 159, 3) := dk_182 0 159 (dk_at dksX6_isOnTurn_0 14 rfl rfl)
theorem dX6_isOnTurn_17 : decode cX6_isOnTurn 17 = .ok (.ifCond .eq 15, 3) := dk_153 0 15 (dk_at dksX6_isOnTurn_0 17 rfl rfl)
theorem dX6_isOnTurn_20 : decode cX6_isOnTurn 20 = .ok (.aload_n 0, 1) := dk_42 (dk_at dksX6_isOnTurn_0 20 rfl rfl)
theorem dX6_isOnTurn_21 : decode cX6_isOnTurn 21 = .ok (.iload_n 3, 1) := dk_29 (dk_at dksX6_isOnTurn_0 21 rfl rfl)
theorem dX6_isOnTurn_22 : decode cX6_isOnTurn 22 = .ok (.invokevirtual 162, 3) := dk_182 0 162 (dk_at dksX6_isOnTurn_1 0 rfl rfl)
theorem dX6_isOnTurn_25 : decode cX6_isOnTurn 25 = .ok (.ifCond .eq 7, 3) := dk_153 0 7 (dk_at dksX6_isOnTurn_1 3 rfl rfl)
theorem dX6_isOnTurn_28 : decode cX6_isOnTurn 28 = .ok (.iconst 1, 1) := dk_4 (dk_at dksX6_isOnTurn_1 6 rfl rfl)
theorem dX6_isOnTurn_29 : decode cX6_isOnTurn 29 = .ok (.goto 4, 3) := dk_167 0 4 (dk_at dksX6_isOnTurn_1 7 rfl rfl)
theorem dX6_isOnTurn_32 : decode cX6_isOnTurn 32 = .ok (.iconst 0, 1) := dk_3 (dk_at dksX6_isOnTurn_1 10 rfl rfl)
theorem dX6_isOnTurn_33 : decode cX6_isOnTurn 33 = .ok (.ireturn, 1) := dk_172 (dk_at dksX6_isOnTurn_1 11 rfl rfl)
abbrev cX6_wouldCost : ByteArray := prog_26_method_120_code
def yX6_wouldCost : MethodName := ⟨RX6, "wouldCost", "(III)I"⟩
def dkwX6_wouldCost_6 : List UInt8 := [21, 5, 172]
abbrev dktX6_wouldCost_6 : List UInt8 := dkwX6_wouldCost_6 ++ []
def dkwX6_wouldCost_5 : List UInt8 := [96, 54, 5, 132, 6, 1, 167, 255, 167, 42, 182, 1, 27, 21, 4, 153, 0, 8, 21, 4, 167, 0, 5]
abbrev dktX6_wouldCost_5 : List UInt8 := dkwX6_wouldCost_5 ++ dktX6_wouldCost_6
def dkwX6_wouldCost_4 : List UInt8 := [42, 42, 180, 0, 53, 16, 40, 27, 104, 28, 96, 21, 6, 96, 46, 182, 0, 175, 21, 5, 42, 180, 0, 168]
abbrev dktX6_wouldCost_4 : List UInt8 := dkwX6_wouldCost_4 ++ dktX6_wouldCost_5
def dkwX6_wouldCost_3 : List UInt8 := [27, 28, 21, 6, 96, 182, 1, 182, 154, 0, 8, 16, 252, 167, 0, 4, 3, 54, 4, 21, 4, 154, 0, 30]
abbrev dktX6_wouldCost_3 : List UInt8 := dkwX6_wouldCost_3 ++ dktX6_wouldCost_4
def dkwX6_wouldCost_2 : List UInt8 := [42, 27, 28, 133, 21, 6, 133, 97, 182, 1, 178, 54, 7, 21, 7, 154, 0, 8, 16, 244, 167, 0, 21, 42]
abbrev dktX6_wouldCost_2 : List UInt8 := dkwX6_wouldCost_2 ++ dktX6_wouldCost_3
def dkwX6_wouldCost_1 : List UInt8 := [21, 4, 172, 42, 182, 1, 24, 3, 54, 5, 3, 54, 6, 21, 6, 29, 162, 0, 89, 21, 4, 154, 0, 84]
abbrev dktX6_wouldCost_1 : List UInt8 := dkwX6_wouldCost_1 ++ dktX6_wouldCost_2
def dkwX6_wouldCost_0 : List UInt8 := [42, 27, 29, 182, 1, 175, 154, 0, 5, 2, 172, 42, 27, 3, 182, 1, 170, 54, 4, 21, 4, 153, 0, 6]
abbrev dktX6_wouldCost_0 : List UInt8 := dkwX6_wouldCost_0 ++ dktX6_wouldCost_1
theorem dksX6_wouldCost_0 : cX6_wouldCost.data.toList.drop 0 = dktX6_wouldCost_0 := by decide +kernel
theorem dksX6_wouldCost_1 : cX6_wouldCost.data.toList.drop 24 = dktX6_wouldCost_1 := dk_seg dksX6_wouldCost_0 24 rfl rfl
theorem dksX6_wouldCost_2 : cX6_wouldCost.data.toList.drop 48 = dktX6_wouldCost_2 := dk_seg dksX6_wouldCost_1 24 rfl rfl
theorem dksX6_wouldCost_3 : cX6_wouldCost.data.toList.drop 72 = dktX6_wouldCost_3 := dk_seg dksX6_wouldCost_2 24 rfl rfl
theorem dksX6_wouldCost_4 : cX6_wouldCost.data.toList.drop 96 = dktX6_wouldCost_4 := dk_seg dksX6_wouldCost_3 24 rfl rfl
theorem dksX6_wouldCost_5 : cX6_wouldCost.data.toList.drop 120 = dktX6_wouldCost_5 := dk_seg dksX6_wouldCost_4 24 rfl rfl
theorem dksX6_wouldCost_6 : cX6_wouldCost.data.toList.drop 143 = dktX6_wouldCost_6 := dk_seg dksX6_wouldCost_5 23 rfl rfl
theorem dX6_wouldCost_0 : decode cX6_wouldCost 0 = .ok (.aload_n 0, 1) := dk_42 (dk_at dksX6_wouldCost_0 0 rfl rfl)
theorem dX6_wouldCost_1 : decode cX6_wouldCost 1 = .ok (.iload_n 1, 1) := dk_27 (dk_at dksX6_wouldCost_0 1 rfl rfl)
theorem dX6_wouldCost_2 : decode cX6_wouldCost 2 = .ok (.iload_n 3, 1) := dk_29 (dk_at dksX6_wouldCost_0 2 rfl rfl)
theorem dX6_wouldCost_3 : decode cX6_wouldCost 3 = .ok (.invokevirtual 431, 3) := dk_182 1 175 (dk_at dksX6_wouldCost_0 3 rfl rfl)
theorem dX6_wouldCost_6 : decode cX6_wouldCost 6 = .ok (.ifCond .ne 5, 3) := dk_154 0 5 (dk_at dksX6_wouldCost_0 6 rfl rfl)
theorem dX6_wouldCost_9 : decode cX6_wouldCost 9 = .ok (.iconst (-1), 1) := dk_2 (dk_at dksX6_wouldCost_0 9 rfl rfl)
theorem dX6_wouldCost_10 : decode cX6_wouldCost 10 = .ok (.ireturn, 1) := dk_172 (dk_at dksX6_wouldCost_0 10 rfl rfl)
theorem dX6_wouldCost_11 : decode cX6_wouldCost 11 = .ok (.aload_n 0, 1) := dk_42 (dk_at dksX6_wouldCost_0 11 rfl rfl)
theorem dX6_wouldCost_12 : decode cX6_wouldCost 12 = .ok (.iload_n 1, 1) := dk_27 (dk_at dksX6_wouldCost_0 12 rfl rfl)
theorem dX6_wouldCost_13 : decode cX6_wouldCost 13 = .ok (.iconst 0, 1) := dk_3 (dk_at dksX6_wouldCost_0 13 rfl rfl)
theorem dX6_wouldCost_14 : decode cX6_wouldCost 14 = .ok (.invokevirtual 426, 3) := dk_182 1 170 (dk_at dksX6_wouldCost_0 14 rfl rfl)
theorem dX6_wouldCost_17 : decode cX6_wouldCost 17 = .ok (.istore 4, 2) := dk_54 4 (dk_at dksX6_wouldCost_0 17 rfl rfl)
theorem dX6_wouldCost_19 : decode cX6_wouldCost 19 = .ok (.iload 4, 2) := dk_21 4 (dk_at dksX6_wouldCost_0 19 rfl rfl)
theorem dX6_wouldCost_21 : decode cX6_wouldCost 21 = .ok (.ifCond .eq 6, 3) := dk_153 0 6 (dk_at dksX6_wouldCost_0 21 rfl rfl)
theorem dX6_wouldCost_24 : decode cX6_wouldCost 24 = .ok (.iload 4, 2) := dk_21 4 (dk_at dksX6_wouldCost_1 0 rfl rfl)
theorem dX6_wouldCost_26 : decode cX6_wouldCost 26 = .ok (.ireturn, 1) := dk_172 (dk_at dksX6_wouldCost_1 2 rfl rfl)
theorem dX6_wouldCost_27 : decode cX6_wouldCost 27 = .ok (.aload_n 0, 1) := dk_42 (dk_at dksX6_wouldCost_1 3 rfl rfl)
theorem dX6_wouldCost_28 : decode cX6_wouldCost 28 = .ok (.invokevirtual 280, 3) := dk_182 1 24 (dk_at dksX6_wouldCost_1 4 rfl rfl)
theorem dX6_wouldCost_31 : decode cX6_wouldCost 31 = .ok (.iconst 0, 1) := dk_3 (dk_at dksX6_wouldCost_1 7 rfl rfl)
theorem dX6_wouldCost_32 : decode cX6_wouldCost 32 = .ok (.istore 5, 2) := dk_54 5 (dk_at dksX6_wouldCost_1 8 rfl rfl)
theorem dX6_wouldCost_34 : decode cX6_wouldCost 34 = .ok (.iconst 0, 1) := dk_3 (dk_at dksX6_wouldCost_1 10 rfl rfl)
theorem dX6_wouldCost_35 : decode cX6_wouldCost 35 = .ok (.istore 6, 2) := dk_54 6 (dk_at dksX6_wouldCost_1 11 rfl rfl)
theorem dX6_wouldCost_37 : decode cX6_wouldCost 37 = .ok (.iload 6, 2) := dk_21 6 (dk_at dksX6_wouldCost_1 13 rfl rfl)
theorem dX6_wouldCost_39 : decode cX6_wouldCost 39 = .ok (.iload_n 3, 1) := dk_29 (dk_at dksX6_wouldCost_1 15 rfl rfl)
theorem dX6_wouldCost_40 : decode cX6_wouldCost 40 = .ok (.if_icmp .ge 89, 3) := dk_162 0 89 (dk_at dksX6_wouldCost_1 16 rfl rfl)
theorem dX6_wouldCost_43 : decode cX6_wouldCost 43 = .ok (.iload 4, 2) := dk_21 4 (dk_at dksX6_wouldCost_1 19 rfl rfl)
theorem dX6_wouldCost_45 : decode cX6_wouldCost 45 = .ok (.ifCond .ne 84, 3) := dk_154 0 84 (dk_at dksX6_wouldCost_1 21 rfl rfl)
theorem dX6_wouldCost_48 : decode cX6_wouldCost 48 = .ok (.aload_n 0, 1) := dk_42 (dk_at dksX6_wouldCost_2 0 rfl rfl)
theorem dX6_wouldCost_49 : decode cX6_wouldCost 49 = .ok (.iload_n 1, 1) := dk_27 (dk_at dksX6_wouldCost_2 1 rfl rfl)
theorem dX6_wouldCost_50 : decode cX6_wouldCost 50 = .ok (.iload_n 2, 1) := dk_28 (dk_at dksX6_wouldCost_2 2 rfl rfl)
theorem dX6_wouldCost_51 : decode cX6_wouldCost 51 = .ok (.i2l, 1) := dk_133 (dk_at dksX6_wouldCost_2 3 rfl rfl)
theorem dX6_wouldCost_52 : decode cX6_wouldCost 52 = .ok (.iload 6, 2) := dk_21 6 (dk_at dksX6_wouldCost_2 4 rfl rfl)
theorem dX6_wouldCost_54 : decode cX6_wouldCost 54 = .ok (.i2l, 1) := dk_133 (dk_at dksX6_wouldCost_2 6 rfl rfl)
theorem dX6_wouldCost_55 : decode cX6_wouldCost 55 = .ok (.ladd, 1) := dk_97 (dk_at dksX6_wouldCost_2 7 rfl rfl)
theorem dX6_wouldCost_56 : decode cX6_wouldCost 56 = .ok (.invokevirtual 434, 3) := dk_182 1 178 (dk_at dksX6_wouldCost_2 8 rfl rfl)
theorem dX6_wouldCost_59 : decode cX6_wouldCost 59 = .ok (.istore 7, 2) := dk_54 7 (dk_at dksX6_wouldCost_2 11 rfl rfl)
theorem dX6_wouldCost_61 : decode cX6_wouldCost 61 = .ok (.iload 7, 2) := dk_21 7 (dk_at dksX6_wouldCost_2 13 rfl rfl)
theorem dX6_wouldCost_63 : decode cX6_wouldCost 63 = .ok (.ifCond .ne 8, 3) := dk_154 0 8 (dk_at dksX6_wouldCost_2 15 rfl rfl)
theorem dX6_wouldCost_66 : decode cX6_wouldCost 66 = .ok (.bipush (-12), 2) := dk_16 244 (dk_at dksX6_wouldCost_2 18 rfl rfl)
theorem dX6_wouldCost_68 : decode cX6_wouldCost 68 = .ok (.goto 21, 3) := dk_167 0 21 (dk_at dksX6_wouldCost_2 20 rfl rfl)
theorem dX6_wouldCost_71 : decode cX6_wouldCost 71 = .ok (.aload_n 0, 1) := dk_42 (dk_at dksX6_wouldCost_2 23 rfl rfl)
theorem dX6_wouldCost_72 : decode cX6_wouldCost 72 = .ok (.iload_n 1, 1) := dk_27 (dk_at dksX6_wouldCost_3 0 rfl rfl)
theorem dX6_wouldCost_73 : decode cX6_wouldCost 73 = .ok (.iload_n 2, 1) := dk_28 (dk_at dksX6_wouldCost_3 1 rfl rfl)
theorem dX6_wouldCost_74 : decode cX6_wouldCost 74 = .ok (.iload 6, 2) := dk_21 6 (dk_at dksX6_wouldCost_3 2 rfl rfl)
theorem dX6_wouldCost_76 : decode cX6_wouldCost 76 = .ok (.iadd, 1) := dk_96 (dk_at dksX6_wouldCost_3 4 rfl rfl)
theorem dX6_wouldCost_77 : decode cX6_wouldCost 77 = .ok (.invokevirtual 438, 3) := dk_182 1 182 (dk_at dksX6_wouldCost_3 5 rfl rfl)
theorem dX6_wouldCost_80 : decode cX6_wouldCost 80 = .ok (.ifCond .ne 8, 3) := dk_154 0 8 (dk_at dksX6_wouldCost_3 8 rfl rfl)
theorem dX6_wouldCost_83 : decode cX6_wouldCost 83 = .ok (.bipush (-4), 2) := dk_16 252 (dk_at dksX6_wouldCost_3 11 rfl rfl)
theorem dX6_wouldCost_85 : decode cX6_wouldCost 85 = .ok (.goto 4, 3) := dk_167 0 4 (dk_at dksX6_wouldCost_3 13 rfl rfl)
theorem dX6_wouldCost_88 : decode cX6_wouldCost 88 = .ok (.iconst 0, 1) := dk_3 (dk_at dksX6_wouldCost_3 16 rfl rfl)
theorem dX6_wouldCost_89 : decode cX6_wouldCost 89 = .ok (.istore 4, 2) := dk_54 4 (dk_at dksX6_wouldCost_3 17 rfl rfl)
theorem dX6_wouldCost_91 : decode cX6_wouldCost 91 = .ok (.iload 4, 2) := dk_21 4 (dk_at dksX6_wouldCost_3 19 rfl rfl)
theorem dX6_wouldCost_93 : decode cX6_wouldCost 93 = .ok (.ifCond .ne 30, 3) := dk_154 0 30 (dk_at dksX6_wouldCost_3 21 rfl rfl)
theorem dX6_wouldCost_96 : decode cX6_wouldCost 96 = .ok (.aload_n 0, 1) := dk_42 (dk_at dksX6_wouldCost_4 0 rfl rfl)
theorem dX6_wouldCost_97 : decode cX6_wouldCost 97 = .ok (.aload_n 0, 1) := dk_42 (dk_at dksX6_wouldCost_4 1 rfl rfl)
theorem dX6_wouldCost_98 : decode cX6_wouldCost 98 = .ok (.getfield 53, 3) := dk_180 0 53 (dk_at dksX6_wouldCost_4 2 rfl rfl)
theorem dX6_wouldCost_101 : decode cX6_wouldCost 101 = .ok (.bipush 40, 2) := dk_16 40 (dk_at dksX6_wouldCost_4 5 rfl rfl)
theorem dX6_wouldCost_103 : decode cX6_wouldCost 103 = .ok (.iload_n 1, 1) := dk_27 (dk_at dksX6_wouldCost_4 7 rfl rfl)
theorem dX6_wouldCost_104 : decode cX6_wouldCost 104 = .ok (.imul, 1) := dk_104 (dk_at dksX6_wouldCost_4 8 rfl rfl)
theorem dX6_wouldCost_105 : decode cX6_wouldCost 105 = .ok (.iload_n 2, 1) := dk_28 (dk_at dksX6_wouldCost_4 9 rfl rfl)
theorem dX6_wouldCost_106 : decode cX6_wouldCost 106 = .ok (.iadd, 1) := dk_96 (dk_at dksX6_wouldCost_4 10 rfl rfl)
theorem dX6_wouldCost_107 : decode cX6_wouldCost 107 = .ok (.iload 6, 2) := dk_21 6 (dk_at dksX6_wouldCost_4 11 rfl rfl)
theorem dX6_wouldCost_109 : decode cX6_wouldCost 109 = .ok (.iadd, 1) := dk_96 (dk_at dksX6_wouldCost_4 13 rfl rfl)
theorem dX6_wouldCost_110 : decode cX6_wouldCost 110 = .ok (.iaload, 1) := dk_46 (dk_at dksX6_wouldCost_4 14 rfl rfl)
theorem dX6_wouldCost_111 : decode cX6_wouldCost 111 = .ok (.invokevirtual 175, 3) := dk_182 0 175 (dk_at dksX6_wouldCost_4 15 rfl rfl)
theorem dX6_wouldCost_114 : decode cX6_wouldCost 114 = .ok (.iload 5, 2) := dk_21 5 (dk_at dksX6_wouldCost_4 18 rfl rfl)
theorem dX6_wouldCost_116 : decode cX6_wouldCost 116 = .ok (.aload_n 0, 1) := dk_42 (dk_at dksX6_wouldCost_4 20 rfl rfl)
theorem dX6_wouldCost_117 : decode cX6_wouldCost 117 = .ok (.getfield 168, 3) := dk_180 0 168 (dk_at dksX6_wouldCost_4 21 rfl rfl)
theorem dX6_wouldCost_120 : decode cX6_wouldCost 120 = .ok (.iadd, 1) := dk_96 (dk_at dksX6_wouldCost_5 0 rfl rfl)
theorem dX6_wouldCost_121 : decode cX6_wouldCost 121 = .ok (.istore 5, 2) := dk_54 5 (dk_at dksX6_wouldCost_5 1 rfl rfl)
theorem dX6_wouldCost_123 : decode cX6_wouldCost 123 = .ok (.iinc 6 1, 3) := dk_132 6 1 (dk_at dksX6_wouldCost_5 3 rfl rfl)
theorem dX6_wouldCost_126 : decode cX6_wouldCost 126 = .ok (.goto (-89), 3) := dk_167 255 167 (dk_at dksX6_wouldCost_5 6 rfl rfl)
theorem dX6_wouldCost_129 : decode cX6_wouldCost 129 = .ok (.aload_n 0, 1) := dk_42 (dk_at dksX6_wouldCost_5 9 rfl rfl)
theorem dX6_wouldCost_130 : decode cX6_wouldCost 130 = .ok (.invokevirtual 283, 3) := dk_182 1 27 (dk_at dksX6_wouldCost_5 10 rfl rfl)
theorem dX6_wouldCost_133 : decode cX6_wouldCost 133 = .ok (.iload 4, 2) := dk_21 4 (dk_at dksX6_wouldCost_5 13 rfl rfl)
theorem dX6_wouldCost_135 : decode cX6_wouldCost 135 = .ok (.ifCond .eq 8, 3) := dk_153 0 8 (dk_at dksX6_wouldCost_5 15 rfl rfl)
theorem dX6_wouldCost_138 : decode cX6_wouldCost 138 = .ok (.iload 4, 2) := dk_21 4 (dk_at dksX6_wouldCost_5 18 rfl rfl)
theorem dX6_wouldCost_140 : decode cX6_wouldCost 140 = .ok (.goto 5, 3) := dk_167 0 5 (dk_at dksX6_wouldCost_5 20 rfl rfl)
theorem dX6_wouldCost_143 : decode cX6_wouldCost 143 = .ok (.iload 5, 2) := dk_21 5 (dk_at dksX6_wouldCost_6 0 rfl rfl)
theorem dX6_wouldCost_145 : decode cX6_wouldCost 145 = .ok (.ireturn, 1) := dk_172 (dk_at dksX6_wouldCost_6 2 rfl rfl)
abbrev cX6_shelf : ByteArray := prog_26_method_121_code
def yX6_shelf : MethodName := ⟨RX6, "shelf", "(III)I"⟩
def dkwX6_shelf_5 : List UInt8 := [42, 180, 0, 47, 29, 46, 167, 0, 4, 3, 79, 4, 172]
abbrev dktX6_shelf_5 : List UInt8 := dkwX6_shelf_5 ++ []
def dkwX6_shelf_4 : List UInt8 := [160, 0, 12, 42, 180, 0, 50, 29, 46, 167, 0, 4, 3, 79, 42, 180, 0, 62, 27, 28, 4, 160, 0, 12]
abbrev dktX6_shelf_4 : List UInt8 := dkwX6_shelf_4 ++ dktX6_shelf_5
def dkwX6_shelf_3 : List UInt8 := [155, 0, 7, 5, 167, 0, 4, 3, 79, 42, 180, 0, 59, 27, 28, 154, 0, 7, 29, 167, 0, 18, 28, 4]
abbrev dktX6_shelf_3 : List UInt8 := dkwX6_shelf_3 ++ dktX6_shelf_4
def dkwX6_shelf_2 : List UInt8 := [180, 0, 56, 27, 28, 154, 0, 7, 4, 167, 0, 22, 28, 4, 160, 0, 16, 42, 180, 0, 47, 29, 46]
abbrev dktX6_shelf_2 : List UInt8 := dkwX6_shelf_2 ++ dktX6_shelf_3
def dkwX6_shelf_1 : List UInt8 := [29, 182, 0, 123, 153, 0, 15, 28, 4, 160, 0, 12, 29, 184, 1, 162, 154, 0, 5, 2, 172, 42]
abbrev dktX6_shelf_1 : List UInt8 := dkwX6_shelf_1 ++ dktX6_shelf_2
def dkwX6_shelf_0 : List UInt8 := [27, 184, 1, 162, 153, 0, 39, 28, 133, 9, 20, 0, 231, 184, 0, 68, 153, 0, 27, 28, 154, 0, 11, 42]
abbrev dktX6_shelf_0 : List UInt8 := dkwX6_shelf_0 ++ dktX6_shelf_1
theorem dksX6_shelf_0 : cX6_shelf.data.toList.drop 0 = dktX6_shelf_0 := by decide +kernel
theorem dksX6_shelf_1 : cX6_shelf.data.toList.drop 24 = dktX6_shelf_1 := dk_seg dksX6_shelf_0 24 rfl rfl
theorem dksX6_shelf_2 : cX6_shelf.data.toList.drop 46 = dktX6_shelf_2 := dk_seg dksX6_shelf_1 22 rfl rfl
theorem dksX6_shelf_3 : cX6_shelf.data.toList.drop 69 = dktX6_shelf_3 := dk_seg dksX6_shelf_2 23 rfl rfl
theorem dksX6_shelf_4 : cX6_shelf.data.toList.drop 93 = dktX6_shelf_4 := dk_seg dksX6_shelf_3 24 rfl rfl
theorem dksX6_shelf_5 : cX6_shelf.data.toList.drop 117 = dktX6_shelf_5 := dk_seg dksX6_shelf_4 24 rfl rfl
theorem dX6_shelf_0 : decode cX6_shelf 0 = .ok (.iload_n 1, 1) := dk_27 (dk_at dksX6_shelf_0 0 rfl rfl)
theorem dX6_shelf_1 : decode cX6_shelf 1 = .ok (.invokestatic 418, 3) := dk_184 1 162 (dk_at dksX6_shelf_0 1 rfl rfl)
theorem dX6_shelf_4 : decode cX6_shelf 4 = .ok (.ifCond .eq 39, 3) := dk_153 0 39 (dk_at dksX6_shelf_0 4 rfl rfl)
theorem dX6_shelf_7 : decode cX6_shelf 7 = .ok (.iload_n 2, 1) := dk_28 (dk_at dksX6_shelf_0 7 rfl rfl)
theorem dX6_shelf_8 : decode cX6_shelf 8 = .ok (.i2l, 1) := dk_133 (dk_at dksX6_shelf_0 8 rfl rfl)
theorem dX6_shelf_9 : decode cX6_shelf 9 = .ok (.lconst 0, 1) := dk_9 (dk_at dksX6_shelf_0 9 rfl rfl)
theorem dX6_shelf_10 : decode cX6_shelf 10 = .ok (.ldc2_w 231, 3) := dk_20 0 231 (dk_at dksX6_shelf_0 10 rfl rfl)
theorem dX6_shelf_13 : decode cX6_shelf 13 = .ok (.invokestatic 68, 3) := dk_184 0 68 (dk_at dksX6_shelf_0 13 rfl rfl)
theorem dX6_shelf_16 : decode cX6_shelf 16 = .ok (.ifCond .eq 27, 3) := dk_153 0 27 (dk_at dksX6_shelf_0 16 rfl rfl)
theorem dX6_shelf_19 : decode cX6_shelf 19 = .ok (.iload_n 2, 1) := dk_28 (dk_at dksX6_shelf_0 19 rfl rfl)
theorem dX6_shelf_20 : decode cX6_shelf 20 = .ok (.ifCond .ne 11, 3) := dk_154 0 11 (dk_at dksX6_shelf_0 20 rfl rfl)
theorem dX6_shelf_23 : decode cX6_shelf 23 = .ok (.aload_n 0, 1) := dk_42 (dk_at dksX6_shelf_0 23 rfl rfl)
theorem dX6_shelf_24 : decode cX6_shelf 24 = .ok (.iload_n 3, 1) := dk_29 (dk_at dksX6_shelf_1 0 rfl rfl)
theorem dX6_shelf_25 : decode cX6_shelf 25 = .ok (.invokevirtual 123, 3) := dk_182 0 123 (dk_at dksX6_shelf_1 1 rfl rfl)
theorem dX6_shelf_28 : decode cX6_shelf 28 = .ok (.ifCond .eq 15, 3) := dk_153 0 15 (dk_at dksX6_shelf_1 4 rfl rfl)
theorem dX6_shelf_31 : decode cX6_shelf 31 = .ok (.iload_n 2, 1) := dk_28 (dk_at dksX6_shelf_1 7 rfl rfl)
theorem dX6_shelf_32 : decode cX6_shelf 32 = .ok (.iconst 1, 1) := dk_4 (dk_at dksX6_shelf_1 8 rfl rfl)
theorem dX6_shelf_33 : decode cX6_shelf 33 = .ok (.if_icmp .ne 12, 3) := dk_160 0 12 (dk_at dksX6_shelf_1 9 rfl rfl)
theorem dX6_shelf_36 : decode cX6_shelf 36 = .ok (.iload_n 3, 1) := dk_29 (dk_at dksX6_shelf_1 12 rfl rfl)
theorem dX6_shelf_37 : decode cX6_shelf 37 = .ok (.invokestatic 418, 3) := dk_184 1 162 (dk_at dksX6_shelf_1 13 rfl rfl)
theorem dX6_shelf_40 : decode cX6_shelf 40 = .ok (.ifCond .ne 5, 3) := dk_154 0 5 (dk_at dksX6_shelf_1 16 rfl rfl)
theorem dX6_shelf_43 : decode cX6_shelf 43 = .ok (.iconst (-1), 1) := dk_2 (dk_at dksX6_shelf_1 19 rfl rfl)
theorem dX6_shelf_44 : decode cX6_shelf 44 = .ok (.ireturn, 1) := dk_172 (dk_at dksX6_shelf_1 20 rfl rfl)
theorem dX6_shelf_45 : decode cX6_shelf 45 = .ok (.aload_n 0, 1) := dk_42 (dk_at dksX6_shelf_1 21 rfl rfl)
theorem dX6_shelf_46 : decode cX6_shelf 46 = .ok (.getfield 56, 3) := dk_180 0 56 (dk_at dksX6_shelf_2 0 rfl rfl)
theorem dX6_shelf_49 : decode cX6_shelf 49 = .ok (.iload_n 1, 1) := dk_27 (dk_at dksX6_shelf_2 3 rfl rfl)
theorem dX6_shelf_50 : decode cX6_shelf 50 = .ok (.iload_n 2, 1) := dk_28 (dk_at dksX6_shelf_2 4 rfl rfl)
theorem dX6_shelf_51 : decode cX6_shelf 51 = .ok (.ifCond .ne 7, 3) := dk_154 0 7 (dk_at dksX6_shelf_2 5 rfl rfl)
theorem dX6_shelf_54 : decode cX6_shelf 54 = .ok (.iconst 1, 1) := dk_4 (dk_at dksX6_shelf_2 8 rfl rfl)
theorem dX6_shelf_55 : decode cX6_shelf 55 = .ok (.goto 22, 3) := dk_167 0 22 (dk_at dksX6_shelf_2 9 rfl rfl)
theorem dX6_shelf_58 : decode cX6_shelf 58 = .ok (.iload_n 2, 1) := dk_28 (dk_at dksX6_shelf_2 12 rfl rfl)
theorem dX6_shelf_59 : decode cX6_shelf 59 = .ok (.iconst 1, 1) := dk_4 (dk_at dksX6_shelf_2 13 rfl rfl)
theorem dX6_shelf_60 : decode cX6_shelf 60 = .ok (.if_icmp .ne 16, 3) := dk_160 0 16 (dk_at dksX6_shelf_2 14 rfl rfl)
theorem dX6_shelf_63 : decode cX6_shelf 63 = .ok (.aload_n 0, 1) := dk_42 (dk_at dksX6_shelf_2 17 rfl rfl)
theorem dX6_shelf_64 : decode cX6_shelf 64 = .ok (.getfield 47, 3) := dk_180 0 47 (dk_at dksX6_shelf_2 18 rfl rfl)
theorem dX6_shelf_67 : decode cX6_shelf 67 = .ok (.iload_n 3, 1) := dk_29 (dk_at dksX6_shelf_2 21 rfl rfl)
theorem dX6_shelf_68 : decode cX6_shelf 68 = .ok (.iaload, 1) := dk_46 (dk_at dksX6_shelf_2 22 rfl rfl)
theorem dX6_shelf_69 : decode cX6_shelf 69 = .ok (.ifCond .lt 7, 3) := dk_155 0 7 (dk_at dksX6_shelf_3 0 rfl rfl)
theorem dX6_shelf_72 : decode cX6_shelf 72 = .ok (.iconst 2, 1) := dk_5 (dk_at dksX6_shelf_3 3 rfl rfl)
theorem dX6_shelf_73 : decode cX6_shelf 73 = .ok (.goto 4, 3) := dk_167 0 4 (dk_at dksX6_shelf_3 4 rfl rfl)
theorem dX6_shelf_76 : decode cX6_shelf 76 = .ok (.iconst 0, 1) := dk_3 (dk_at dksX6_shelf_3 7 rfl rfl)
theorem dX6_shelf_77 : decode cX6_shelf 77 = .ok (.iastore, 1) := dk_79 (dk_at dksX6_shelf_3 8 rfl rfl)
theorem dX6_shelf_78 : decode cX6_shelf 78 = .ok (.aload_n 0, 1) := dk_42 (dk_at dksX6_shelf_3 9 rfl rfl)
theorem dX6_shelf_79 : decode cX6_shelf 79 = .ok (.getfield 59, 3) := dk_180 0 59 (dk_at dksX6_shelf_3 10 rfl rfl)
theorem dX6_shelf_82 : decode cX6_shelf 82 = .ok (.iload_n 1, 1) := dk_27 (dk_at dksX6_shelf_3 13 rfl rfl)
theorem dX6_shelf_83 : decode cX6_shelf 83 = .ok (.iload_n 2, 1) := dk_28 (dk_at dksX6_shelf_3 14 rfl rfl)
theorem dX6_shelf_84 : decode cX6_shelf 84 = .ok (.ifCond .ne 7, 3) := dk_154 0 7 (dk_at dksX6_shelf_3 15 rfl rfl)
theorem dX6_shelf_87 : decode cX6_shelf 87 = .ok (.iload_n 3, 1) := dk_29 (dk_at dksX6_shelf_3 18 rfl rfl)
theorem dX6_shelf_88 : decode cX6_shelf 88 = .ok (.goto 18, 3) := dk_167 0 18 (dk_at dksX6_shelf_3 19 rfl rfl)
theorem dX6_shelf_91 : decode cX6_shelf 91 = .ok (.iload_n 2, 1) := dk_28 (dk_at dksX6_shelf_3 22 rfl rfl)
theorem dX6_shelf_92 : decode cX6_shelf 92 = .ok (.iconst 1, 1) := dk_4 (dk_at dksX6_shelf_3 23 rfl rfl)
theorem dX6_shelf_93 : decode cX6_shelf 93 = .ok (.if_icmp .ne 12, 3) := dk_160 0 12 (dk_at dksX6_shelf_4 0 rfl rfl)
theorem dX6_shelf_96 : decode cX6_shelf 96 = .ok (.aload_n 0, 1) := dk_42 (dk_at dksX6_shelf_4 3 rfl rfl)
theorem dX6_shelf_97 : decode cX6_shelf 97 = .ok (.getfield 50, 3) := dk_180 0 50 (dk_at dksX6_shelf_4 4 rfl rfl)
theorem dX6_shelf_100 : decode cX6_shelf 100 = .ok (.iload_n 3, 1) := dk_29 (dk_at dksX6_shelf_4 7 rfl rfl)
theorem dX6_shelf_101 : decode cX6_shelf 101 = .ok (.iaload, 1) := dk_46 (dk_at dksX6_shelf_4 8 rfl rfl)
theorem dX6_shelf_102 : decode cX6_shelf 102 = .ok (.goto 4, 3) := dk_167 0 4 (dk_at dksX6_shelf_4 9 rfl rfl)
theorem dX6_shelf_105 : decode cX6_shelf 105 = .ok (.iconst 0, 1) := dk_3 (dk_at dksX6_shelf_4 12 rfl rfl)
theorem dX6_shelf_106 : decode cX6_shelf 106 = .ok (.iastore, 1) := dk_79 (dk_at dksX6_shelf_4 13 rfl rfl)
theorem dX6_shelf_107 : decode cX6_shelf 107 = .ok (.aload_n 0, 1) := dk_42 (dk_at dksX6_shelf_4 14 rfl rfl)
theorem dX6_shelf_108 : decode cX6_shelf 108 = .ok (.getfield 62, 3) := dk_180 0 62 (dk_at dksX6_shelf_4 15 rfl rfl)
theorem dX6_shelf_111 : decode cX6_shelf 111 = .ok (.iload_n 1, 1) := dk_27 (dk_at dksX6_shelf_4 18 rfl rfl)
theorem dX6_shelf_112 : decode cX6_shelf 112 = .ok (.iload_n 2, 1) := dk_28 (dk_at dksX6_shelf_4 19 rfl rfl)
theorem dX6_shelf_113 : decode cX6_shelf 113 = .ok (.iconst 1, 1) := dk_4 (dk_at dksX6_shelf_4 20 rfl rfl)
theorem dX6_shelf_114 : decode cX6_shelf 114 = .ok (.if_icmp .ne 12, 3) := dk_160 0 12 (dk_at dksX6_shelf_4 21 rfl rfl)
theorem dX6_shelf_117 : decode cX6_shelf 117 = .ok (.aload_n 0, 1) := dk_42 (dk_at dksX6_shelf_5 0 rfl rfl)
theorem dX6_shelf_118 : decode cX6_shelf 118 = .ok (.getfield 47, 3) := dk_180 0 47 (dk_at dksX6_shelf_5 1 rfl rfl)
theorem dX6_shelf_121 : decode cX6_shelf 121 = .ok (.iload_n 3, 1) := dk_29 (dk_at dksX6_shelf_5 4 rfl rfl)
theorem dX6_shelf_122 : decode cX6_shelf 122 = .ok (.iaload, 1) := dk_46 (dk_at dksX6_shelf_5 5 rfl rfl)
theorem dX6_shelf_123 : decode cX6_shelf 123 = .ok (.goto 4, 3) := dk_167 0 4 (dk_at dksX6_shelf_5 6 rfl rfl)
theorem dX6_shelf_126 : decode cX6_shelf 126 = .ok (.iconst 0, 1) := dk_3 (dk_at dksX6_shelf_5 9 rfl rfl)
theorem dX6_shelf_127 : decode cX6_shelf 127 = .ok (.iastore, 1) := dk_79 (dk_at dksX6_shelf_5 10 rfl rfl)
theorem dX6_shelf_128 : decode cX6_shelf 128 = .ok (.iconst 1, 1) := dk_4 (dk_at dksX6_shelf_5 11 rfl rfl)
theorem dX6_shelf_129 : decode cX6_shelf 129 = .ok (.ireturn, 1) := dk_172 (dk_at dksX6_shelf_5 12 rfl rfl)
abbrev cX6_taken : ByteArray := prog_26_method_123_code
def yX6_taken : MethodName := ⟨RX6, "taken", "(II)I"⟩
def dkwX6_taken_5 : List UInt8 := [27, 46, 167, 0, 5, 16, 243, 172]
abbrev dktX6_taken_5 : List UInt8 := dkwX6_taken_5 ++ []
def dkwX6_taken_4 : List UInt8 := [180, 0, 62, 27, 46, 160, 0, 7, 4, 167, 0, 4, 3, 54, 4, 21, 4, 153, 0, 12, 42, 180, 0, 59]
abbrev dktX6_taken_4 : List UInt8 := dkwX6_taken_4 ++ dktX6_taken_5
def dkwX6_taken_3 : List UInt8 := [3, 182, 0, 93, 28, 184, 0, 114, 153, 0, 7, 4, 167, 0, 25, 3, 167, 0, 21, 28, 16, 10, 100, 42]
abbrev dktX6_taken_3 : List UInt8 := dkwX6_taken_3 ++ dktX6_taken_4
def dkwX6_taken_2 : List UInt8 := [180, 0, 56, 27, 46, 5, 162, 0, 6, 16, 245, 172, 29, 155, 0, 30, 28, 16, 6, 162, 0, 20, 42, 29]
abbrev dktX6_taken_2 : List UInt8 := dkwX6_taken_2 ++ dktX6_taken_3
def dkwX6_taken_1 : List UInt8 := [20, 1, 187, 184, 0, 68, 154, 0, 5, 2, 172, 42, 27, 182, 1, 189, 62, 29, 156, 0, 16, 42]
abbrev dktX6_taken_1 : List UInt8 := dkwX6_taken_1 ++ dktX6_taken_2
def dkwX6_taken_0 : List UInt8 := [27, 184, 1, 162, 153, 0, 29, 28, 133, 9, 20, 0, 78, 184, 0, 68, 154, 0, 19, 28, 133, 20, 1, 185]
abbrev dktX6_taken_0 : List UInt8 := dkwX6_taken_0 ++ dktX6_taken_1
theorem dksX6_taken_0 : cX6_taken.data.toList.drop 0 = dktX6_taken_0 := by decide +kernel
theorem dksX6_taken_1 : cX6_taken.data.toList.drop 24 = dktX6_taken_1 := dk_seg dksX6_taken_0 24 rfl rfl
theorem dksX6_taken_2 : cX6_taken.data.toList.drop 46 = dktX6_taken_2 := dk_seg dksX6_taken_1 22 rfl rfl
theorem dksX6_taken_3 : cX6_taken.data.toList.drop 70 = dktX6_taken_3 := dk_seg dksX6_taken_2 24 rfl rfl
theorem dksX6_taken_4 : cX6_taken.data.toList.drop 94 = dktX6_taken_4 := dk_seg dksX6_taken_3 24 rfl rfl
theorem dksX6_taken_5 : cX6_taken.data.toList.drop 118 = dktX6_taken_5 := dk_seg dksX6_taken_4 24 rfl rfl
theorem dX6_taken_0 : decode cX6_taken 0 = .ok (.iload_n 1, 1) := dk_27 (dk_at dksX6_taken_0 0 rfl rfl)
theorem dX6_taken_1 : decode cX6_taken 1 = .ok (.invokestatic 418, 3) := dk_184 1 162 (dk_at dksX6_taken_0 1 rfl rfl)
theorem dX6_taken_4 : decode cX6_taken 4 = .ok (.ifCond .eq 29, 3) := dk_153 0 29 (dk_at dksX6_taken_0 4 rfl rfl)
theorem dX6_taken_7 : decode cX6_taken 7 = .ok (.iload_n 2, 1) := dk_28 (dk_at dksX6_taken_0 7 rfl rfl)
theorem dX6_taken_8 : decode cX6_taken 8 = .ok (.i2l, 1) := dk_133 (dk_at dksX6_taken_0 8 rfl rfl)
theorem dX6_taken_9 : decode cX6_taken 9 = .ok (.lconst 0, 1) := dk_9 (dk_at dksX6_taken_0 9 rfl rfl)
theorem dX6_taken_10 : decode cX6_taken 10 = .ok (.ldc2_w 78, 3) := dk_20 0 78 (dk_at dksX6_taken_0 10 rfl rfl)
theorem dX6_taken_13 : decode cX6_taken 13 = .ok (.invokestatic 68, 3) := dk_184 0 68 (dk_at dksX6_taken_0 13 rfl rfl)
theorem dX6_taken_16 : decode cX6_taken 16 = .ok (.ifCond .ne 19, 3) := dk_154 0 19 (dk_at dksX6_taken_0 16 rfl rfl)
theorem dX6_taken_19 : decode cX6_taken 19 = .ok (.iload_n 2, 1) := dk_28 (dk_at dksX6_taken_0 19 rfl rfl)
theorem dX6_taken_20 : decode cX6_taken 20 = .ok (.i2l, 1) := dk_133 (dk_at dksX6_taken_0 20 rfl rfl)
theorem dX6_taken_21 : decode cX6_taken 21 = .ok (.ldc2_w 441, 3) := dk_20 1 185 (dk_at dksX6_taken_0 21 rfl rfl)
theorem dX6_taken_24 : decode cX6_taken 24 = .ok (.ldc2_w 443, 3) := dk_20 1 187 (dk_at dksX6_taken_1 0 rfl rfl)
theorem dX6_taken_27 : decode cX6_taken 27 = .ok (.invokestatic 68, 3) := dk_184 0 68 (dk_at dksX6_taken_1 3 rfl rfl)
theorem dX6_taken_30 : decode cX6_taken 30 = .ok (.ifCond .ne 5, 3) := dk_154 0 5 (dk_at dksX6_taken_1 6 rfl rfl)
theorem dX6_taken_33 : decode cX6_taken 33 = .ok (.iconst (-1), 1) := dk_2 (dk_at dksX6_taken_1 9 rfl rfl)
theorem dX6_taken_34 : decode cX6_taken 34 = .ok (.ireturn, 1) := dk_172 (dk_at dksX6_taken_1 10 rfl rfl)
theorem dX6_taken_35 : decode cX6_taken 35 = .ok (.aload_n 0, 1) := dk_42 (dk_at dksX6_taken_1 11 rfl rfl)
theorem dX6_taken_36 : decode cX6_taken 36 = .ok (.iload_n 1, 1) := dk_27 (dk_at dksX6_taken_1 12 rfl rfl)
theorem dX6_taken_37 : decode cX6_taken 37 = .ok (.invokevirtual 445, 3) := dk_182 1 189 (dk_at dksX6_taken_1 13 rfl rfl)
theorem dX6_taken_40 : decode cX6_taken 40 = .ok (.istore_n 3, 1) := dk_62 (dk_at dksX6_taken_1 16 rfl rfl)
theorem dX6_taken_41 : decode cX6_taken 41 = .ok (.iload_n 3, 1) := dk_29 (dk_at dksX6_taken_1 17 rfl rfl)
theorem dX6_taken_42 : decode cX6_taken 42 = .ok (.ifCond .ge 16, 3) := dk_156 0 16 (dk_at dksX6_taken_1 18 rfl rfl)
theorem dX6_taken_45 : decode cX6_taken 45 = .ok (.aload_n 0, 1) := dk_42 (dk_at dksX6_taken_1 21 rfl rfl)
theorem dX6_taken_46 : decode cX6_taken 46 = .ok (.getfield 56, 3) := dk_180 0 56 (dk_at dksX6_taken_2 0 rfl rfl)
theorem dX6_taken_49 : decode cX6_taken 49 = .ok (.iload_n 1, 1) := dk_27 (dk_at dksX6_taken_2 3 rfl rfl)
theorem dX6_taken_50 : decode cX6_taken 50 = .ok (.iaload, 1) := dk_46 (dk_at dksX6_taken_2 4 rfl rfl)
theorem dX6_taken_51 : decode cX6_taken 51 = .ok (.iconst 2, 1) := dk_5 (dk_at dksX6_taken_2 5 rfl rfl)
theorem dX6_taken_52 : decode cX6_taken 52 = .ok (.if_icmp .ge 6, 3) := dk_162 0 6 (dk_at dksX6_taken_2 6 rfl rfl)
theorem dX6_taken_55 : decode cX6_taken 55 = .ok (.bipush (-11), 2) := dk_16 245 (dk_at dksX6_taken_2 9 rfl rfl)
theorem dX6_taken_57 : decode cX6_taken 57 = .ok (.ireturn, 1) := dk_172 (dk_at dksX6_taken_2 11 rfl rfl)
theorem dX6_taken_58 : decode cX6_taken 58 = .ok (.iload_n 3, 1) := dk_29 (dk_at dksX6_taken_2 12 rfl rfl)
theorem dX6_taken_59 : decode cX6_taken 59 = .ok (.ifCond .lt 30, 3) := dk_155 0 30 (dk_at dksX6_taken_2 13 rfl rfl)
theorem dX6_taken_62 : decode cX6_taken 62 = .ok (.iload_n 2, 1) := dk_28 (dk_at dksX6_taken_2 16 rfl rfl)
theorem dX6_taken_63 : decode cX6_taken 63 = .ok (.bipush 6, 2) := dk_16 6 (dk_at dksX6_taken_2 17 rfl rfl)
theorem dX6_taken_65 : decode cX6_taken 65 = .ok (.if_icmp .ge 20, 3) := dk_162 0 20 (dk_at dksX6_taken_2 19 rfl rfl)
theorem dX6_taken_68 : decode cX6_taken 68 = .ok (.aload_n 0, 1) := dk_42 (dk_at dksX6_taken_2 22 rfl rfl)
theorem dX6_taken_69 : decode cX6_taken 69 = .ok (.iload_n 3, 1) := dk_29 (dk_at dksX6_taken_2 23 rfl rfl)
theorem dX6_taken_70 : decode cX6_taken 70 = .ok (.iconst 0, 1) := dk_3 (dk_at dksX6_taken_3 0 rfl rfl)
theorem dX6_taken_71 : decode cX6_taken 71 = .ok (.invokevirtual 93, 3) := dk_182 0 93 (dk_at dksX6_taken_3 1 rfl rfl)
theorem dX6_taken_74 : decode cX6_taken 74 = .ok (.iload_n 2, 1) := dk_28 (dk_at dksX6_taken_3 4 rfl rfl)
theorem dX6_taken_75 : decode cX6_taken 75 = .ok (.invokestatic 114, 3) := dk_184 0 114 (dk_at dksX6_taken_3 5 rfl rfl)
theorem dX6_taken_78 : decode cX6_taken 78 = .ok (.ifCond .eq 7, 3) := dk_153 0 7 (dk_at dksX6_taken_3 8 rfl rfl)
theorem dX6_taken_81 : decode cX6_taken 81 = .ok (.iconst 1, 1) := dk_4 (dk_at dksX6_taken_3 11 rfl rfl)
theorem dX6_taken_82 : decode cX6_taken 82 = .ok (.goto 25, 3) := dk_167 0 25 (dk_at dksX6_taken_3 12 rfl rfl)
theorem dX6_taken_85 : decode cX6_taken 85 = .ok (.iconst 0, 1) := dk_3 (dk_at dksX6_taken_3 15 rfl rfl)
theorem dX6_taken_86 : decode cX6_taken 86 = .ok (.goto 21, 3) := dk_167 0 21 (dk_at dksX6_taken_3 16 rfl rfl)
theorem dX6_taken_89 : decode cX6_taken 89 = .ok (.iload_n 2, 1) := dk_28 (dk_at dksX6_taken_3 19 rfl rfl)
theorem dX6_taken_90 : decode cX6_taken 90 = .ok (.bipush 10, 2) := dk_16 10 (dk_at dksX6_taken_3 20 rfl rfl)
theorem dX6_taken_92 : decode cX6_taken 92 = .ok (.isub, 1) := dk_100 (dk_at dksX6_taken_3 22 rfl rfl)
theorem dX6_taken_93 : decode cX6_taken 93 = .ok (.aload_n 0, 1) := dk_42 (dk_at dksX6_taken_3 23 rfl rfl)
theorem dX6_taken_94 : decode cX6_taken 94 = .ok (.getfield 62, 3) := dk_180 0 62 (dk_at dksX6_taken_4 0 rfl rfl)
theorem dX6_taken_97 : decode cX6_taken 97 = .ok (.iload_n 1, 1) := dk_27 (dk_at dksX6_taken_4 3 rfl rfl)
theorem dX6_taken_98 : decode cX6_taken 98 = .ok (.iaload, 1) := dk_46 (dk_at dksX6_taken_4 4 rfl rfl)
theorem dX6_taken_99 : decode cX6_taken 99 = .ok (.if_icmp .ne 7, 3) := dk_160 0 7 (dk_at dksX6_taken_4 5 rfl rfl)
theorem dX6_taken_102 : decode cX6_taken 102 = .ok (.iconst 1, 1) := dk_4 (dk_at dksX6_taken_4 8 rfl rfl)
theorem dX6_taken_103 : decode cX6_taken 103 = .ok (.goto 4, 3) := dk_167 0 4 (dk_at dksX6_taken_4 9 rfl rfl)
theorem dX6_taken_106 : decode cX6_taken 106 = .ok (.iconst 0, 1) := dk_3 (dk_at dksX6_taken_4 12 rfl rfl)
theorem dX6_taken_107 : decode cX6_taken 107 = .ok (.istore 4, 2) := dk_54 4 (dk_at dksX6_taken_4 13 rfl rfl)
theorem dX6_taken_109 : decode cX6_taken 109 = .ok (.iload 4, 2) := dk_21 4 (dk_at dksX6_taken_4 15 rfl rfl)
theorem dX6_taken_111 : decode cX6_taken 111 = .ok (.ifCond .eq 12, 3) := dk_153 0 12 (dk_at dksX6_taken_4 17 rfl rfl)
theorem dX6_taken_114 : decode cX6_taken 114 = .ok (.aload_n 0, 1) := dk_42 (dk_at dksX6_taken_4 20 rfl rfl)
theorem dX6_taken_115 : decode cX6_taken 115 = .ok (.getfield 59, 3) := dk_180 0 59 (dk_at dksX6_taken_4 21 rfl rfl)
theorem dX6_taken_118 : decode cX6_taken 118 = .ok (.iload_n 1, 1) := dk_27 (dk_at dksX6_taken_5 0 rfl rfl)
theorem dX6_taken_119 : decode cX6_taken 119 = .ok (.iaload, 1) := dk_46 (dk_at dksX6_taken_5 1 rfl rfl)
theorem dX6_taken_120 : decode cX6_taken 120 = .ok (.goto 5, 3) := dk_167 0 5 (dk_at dksX6_taken_5 2 rfl rfl)
theorem dX6_taken_123 : decode cX6_taken 123 = .ok (.bipush (-13), 2) := dk_16 243 (dk_at dksX6_taken_5 5 rfl rfl)
theorem dX6_taken_125 : decode cX6_taken 125 = .ok (.ireturn, 1) := dk_172 (dk_at dksX6_taken_5 7 rfl rfl)
abbrev cX6_onShelf : ByteArray := prog_26_method_122_code
def yX6_onShelf : MethodName := ⟨RX6, "onShelf", "(I)I"⟩
def dkwX6_onShelf_1 : List UInt8 := [182, 0, 123, 153, 0, 12, 42, 180, 0, 59, 27, 46, 167, 0, 4, 2, 172]
abbrev dktX6_onShelf_1 : List UInt8 := dkwX6_onShelf_1 ++ []
def dkwX6_onShelf_0 : List UInt8 := [27, 184, 1, 162, 153, 0, 35, 42, 180, 0, 56, 27, 46, 4, 160, 0, 25, 42, 42, 180, 0, 59, 27, 46]
abbrev dktX6_onShelf_0 : List UInt8 := dkwX6_onShelf_0 ++ dktX6_onShelf_1
theorem dksX6_onShelf_0 : cX6_onShelf.data.toList.drop 0 = dktX6_onShelf_0 := by decide +kernel
theorem dksX6_onShelf_1 : cX6_onShelf.data.toList.drop 24 = dktX6_onShelf_1 := dk_seg dksX6_onShelf_0 24 rfl rfl
theorem dX6_onShelf_0 : decode cX6_onShelf 0 = .ok (.iload_n 1, 1) := dk_27 (dk_at dksX6_onShelf_0 0 rfl rfl)
theorem dX6_onShelf_1 : decode cX6_onShelf 1 = .ok (.invokestatic 418, 3) := dk_184 1 162 (dk_at dksX6_onShelf_0 1 rfl rfl)
theorem dX6_onShelf_4 : decode cX6_onShelf 4 = .ok (.ifCond .eq 35, 3) := dk_153 0 35 (dk_at dksX6_onShelf_0 4 rfl rfl)
theorem dX6_onShelf_7 : decode cX6_onShelf 7 = .ok (.aload_n 0, 1) := dk_42 (dk_at dksX6_onShelf_0 7 rfl rfl)
theorem dX6_onShelf_8 : decode cX6_onShelf 8 = .ok (.getfield 56, 3) := dk_180 0 56 (dk_at dksX6_onShelf_0 8 rfl rfl)
theorem dX6_onShelf_11 : decode cX6_onShelf 11 = .ok (.iload_n 1, 1) := dk_27 (dk_at dksX6_onShelf_0 11 rfl rfl)
theorem dX6_onShelf_12 : decode cX6_onShelf 12 = .ok (.iaload, 1) := dk_46 (dk_at dksX6_onShelf_0 12 rfl rfl)
theorem dX6_onShelf_13 : decode cX6_onShelf 13 = .ok (.iconst 1, 1) := dk_4 (dk_at dksX6_onShelf_0 13 rfl rfl)
theorem dX6_onShelf_14 : decode cX6_onShelf 14 = .ok (.if_icmp .ne 25, 3) := dk_160 0 25 (dk_at dksX6_onShelf_0 14 rfl rfl)
theorem dX6_onShelf_17 : decode cX6_onShelf 17 = .ok (.aload_n 0, 1) := dk_42 (dk_at dksX6_onShelf_0 17 rfl rfl)
theorem dX6_onShelf_18 : decode cX6_onShelf 18 = .ok (.aload_n 0, 1) := dk_42 (dk_at dksX6_onShelf_0 18 rfl rfl)
theorem dX6_onShelf_19 : decode cX6_onShelf 19 = .ok (.getfield 59, 3) := dk_180 0 59 (dk_at dksX6_onShelf_0 19 rfl rfl)
theorem dX6_onShelf_22 : decode cX6_onShelf 22 = .ok (.iload_n 1, 1) := dk_27 (dk_at dksX6_onShelf_0 22 rfl rfl)
theorem dX6_onShelf_23 : decode cX6_onShelf 23 = .ok (.iaload, 1) := dk_46 (dk_at dksX6_onShelf_0 23 rfl rfl)
theorem dX6_onShelf_24 : decode cX6_onShelf 24 = .ok (.invokevirtual 123, 3) := dk_182 0 123 (dk_at dksX6_onShelf_1 0 rfl rfl)
theorem dX6_onShelf_27 : decode cX6_onShelf 27 = .ok (.ifCond .eq 12, 3) := dk_153 0 12 (dk_at dksX6_onShelf_1 3 rfl rfl)
theorem dX6_onShelf_30 : decode cX6_onShelf 30 = .ok (.aload_n 0, 1) := dk_42 (dk_at dksX6_onShelf_1 6 rfl rfl)
theorem dX6_onShelf_31 : decode cX6_onShelf 31 = .ok (.getfield 59, 3) := dk_180 0 59 (dk_at dksX6_onShelf_1 7 rfl rfl)
theorem dX6_onShelf_34 : decode cX6_onShelf 34 = .ok (.iload_n 1, 1) := dk_27 (dk_at dksX6_onShelf_1 10 rfl rfl)
theorem dX6_onShelf_35 : decode cX6_onShelf 35 = .ok (.iaload, 1) := dk_46 (dk_at dksX6_onShelf_1 11 rfl rfl)
theorem dX6_onShelf_36 : decode cX6_onShelf 36 = .ok (.goto 4, 3) := dk_167 0 4 (dk_at dksX6_onShelf_1 12 rfl rfl)
theorem dX6_onShelf_39 : decode cX6_onShelf 39 = .ok (.iconst (-1), 1) := dk_2 (dk_at dksX6_onShelf_1 15 rfl rfl)
theorem dX6_onShelf_40 : decode cX6_onShelf 40 = .ok (.ireturn, 1) := dk_172 (dk_at dksX6_onShelf_1 16 rfl rfl)
abbrev cX6_act : ByteArray := prog_26_method_130_code
def yX6_act : MethodName := ⟨RX6, "act", "(III)I"⟩
def dkwX6_act_5 : List UInt8 := [153, 0, 8, 16, 241, 167, 0, 5, 21, 4, 172]
abbrev dktX6_act_5 : List UInt8 := dkwX6_act_5 ++ []
def dkwX6_act_4 : List UInt8 := [160, 0, 11, 42, 29, 182, 1, 219, 167, 0, 8, 42, 29, 182, 1, 222, 54, 4, 42, 180, 1, 192]
abbrev dktX6_act_4 : List UInt8 := dkwX6_act_4 ++ dktX6_act_5
def dkwX6_act_3 : List UInt8 := [29, 182, 1, 207, 167, 0, 34, 28, 4, 160, 0, 11, 42, 29, 182, 1, 216, 167, 0, 21, 28, 5]
abbrev dktX6_act_3 : List UInt8 := dkwX6_act_3 ++ dktX6_act_4
def dkwX6_act_2 : List UInt8 := [182, 0, 93, 181, 1, 204, 42, 42, 42, 180, 1, 210, 3, 182, 0, 93, 181, 1, 198, 28, 154, 0, 11, 42]
abbrev dktX6_act_2 : List UInt8 := dkwX6_act_2 ++ dktX6_act_3
def dkwX6_act_1 : List UInt8 := [155, 0, 15, 28, 133, 9, 20, 1, 160, 184, 0, 68, 154, 0, 5, 3, 172, 42, 42, 42, 180, 1, 210, 5]
abbrev dktX6_act_1 : List UInt8 := dkwX6_act_1 ++ dktX6_act_2
def dkwX6_act_0 : List UInt8 := [42, 3, 181, 1, 195, 42, 3, 181, 1, 192, 42, 42, 27, 182, 1, 189, 181, 1, 210, 42, 180, 1, 210]
abbrev dktX6_act_0 : List UInt8 := dkwX6_act_0 ++ dktX6_act_1
theorem dksX6_act_0 : cX6_act.data.toList.drop 0 = dktX6_act_0 := by decide +kernel
theorem dksX6_act_1 : cX6_act.data.toList.drop 23 = dktX6_act_1 := dk_seg dksX6_act_0 23 rfl rfl
theorem dksX6_act_2 : cX6_act.data.toList.drop 47 = dktX6_act_2 := dk_seg dksX6_act_1 24 rfl rfl
theorem dksX6_act_3 : cX6_act.data.toList.drop 71 = dktX6_act_3 := dk_seg dksX6_act_2 24 rfl rfl
theorem dksX6_act_4 : cX6_act.data.toList.drop 93 = dktX6_act_4 := dk_seg dksX6_act_3 22 rfl rfl
theorem dksX6_act_5 : cX6_act.data.toList.drop 115 = dktX6_act_5 := dk_seg dksX6_act_4 22 rfl rfl
theorem dX6_act_0 : decode cX6_act 0 = .ok (.aload_n 0, 1) := dk_42 (dk_at dksX6_act_0 0 rfl rfl)
theorem dX6_act_1 : decode cX6_act 1 = .ok (.iconst 0, 1) := dk_3 (dk_at dksX6_act_0 1 rfl rfl)
theorem dX6_act_2 : decode cX6_act 2 = .ok (.putfield 451, 3) := dk_181 1 195 (dk_at dksX6_act_0 2 rfl rfl)
theorem dX6_act_5 : decode cX6_act 5 = .ok (.aload_n 0, 1) := dk_42 (dk_at dksX6_act_0 5 rfl rfl)
theorem dX6_act_6 : decode cX6_act 6 = .ok (.iconst 0, 1) := dk_3 (dk_at dksX6_act_0 6 rfl rfl)
theorem dX6_act_7 : decode cX6_act 7 = .ok (.putfield 448, 3) := dk_181 1 192 (dk_at dksX6_act_0 7 rfl rfl)
theorem dX6_act_10 : decode cX6_act 10 = .ok (.aload_n 0, 1) := dk_42 (dk_at dksX6_act_0 10 rfl rfl)
theorem dX6_act_11 : decode cX6_act 11 = .ok (.aload_n 0, 1) := dk_42 (dk_at dksX6_act_0 11 rfl rfl)
theorem dX6_act_12 : decode cX6_act 12 = .ok (.iload_n 1, 1) := dk_27 (dk_at dksX6_act_0 12 rfl rfl)
theorem dX6_act_13 : decode cX6_act 13 = .ok (.invokevirtual 445, 3) := dk_182 1 189 (dk_at dksX6_act_0 13 rfl rfl)
theorem dX6_act_16 : decode cX6_act 16 = .ok (.putfield 466, 3) := dk_181 1 210 (dk_at dksX6_act_0 16 rfl rfl)
theorem dX6_act_19 : decode cX6_act 19 = .ok (.aload_n 0, 1) := dk_42 (dk_at dksX6_act_0 19 rfl rfl)
theorem dX6_act_20 : decode cX6_act 20 = .ok (.getfield 466, 3) := dk_180 1 210 (dk_at dksX6_act_0 20 rfl rfl)
theorem dX6_act_23 : decode cX6_act 23 = .ok (.ifCond .lt 15, 3) := dk_155 0 15 (dk_at dksX6_act_1 0 rfl rfl)
theorem dX6_act_26 : decode cX6_act 26 = .ok (.iload_n 2, 1) := dk_28 (dk_at dksX6_act_1 3 rfl rfl)
theorem dX6_act_27 : decode cX6_act 27 = .ok (.i2l, 1) := dk_133 (dk_at dksX6_act_1 4 rfl rfl)
theorem dX6_act_28 : decode cX6_act 28 = .ok (.lconst 0, 1) := dk_9 (dk_at dksX6_act_1 5 rfl rfl)
theorem dX6_act_29 : decode cX6_act 29 = .ok (.ldc2_w 416, 3) := dk_20 1 160 (dk_at dksX6_act_1 6 rfl rfl)
theorem dX6_act_32 : decode cX6_act 32 = .ok (.invokestatic 68, 3) := dk_184 0 68 (dk_at dksX6_act_1 9 rfl rfl)
theorem dX6_act_35 : decode cX6_act 35 = .ok (.ifCond .ne 5, 3) := dk_154 0 5 (dk_at dksX6_act_1 12 rfl rfl)
theorem dX6_act_38 : decode cX6_act 38 = .ok (.iconst 0, 1) := dk_3 (dk_at dksX6_act_1 15 rfl rfl)
theorem dX6_act_39 : decode cX6_act 39 = .ok (.ireturn, 1) := dk_172 (dk_at dksX6_act_1 16 rfl rfl)
theorem dX6_act_40 : decode cX6_act 40 = .ok (.aload_n 0, 1) := dk_42 (dk_at dksX6_act_1 17 rfl rfl)
theorem dX6_act_41 : decode cX6_act 41 = .ok (.aload_n 0, 1) := dk_42 (dk_at dksX6_act_1 18 rfl rfl)
theorem dX6_act_42 : decode cX6_act 42 = .ok (.aload_n 0, 1) := dk_42 (dk_at dksX6_act_1 19 rfl rfl)
theorem dX6_act_43 : decode cX6_act 43 = .ok (.getfield 466, 3) := dk_180 1 210 (dk_at dksX6_act_1 20 rfl rfl)
theorem dX6_act_46 : decode cX6_act 46 = .ok (.iconst 2, 1) := dk_5 (dk_at dksX6_act_1 23 rfl rfl)
theorem dX6_act_47 : decode cX6_act 47 = .ok (.invokevirtual 93, 3) := dk_182 0 93 (dk_at dksX6_act_2 0 rfl rfl)
theorem dX6_act_50 : decode cX6_act 50 = .ok (.putfield 460, 3) := dk_181 1 204 (dk_at dksX6_act_2 3 rfl rfl)
theorem dX6_act_53 : decode cX6_act 53 = .ok (.aload_n 0, 1) := dk_42 (dk_at dksX6_act_2 6 rfl rfl)
theorem dX6_act_54 : decode cX6_act 54 = .ok (.aload_n 0, 1) := dk_42 (dk_at dksX6_act_2 7 rfl rfl)
theorem dX6_act_55 : decode cX6_act 55 = .ok (.aload_n 0, 1) := dk_42 (dk_at dksX6_act_2 8 rfl rfl)
theorem dX6_act_56 : decode cX6_act 56 = .ok (.getfield 466, 3) := dk_180 1 210 (dk_at dksX6_act_2 9 rfl rfl)
theorem dX6_act_59 : decode cX6_act 59 = .ok (.iconst 0, 1) := dk_3 (dk_at dksX6_act_2 12 rfl rfl)
theorem dX6_act_60 : decode cX6_act 60 = .ok (.invokevirtual 93, 3) := dk_182 0 93 (dk_at dksX6_act_2 13 rfl rfl)
theorem dX6_act_63 : decode cX6_act 63 = .ok (.putfield 454, 3) := dk_181 1 198 (dk_at dksX6_act_2 16 rfl rfl)
theorem dX6_act_66 : decode cX6_act 66 = .ok (.iload_n 2, 1) := dk_28 (dk_at dksX6_act_2 19 rfl rfl)
theorem dX6_act_67 : decode cX6_act 67 = .ok (.ifCond .ne 11, 3) := dk_154 0 11 (dk_at dksX6_act_2 20 rfl rfl)
theorem dX6_act_70 : decode cX6_act 70 = .ok (.aload_n 0, 1) := dk_42 (dk_at dksX6_act_2 23 rfl rfl)
theorem dX6_act_71 : decode cX6_act 71 = .ok (.iload_n 3, 1) := dk_29 (dk_at dksX6_act_3 0 rfl rfl)
theorem dX6_act_72 : decode cX6_act 72 = .ok (.invokevirtual 463, 3) := dk_182 1 207 (dk_at dksX6_act_3 1 rfl rfl)
theorem dX6_act_75 : decode cX6_act 75 = .ok (.goto 34, 3) := dk_167 0 34 (dk_at dksX6_act_3 4 rfl rfl)
theorem dX6_act_78 : decode cX6_act 78 = .ok (.iload_n 2, 1) := dk_28 (dk_at dksX6_act_3 7 rfl rfl)
theorem dX6_act_79 : decode cX6_act 79 = .ok (.iconst 1, 1) := dk_4 (dk_at dksX6_act_3 8 rfl rfl)
theorem dX6_act_80 : decode cX6_act 80 = .ok (.if_icmp .ne 11, 3) := dk_160 0 11 (dk_at dksX6_act_3 9 rfl rfl)
theorem dX6_act_83 : decode cX6_act 83 = .ok (.aload_n 0, 1) := dk_42 (dk_at dksX6_act_3 12 rfl rfl)
theorem dX6_act_84 : decode cX6_act 84 = .ok (.iload_n 3, 1) := dk_29 (dk_at dksX6_act_3 13 rfl rfl)
theorem dX6_act_85 : decode cX6_act 85 = .ok (.invokevirtual 472, 3) := dk_182 1 216 (dk_at dksX6_act_3 14 rfl rfl)
theorem dX6_act_88 : decode cX6_act 88 = .ok (.goto 21, 3) := dk_167 0 21 (dk_at dksX6_act_3 17 rfl rfl)
theorem dX6_act_91 : decode cX6_act 91 = .ok (.iload_n 2, 1) := dk_28 (dk_at dksX6_act_3 20 rfl rfl)
theorem dX6_act_92 : decode cX6_act 92 = .ok (.iconst 2, 1) := dk_5 (dk_at dksX6_act_3 21 rfl rfl)
theorem dX6_act_93 : decode cX6_act 93 = .ok (.if_icmp .ne 11, 3) := dk_160 0 11 (dk_at dksX6_act_4 0 rfl rfl)
theorem dX6_act_96 : decode cX6_act 96 = .ok (.aload_n 0, 1) := dk_42 (dk_at dksX6_act_4 3 rfl rfl)
theorem dX6_act_97 : decode cX6_act 97 = .ok (.iload_n 3, 1) := dk_29 (dk_at dksX6_act_4 4 rfl rfl)
theorem dX6_act_98 : decode cX6_act 98 = .ok (.invokevirtual 475, 3) := dk_182 1 219 (dk_at dksX6_act_4 5 rfl rfl)
theorem dX6_act_101 : decode cX6_act 101 = .ok (.goto 8, 3) := dk_167 0 8 (dk_at dksX6_act_4 8 rfl rfl)
theorem dX6_act_104 : decode cX6_act 104 = .ok (.aload_n 0, 1) := dk_42 (dk_at dksX6_act_4 11 rfl rfl)
theorem dX6_act_105 : decode cX6_act 105 = .ok (.iload_n 3, 1) := dk_29 (dk_at dksX6_act_4 12 rfl rfl)
theorem dX6_act_106 : decode cX6_act 106 = .ok (.invokevirtual 478, 3) := dk_182 1 222 (dk_at dksX6_act_4 13 rfl rfl)
theorem dX6_act_109 : decode cX6_act 109 = .ok (.istore 4, 2) := dk_54 4 (dk_at dksX6_act_4 16 rfl rfl)
theorem dX6_act_111 : decode cX6_act 111 = .ok (.aload_n 0, 1) := dk_42 (dk_at dksX6_act_4 18 rfl rfl)
theorem dX6_act_112 : decode cX6_act 112 = .ok (.getfield 448, 3) := dk_180 1 192 (dk_at dksX6_act_4 19 rfl rfl)
theorem dX6_act_115 : decode cX6_act 115 = .ok (.ifCond .eq 8, 3) := dk_153 0 8 (dk_at dksX6_act_5 0 rfl rfl)
theorem dX6_act_118 : decode cX6_act 118 = .ok (.bipush (-15), 2) := dk_16 241 (dk_at dksX6_act_5 3 rfl rfl)
theorem dX6_act_120 : decode cX6_act 120 = .ok (.goto 5, 3) := dk_167 0 5 (dk_at dksX6_act_5 5 rfl rfl)
theorem dX6_act_123 : decode cX6_act 123 = .ok (.iload 4, 2) := dk_21 4 (dk_at dksX6_act_5 8 rfl rfl)
theorem dX6_act_125 : decode cX6_act 125 = .ok (.ireturn, 1) := dk_172 (dk_at dksX6_act_5 10 rfl rfl)
abbrev cX6_gives : ByteArray := prog_26_method_125_code
def yX6_gives : MethodName := ⟨RX6, "gives", "(I)I"⟩
def dkwX6_gives_3 : List UInt8 := [172]
abbrev dktX6_gives_3 : List UInt8 := dkwX6_gives_3 ++ []
def dkwX6_gives_2 : List UInt8 := [160, 0, 9, 28, 5, 104, 167, 0, 18, 42, 180, 1, 198, 6, 160, 0, 9, 28, 4, 100, 167, 0, 4, 28]
abbrev dktX6_gives_2 : List UInt8 := dkwX6_gives_2 ++ dktX6_gives_3
def dkwX6_gives_1 : List UInt8 := [16, 50, 182, 1, 201, 42, 16, 10, 182, 1, 201, 27, 42, 180, 1, 204, 96, 61, 42, 180, 1, 198, 4]
abbrev dktX6_gives_1 : List UInt8 := dkwX6_gives_1 ++ dktX6_gives_2
def dkwX6_gives_0 : List UInt8 := [42, 180, 1, 198, 4, 160, 0, 9, 42, 16, 20, 182, 1, 201, 42, 180, 1, 198, 6, 160, 0, 9, 42]
abbrev dktX6_gives_0 : List UInt8 := dkwX6_gives_0 ++ dktX6_gives_1
theorem dksX6_gives_0 : cX6_gives.data.toList.drop 0 = dktX6_gives_0 := by decide +kernel
theorem dksX6_gives_1 : cX6_gives.data.toList.drop 23 = dktX6_gives_1 := dk_seg dksX6_gives_0 23 rfl rfl
theorem dksX6_gives_2 : cX6_gives.data.toList.drop 46 = dktX6_gives_2 := dk_seg dksX6_gives_1 23 rfl rfl
theorem dksX6_gives_3 : cX6_gives.data.toList.drop 70 = dktX6_gives_3 := dk_seg dksX6_gives_2 24 rfl rfl
theorem dX6_gives_0 : decode cX6_gives 0 = .ok (.aload_n 0, 1) := dk_42 (dk_at dksX6_gives_0 0 rfl rfl)
theorem dX6_gives_1 : decode cX6_gives 1 = .ok (.getfield 454, 3) := dk_180 1 198 (dk_at dksX6_gives_0 1 rfl rfl)
theorem dX6_gives_4 : decode cX6_gives 4 = .ok (.iconst 1, 1) := dk_4 (dk_at dksX6_gives_0 4 rfl rfl)
theorem dX6_gives_5 : decode cX6_gives 5 = .ok (.if_icmp .ne 9, 3) := dk_160 0 9 (dk_at dksX6_gives_0 5 rfl rfl)
theorem dX6_gives_8 : decode cX6_gives 8 = .ok (.aload_n 0, 1) := dk_42 (dk_at dksX6_gives_0 8 rfl rfl)
theorem dX6_gives_9 : decode cX6_gives 9 = .ok (.bipush 20, 2) := dk_16 20 (dk_at dksX6_gives_0 9 rfl rfl)
theorem dX6_gives_11 : decode cX6_gives 11 = .ok (.invokevirtual 457, 3) := dk_182 1 201 (dk_at dksX6_gives_0 11 rfl rfl)
theorem dX6_gives_14 : decode cX6_gives 14 = .ok (.aload_n 0, 1) := dk_42 (dk_at dksX6_gives_0 14 rfl rfl)
theorem dX6_gives_15 : decode cX6_gives 15 = .ok (.getfield 454, 3) := dk_180 1 198 (dk_at dksX6_gives_0 15 rfl rfl)
theorem dX6_gives_18 : decode cX6_gives 18 = .ok (.iconst 3, 1) := dk_6 (dk_at dksX6_gives_0 18 rfl rfl)
theorem dX6_gives_19 : decode cX6_gives 19 = .ok (.if_icmp .ne 9, 3) := dk_160 0 9 (dk_at dksX6_gives_0 19 rfl rfl)
theorem dX6_gives_22 : decode cX6_gives 22 = .ok (.aload_n 0, 1) := dk_42 (dk_at dksX6_gives_0 22 rfl rfl)
theorem dX6_gives_23 : decode cX6_gives 23 = .ok (.bipush 50, 2) := dk_16 50 (dk_at dksX6_gives_1 0 rfl rfl)
theorem dX6_gives_25 : decode cX6_gives 25 = .ok (.invokevirtual 457, 3) := dk_182 1 201 (dk_at dksX6_gives_1 2 rfl rfl)
theorem dX6_gives_28 : decode cX6_gives 28 = .ok (.aload_n 0, 1) := dk_42 (dk_at dksX6_gives_1 5 rfl rfl)
theorem dX6_gives_29 : decode cX6_gives 29 = .ok (.bipush 10, 2) := dk_16 10 (dk_at dksX6_gives_1 6 rfl rfl)
theorem dX6_gives_31 : decode cX6_gives 31 = .ok (.invokevirtual 457, 3) := dk_182 1 201 (dk_at dksX6_gives_1 8 rfl rfl)
theorem dX6_gives_34 : decode cX6_gives 34 = .ok (.iload_n 1, 1) := dk_27 (dk_at dksX6_gives_1 11 rfl rfl)
theorem dX6_gives_35 : decode cX6_gives 35 = .ok (.aload_n 0, 1) := dk_42 (dk_at dksX6_gives_1 12 rfl rfl)
theorem dX6_gives_36 : decode cX6_gives 36 = .ok (.getfield 460, 3) := dk_180 1 204 (dk_at dksX6_gives_1 13 rfl rfl)
theorem dX6_gives_39 : decode cX6_gives 39 = .ok (.iadd, 1) := dk_96 (dk_at dksX6_gives_1 16 rfl rfl)
theorem dX6_gives_40 : decode cX6_gives 40 = .ok (.istore_n 2, 1) := dk_61 (dk_at dksX6_gives_1 17 rfl rfl)
theorem dX6_gives_41 : decode cX6_gives 41 = .ok (.aload_n 0, 1) := dk_42 (dk_at dksX6_gives_1 18 rfl rfl)
theorem dX6_gives_42 : decode cX6_gives 42 = .ok (.getfield 454, 3) := dk_180 1 198 (dk_at dksX6_gives_1 19 rfl rfl)
theorem dX6_gives_45 : decode cX6_gives 45 = .ok (.iconst 1, 1) := dk_4 (dk_at dksX6_gives_1 22 rfl rfl)
theorem dX6_gives_46 : decode cX6_gives 46 = .ok (.if_icmp .ne 9, 3) := dk_160 0 9 (dk_at dksX6_gives_2 0 rfl rfl)
theorem dX6_gives_49 : decode cX6_gives 49 = .ok (.iload_n 2, 1) := dk_28 (dk_at dksX6_gives_2 3 rfl rfl)
theorem dX6_gives_50 : decode cX6_gives 50 = .ok (.iconst 2, 1) := dk_5 (dk_at dksX6_gives_2 4 rfl rfl)
theorem dX6_gives_51 : decode cX6_gives 51 = .ok (.imul, 1) := dk_104 (dk_at dksX6_gives_2 5 rfl rfl)
theorem dX6_gives_52 : decode cX6_gives 52 = .ok (.goto 18, 3) := dk_167 0 18 (dk_at dksX6_gives_2 6 rfl rfl)
theorem dX6_gives_55 : decode cX6_gives 55 = .ok (.aload_n 0, 1) := dk_42 (dk_at dksX6_gives_2 9 rfl rfl)
theorem dX6_gives_56 : decode cX6_gives 56 = .ok (.getfield 454, 3) := dk_180 1 198 (dk_at dksX6_gives_2 10 rfl rfl)
theorem dX6_gives_59 : decode cX6_gives 59 = .ok (.iconst 3, 1) := dk_6 (dk_at dksX6_gives_2 13 rfl rfl)
theorem dX6_gives_60 : decode cX6_gives 60 = .ok (.if_icmp .ne 9, 3) := dk_160 0 9 (dk_at dksX6_gives_2 14 rfl rfl)
theorem dX6_gives_63 : decode cX6_gives 63 = .ok (.iload_n 2, 1) := dk_28 (dk_at dksX6_gives_2 17 rfl rfl)
theorem dX6_gives_64 : decode cX6_gives 64 = .ok (.iconst 1, 1) := dk_4 (dk_at dksX6_gives_2 18 rfl rfl)
theorem dX6_gives_65 : decode cX6_gives 65 = .ok (.isub, 1) := dk_100 (dk_at dksX6_gives_2 19 rfl rfl)
theorem dX6_gives_66 : decode cX6_gives 66 = .ok (.goto 4, 3) := dk_167 0 4 (dk_at dksX6_gives_2 20 rfl rfl)
theorem dX6_gives_69 : decode cX6_gives 69 = .ok (.iload_n 2, 1) := dk_28 (dk_at dksX6_gives_2 23 rfl rfl)
theorem dX6_gives_70 : decode cX6_gives 70 = .ok (.ireturn, 1) := dk_172 (dk_at dksX6_gives_3 0 rfl rfl)
abbrev cX6_runs : ByteArray := prog_26_method_124_code
def yX6_runs : MethodName := ⟨RX6, "runs", "(I)V"⟩
def dkwX6_runs_1 : List UInt8 := [27, 79, 42, 89, 180, 1, 195, 4, 96, 181, 1, 195, 177]
abbrev dktX6_runs_1 : List UInt8 := dkwX6_runs_1 ++ []
def dkwX6_runs_0 : List UInt8 := [42, 180, 1, 192, 154, 0, 32, 42, 180, 1, 195, 16, 30, 162, 0, 13, 42, 180, 0, 65, 42, 180, 1, 195]
abbrev dktX6_runs_0 : List UInt8 := dkwX6_runs_0 ++ dktX6_runs_1
theorem dksX6_runs_0 : cX6_runs.data.toList.drop 0 = dktX6_runs_0 := by decide +kernel
theorem dksX6_runs_1 : cX6_runs.data.toList.drop 24 = dktX6_runs_1 := dk_seg dksX6_runs_0 24 rfl rfl
theorem dX6_runs_0 : decode cX6_runs 0 = .ok (.aload_n 0, 1) := dk_42 (dk_at dksX6_runs_0 0 rfl rfl)
theorem dX6_runs_1 : decode cX6_runs 1 = .ok (.getfield 448, 3) := dk_180 1 192 (dk_at dksX6_runs_0 1 rfl rfl)
theorem dX6_runs_4 : decode cX6_runs 4 = .ok (.ifCond .ne 32, 3) := dk_154 0 32 (dk_at dksX6_runs_0 4 rfl rfl)
theorem dX6_runs_7 : decode cX6_runs 7 = .ok (.aload_n 0, 1) := dk_42 (dk_at dksX6_runs_0 7 rfl rfl)
theorem dX6_runs_8 : decode cX6_runs 8 = .ok (.getfield 451, 3) := dk_180 1 195 (dk_at dksX6_runs_0 8 rfl rfl)
theorem dX6_runs_11 : decode cX6_runs 11 = .ok (.bipush 30, 2) := dk_16 30 (dk_at dksX6_runs_0 11 rfl rfl)
theorem dX6_runs_13 : decode cX6_runs 13 = .ok (.if_icmp .ge 13, 3) := dk_162 0 13 (dk_at dksX6_runs_0 13 rfl rfl)
theorem dX6_runs_16 : decode cX6_runs 16 = .ok (.aload_n 0, 1) := dk_42 (dk_at dksX6_runs_0 16 rfl rfl)
theorem dX6_runs_17 : decode cX6_runs 17 = .ok (.getfield 65, 3) := dk_180 0 65 (dk_at dksX6_runs_0 17 rfl rfl)
theorem dX6_runs_20 : decode cX6_runs 20 = .ok (.aload_n 0, 1) := dk_42 (dk_at dksX6_runs_0 20 rfl rfl)
theorem dX6_runs_21 : decode cX6_runs 21 = .ok (.getfield 451, 3) := dk_180 1 195 (dk_at dksX6_runs_0 21 rfl rfl)
theorem dX6_runs_24 : decode cX6_runs 24 = .ok (.iload_n 1, 1) := dk_27 (dk_at dksX6_runs_1 0 rfl rfl)
theorem dX6_runs_25 : decode cX6_runs 25 = .ok (.iastore, 1) := dk_79 (dk_at dksX6_runs_1 1 rfl rfl)
theorem dX6_runs_26 : decode cX6_runs 26 = .ok (.aload_n 0, 1) := dk_42 (dk_at dksX6_runs_1 2 rfl rfl)
theorem dX6_runs_27 : decode cX6_runs 27 = .ok (.dup, 1) := dk_89 (dk_at dksX6_runs_1 3 rfl rfl)
theorem dX6_runs_28 : decode cX6_runs 28 = .ok (.getfield 451, 3) := dk_180 1 195 (dk_at dksX6_runs_1 4 rfl rfl)
theorem dX6_runs_31 : decode cX6_runs 31 = .ok (.iconst 1, 1) := dk_4 (dk_at dksX6_runs_1 7 rfl rfl)
theorem dX6_runs_32 : decode cX6_runs 32 = .ok (.iadd, 1) := dk_96 (dk_at dksX6_runs_1 8 rfl rfl)
theorem dX6_runs_33 : decode cX6_runs 33 = .ok (.putfield 451, 3) := dk_181 1 195 (dk_at dksX6_runs_1 9 rfl rfl)
theorem dX6_runs_36 : decode cX6_runs 36 = .ok (.return_, 1) := dk_177 (dk_at dksX6_runs_1 12 rfl rfl)
abbrev cX6_takes : ByteArray := prog_26_method_126_code
def yX6_takes : MethodName := ⟨RX6, "takes", "(I)I"⟩
def dkwX6_takes_3 : List UInt8 := [180, 1, 210, 130, 167, 0, 18, 42, 180, 1, 198, 8, 160, 0, 9, 3, 29, 100, 167, 0, 4, 29, 172]
abbrev dktX6_takes_3 : List UInt8 := dkwX6_takes_3 ++ []
def dkwX6_takes_2 : List UInt8 := [16, 11, 182, 1, 201, 42, 27, 182, 1, 207, 42, 180, 1, 210, 100, 62, 28, 153, 0, 12, 29, 42]
abbrev dktX6_takes_2 : List UInt8 := dkwX6_takes_2 ++ dktX6_takes_3
def dkwX6_takes_1 : List UInt8 := [153, 0, 9, 42, 16, 30, 182, 1, 201, 42, 180, 1, 198, 8, 160, 0, 9, 42, 16, 60, 182, 1, 201, 42]
abbrev dktX6_takes_1 : List UInt8 := dkwX6_takes_1 ++ dktX6_takes_2
def dkwX6_takes_0 : List UInt8 := [42, 180, 1, 198, 5, 159, 0, 11, 42, 180, 1, 198, 6, 160, 0, 7, 4, 167, 0, 4, 3, 61, 28]
abbrev dktX6_takes_0 : List UInt8 := dkwX6_takes_0 ++ dktX6_takes_1
theorem dksX6_takes_0 : cX6_takes.data.toList.drop 0 = dktX6_takes_0 := by decide +kernel
theorem dksX6_takes_1 : cX6_takes.data.toList.drop 23 = dktX6_takes_1 := dk_seg dksX6_takes_0 23 rfl rfl
theorem dksX6_takes_2 : cX6_takes.data.toList.drop 47 = dktX6_takes_2 := dk_seg dksX6_takes_1 24 rfl rfl
theorem dksX6_takes_3 : cX6_takes.data.toList.drop 69 = dktX6_takes_3 := dk_seg dksX6_takes_2 22 rfl rfl
theorem dX6_takes_0 : decode cX6_takes 0 = .ok (.aload_n 0, 1) := dk_42 (dk_at dksX6_takes_0 0 rfl rfl)
theorem dX6_takes_1 : decode cX6_takes 1 = .ok (.getfield 454, 3) := dk_180 1 198 (dk_at dksX6_takes_0 1 rfl rfl)
theorem dX6_takes_4 : decode cX6_takes 4 = .ok (.iconst 2, 1) := dk_5 (dk_at dksX6_takes_0 4 rfl rfl)
theorem dX6_takes_5 : decode cX6_takes 5 = .ok (.if_icmp .eq 11, 3) := dk_159 0 11 (dk_at dksX6_takes_0 5 rfl rfl)
theorem dX6_takes_8 : decode cX6_takes 8 = .ok (.aload_n 0, 1) := dk_42 (dk_at dksX6_takes_0 8 rfl rfl)
theorem dX6_takes_9 : decode cX6_takes 9 = .ok (.getfield 454, 3) := dk_180 1 198 (dk_at dksX6_takes_0 9 rfl rfl)
theorem dX6_takes_12 : decode cX6_takes 12 = .ok (.iconst 3, 1) := dk_6 (dk_at dksX6_takes_0 12 rfl rfl)
theorem dX6_takes_13 : decode cX6_takes 13 = .ok (.if_icmp .ne 7, 3) := dk_160 0 7 (dk_at dksX6_takes_0 13 rfl rfl)
theorem dX6_takes_16 : decode cX6_takes 16 = .ok (.iconst 1, 1) := dk_4 (dk_at dksX6_takes_0 16 rfl rfl)
theorem dX6_takes_17 : decode cX6_takes 17 = .ok (.goto 4, 3) := dk_167 0 4 (dk_at dksX6_takes_0 17 rfl rfl)
theorem dX6_takes_20 : decode cX6_takes 20 = .ok (.iconst 0, 1) := dk_3 (dk_at dksX6_takes_0 20 rfl rfl)
theorem dX6_takes_21 : decode cX6_takes 21 = .ok (.istore_n 2, 1) := dk_61 (dk_at dksX6_takes_0 21 rfl rfl)
theorem dX6_takes_22 : decode cX6_takes 22 = .ok (.iload_n 2, 1) := dk_28 (dk_at dksX6_takes_0 22 rfl rfl)
theorem dX6_takes_23 : decode cX6_takes 23 = .ok (.ifCond .eq 9, 3) := dk_153 0 9 (dk_at dksX6_takes_1 0 rfl rfl)
theorem dX6_takes_26 : decode cX6_takes 26 = .ok (.aload_n 0, 1) := dk_42 (dk_at dksX6_takes_1 3 rfl rfl)
theorem dX6_takes_27 : decode cX6_takes 27 = .ok (.bipush 30, 2) := dk_16 30 (dk_at dksX6_takes_1 4 rfl rfl)
theorem dX6_takes_29 : decode cX6_takes 29 = .ok (.invokevirtual 457, 3) := dk_182 1 201 (dk_at dksX6_takes_1 6 rfl rfl)
theorem dX6_takes_32 : decode cX6_takes 32 = .ok (.aload_n 0, 1) := dk_42 (dk_at dksX6_takes_1 9 rfl rfl)
theorem dX6_takes_33 : decode cX6_takes 33 = .ok (.getfield 454, 3) := dk_180 1 198 (dk_at dksX6_takes_1 10 rfl rfl)
theorem dX6_takes_36 : decode cX6_takes 36 = .ok (.iconst 5, 1) := dk_8 (dk_at dksX6_takes_1 13 rfl rfl)
theorem dX6_takes_37 : decode cX6_takes 37 = .ok (.if_icmp .ne 9, 3) := dk_160 0 9 (dk_at dksX6_takes_1 14 rfl rfl)
theorem dX6_takes_40 : decode cX6_takes 40 = .ok (.aload_n 0, 1) := dk_42 (dk_at dksX6_takes_1 17 rfl rfl)
theorem dX6_takes_41 : decode cX6_takes 41 = .ok (.bipush 60, 2) := dk_16 60 (dk_at dksX6_takes_1 18 rfl rfl)
theorem dX6_takes_43 : decode cX6_takes 43 = .ok (.invokevirtual 457, 3) := dk_182 1 201 (dk_at dksX6_takes_1 20 rfl rfl)
theorem dX6_takes_46 : decode cX6_takes 46 = .ok (.aload_n 0, 1) := dk_42 (dk_at dksX6_takes_1 23 rfl rfl)
theorem dX6_takes_47 : decode cX6_takes 47 = .ok (.bipush 11, 2) := dk_16 11 (dk_at dksX6_takes_2 0 rfl rfl)
theorem dX6_takes_49 : decode cX6_takes 49 = .ok (.invokevirtual 457, 3) := dk_182 1 201 (dk_at dksX6_takes_2 2 rfl rfl)
theorem dX6_takes_52 : decode cX6_takes 52 = .ok (.aload_n 0, 1) := dk_42 (dk_at dksX6_takes_2 5 rfl rfl)
theorem dX6_takes_53 : decode cX6_takes 53 = .ok (.iload_n 1, 1) := dk_27 (dk_at dksX6_takes_2 6 rfl rfl)
theorem dX6_takes_54 : decode cX6_takes 54 = .ok (.invokevirtual 463, 3) := dk_182 1 207 (dk_at dksX6_takes_2 7 rfl rfl)
theorem dX6_takes_57 : decode cX6_takes 57 = .ok (.aload_n 0, 1) := dk_42 (dk_at dksX6_takes_2 10 rfl rfl)
theorem dX6_takes_58 : decode cX6_takes 58 = .ok (.getfield 466, 3) := dk_180 1 210 (dk_at dksX6_takes_2 11 rfl rfl)
theorem dX6_takes_61 : decode cX6_takes 61 = .ok (.isub, 1) := dk_100 (dk_at dksX6_takes_2 14 rfl rfl)
theorem dX6_takes_62 : decode cX6_takes 62 = .ok (.istore_n 3, 1) := dk_62 (dk_at dksX6_takes_2 15 rfl rfl)
theorem dX6_takes_63 : decode cX6_takes 63 = .ok (.iload_n 2, 1) := dk_28 (dk_at dksX6_takes_2 16 rfl rfl)
theorem dX6_takes_64 : decode cX6_takes 64 = .ok (.ifCond .eq 12, 3) := dk_153 0 12 (dk_at dksX6_takes_2 17 rfl rfl)
theorem dX6_takes_67 : decode cX6_takes 67 = .ok (.iload_n 3, 1) := dk_29 (dk_at dksX6_takes_2 20 rfl rfl)
theorem dX6_takes_68 : decode cX6_takes 68 = .ok (.aload_n 0, 1) := dk_42 (dk_at dksX6_takes_2 21 rfl rfl)
theorem dX6_takes_69 : decode cX6_takes 69 = .ok (.getfield 466, 3) := dk_180 1 210 (dk_at dksX6_takes_3 0 rfl rfl)
theorem dX6_takes_72 : decode cX6_takes 72 = .ok (.ixor, 1) := dk_130 (dk_at dksX6_takes_3 3 rfl rfl)
theorem dX6_takes_73 : decode cX6_takes 73 = .ok (.goto 18, 3) := dk_167 0 18 (dk_at dksX6_takes_3 4 rfl rfl)
theorem dX6_takes_76 : decode cX6_takes 76 = .ok (.aload_n 0, 1) := dk_42 (dk_at dksX6_takes_3 7 rfl rfl)
theorem dX6_takes_77 : decode cX6_takes 77 = .ok (.getfield 454, 3) := dk_180 1 198 (dk_at dksX6_takes_3 8 rfl rfl)
theorem dX6_takes_80 : decode cX6_takes 80 = .ok (.iconst 5, 1) := dk_8 (dk_at dksX6_takes_3 11 rfl rfl)
theorem dX6_takes_81 : decode cX6_takes 81 = .ok (.if_icmp .ne 9, 3) := dk_160 0 9 (dk_at dksX6_takes_3 12 rfl rfl)
theorem dX6_takes_84 : decode cX6_takes 84 = .ok (.iconst 0, 1) := dk_3 (dk_at dksX6_takes_3 15 rfl rfl)
theorem dX6_takes_85 : decode cX6_takes 85 = .ok (.iload_n 3, 1) := dk_29 (dk_at dksX6_takes_3 16 rfl rfl)
theorem dX6_takes_86 : decode cX6_takes 86 = .ok (.isub, 1) := dk_100 (dk_at dksX6_takes_3 17 rfl rfl)
theorem dX6_takes_87 : decode cX6_takes 87 = .ok (.goto 4, 3) := dk_167 0 4 (dk_at dksX6_takes_3 18 rfl rfl)
theorem dX6_takes_90 : decode cX6_takes 90 = .ok (.iload_n 3, 1) := dk_29 (dk_at dksX6_takes_3 21 rfl rfl)
theorem dX6_takes_91 : decode cX6_takes 91 = .ok (.ireturn, 1) := dk_172 (dk_at dksX6_takes_3 22 rfl rfl)
abbrev cX6_halves : ByteArray := prog_26_method_128_code
def yX6_halves : MethodName := ⟨RX6, "halves", "(I)I"⟩
def dkwX6_halves_3 : List UInt8 := [100, 172, 42, 27, 182, 1, 213, 172]
abbrev dktX6_halves_3 : List UInt8 := dkwX6_halves_3 ++ []
def dkwX6_halves_2 : List UInt8 := [182, 1, 213, 61, 42, 180, 1, 192, 153, 0, 7, 3, 167, 0, 13, 28, 42, 42, 180, 1, 210, 182, 1, 207]
abbrev dktX6_halves_2 : List UInt8 := dkwX6_halves_2 ++ dktX6_halves_3
def dkwX6_halves_1 : List UInt8 := [180, 1, 198, 8, 160, 0, 45, 42, 16, 61, 182, 1, 201, 42, 16, 40, 182, 1, 201, 42, 27, 6, 100]
abbrev dktX6_halves_1 : List UInt8 := dkwX6_halves_1 ++ dktX6_halves_2
def dkwX6_halves_0 : List UInt8 := [42, 180, 1, 198, 7, 160, 0, 17, 42, 16, 40, 182, 1, 201, 42, 27, 6, 100, 182, 1, 213, 172, 42]
abbrev dktX6_halves_0 : List UInt8 := dkwX6_halves_0 ++ dktX6_halves_1
theorem dksX6_halves_0 : cX6_halves.data.toList.drop 0 = dktX6_halves_0 := by decide +kernel
theorem dksX6_halves_1 : cX6_halves.data.toList.drop 23 = dktX6_halves_1 := dk_seg dksX6_halves_0 23 rfl rfl
theorem dksX6_halves_2 : cX6_halves.data.toList.drop 46 = dktX6_halves_2 := dk_seg dksX6_halves_1 23 rfl rfl
theorem dksX6_halves_3 : cX6_halves.data.toList.drop 70 = dktX6_halves_3 := dk_seg dksX6_halves_2 24 rfl rfl
theorem dX6_halves_0 : decode cX6_halves 0 = .ok (.aload_n 0, 1) := dk_42 (dk_at dksX6_halves_0 0 rfl rfl)
theorem dX6_halves_1 : decode cX6_halves 1 = .ok (.getfield 454, 3) := dk_180 1 198 (dk_at dksX6_halves_0 1 rfl rfl)
theorem dX6_halves_4 : decode cX6_halves 4 = .ok (.iconst 4, 1) := dk_7 (dk_at dksX6_halves_0 4 rfl rfl)
theorem dX6_halves_5 : decode cX6_halves 5 = .ok (.if_icmp .ne 17, 3) := dk_160 0 17 (dk_at dksX6_halves_0 5 rfl rfl)
theorem dX6_halves_8 : decode cX6_halves 8 = .ok (.aload_n 0, 1) := dk_42 (dk_at dksX6_halves_0 8 rfl rfl)
theorem dX6_halves_9 : decode cX6_halves 9 = .ok (.bipush 40, 2) := dk_16 40 (dk_at dksX6_halves_0 9 rfl rfl)
theorem dX6_halves_11 : decode cX6_halves 11 = .ok (.invokevirtual 457, 3) := dk_182 1 201 (dk_at dksX6_halves_0 11 rfl rfl)
theorem dX6_halves_14 : decode cX6_halves 14 = .ok (.aload_n 0, 1) := dk_42 (dk_at dksX6_halves_0 14 rfl rfl)
theorem dX6_halves_15 : decode cX6_halves 15 = .ok (.iload_n 1, 1) := dk_27 (dk_at dksX6_halves_0 15 rfl rfl)
theorem dX6_halves_16 : decode cX6_halves 16 = .ok (.iconst 3, 1) := dk_6 (dk_at dksX6_halves_0 16 rfl rfl)
theorem dX6_halves_17 : decode cX6_halves 17 = .ok (.isub, 1) := dk_100 (dk_at dksX6_halves_0 17 rfl rfl)
theorem dX6_halves_18 : decode cX6_halves 18 = .ok (.invokevirtual 469, 3) := dk_182 1 213 (dk_at dksX6_halves_0 18 rfl rfl)
theorem dX6_halves_21 : decode cX6_halves 21 = .ok (.ireturn, 1) := dk_172 (dk_at dksX6_halves_0 21 rfl rfl)
theorem dX6_halves_22 : decode cX6_halves 22 = .ok (.aload_n 0, 1) := dk_42 (dk_at dksX6_halves_0 22 rfl rfl)
theorem dX6_halves_23 : decode cX6_halves 23 = .ok (.getfield 454, 3) := dk_180 1 198 (dk_at dksX6_halves_1 0 rfl rfl)
theorem dX6_halves_26 : decode cX6_halves 26 = .ok (.iconst 5, 1) := dk_8 (dk_at dksX6_halves_1 3 rfl rfl)
theorem dX6_halves_27 : decode cX6_halves 27 = .ok (.if_icmp .ne 45, 3) := dk_160 0 45 (dk_at dksX6_halves_1 4 rfl rfl)
theorem dX6_halves_30 : decode cX6_halves 30 = .ok (.aload_n 0, 1) := dk_42 (dk_at dksX6_halves_1 7 rfl rfl)
theorem dX6_halves_31 : decode cX6_halves 31 = .ok (.bipush 61, 2) := dk_16 61 (dk_at dksX6_halves_1 8 rfl rfl)
theorem dX6_halves_33 : decode cX6_halves 33 = .ok (.invokevirtual 457, 3) := dk_182 1 201 (dk_at dksX6_halves_1 10 rfl rfl)
theorem dX6_halves_36 : decode cX6_halves 36 = .ok (.aload_n 0, 1) := dk_42 (dk_at dksX6_halves_1 13 rfl rfl)
theorem dX6_halves_37 : decode cX6_halves 37 = .ok (.bipush 40, 2) := dk_16 40 (dk_at dksX6_halves_1 14 rfl rfl)
theorem dX6_halves_39 : decode cX6_halves 39 = .ok (.invokevirtual 457, 3) := dk_182 1 201 (dk_at dksX6_halves_1 16 rfl rfl)
theorem dX6_halves_42 : decode cX6_halves 42 = .ok (.aload_n 0, 1) := dk_42 (dk_at dksX6_halves_1 19 rfl rfl)
theorem dX6_halves_43 : decode cX6_halves 43 = .ok (.iload_n 1, 1) := dk_27 (dk_at dksX6_halves_1 20 rfl rfl)
theorem dX6_halves_44 : decode cX6_halves 44 = .ok (.iconst 3, 1) := dk_6 (dk_at dksX6_halves_1 21 rfl rfl)
theorem dX6_halves_45 : decode cX6_halves 45 = .ok (.isub, 1) := dk_100 (dk_at dksX6_halves_1 22 rfl rfl)
theorem dX6_halves_46 : decode cX6_halves 46 = .ok (.invokevirtual 469, 3) := dk_182 1 213 (dk_at dksX6_halves_2 0 rfl rfl)
theorem dX6_halves_49 : decode cX6_halves 49 = .ok (.istore_n 2, 1) := dk_61 (dk_at dksX6_halves_2 3 rfl rfl)
theorem dX6_halves_50 : decode cX6_halves 50 = .ok (.aload_n 0, 1) := dk_42 (dk_at dksX6_halves_2 4 rfl rfl)
theorem dX6_halves_51 : decode cX6_halves 51 = .ok (.getfield 448, 3) := dk_180 1 192 (dk_at dksX6_halves_2 5 rfl rfl)
theorem dX6_halves_54 : decode cX6_halves 54 = .ok (.ifCond .eq 7, 3) := dk_153 0 7 (dk_at dksX6_halves_2 8 rfl rfl)
theorem dX6_halves_57 : decode cX6_halves 57 = .ok (.iconst 0, 1) := dk_3 (dk_at dksX6_halves_2 11 rfl rfl)
theorem dX6_halves_58 : decode cX6_halves 58 = .ok (.goto 13, 3) := dk_167 0 13 (dk_at dksX6_halves_2 12 rfl rfl)
theorem dX6_halves_61 : decode cX6_halves 61 = .ok (.iload_n 2, 1) := dk_28 (dk_at dksX6_halves_2 15 rfl rfl)
theorem dX6_halves_62 : decode cX6_halves 62 = .ok (.aload_n 0, 1) := dk_42 (dk_at dksX6_halves_2 16 rfl rfl)
theorem dX6_halves_63 : decode cX6_halves 63 = .ok (.aload_n 0, 1) := dk_42 (dk_at dksX6_halves_2 17 rfl rfl)
theorem dX6_halves_64 : decode cX6_halves 64 = .ok (.getfield 466, 3) := dk_180 1 210 (dk_at dksX6_halves_2 18 rfl rfl)
theorem dX6_halves_67 : decode cX6_halves 67 = .ok (.invokevirtual 463, 3) := dk_182 1 207 (dk_at dksX6_halves_2 21 rfl rfl)
theorem dX6_halves_70 : decode cX6_halves 70 = .ok (.isub, 1) := dk_100 (dk_at dksX6_halves_3 0 rfl rfl)
theorem dX6_halves_71 : decode cX6_halves 71 = .ok (.ireturn, 1) := dk_172 (dk_at dksX6_halves_3 1 rfl rfl)
theorem dX6_halves_72 : decode cX6_halves 72 = .ok (.aload_n 0, 1) := dk_42 (dk_at dksX6_halves_3 2 rfl rfl)
theorem dX6_halves_73 : decode cX6_halves 73 = .ok (.iload_n 1, 1) := dk_27 (dk_at dksX6_halves_3 3 rfl rfl)
theorem dX6_halves_74 : decode cX6_halves 74 = .ok (.invokevirtual 469, 3) := dk_182 1 213 (dk_at dksX6_halves_3 4 rfl rfl)
theorem dX6_halves_77 : decode cX6_halves 77 = .ok (.ireturn, 1) := dk_172 (dk_at dksX6_halves_3 7 rfl rfl)
abbrev cX6_plainHalves : ByteArray := prog_26_method_127_code
def yX6_plainHalves : MethodName := ⟨RX6, "plainHalves", "(I)I"⟩
def dkwX6_plainHalves_1 : List UInt8 := [27, 42, 180, 1, 204, 42, 180, 1, 210, 100, 108, 172]
abbrev dktX6_plainHalves_1 : List UInt8 := dkwX6_plainHalves_1 ++ []
def dkwX6_plainHalves_0 : List UInt8 := [42, 16, 12, 182, 1, 201, 42, 180, 1, 204, 42, 180, 1, 210, 160, 0, 10, 42, 4, 181, 1, 192, 3, 172]
abbrev dktX6_plainHalves_0 : List UInt8 := dkwX6_plainHalves_0 ++ dktX6_plainHalves_1
theorem dksX6_plainHalves_0 : cX6_plainHalves.data.toList.drop 0 = dktX6_plainHalves_0 := by decide +kernel
theorem dksX6_plainHalves_1 : cX6_plainHalves.data.toList.drop 24 = dktX6_plainHalves_1 := dk_seg dksX6_plainHalves_0 24 rfl rfl
theorem dX6_plainHalves_0 : decode cX6_plainHalves 0 = .ok (.aload_n 0, 1) := dk_42 (dk_at dksX6_plainHalves_0 0 rfl rfl)
theorem dX6_plainHalves_1 : decode cX6_plainHalves 1 = .ok (.bipush 12, 2) := dk_16 12 (dk_at dksX6_plainHalves_0 1 rfl rfl)
theorem dX6_plainHalves_3 : decode cX6_plainHalves 3 = .ok (.invokevirtual 457, 3) := dk_182 1 201 (dk_at dksX6_plainHalves_0 3 rfl rfl)
theorem dX6_plainHalves_6 : decode cX6_plainHalves 6 = .ok (.aload_n 0, 1) := dk_42 (dk_at dksX6_plainHalves_0 6 rfl rfl)
theorem dX6_plainHalves_7 : decode cX6_plainHalves 7 = .ok (.getfield 460, 3) := dk_180 1 204 (dk_at dksX6_plainHalves_0 7 rfl rfl)
theorem dX6_plainHalves_10 : decode cX6_plainHalves 10 = .ok (.aload_n 0, 1) := dk_42 (dk_at dksX6_plainHalves_0 10 rfl rfl)
theorem dX6_plainHalves_11 : decode cX6_plainHalves 11 = .ok (.getfield 466, 3) := dk_180 1 210 (dk_at dksX6_plainHalves_0 11 rfl rfl)
theorem dX6_plainHalves_14 : decode cX6_plainHalves 14 = .ok (.if_icmp .ne 10, 3) := dk_160 0 10 (dk_at dksX6_plainHalves_0 14 rfl rfl)
theorem dX6_plainHalves_17 : decode cX6_plainHalves 17 = .ok (.aload_n 0, 1) := dk_42 (dk_at dksX6_plainHalves_0 17 rfl rfl)
theorem dX6_plainHalves_18 : decode cX6_plainHalves 18 = .ok (.iconst 1, 1) := dk_4 (dk_at dksX6_plainHalves_0 18 rfl rfl)
theorem dX6_plainHalves_19 : decode cX6_plainHalves 19 = .ok (.putfield 448, 3) := dk_181 1 192 (dk_at dksX6_plainHalves_0 19 rfl rfl)
theorem dX6_plainHalves_22 : decode cX6_plainHalves 22 = .ok (.iconst 0, 1) := dk_3 (dk_at dksX6_plainHalves_0 22 rfl rfl)
theorem dX6_plainHalves_23 : decode cX6_plainHalves 23 = .ok (.ireturn, 1) := dk_172 (dk_at dksX6_plainHalves_0 23 rfl rfl)
theorem dX6_plainHalves_24 : decode cX6_plainHalves 24 = .ok (.iload_n 1, 1) := dk_27 (dk_at dksX6_plainHalves_1 0 rfl rfl)
theorem dX6_plainHalves_25 : decode cX6_plainHalves 25 = .ok (.aload_n 0, 1) := dk_42 (dk_at dksX6_plainHalves_1 1 rfl rfl)
theorem dX6_plainHalves_26 : decode cX6_plainHalves 26 = .ok (.getfield 460, 3) := dk_180 1 204 (dk_at dksX6_plainHalves_1 2 rfl rfl)
theorem dX6_plainHalves_29 : decode cX6_plainHalves 29 = .ok (.aload_n 0, 1) := dk_42 (dk_at dksX6_plainHalves_1 5 rfl rfl)
theorem dX6_plainHalves_30 : decode cX6_plainHalves 30 = .ok (.getfield 466, 3) := dk_180 1 210 (dk_at dksX6_plainHalves_1 6 rfl rfl)
theorem dX6_plainHalves_33 : decode cX6_plainHalves 33 = .ok (.isub, 1) := dk_100 (dk_at dksX6_plainHalves_1 9 rfl rfl)
theorem dX6_plainHalves_34 : decode cX6_plainHalves 34 = .ok (.idiv, 1) := dk_108 (dk_at dksX6_plainHalves_1 10 rfl rfl)
theorem dX6_plainHalves_35 : decode cX6_plainHalves 35 = .ok (.ireturn, 1) := dk_172 (dk_at dksX6_plainHalves_1 11 rfl rfl)
abbrev cX6_owes : ByteArray := prog_26_method_129_code
def yX6_owes : MethodName := ⟨RX6, "owes", "(I)I"⟩
def dkwX6_owes_2 : List UInt8 := [182, 1, 219, 96, 167, 0, 4, 28, 172]
abbrev dktX6_owes_2 : List UInt8 := dkwX6_owes_2 ++ []
def dkwX6_owes_1 : List UInt8 := [182, 1, 216, 42, 180, 1, 204, 130, 61, 42, 180, 1, 198, 6, 160, 0, 16, 28, 42, 42, 180, 1, 204]
abbrev dktX6_owes_1 : List UInt8 := dkwX6_owes_1 ++ dktX6_owes_2
def dkwX6_owes_0 : List UInt8 := [42, 180, 1, 198, 6, 160, 0, 9, 42, 16, 51, 182, 1, 201, 42, 16, 13, 182, 1, 201, 42, 27]
abbrev dktX6_owes_0 : List UInt8 := dkwX6_owes_0 ++ dktX6_owes_1
theorem dksX6_owes_0 : cX6_owes.data.toList.drop 0 = dktX6_owes_0 := by decide +kernel
theorem dksX6_owes_1 : cX6_owes.data.toList.drop 22 = dktX6_owes_1 := dk_seg dksX6_owes_0 22 rfl rfl
theorem dksX6_owes_2 : cX6_owes.data.toList.drop 45 = dktX6_owes_2 := dk_seg dksX6_owes_1 23 rfl rfl
theorem dX6_owes_0 : decode cX6_owes 0 = .ok (.aload_n 0, 1) := dk_42 (dk_at dksX6_owes_0 0 rfl rfl)
theorem dX6_owes_1 : decode cX6_owes 1 = .ok (.getfield 454, 3) := dk_180 1 198 (dk_at dksX6_owes_0 1 rfl rfl)
theorem dX6_owes_4 : decode cX6_owes 4 = .ok (.iconst 3, 1) := dk_6 (dk_at dksX6_owes_0 4 rfl rfl)
theorem dX6_owes_5 : decode cX6_owes 5 = .ok (.if_icmp .ne 9, 3) := dk_160 0 9 (dk_at dksX6_owes_0 5 rfl rfl)
theorem dX6_owes_8 : decode cX6_owes 8 = .ok (.aload_n 0, 1) := dk_42 (dk_at dksX6_owes_0 8 rfl rfl)
theorem dX6_owes_9 : decode cX6_owes 9 = .ok (.bipush 51, 2) := dk_16 51 (dk_at dksX6_owes_0 9 rfl rfl)
theorem dX6_owes_11 : decode cX6_owes 11 = .ok (.invokevirtual 457, 3) := dk_182 1 201 (dk_at dksX6_owes_0 11 rfl rfl)
theorem dX6_owes_14 : decode cX6_owes 14 = .ok (.aload_n 0, 1) := dk_42 (dk_at dksX6_owes_0 14 rfl rfl)
theorem dX6_owes_15 : decode cX6_owes 15 = .ok (.bipush 13, 2) := dk_16 13 (dk_at dksX6_owes_0 15 rfl rfl)
theorem dX6_owes_17 : decode cX6_owes 17 = .ok (.invokevirtual 457, 3) := dk_182 1 201 (dk_at dksX6_owes_0 17 rfl rfl)
theorem dX6_owes_20 : decode cX6_owes 20 = .ok (.aload_n 0, 1) := dk_42 (dk_at dksX6_owes_0 20 rfl rfl)
theorem dX6_owes_21 : decode cX6_owes 21 = .ok (.iload_n 1, 1) := dk_27 (dk_at dksX6_owes_0 21 rfl rfl)
theorem dX6_owes_22 : decode cX6_owes 22 = .ok (.invokevirtual 472, 3) := dk_182 1 216 (dk_at dksX6_owes_1 0 rfl rfl)
theorem dX6_owes_25 : decode cX6_owes 25 = .ok (.aload_n 0, 1) := dk_42 (dk_at dksX6_owes_1 3 rfl rfl)
theorem dX6_owes_26 : decode cX6_owes 26 = .ok (.getfield 460, 3) := dk_180 1 204 (dk_at dksX6_owes_1 4 rfl rfl)
theorem dX6_owes_29 : decode cX6_owes 29 = .ok (.ixor, 1) := dk_130 (dk_at dksX6_owes_1 7 rfl rfl)
theorem dX6_owes_30 : decode cX6_owes 30 = .ok (.istore_n 2, 1) := dk_61 (dk_at dksX6_owes_1 8 rfl rfl)
theorem dX6_owes_31 : decode cX6_owes 31 = .ok (.aload_n 0, 1) := dk_42 (dk_at dksX6_owes_1 9 rfl rfl)
theorem dX6_owes_32 : decode cX6_owes 32 = .ok (.getfield 454, 3) := dk_180 1 198 (dk_at dksX6_owes_1 10 rfl rfl)
theorem dX6_owes_35 : decode cX6_owes 35 = .ok (.iconst 3, 1) := dk_6 (dk_at dksX6_owes_1 13 rfl rfl)
theorem dX6_owes_36 : decode cX6_owes 36 = .ok (.if_icmp .ne 16, 3) := dk_160 0 16 (dk_at dksX6_owes_1 14 rfl rfl)
theorem dX6_owes_39 : decode cX6_owes 39 = .ok (.iload_n 2, 1) := dk_28 (dk_at dksX6_owes_1 17 rfl rfl)
theorem dX6_owes_40 : decode cX6_owes 40 = .ok (.aload_n 0, 1) := dk_42 (dk_at dksX6_owes_1 18 rfl rfl)
theorem dX6_owes_41 : decode cX6_owes 41 = .ok (.aload_n 0, 1) := dk_42 (dk_at dksX6_owes_1 19 rfl rfl)
theorem dX6_owes_42 : decode cX6_owes 42 = .ok (.getfield 460, 3) := dk_180 1 204 (dk_at dksX6_owes_1 20 rfl rfl)
theorem dX6_owes_45 : decode cX6_owes 45 = .ok (.invokevirtual 475, 3) := dk_182 1 219 (dk_at dksX6_owes_2 0 rfl rfl)
theorem dX6_owes_48 : decode cX6_owes 48 = .ok (.iadd, 1) := dk_96 (dk_at dksX6_owes_2 3 rfl rfl)
theorem dX6_owes_49 : decode cX6_owes 49 = .ok (.goto 4, 3) := dk_167 0 4 (dk_at dksX6_owes_2 4 rfl rfl)
theorem dX6_owes_52 : decode cX6_owes 52 = .ok (.iload_n 2, 1) := dk_28 (dk_at dksX6_owes_2 7 rfl rfl)
theorem dX6_owes_53 : decode cX6_owes 53 = .ok (.ireturn, 1) := dk_172 (dk_at dksX6_owes_2 8 rfl rfl)
abbrev cX6_trace : ByteArray := prog_26_method_132_code
def yX6_trace : MethodName := ⟨RX6, "trace", "(I)I"⟩
def dkwX6_trace_1 : List UInt8 := [167, 0, 5, 16, 253, 172]
abbrev dktX6_trace_1 : List UInt8 := dkwX6_trace_1 ++ []
def dkwX6_trace_0 : List UInt8 := [27, 133, 9, 42, 182, 1, 225, 4, 100, 133, 184, 0, 68, 153, 0, 12, 42, 180, 0, 65, 27, 46]
abbrev dktX6_trace_0 : List UInt8 := dkwX6_trace_0 ++ dktX6_trace_1
theorem dksX6_trace_0 : cX6_trace.data.toList.drop 0 = dktX6_trace_0 := by decide +kernel
theorem dksX6_trace_1 : cX6_trace.data.toList.drop 22 = dktX6_trace_1 := dk_seg dksX6_trace_0 22 rfl rfl
theorem dX6_trace_0 : decode cX6_trace 0 = .ok (.iload_n 1, 1) := dk_27 (dk_at dksX6_trace_0 0 rfl rfl)
theorem dX6_trace_1 : decode cX6_trace 1 = .ok (.i2l, 1) := dk_133 (dk_at dksX6_trace_0 1 rfl rfl)
theorem dX6_trace_2 : decode cX6_trace 2 = .ok (.lconst 0, 1) := dk_9 (dk_at dksX6_trace_0 2 rfl rfl)
theorem dX6_trace_3 : decode cX6_trace 3 = .ok (.aload_n 0, 1) := dk_42 (dk_at dksX6_trace_0 3 rfl rfl)
theorem dX6_trace_4 : decode cX6_trace 4 = .ok (.invokevirtual 481, 3) := dk_182 1 225 (dk_at dksX6_trace_0 4 rfl rfl)
theorem dX6_trace_7 : decode cX6_trace 7 = .ok (.iconst 1, 1) := dk_4 (dk_at dksX6_trace_0 7 rfl rfl)
theorem dX6_trace_8 : decode cX6_trace 8 = .ok (.isub, 1) := dk_100 (dk_at dksX6_trace_0 8 rfl rfl)
theorem dX6_trace_9 : decode cX6_trace 9 = .ok (.i2l, 1) := dk_133 (dk_at dksX6_trace_0 9 rfl rfl)
theorem dX6_trace_10 : decode cX6_trace 10 = .ok (.invokestatic 68, 3) := dk_184 0 68 (dk_at dksX6_trace_0 10 rfl rfl)
theorem dX6_trace_13 : decode cX6_trace 13 = .ok (.ifCond .eq 12, 3) := dk_153 0 12 (dk_at dksX6_trace_0 13 rfl rfl)
theorem dX6_trace_16 : decode cX6_trace 16 = .ok (.aload_n 0, 1) := dk_42 (dk_at dksX6_trace_0 16 rfl rfl)
theorem dX6_trace_17 : decode cX6_trace 17 = .ok (.getfield 65, 3) := dk_180 0 65 (dk_at dksX6_trace_0 17 rfl rfl)
theorem dX6_trace_20 : decode cX6_trace 20 = .ok (.iload_n 1, 1) := dk_27 (dk_at dksX6_trace_0 20 rfl rfl)
theorem dX6_trace_21 : decode cX6_trace 21 = .ok (.iaload, 1) := dk_46 (dk_at dksX6_trace_0 21 rfl rfl)
theorem dX6_trace_22 : decode cX6_trace 22 = .ok (.goto 5, 3) := dk_167 0 5 (dk_at dksX6_trace_1 0 rfl rfl)
theorem dX6_trace_25 : decode cX6_trace 25 = .ok (.bipush (-3), 2) := dk_16 253 (dk_at dksX6_trace_1 3 rfl rfl)
theorem dX6_trace_27 : decode cX6_trace 27 = .ok (.ireturn, 1) := dk_172 (dk_at dksX6_trace_1 5 rfl rfl)
abbrev cX6_traced : ByteArray := prog_26_method_131_code
def yX6_traced : MethodName := ⟨RX6, "traced", "()I"⟩
def dkwX6_traced_0 : List UInt8 := [42, 180, 1, 195, 16, 30, 162, 0, 10, 42, 180, 1, 195, 167, 0, 5, 16, 30, 172]
abbrev dktX6_traced_0 : List UInt8 := dkwX6_traced_0 ++ []
theorem dksX6_traced_0 : cX6_traced.data.toList.drop 0 = dktX6_traced_0 := by decide +kernel
theorem dX6_traced_0 : decode cX6_traced 0 = .ok (.aload_n 0, 1) := dk_42 (dk_at dksX6_traced_0 0 rfl rfl)
theorem dX6_traced_1 : decode cX6_traced 1 = .ok (.getfield 451, 3) := dk_180 1 195 (dk_at dksX6_traced_0 1 rfl rfl)
theorem dX6_traced_4 : decode cX6_traced 4 = .ok (.bipush 30, 2) := dk_16 30 (dk_at dksX6_traced_0 4 rfl rfl)
theorem dX6_traced_6 : decode cX6_traced 6 = .ok (.if_icmp .ge 10, 3) := dk_162 0 10 (dk_at dksX6_traced_0 6 rfl rfl)
theorem dX6_traced_9 : decode cX6_traced 9 = .ok (.aload_n 0, 1) := dk_42 (dk_at dksX6_traced_0 9 rfl rfl)
theorem dX6_traced_10 : decode cX6_traced 10 = .ok (.getfield 451, 3) := dk_180 1 195 (dk_at dksX6_traced_0 10 rfl rfl)
theorem dX6_traced_13 : decode cX6_traced 13 = .ok (.goto 5, 3) := dk_167 0 5 (dk_at dksX6_traced_0 13 rfl rfl)
theorem dX6_traced_16 : decode cX6_traced 16 = .ok (.bipush 30, 2) := dk_16 30 (dk_at dksX6_traced_0 16 rfl rfl)
theorem dX6_traced_18 : decode cX6_traced 18 = .ok (.ireturn, 1) := dk_172 (dk_at dksX6_traced_0 18 rfl rfl)
abbrev cX6_many : ByteArray := prog_26_method_133_code
def yX6_many : MethodName := ⟨RX6, "many", "(I)I"⟩
def dkwX6_many_3 : List UInt8 := [180, 0, 7, 6, 46, 172, 42, 180, 1, 30, 172, 42, 180, 1, 38, 172, 42, 182, 1, 225, 172, 2, 172]
abbrev dktX6_many_3 : List UInt8 := dkwX6_many_3 ++ []
def dkwX6_many_2 : List UInt8 := [42, 180, 0, 7, 3, 46, 172, 42, 180, 0, 7, 4, 46, 172, 42, 180, 0, 7, 7, 46, 172, 42]
abbrev dktX6_many_2 : List UInt8 := dkwX6_many_2 ++ dktX6_many_3
def dkwX6_many_1 : List UInt8 := [170, 0, 0, 0, 0, 0, 86, 0, 0, 0, 0, 0, 0, 0, 6, 0, 0, 0, 43, 0, 0, 0, 50, 0, 0, 0, 57, 0, 0, 0, 64, 0, 0, 0, 71, 0, 0, 0, 76, 0, 0, 0, 81]
abbrev dktX6_many_1 : List UInt8 := dkwX6_many_1 ++ dktX6_many_2
def dkwX6_many_0 : List UInt8 := [27]
abbrev dktX6_many_0 : List UInt8 := dkwX6_many_0 ++ dktX6_many_1
theorem dksX6_many_0 : cX6_many.data.toList.drop 0 = dktX6_many_0 := by decide +kernel
theorem dksX6_many_1 : cX6_many.data.toList.drop 1 = dktX6_many_1 := dk_seg dksX6_many_0 1 rfl rfl
theorem dksX6_many_2 : cX6_many.data.toList.drop 44 = dktX6_many_2 := dk_seg dksX6_many_1 43 rfl rfl
theorem dksX6_many_3 : cX6_many.data.toList.drop 66 = dktX6_many_3 := dk_seg dksX6_many_2 22 rfl rfl
theorem dX6_many_0 : decode cX6_many 0 = .ok (.iload_n 1, 1) := dk_27 (dk_at dksX6_many_0 0 rfl rfl)
theorem dX6_many_1 : decode cX6_many 1 = .ok (.tableswitch 86 0 6 #[43, 50, 57, 64, 71, 76, 81], 43) := by decide +kernel
theorem dX6_many_44 : decode cX6_many 44 = .ok (.aload_n 0, 1) := dk_42 (dk_at dksX6_many_2 0 rfl rfl)
theorem dX6_many_45 : decode cX6_many 45 = .ok (.getfield 7, 3) := dk_180 0 7 (dk_at dksX6_many_2 1 rfl rfl)
theorem dX6_many_48 : decode cX6_many 48 = .ok (.iconst 0, 1) := dk_3 (dk_at dksX6_many_2 4 rfl rfl)
theorem dX6_many_49 : decode cX6_many 49 = .ok (.iaload, 1) := dk_46 (dk_at dksX6_many_2 5 rfl rfl)
theorem dX6_many_50 : decode cX6_many 50 = .ok (.ireturn, 1) := dk_172 (dk_at dksX6_many_2 6 rfl rfl)
theorem dX6_many_51 : decode cX6_many 51 = .ok (.aload_n 0, 1) := dk_42 (dk_at dksX6_many_2 7 rfl rfl)
theorem dX6_many_52 : decode cX6_many 52 = .ok (.getfield 7, 3) := dk_180 0 7 (dk_at dksX6_many_2 8 rfl rfl)
theorem dX6_many_55 : decode cX6_many 55 = .ok (.iconst 1, 1) := dk_4 (dk_at dksX6_many_2 11 rfl rfl)
theorem dX6_many_56 : decode cX6_many 56 = .ok (.iaload, 1) := dk_46 (dk_at dksX6_many_2 12 rfl rfl)
theorem dX6_many_57 : decode cX6_many 57 = .ok (.ireturn, 1) := dk_172 (dk_at dksX6_many_2 13 rfl rfl)
theorem dX6_many_58 : decode cX6_many 58 = .ok (.aload_n 0, 1) := dk_42 (dk_at dksX6_many_2 14 rfl rfl)
theorem dX6_many_59 : decode cX6_many 59 = .ok (.getfield 7, 3) := dk_180 0 7 (dk_at dksX6_many_2 15 rfl rfl)
theorem dX6_many_62 : decode cX6_many 62 = .ok (.iconst 4, 1) := dk_7 (dk_at dksX6_many_2 18 rfl rfl)
theorem dX6_many_63 : decode cX6_many 63 = .ok (.iaload, 1) := dk_46 (dk_at dksX6_many_2 19 rfl rfl)
theorem dX6_many_64 : decode cX6_many 64 = .ok (.ireturn, 1) := dk_172 (dk_at dksX6_many_2 20 rfl rfl)
theorem dX6_many_65 : decode cX6_many 65 = .ok (.aload_n 0, 1) := dk_42 (dk_at dksX6_many_2 21 rfl rfl)
theorem dX6_many_66 : decode cX6_many 66 = .ok (.getfield 7, 3) := dk_180 0 7 (dk_at dksX6_many_3 0 rfl rfl)
theorem dX6_many_69 : decode cX6_many 69 = .ok (.iconst 3, 1) := dk_6 (dk_at dksX6_many_3 3 rfl rfl)
theorem dX6_many_70 : decode cX6_many 70 = .ok (.iaload, 1) := dk_46 (dk_at dksX6_many_3 4 rfl rfl)
theorem dX6_many_71 : decode cX6_many 71 = .ok (.ireturn, 1) := dk_172 (dk_at dksX6_many_3 5 rfl rfl)
theorem dX6_many_72 : decode cX6_many 72 = .ok (.aload_n 0, 1) := dk_42 (dk_at dksX6_many_3 6 rfl rfl)
theorem dX6_many_73 : decode cX6_many 73 = .ok (.getfield 286, 3) := dk_180 1 30 (dk_at dksX6_many_3 7 rfl rfl)
theorem dX6_many_76 : decode cX6_many 76 = .ok (.ireturn, 1) := dk_172 (dk_at dksX6_many_3 10 rfl rfl)
theorem dX6_many_77 : decode cX6_many 77 = .ok (.aload_n 0, 1) := dk_42 (dk_at dksX6_many_3 11 rfl rfl)
theorem dX6_many_78 : decode cX6_many 78 = .ok (.getfield 294, 3) := dk_180 1 38 (dk_at dksX6_many_3 12 rfl rfl)
theorem dX6_many_81 : decode cX6_many 81 = .ok (.ireturn, 1) := dk_172 (dk_at dksX6_many_3 15 rfl rfl)
theorem dX6_many_82 : decode cX6_many 82 = .ok (.aload_n 0, 1) := dk_42 (dk_at dksX6_many_3 16 rfl rfl)
theorem dX6_many_83 : decode cX6_many 83 = .ok (.invokevirtual 481, 3) := dk_182 1 225 (dk_at dksX6_many_3 17 rfl rfl)
theorem dX6_many_86 : decode cX6_many 86 = .ok (.ireturn, 1) := dk_172 (dk_at dksX6_many_3 20 rfl rfl)
theorem dX6_many_87 : decode cX6_many 87 = .ok (.iconst (-1), 1) := dk_2 (dk_at dksX6_many_3 21 rfl rfl)
theorem dX6_many_88 : decode cX6_many 88 = .ok (.ireturn, 1) := dk_172 (dk_at dksX6_many_3 22 rfl rfl)
abbrev cX6_keep : ByteArray := prog_26_method_134_code
def yX6_keep : MethodName := ⟨RX6, "keep", "()I"⟩
def dkwX6_keep_1 : List UInt8 := [167, 255, 234, 42, 4, 181, 1, 228, 4, 172]
abbrev dktX6_keep_1 : List UInt8 := dkwX6_keep_1 ++ []
def dkwX6_keep_0 : List UInt8 := [3, 60, 27, 17, 1, 84, 162, 0, 21, 42, 180, 0, 13, 27, 42, 180, 0, 7, 27, 46, 79, 132, 1, 1]
abbrev dktX6_keep_0 : List UInt8 := dkwX6_keep_0 ++ dktX6_keep_1
theorem dksX6_keep_0 : cX6_keep.data.toList.drop 0 = dktX6_keep_0 := by decide +kernel
theorem dksX6_keep_1 : cX6_keep.data.toList.drop 24 = dktX6_keep_1 := dk_seg dksX6_keep_0 24 rfl rfl
theorem dX6_keep_0 : decode cX6_keep 0 = .ok (.iconst 0, 1) := dk_3 (dk_at dksX6_keep_0 0 rfl rfl)
theorem dX6_keep_1 : decode cX6_keep 1 = .ok (.istore_n 1, 1) := dk_60 (dk_at dksX6_keep_0 1 rfl rfl)
theorem dX6_keep_2 : decode cX6_keep 2 = .ok (.iload_n 1, 1) := dk_27 (dk_at dksX6_keep_0 2 rfl rfl)
theorem dX6_keep_3 : decode cX6_keep 3 = .ok (.sipush 340, 3) := dk_17 1 84 (dk_at dksX6_keep_0 3 rfl rfl)
theorem dX6_keep_6 : decode cX6_keep 6 = .ok (.if_icmp .ge 21, 3) := dk_162 0 21 (dk_at dksX6_keep_0 6 rfl rfl)
theorem dX6_keep_9 : decode cX6_keep 9 = .ok (.aload_n 0, 1) := dk_42 (dk_at dksX6_keep_0 9 rfl rfl)
theorem dX6_keep_10 : decode cX6_keep 10 = .ok (.getfield 13, 3) := dk_180 0 13 (dk_at dksX6_keep_0 10 rfl rfl)
theorem dX6_keep_13 : decode cX6_keep 13 = .ok (.iload_n 1, 1) := dk_27 (dk_at dksX6_keep_0 13 rfl rfl)
theorem dX6_keep_14 : decode cX6_keep 14 = .ok (.aload_n 0, 1) := dk_42 (dk_at dksX6_keep_0 14 rfl rfl)
theorem dX6_keep_15 : decode cX6_keep 15 = .ok (.getfield 7, 3) := dk_180 0 7 (dk_at dksX6_keep_0 15 rfl rfl)
theorem dX6_keep_18 : decode cX6_keep 18 = .ok (.iload_n 1, 1) := dk_27 (dk_at dksX6_keep_0 18 rfl rfl)
theorem dX6_keep_19 : decode cX6_keep 19 = .ok (.iaload, 1) := dk_46 (dk_at dksX6_keep_0 19 rfl rfl)
theorem dX6_keep_20 : decode cX6_keep 20 = .ok (.iastore, 1) := dk_79 (dk_at dksX6_keep_0 20 rfl rfl)
theorem dX6_keep_21 : decode cX6_keep 21 = .ok (.iinc 1 1, 3) := dk_132 1 1 (dk_at dksX6_keep_0 21 rfl rfl)
theorem dX6_keep_24 : decode cX6_keep 24 = .ok (.goto (-22), 3) := dk_167 255 234 (dk_at dksX6_keep_1 0 rfl rfl)
theorem dX6_keep_27 : decode cX6_keep 27 = .ok (.aload_n 0, 1) := dk_42 (dk_at dksX6_keep_1 3 rfl rfl)
theorem dX6_keep_28 : decode cX6_keep 28 = .ok (.iconst 1, 1) := dk_4 (dk_at dksX6_keep_1 4 rfl rfl)
theorem dX6_keep_29 : decode cX6_keep 29 = .ok (.putfield 484, 3) := dk_181 1 228 (dk_at dksX6_keep_1 5 rfl rfl)
theorem dX6_keep_32 : decode cX6_keep 32 = .ok (.iconst 1, 1) := dk_4 (dk_at dksX6_keep_1 8 rfl rfl)
theorem dX6_keep_33 : decode cX6_keep 33 = .ok (.ireturn, 1) := dk_172 (dk_at dksX6_keep_1 9 rfl rfl)
abbrev cX6_again : ByteArray := prog_26_method_135_code
def yX6_again : MethodName := ⟨RX6, "again", "()I"⟩
def dkwX6_again_1 : List UInt8 := [42, 180, 0, 13, 27, 46, 79, 132, 1, 1, 167, 255, 234, 42, 180, 0, 7, 3, 46, 172]
abbrev dktX6_again_1 : List UInt8 := dkwX6_again_1 ++ []
def dkwX6_again_0 : List UInt8 := [42, 180, 1, 228, 154, 0, 6, 16, 253, 172, 3, 60, 27, 17, 1, 84, 162, 0, 21, 42, 180, 0, 7, 27]
abbrev dktX6_again_0 : List UInt8 := dkwX6_again_0 ++ dktX6_again_1
theorem dksX6_again_0 : cX6_again.data.toList.drop 0 = dktX6_again_0 := by decide +kernel
theorem dksX6_again_1 : cX6_again.data.toList.drop 24 = dktX6_again_1 := dk_seg dksX6_again_0 24 rfl rfl
theorem dX6_again_0 : decode cX6_again 0 = .ok (.aload_n 0, 1) := dk_42 (dk_at dksX6_again_0 0 rfl rfl)
theorem dX6_again_1 : decode cX6_again 1 = .ok (.getfield 484, 3) := dk_180 1 228 (dk_at dksX6_again_0 1 rfl rfl)
theorem dX6_again_4 : decode cX6_again 4 = .ok (.ifCond .ne 6, 3) := dk_154 0 6 (dk_at dksX6_again_0 4 rfl rfl)
theorem dX6_again_7 : decode cX6_again 7 = .ok (.bipush (-3), 2) := dk_16 253 (dk_at dksX6_again_0 7 rfl rfl)
theorem dX6_again_9 : decode cX6_again 9 = .ok (.ireturn, 1) := dk_172 (dk_at dksX6_again_0 9 rfl rfl)
theorem dX6_again_10 : decode cX6_again 10 = .ok (.iconst 0, 1) := dk_3 (dk_at dksX6_again_0 10 rfl rfl)
theorem dX6_again_11 : decode cX6_again 11 = .ok (.istore_n 1, 1) := dk_60 (dk_at dksX6_again_0 11 rfl rfl)
theorem dX6_again_12 : decode cX6_again 12 = .ok (.iload_n 1, 1) := dk_27 (dk_at dksX6_again_0 12 rfl rfl)
theorem dX6_again_13 : decode cX6_again 13 = .ok (.sipush 340, 3) := dk_17 1 84 (dk_at dksX6_again_0 13 rfl rfl)
theorem dX6_again_16 : decode cX6_again 16 = .ok (.if_icmp .ge 21, 3) := dk_162 0 21 (dk_at dksX6_again_0 16 rfl rfl)
theorem dX6_again_19 : decode cX6_again 19 = .ok (.aload_n 0, 1) := dk_42 (dk_at dksX6_again_0 19 rfl rfl)
theorem dX6_again_20 : decode cX6_again 20 = .ok (.getfield 7, 3) := dk_180 0 7 (dk_at dksX6_again_0 20 rfl rfl)
theorem dX6_again_23 : decode cX6_again 23 = .ok (.iload_n 1, 1) := dk_27 (dk_at dksX6_again_0 23 rfl rfl)
theorem dX6_again_24 : decode cX6_again 24 = .ok (.aload_n 0, 1) := dk_42 (dk_at dksX6_again_1 0 rfl rfl)
theorem dX6_again_25 : decode cX6_again 25 = .ok (.getfield 13, 3) := dk_180 0 13 (dk_at dksX6_again_1 1 rfl rfl)
theorem dX6_again_28 : decode cX6_again 28 = .ok (.iload_n 1, 1) := dk_27 (dk_at dksX6_again_1 4 rfl rfl)
theorem dX6_again_29 : decode cX6_again 29 = .ok (.iaload, 1) := dk_46 (dk_at dksX6_again_1 5 rfl rfl)
theorem dX6_again_30 : decode cX6_again 30 = .ok (.iastore, 1) := dk_79 (dk_at dksX6_again_1 6 rfl rfl)
theorem dX6_again_31 : decode cX6_again 31 = .ok (.iinc 1 1, 3) := dk_132 1 1 (dk_at dksX6_again_1 7 rfl rfl)
theorem dX6_again_34 : decode cX6_again 34 = .ok (.goto (-22), 3) := dk_167 255 234 (dk_at dksX6_again_1 10 rfl rfl)
theorem dX6_again_37 : decode cX6_again 37 = .ok (.aload_n 0, 1) := dk_42 (dk_at dksX6_again_1 13 rfl rfl)
theorem dX6_again_38 : decode cX6_again 38 = .ok (.getfield 7, 3) := dk_180 0 7 (dk_at dksX6_again_1 14 rfl rfl)
theorem dX6_again_41 : decode cX6_again 41 = .ok (.iconst 0, 1) := dk_3 (dk_at dksX6_again_1 17 rfl rfl)
theorem dX6_again_42 : decode cX6_again 42 = .ok (.iaload, 1) := dk_46 (dk_at dksX6_again_1 18 rfl rfl)
theorem dX6_again_43 : decode cX6_again 43 = .ok (.ireturn, 1) := dk_172 (dk_at dksX6_again_1 19 rfl rfl)
theorem q125 : (Jvm.Cond.initialized "HadForVoiceModel") ∈ lw_all := lw_g (lw_at lw_m1 10 rfl) rfl
theorem q1506 : (Jvm.Cond.instantiable "HadForVoiceModel" (45 : Nat)) ∈ lw_all := lw_g (lw_at lw_m6 191 rfl) rfl
theorem q1508 : (Jvm.Cond.instanceMethod ({ cls := "HadForVoiceModel", name := "<init>", desc := "()V" } : Jvm.MethodName)) ∈ lw_all := lw_g (lw_at lw_m6 193 rfl) rfl
theorem q1509 : (Jvm.Cond.code ({ cls := "HadForVoiceModel", name := "<init>", desc := "()V" } : Jvm.MethodName) prog_26_method_1_code (1 : Nat) (Option.none : Option Jvm.ClassFile.FieldType)) ∈ lw_all := lw_g (lw_at lw_m6 194 rfl) rfl
theorem q1510 : (Jvm.Cond.methodLink "HadForVoiceModel" (1 : Nat) ({ cls := "java/lang/Object", name := "<init>", desc := "()V" } : Jvm.MethodName)) ∈ lw_all := lw_g (lw_at lw_m6 195 rfl) rfl
theorem q1511 : (Jvm.Cond.fieldLink "HadForVoiceModel" (7 : Nat) "HadForVoiceModel" "s" "[I") ∈ lw_all := lw_g (lw_at lw_m6 196 rfl) rfl
theorem q1512 : (Jvm.Cond.fieldLink "HadForVoiceModel" (13 : Nat) "HadForVoiceModel" "kept" "[I") ∈ lw_all := lw_g (lw_at lw_m6 197 rfl) rfl
theorem q1513 : (Jvm.Cond.fieldLink "HadForVoiceModel" (16 : Nat) "HadForVoiceModel" "other" "[I") ∈ lw_all := lw_g (lw_at lw_m6 198 rfl) rfl
theorem q1514 : (Jvm.Cond.fieldLink "HadForVoiceModel" (484 : Nat) "HadForVoiceModel" "isKept" "Z") ∈ lw_all := lw_g (lw_at lw_m6 199 rfl) rfl
theorem q1515 : (Jvm.Cond.fieldLink "HadForVoiceModel" (19 : Nat) "HadForVoiceModel" "absent" "I") ∈ lw_all := lw_g (lw_at lw_m6 200 rfl) rfl
theorem q1516 : (Jvm.Cond.fieldLink "HadForVoiceModel" (23 : Nat) "HadForVoiceModel" "stack" "[I") ∈ lw_all := lw_g (lw_at lw_m6 201 rfl) rfl
theorem q1517 : (Jvm.Cond.fieldLink "HadForVoiceModel" (165 : Nat) "HadForVoiceModel" "gave" "I") ∈ lw_all := lw_g (lw_at lw_m6 202 rfl) rfl
theorem q1518 : (Jvm.Cond.fieldLink "HadForVoiceModel" (168 : Nat) "HadForVoiceModel" "paid" "I") ∈ lw_all := lw_g (lw_at lw_m6 203 rfl) rfl
theorem q1519 : (Jvm.Cond.fieldLink "HadForVoiceModel" (26 : Nat) "HadForVoiceModel" "row" "[I") ∈ lw_all := lw_g (lw_at lw_m6 204 rfl) rfl
theorem q1520 : (Jvm.Cond.fieldLink "HadForVoiceModel" (29 : Nat) "HadForVoiceModel" "shortest" "[I") ∈ lw_all := lw_g (lw_at lw_m6 205 rfl) rfl
theorem q1521 : (Jvm.Cond.fieldLink "HadForVoiceModel" (32 : Nat) "HadForVoiceModel" "cheap" "[I") ∈ lw_all := lw_g (lw_at lw_m6 206 rfl) rfl
theorem q1522 : (Jvm.Cond.fieldLink "HadForVoiceModel" (189 : Nat) "HadForVoiceModel" "doneMany" "I") ∈ lw_all := lw_g (lw_at lw_m6 207 rfl) rfl
theorem q1523 : (Jvm.Cond.fieldLink "HadForVoiceModel" (201 : Nat) "HadForVoiceModel" "mostWhole" "I") ∈ lw_all := lw_g (lw_at lw_m6 208 rfl) rfl
theorem q1524 : (Jvm.Cond.fieldLink "HadForVoiceModel" (192 : Nat) "HadForVoiceModel" "shortestLong" "I") ∈ lw_all := lw_g (lw_at lw_m6 209 rfl) rfl
theorem q1525 : (Jvm.Cond.fieldLink "HadForVoiceModel" (195 : Nat) "HadForVoiceModel" "cheapCost" "I") ∈ lw_all := lw_g (lw_at lw_m6 210 rfl) rfl
theorem q1526 : (Jvm.Cond.fieldLink "HadForVoiceModel" (198 : Nat) "HadForVoiceModel" "cheapLong" "I") ∈ lw_all := lw_g (lw_at lw_m6 211 rfl) rfl
theorem q1527 : (Jvm.Cond.fieldLink "HadForVoiceModel" (35 : Nat) "HadForVoiceModel" "circle" "[I") ∈ lw_all := lw_g (lw_at lw_m6 212 rfl) rfl
theorem q1528 : (Jvm.Cond.fieldLink "HadForVoiceModel" (38 : Nat) "HadForVoiceModel" "firstCircle" "[I") ∈ lw_all := lw_g (lw_at lw_m6 213 rfl) rfl
theorem q1529 : (Jvm.Cond.fieldLink "HadForVoiceModel" (225 : Nat) "HadForVoiceModel" "ringMany" "I") ∈ lw_all := lw_g (lw_at lw_m6 214 rfl) rfl
theorem q1530 : (Jvm.Cond.fieldLink "HadForVoiceModel" (236 : Nat) "HadForVoiceModel" "comesTo" "I") ∈ lw_all := lw_g (lw_at lw_m6 215 rfl) rfl
theorem q1531 : (Jvm.Cond.fieldLink "HadForVoiceModel" (259 : Nat) "HadForVoiceModel" "fitMany" "I") ∈ lw_all := lw_g (lw_at lw_m6 216 rfl) rfl
theorem q1532 : (Jvm.Cond.fieldLink "HadForVoiceModel" (265 : Nat) "HadForVoiceModel" "fitTimes" "I") ∈ lw_all := lw_g (lw_at lw_m6 217 rfl) rfl
theorem q1533 : (Jvm.Cond.fieldLink "HadForVoiceModel" (268 : Nat) "HadForVoiceModel" "fitFee" "I") ∈ lw_all := lw_g (lw_at lw_m6 218 rfl) rfl
theorem q1534 : (Jvm.Cond.fieldLink "HadForVoiceModel" (41 : Nat) "HadForVoiceModel" "rows" "[I") ∈ lw_all := lw_g (lw_at lw_m6 219 rfl) rfl
theorem q1535 : (Jvm.Cond.fieldLink "HadForVoiceModel" (286 : Nat) "HadForVoiceModel" "rowMany" "I") ∈ lw_all := lw_g (lw_at lw_m6 220 rfl) rfl
theorem q1536 : (Jvm.Cond.fieldLink "HadForVoiceModel" (44 : Nat) "HadForVoiceModel" "tape" "[I") ∈ lw_all := lw_g (lw_at lw_m6 221 rfl) rfl
theorem q1537 : (Jvm.Cond.fieldLink "HadForVoiceModel" (294 : Nat) "HadForVoiceModel" "taped" "I") ∈ lw_all := lw_g (lw_at lw_m6 222 rfl) rfl
theorem q1538 : (Jvm.Cond.fieldLink "HadForVoiceModel" (310 : Nat) "HadForVoiceModel" "from" "I") ∈ lw_all := lw_g (lw_at lw_m6 223 rfl) rfl
theorem q1539 : (Jvm.Cond.fieldLink "HadForVoiceModel" (307 : Nat) "HadForVoiceModel" "to" "I") ∈ lw_all := lw_g (lw_at lw_m6 224 rfl) rfl
theorem q1540 : (Jvm.Cond.fieldLink "HadForVoiceModel" (333 : Nat) "HadForVoiceModel" "value" "I") ∈ lw_all := lw_g (lw_at lw_m6 225 rfl) rfl
theorem q1541 : (Jvm.Cond.fieldLink "HadForVoiceModel" (383 : Nat) "HadForVoiceModel" "open" "I") ∈ lw_all := lw_g (lw_at lw_m6 226 rfl) rfl
theorem q1542 : (Jvm.Cond.fieldLink "HadForVoiceModel" (366 : Nat) "HadForVoiceModel" "coded" "I") ∈ lw_all := lw_g (lw_at lw_m6 227 rfl) rfl
theorem q1543 : (Jvm.Cond.fieldLink "HadForVoiceModel" (322 : Nat) "HadForVoiceModel" "isWrong" "Z") ∈ lw_all := lw_g (lw_at lw_m6 228 rfl) rfl
theorem q1544 : (Jvm.Cond.fieldLink "HadForVoiceModel" (47 : Nat) "HadForVoiceModel" "sortOf" "[I") ∈ lw_all := lw_g (lw_at lw_m6 229 rfl) rfl
theorem q1545 : (Jvm.Cond.fieldLink "HadForVoiceModel" (50 : Nat) "HadForVoiceModel" "sizes" "[I") ∈ lw_all := lw_g (lw_at lw_m6 230 rfl) rfl
theorem q1546 : (Jvm.Cond.fieldLink "HadForVoiceModel" (53 : Nat) "HadForVoiceModel" "items" "[I") ∈ lw_all := lw_g (lw_at lw_m6 231 rfl) rfl
theorem q1547 : (Jvm.Cond.fieldLink "HadForVoiceModel" (56 : Nat) "HadForVoiceModel" "lies" "[I") ∈ lw_all := lw_g (lw_at lw_m6 232 rfl) rfl
theorem q1548 : (Jvm.Cond.fieldLink "HadForVoiceModel" (59 : Nat) "HadForVoiceModel" "liesNumber" "[I") ∈ lw_all := lw_g (lw_at lw_m6 233 rfl) rfl
theorem q1549 : (Jvm.Cond.fieldLink "HadForVoiceModel" (62 : Nat) "HadForVoiceModel" "liesSort" "[I") ∈ lw_all := lw_g (lw_at lw_m6 234 rfl) rfl
theorem q1550 : (Jvm.Cond.fieldLink "HadForVoiceModel" (65 : Nat) "HadForVoiceModel" "ran" "[I") ∈ lw_all := lw_g (lw_at lw_m6 235 rfl) rfl
theorem q1551 : (Jvm.Cond.fieldLink "HadForVoiceModel" (451 : Nat) "HadForVoiceModel" "bodies" "I") ∈ lw_all := lw_g (lw_at lw_m6 236 rfl) rfl
theorem q1552 : (Jvm.Cond.fieldLink "HadForVoiceModel" (466 : Nat) "HadForVoiceModel" "acting" "I") ∈ lw_all := lw_g (lw_at lw_m6 237 rfl) rfl
theorem q1553 : (Jvm.Cond.fieldLink "HadForVoiceModel" (460 : Nat) "HadForVoiceModel" "about" "I") ∈ lw_all := lw_g (lw_at lw_m6 238 rfl) rfl
theorem q1554 : (Jvm.Cond.fieldLink "HadForVoiceModel" (454 : Nat) "HadForVoiceModel" "kindActing" "I") ∈ lw_all := lw_g (lw_at lw_m6 239 rfl) rfl
theorem q1555 : (Jvm.Cond.fieldLink "HadForVoiceModel" (448 : Nat) "HadForVoiceModel" "isParted" "Z") ∈ lw_all := lw_g (lw_at lw_m7 0 rfl) rfl
theorem q1556 : (Jvm.Cond.laysFinal "HadForVoiceModel" "HadForVoiceModel" "s" "[I") ∈ lw_all := lw_g (lw_at lw_m7 1 rfl) rfl
theorem q1557 : (Jvm.Cond.soleField "HadForVoiceModel" "s") ∈ lw_all := lw_g (lw_at lw_m7 2 rfl) rfl
theorem q1558 : (Jvm.Cond.laysFinal "HadForVoiceModel" "HadForVoiceModel" "kept" "[I") ∈ lw_all := lw_g (lw_at lw_m7 3 rfl) rfl
theorem q1559 : (Jvm.Cond.soleField "HadForVoiceModel" "kept") ∈ lw_all := lw_g (lw_at lw_m7 4 rfl) rfl
theorem q1560 : (Jvm.Cond.laysFinal "HadForVoiceModel" "HadForVoiceModel" "other" "[I") ∈ lw_all := lw_g (lw_at lw_m7 5 rfl) rfl
theorem q1561 : (Jvm.Cond.soleField "HadForVoiceModel" "other") ∈ lw_all := lw_g (lw_at lw_m7 6 rfl) rfl
theorem q1562 : (Jvm.Cond.lays "HadForVoiceModel" "HadForVoiceModel" "isKept" "Z") ∈ lw_all := lw_g (lw_at lw_m7 7 rfl) rfl
theorem q1563 : (Jvm.Cond.soleField "HadForVoiceModel" "isKept") ∈ lw_all := lw_g (lw_at lw_m7 8 rfl) rfl
theorem q1564 : (Jvm.Cond.lays "HadForVoiceModel" "HadForVoiceModel" "absent" "I") ∈ lw_all := lw_g (lw_at lw_m7 9 rfl) rfl
theorem q1565 : (Jvm.Cond.soleField "HadForVoiceModel" "absent") ∈ lw_all := lw_g (lw_at lw_m7 10 rfl) rfl
theorem q1566 : (Jvm.Cond.laysFinal "HadForVoiceModel" "HadForVoiceModel" "stack" "[I") ∈ lw_all := lw_g (lw_at lw_m7 11 rfl) rfl
theorem q1567 : (Jvm.Cond.soleField "HadForVoiceModel" "stack") ∈ lw_all := lw_g (lw_at lw_m7 12 rfl) rfl
theorem q1568 : (Jvm.Cond.lays "HadForVoiceModel" "HadForVoiceModel" "gave" "I") ∈ lw_all := lw_g (lw_at lw_m7 13 rfl) rfl
theorem q1569 : (Jvm.Cond.soleField "HadForVoiceModel" "gave") ∈ lw_all := lw_g (lw_at lw_m7 14 rfl) rfl
theorem q1570 : (Jvm.Cond.lays "HadForVoiceModel" "HadForVoiceModel" "paid" "I") ∈ lw_all := lw_g (lw_at lw_m7 15 rfl) rfl
theorem q1571 : (Jvm.Cond.soleField "HadForVoiceModel" "paid") ∈ lw_all := lw_g (lw_at lw_m7 16 rfl) rfl
theorem q1572 : (Jvm.Cond.laysFinal "HadForVoiceModel" "HadForVoiceModel" "row" "[I") ∈ lw_all := lw_g (lw_at lw_m7 17 rfl) rfl
theorem q1573 : (Jvm.Cond.soleField "HadForVoiceModel" "row") ∈ lw_all := lw_g (lw_at lw_m7 18 rfl) rfl
theorem q1574 : (Jvm.Cond.laysFinal "HadForVoiceModel" "HadForVoiceModel" "shortest" "[I") ∈ lw_all := lw_g (lw_at lw_m7 19 rfl) rfl
theorem q1575 : (Jvm.Cond.soleField "HadForVoiceModel" "shortest") ∈ lw_all := lw_g (lw_at lw_m7 20 rfl) rfl
theorem q1576 : (Jvm.Cond.laysFinal "HadForVoiceModel" "HadForVoiceModel" "cheap" "[I") ∈ lw_all := lw_g (lw_at lw_m7 21 rfl) rfl
theorem q1577 : (Jvm.Cond.soleField "HadForVoiceModel" "cheap") ∈ lw_all := lw_g (lw_at lw_m7 22 rfl) rfl
theorem q1578 : (Jvm.Cond.lays "HadForVoiceModel" "HadForVoiceModel" "doneMany" "I") ∈ lw_all := lw_g (lw_at lw_m7 23 rfl) rfl
theorem q1579 : (Jvm.Cond.soleField "HadForVoiceModel" "doneMany") ∈ lw_all := lw_g (lw_at lw_m7 24 rfl) rfl
theorem q1580 : (Jvm.Cond.lays "HadForVoiceModel" "HadForVoiceModel" "mostWhole" "I") ∈ lw_all := lw_g (lw_at lw_m7 25 rfl) rfl
theorem q1581 : (Jvm.Cond.soleField "HadForVoiceModel" "mostWhole") ∈ lw_all := lw_g (lw_at lw_m7 26 rfl) rfl
theorem q1582 : (Jvm.Cond.lays "HadForVoiceModel" "HadForVoiceModel" "shortestLong" "I") ∈ lw_all := lw_g (lw_at lw_m7 27 rfl) rfl
theorem q1583 : (Jvm.Cond.soleField "HadForVoiceModel" "shortestLong") ∈ lw_all := lw_g (lw_at lw_m7 28 rfl) rfl
theorem q1584 : (Jvm.Cond.lays "HadForVoiceModel" "HadForVoiceModel" "cheapCost" "I") ∈ lw_all := lw_g (lw_at lw_m7 29 rfl) rfl
theorem q1585 : (Jvm.Cond.soleField "HadForVoiceModel" "cheapCost") ∈ lw_all := lw_g (lw_at lw_m7 30 rfl) rfl
theorem q1586 : (Jvm.Cond.lays "HadForVoiceModel" "HadForVoiceModel" "cheapLong" "I") ∈ lw_all := lw_g (lw_at lw_m7 31 rfl) rfl
theorem q1587 : (Jvm.Cond.soleField "HadForVoiceModel" "cheapLong") ∈ lw_all := lw_g (lw_at lw_m7 32 rfl) rfl
theorem q1588 : (Jvm.Cond.laysFinal "HadForVoiceModel" "HadForVoiceModel" "circle" "[I") ∈ lw_all := lw_g (lw_at lw_m7 33 rfl) rfl
theorem q1589 : (Jvm.Cond.soleField "HadForVoiceModel" "circle") ∈ lw_all := lw_g (lw_at lw_m7 34 rfl) rfl
theorem q1590 : (Jvm.Cond.laysFinal "HadForVoiceModel" "HadForVoiceModel" "firstCircle" "[I") ∈ lw_all := lw_g (lw_at lw_m7 35 rfl) rfl
theorem q1591 : (Jvm.Cond.soleField "HadForVoiceModel" "firstCircle") ∈ lw_all := lw_g (lw_at lw_m7 36 rfl) rfl
theorem q1592 : (Jvm.Cond.lays "HadForVoiceModel" "HadForVoiceModel" "ringMany" "I") ∈ lw_all := lw_g (lw_at lw_m7 37 rfl) rfl
theorem q1593 : (Jvm.Cond.soleField "HadForVoiceModel" "ringMany") ∈ lw_all := lw_g (lw_at lw_m7 38 rfl) rfl
theorem q1594 : (Jvm.Cond.lays "HadForVoiceModel" "HadForVoiceModel" "comesTo" "I") ∈ lw_all := lw_g (lw_at lw_m7 39 rfl) rfl
theorem q1595 : (Jvm.Cond.soleField "HadForVoiceModel" "comesTo") ∈ lw_all := lw_g (lw_at lw_m7 40 rfl) rfl
theorem q1596 : (Jvm.Cond.lays "HadForVoiceModel" "HadForVoiceModel" "fitMany" "I") ∈ lw_all := lw_g (lw_at lw_m7 41 rfl) rfl
theorem q1597 : (Jvm.Cond.soleField "HadForVoiceModel" "fitMany") ∈ lw_all := lw_g (lw_at lw_m7 42 rfl) rfl
theorem q1598 : (Jvm.Cond.lays "HadForVoiceModel" "HadForVoiceModel" "fitTimes" "I") ∈ lw_all := lw_g (lw_at lw_m7 43 rfl) rfl
theorem q1599 : (Jvm.Cond.soleField "HadForVoiceModel" "fitTimes") ∈ lw_all := lw_g (lw_at lw_m7 44 rfl) rfl
theorem q1600 : (Jvm.Cond.lays "HadForVoiceModel" "HadForVoiceModel" "fitFee" "I") ∈ lw_all := lw_g (lw_at lw_m7 45 rfl) rfl
theorem q1601 : (Jvm.Cond.soleField "HadForVoiceModel" "fitFee") ∈ lw_all := lw_g (lw_at lw_m7 46 rfl) rfl
theorem q1602 : (Jvm.Cond.laysFinal "HadForVoiceModel" "HadForVoiceModel" "rows" "[I") ∈ lw_all := lw_g (lw_at lw_m7 47 rfl) rfl
theorem q1603 : (Jvm.Cond.soleField "HadForVoiceModel" "rows") ∈ lw_all := lw_g (lw_at lw_m7 48 rfl) rfl
theorem q1604 : (Jvm.Cond.lays "HadForVoiceModel" "HadForVoiceModel" "rowMany" "I") ∈ lw_all := lw_g (lw_at lw_m7 49 rfl) rfl
theorem q1605 : (Jvm.Cond.soleField "HadForVoiceModel" "rowMany") ∈ lw_all := lw_g (lw_at lw_m7 50 rfl) rfl
theorem q1606 : (Jvm.Cond.laysFinal "HadForVoiceModel" "HadForVoiceModel" "tape" "[I") ∈ lw_all := lw_g (lw_at lw_m7 51 rfl) rfl
theorem q1607 : (Jvm.Cond.soleField "HadForVoiceModel" "tape") ∈ lw_all := lw_g (lw_at lw_m7 52 rfl) rfl
theorem q1608 : (Jvm.Cond.lays "HadForVoiceModel" "HadForVoiceModel" "taped" "I") ∈ lw_all := lw_g (lw_at lw_m7 53 rfl) rfl
theorem q1609 : (Jvm.Cond.soleField "HadForVoiceModel" "taped") ∈ lw_all := lw_g (lw_at lw_m7 54 rfl) rfl
theorem q1610 : (Jvm.Cond.lays "HadForVoiceModel" "HadForVoiceModel" "from" "I") ∈ lw_all := lw_g (lw_at lw_m7 55 rfl) rfl
theorem q1611 : (Jvm.Cond.soleField "HadForVoiceModel" "from") ∈ lw_all := lw_g (lw_at lw_m7 56 rfl) rfl
theorem q1612 : (Jvm.Cond.lays "HadForVoiceModel" "HadForVoiceModel" "to" "I") ∈ lw_all := lw_g (lw_at lw_m7 57 rfl) rfl
theorem q1613 : (Jvm.Cond.soleField "HadForVoiceModel" "to") ∈ lw_all := lw_g (lw_at lw_m7 58 rfl) rfl
theorem q1614 : (Jvm.Cond.lays "HadForVoiceModel" "HadForVoiceModel" "value" "I") ∈ lw_all := lw_g (lw_at lw_m7 59 rfl) rfl
theorem q1615 : (Jvm.Cond.soleField "HadForVoiceModel" "value") ∈ lw_all := lw_g (lw_at lw_m7 60 rfl) rfl
theorem q1616 : (Jvm.Cond.lays "HadForVoiceModel" "HadForVoiceModel" "open" "I") ∈ lw_all := lw_g (lw_at lw_m7 61 rfl) rfl
theorem q1617 : (Jvm.Cond.soleField "HadForVoiceModel" "open") ∈ lw_all := lw_g (lw_at lw_m7 62 rfl) rfl
theorem q1618 : (Jvm.Cond.lays "HadForVoiceModel" "HadForVoiceModel" "coded" "I") ∈ lw_all := lw_g (lw_at lw_m7 63 rfl) rfl
theorem q1619 : (Jvm.Cond.soleField "HadForVoiceModel" "coded") ∈ lw_all := lw_g (lw_at lw_m7 64 rfl) rfl
theorem q1620 : (Jvm.Cond.lays "HadForVoiceModel" "HadForVoiceModel" "isWrong" "Z") ∈ lw_all := lw_g (lw_at lw_m7 65 rfl) rfl
theorem q1621 : (Jvm.Cond.soleField "HadForVoiceModel" "isWrong") ∈ lw_all := lw_g (lw_at lw_m7 66 rfl) rfl
theorem q1622 : (Jvm.Cond.laysFinal "HadForVoiceModel" "HadForVoiceModel" "sortOf" "[I") ∈ lw_all := lw_g (lw_at lw_m7 67 rfl) rfl
theorem q1623 : (Jvm.Cond.soleField "HadForVoiceModel" "sortOf") ∈ lw_all := lw_g (lw_at lw_m7 68 rfl) rfl
theorem q1624 : (Jvm.Cond.laysFinal "HadForVoiceModel" "HadForVoiceModel" "sizes" "[I") ∈ lw_all := lw_g (lw_at lw_m7 69 rfl) rfl
theorem q1625 : (Jvm.Cond.soleField "HadForVoiceModel" "sizes") ∈ lw_all := lw_g (lw_at lw_m7 70 rfl) rfl
theorem q1626 : (Jvm.Cond.laysFinal "HadForVoiceModel" "HadForVoiceModel" "items" "[I") ∈ lw_all := lw_g (lw_at lw_m7 71 rfl) rfl
theorem q1627 : (Jvm.Cond.soleField "HadForVoiceModel" "items") ∈ lw_all := lw_g (lw_at lw_m7 72 rfl) rfl
theorem q1628 : (Jvm.Cond.laysFinal "HadForVoiceModel" "HadForVoiceModel" "lies" "[I") ∈ lw_all := lw_g (lw_at lw_m7 73 rfl) rfl
theorem q1629 : (Jvm.Cond.soleField "HadForVoiceModel" "lies") ∈ lw_all := lw_g (lw_at lw_m7 74 rfl) rfl
theorem q1630 : (Jvm.Cond.laysFinal "HadForVoiceModel" "HadForVoiceModel" "liesNumber" "[I") ∈ lw_all := lw_g (lw_at lw_m7 75 rfl) rfl
theorem q1631 : (Jvm.Cond.soleField "HadForVoiceModel" "liesNumber") ∈ lw_all := lw_g (lw_at lw_m7 76 rfl) rfl
theorem q1632 : (Jvm.Cond.laysFinal "HadForVoiceModel" "HadForVoiceModel" "liesSort" "[I") ∈ lw_all := lw_g (lw_at lw_m7 77 rfl) rfl
theorem q1633 : (Jvm.Cond.soleField "HadForVoiceModel" "liesSort") ∈ lw_all := lw_g (lw_at lw_m7 78 rfl) rfl
theorem q1634 : (Jvm.Cond.laysFinal "HadForVoiceModel" "HadForVoiceModel" "ran" "[I") ∈ lw_all := lw_g (lw_at lw_m7 79 rfl) rfl
theorem q1635 : (Jvm.Cond.soleField "HadForVoiceModel" "ran") ∈ lw_all := lw_g (lw_at lw_m7 80 rfl) rfl
theorem q1636 : (Jvm.Cond.lays "HadForVoiceModel" "HadForVoiceModel" "bodies" "I") ∈ lw_all := lw_g (lw_at lw_m7 81 rfl) rfl
theorem q1637 : (Jvm.Cond.soleField "HadForVoiceModel" "bodies") ∈ lw_all := lw_g (lw_at lw_m7 82 rfl) rfl
theorem q1638 : (Jvm.Cond.lays "HadForVoiceModel" "HadForVoiceModel" "acting" "I") ∈ lw_all := lw_g (lw_at lw_m7 83 rfl) rfl
theorem q1639 : (Jvm.Cond.soleField "HadForVoiceModel" "acting") ∈ lw_all := lw_g (lw_at lw_m7 84 rfl) rfl
theorem q1640 : (Jvm.Cond.lays "HadForVoiceModel" "HadForVoiceModel" "about" "I") ∈ lw_all := lw_g (lw_at lw_m7 85 rfl) rfl
theorem q1641 : (Jvm.Cond.soleField "HadForVoiceModel" "about") ∈ lw_all := lw_g (lw_at lw_m7 86 rfl) rfl
theorem q1642 : (Jvm.Cond.lays "HadForVoiceModel" "HadForVoiceModel" "kindActing" "I") ∈ lw_all := lw_g (lw_at lw_m7 87 rfl) rfl
theorem q1643 : (Jvm.Cond.soleField "HadForVoiceModel" "kindActing") ∈ lw_all := lw_g (lw_at lw_m7 88 rfl) rfl
theorem q1644 : (Jvm.Cond.lays "HadForVoiceModel" "HadForVoiceModel" "isParted" "Z") ∈ lw_all := lw_g (lw_at lw_m7 89 rfl) rfl
theorem q1645 : (Jvm.Cond.soleField "HadForVoiceModel" "isParted") ∈ lw_all := lw_g (lw_at lw_m7 90 rfl) rfl
theorem q1646 : (Jvm.Cond.superclass "HadForVoiceModel" "java/lang/Object") ∈ lw_all := lw_g (lw_at lw_m7 91 rfl) rfl
theorem q1648 : (Jvm.Cond.instanceMethod ({ cls := "HadForVoiceModel", name := "person", desc := "(IIII)I" } : Jvm.MethodName)) ∈ lw_all := lw_g (lw_at lw_m7 93 rfl) rfl
theorem q1649 : (Jvm.Cond.selects "HadForVoiceModel" ({ cls := "HadForVoiceModel", name := "person", desc := "(IIII)I" } : Jvm.MethodName) ({ cls := "HadForVoiceModel", name := "person", desc := "(IIII)I" } : Jvm.MethodName)) ∈ lw_all := lw_g (lw_at lw_m7 94 rfl) rfl
theorem q1650 : (Jvm.Cond.code ({ cls := "HadForVoiceModel", name := "person", desc := "(IIII)I" } : Jvm.MethodName) prog_26_method_12_code (6 : Nat) (Option.some Jvm.ClassFile.FieldType.int)) ∈ lw_all := lw_g (lw_at lw_m7 95 rfl) rfl
theorem q1651 : (Jvm.Cond.methodLink "HadForVoiceModel" (86 : Nat) ({ cls := "HadForVoiceModel", name := "isKind", desc := "(I)Z" } : Jvm.MethodName)) ∈ lw_all := lw_g (lw_at lw_m7 96 rfl) rfl
theorem q1652 : (Jvm.Cond.static ({ cls := "HadForVoiceModel", name := "isKind", desc := "(I)Z" } : Jvm.MethodName)) ∈ lw_all := lw_g (lw_at lw_m7 97 rfl) rfl
theorem q1653 : (Jvm.Cond.code ({ cls := "HadForVoiceModel", name := "isKind", desc := "(I)Z" } : Jvm.MethodName) prog_26_method_10_code (1 : Nat) (Option.some Jvm.ClassFile.FieldType.boolean)) ∈ lw_all := lw_g (lw_at lw_m7 98 rfl) rfl
theorem q1654 : (Jvm.Cond.constantLong "HadForVoiceModel" (78 : Nat) (5 : Int64)) ∈ lw_all := lw_g (lw_at lw_m7 99 rfl) rfl
theorem q1655 : (Jvm.Cond.methodLink "HadForVoiceModel" (68 : Nat) ({ cls := "HadForVoiceModel", name := "in", desc := "(JJJ)Z" } : Jvm.MethodName)) ∈ lw_all := lw_g (lw_at lw_m7 100 rfl) rfl
theorem q1656 : (Jvm.Cond.static ({ cls := "HadForVoiceModel", name := "in", desc := "(JJJ)Z" } : Jvm.MethodName)) ∈ lw_all := lw_g (lw_at lw_m7 101 rfl) rfl
theorem q1657 : (Jvm.Cond.code ({ cls := "HadForVoiceModel", name := "in", desc := "(JJJ)Z" } : Jvm.MethodName) prog_26_method_2_code (6 : Nat) (Option.some Jvm.ClassFile.FieldType.boolean)) ∈ lw_all := lw_g (lw_at lw_m7 102 rfl) rfl
theorem q1658 : (Jvm.Cond.methodLink "HadForVoiceModel" (80 : Nat) ({ cls := "HadForVoiceModel", name := "isThing", desc := "(I)Z" } : Jvm.MethodName)) ∈ lw_all := lw_g (lw_at lw_m7 103 rfl) rfl
theorem q1659 : (Jvm.Cond.static ({ cls := "HadForVoiceModel", name := "isThing", desc := "(I)Z" } : Jvm.MethodName)) ∈ lw_all := lw_g (lw_at lw_m7 104 rfl) rfl
theorem q1660 : (Jvm.Cond.code ({ cls := "HadForVoiceModel", name := "isThing", desc := "(I)Z" } : Jvm.MethodName) prog_26_method_4_code (1 : Nat) (Option.some Jvm.ClassFile.FieldType.boolean)) ∈ lw_all := lw_g (lw_at lw_m7 105 rfl) rfl
theorem q1661 : (Jvm.Cond.constantLong "HadForVoiceModel" (72 : Nat) (7 : Int64)) ∈ lw_all := lw_g (lw_at lw_m7 106 rfl) rfl
theorem q1662 : (Jvm.Cond.methodLink "HadForVoiceModel" (89 : Nat) ({ cls := "HadForVoiceModel", name := "isPart", desc := "(II)Z" } : Jvm.MethodName)) ∈ lw_all := lw_g (lw_at lw_m7 107 rfl) rfl
theorem q1663 : (Jvm.Cond.static ({ cls := "HadForVoiceModel", name := "isPart", desc := "(II)Z" } : Jvm.MethodName)) ∈ lw_all := lw_g (lw_at lw_m7 108 rfl) rfl
theorem q1664 : (Jvm.Cond.code ({ cls := "HadForVoiceModel", name := "isPart", desc := "(II)Z" } : Jvm.MethodName) prog_26_method_11_code (2 : Nat) (Option.some Jvm.ClassFile.FieldType.boolean)) ∈ lw_all := lw_g (lw_at lw_m7 109 rfl) rfl
theorem q1665 : (Jvm.Cond.constantLong "HadForVoiceModel" (84 : Nat) (999 : Int64)) ∈ lw_all := lw_g (lw_at lw_m7 110 rfl) rfl
theorem q1666 : (Jvm.Cond.methodLink "HadForVoiceModel" (74 : Nat) ({ cls := "HadForVoiceModel", name := "at", desc := "(II)I" } : Jvm.MethodName)) ∈ lw_all := lw_g (lw_at lw_m7 111 rfl) rfl
theorem q1667 : (Jvm.Cond.static ({ cls := "HadForVoiceModel", name := "at", desc := "(II)I" } : Jvm.MethodName)) ∈ lw_all := lw_g (lw_at lw_m7 112 rfl) rfl
theorem q1668 : (Jvm.Cond.code ({ cls := "HadForVoiceModel", name := "at", desc := "(II)I" } : Jvm.MethodName) prog_26_method_8_code (2 : Nat) (Option.some Jvm.ClassFile.FieldType.int)) ∈ lw_all := lw_g (lw_at lw_m7 113 rfl) rfl
theorem q1670 : (Jvm.Cond.instanceMethod ({ cls := "HadForVoiceModel", name := "personOf", desc := "(II)I" } : Jvm.MethodName)) ∈ lw_all := lw_g (lw_at lw_m7 115 rfl) rfl
theorem q1671 : (Jvm.Cond.selects "HadForVoiceModel" ({ cls := "HadForVoiceModel", name := "personOf", desc := "(II)I" } : Jvm.MethodName) ({ cls := "HadForVoiceModel", name := "personOf", desc := "(II)I" } : Jvm.MethodName)) ∈ lw_all := lw_g (lw_at lw_m7 116 rfl) rfl
theorem q1672 : (Jvm.Cond.code ({ cls := "HadForVoiceModel", name := "personOf", desc := "(II)I" } : Jvm.MethodName) prog_26_method_23_code (3 : Nat) (Option.some Jvm.ClassFile.FieldType.int)) ∈ lw_all := lw_g (lw_at lw_m7 117 rfl) rfl
theorem q1673 : (Jvm.Cond.methodLink "HadForVoiceModel" (123 : Nat) ({ cls := "HadForVoiceModel", name := "isPerson", desc := "(I)Z" } : Jvm.MethodName)) ∈ lw_all := lw_g (lw_at lw_m7 118 rfl) rfl
theorem q1674 : (Jvm.Cond.privateMethod ({ cls := "HadForVoiceModel", name := "isPerson", desc := "(I)Z" } : Jvm.MethodName)) ∈ lw_tbl := lw_at lw_m7 119 rfl
theorem q1675 : (Jvm.Cond.instanceMethod ({ cls := "HadForVoiceModel", name := "isPerson", desc := "(I)Z" } : Jvm.MethodName)) ∈ lw_all := lw_g (lw_at lw_m7 120 rfl) rfl
theorem q1676 : (Jvm.Cond.code ({ cls := "HadForVoiceModel", name := "isPerson", desc := "(I)Z" } : Jvm.MethodName) prog_26_method_3_code (2 : Nat) (Option.some Jvm.ClassFile.FieldType.boolean)) ∈ lw_all := lw_g (lw_at lw_m7 121 rfl) rfl
theorem q1677 : (Jvm.Cond.constantLong "HadForVoiceModel" (126 : Nat) (6 : Int64)) ∈ lw_all := lw_g (lw_at lw_m7 122 rfl) rfl
theorem q1678 : (Jvm.Cond.methodLink "HadForVoiceModel" (128 : Nat) ({ cls := "HadForVoiceModel", name := "asked", desc := "(I)I" } : Jvm.MethodName)) ∈ lw_all := lw_g (lw_at lw_m7 123 rfl) rfl
theorem q1679 : (Jvm.Cond.privateMethod ({ cls := "HadForVoiceModel", name := "asked", desc := "(I)I" } : Jvm.MethodName)) ∈ lw_tbl := lw_at lw_m7 124 rfl
theorem q1680 : (Jvm.Cond.instanceMethod ({ cls := "HadForVoiceModel", name := "asked", desc := "(I)I" } : Jvm.MethodName)) ∈ lw_all := lw_g (lw_at lw_m7 125 rfl) rfl
theorem q1681 : (Jvm.Cond.code ({ cls := "HadForVoiceModel", name := "asked", desc := "(I)I" } : Jvm.MethodName) prog_26_method_22_code (9 : Nat) (Option.some Jvm.ClassFile.FieldType.int)) ∈ lw_all := lw_g (lw_at lw_m7 126 rfl) rfl
theorem q1682 : (Jvm.Cond.methodLink "HadForVoiceModel" (93 : Nat) ({ cls := "HadForVoiceModel", name := "its", desc := "(II)I" } : Jvm.MethodName)) ∈ lw_all := lw_g (lw_at lw_m7 127 rfl) rfl
theorem q1683 : (Jvm.Cond.privateMethod ({ cls := "HadForVoiceModel", name := "its", desc := "(II)I" } : Jvm.MethodName)) ∈ lw_tbl := lw_at lw_m7 128 rfl
theorem q1684 : (Jvm.Cond.instanceMethod ({ cls := "HadForVoiceModel", name := "its", desc := "(II)I" } : Jvm.MethodName)) ∈ lw_all := lw_g (lw_at lw_m7 129 rfl) rfl
theorem q1685 : (Jvm.Cond.code ({ cls := "HadForVoiceModel", name := "its", desc := "(II)I" } : Jvm.MethodName) prog_26_method_9_code (3 : Nat) (Option.some Jvm.ClassFile.FieldType.int)) ∈ lw_all := lw_g (lw_at lw_m7 130 rfl) rfl
theorem q1686 : (Jvm.Cond.methodLink "HadForVoiceModel" (114 : Nat) ({ cls := "HadForVoiceModel", name := "isUnder", desc := "(II)Z" } : Jvm.MethodName)) ∈ lw_all := lw_g (lw_at lw_m7 131 rfl) rfl
theorem q1687 : (Jvm.Cond.static ({ cls := "HadForVoiceModel", name := "isUnder", desc := "(II)Z" } : Jvm.MethodName)) ∈ lw_all := lw_g (lw_at lw_m7 132 rfl) rfl
theorem q1688 : (Jvm.Cond.code ({ cls := "HadForVoiceModel", name := "isUnder", desc := "(II)Z" } : Jvm.MethodName) prog_26_method_13_code (2 : Nat) (Option.some Jvm.ClassFile.FieldType.boolean)) ∈ lw_all := lw_g (lw_at lw_m7 133 rfl) rfl
theorem q1689 : (Jvm.Cond.methodLink "HadForVoiceModel" (117 : Nat) ({ cls := "HadForVoiceModel", name := "isSo", desc := "(III)Z" } : Jvm.MethodName)) ∈ lw_all := lw_g (lw_at lw_m7 134 rfl) rfl
theorem q1690 : (Jvm.Cond.privateMethod ({ cls := "HadForVoiceModel", name := "isSo", desc := "(III)Z" } : Jvm.MethodName)) ∈ lw_tbl := lw_at lw_m7 135 rfl
theorem q1691 : (Jvm.Cond.instanceMethod ({ cls := "HadForVoiceModel", name := "isSo", desc := "(III)Z" } : Jvm.MethodName)) ∈ lw_all := lw_g (lw_at lw_m7 136 rfl) rfl
theorem q1692 : (Jvm.Cond.code ({ cls := "HadForVoiceModel", name := "isSo", desc := "(III)Z" } : Jvm.MethodName) prog_26_method_20_code (7 : Nat) (Option.some Jvm.ClassFile.FieldType.boolean)) ∈ lw_all := lw_g (lw_at lw_m7 137 rfl) rfl
theorem q1693 : (Jvm.Cond.methodLink "HadForVoiceModel" (107 : Nat) ({ cls := "HadForVoiceModel", name := "fact", desc := "(II)I" } : Jvm.MethodName)) ∈ lw_all := lw_g (lw_at lw_m7 138 rfl) rfl
theorem q1694 : (Jvm.Cond.privateMethod ({ cls := "HadForVoiceModel", name := "fact", desc := "(II)I" } : Jvm.MethodName)) ∈ lw_tbl := lw_at lw_m7 139 rfl
theorem q1695 : (Jvm.Cond.instanceMethod ({ cls := "HadForVoiceModel", name := "fact", desc := "(II)I" } : Jvm.MethodName)) ∈ lw_all := lw_g (lw_at lw_m7 140 rfl) rfl
theorem q1696 : (Jvm.Cond.code ({ cls := "HadForVoiceModel", name := "fact", desc := "(II)I" } : Jvm.MethodName) prog_26_method_18_code (3 : Nat) (Option.some Jvm.ClassFile.FieldType.int)) ∈ lw_all := lw_g (lw_at lw_m7 141 rfl) rfl
theorem q1697 : (Jvm.Cond.methodLink "HadForVoiceModel" (99 : Nat) ({ cls := "HadForVoiceModel", name := "wholeSet", desc := "()I" } : Jvm.MethodName)) ∈ lw_all := lw_g (lw_at lw_m7 142 rfl) rfl
theorem q1698 : (Jvm.Cond.privateMethod ({ cls := "HadForVoiceModel", name := "wholeSet", desc := "()I" } : Jvm.MethodName)) ∈ lw_tbl := lw_at lw_m7 143 rfl
theorem q1699 : (Jvm.Cond.instanceMethod ({ cls := "HadForVoiceModel", name := "wholeSet", desc := "()I" } : Jvm.MethodName)) ∈ lw_all := lw_g (lw_at lw_m7 144 rfl) rfl
theorem q1700 : (Jvm.Cond.code ({ cls := "HadForVoiceModel", name := "wholeSet", desc := "()I" } : Jvm.MethodName) prog_26_method_15_code (3 : Nat) (Option.some Jvm.ClassFile.FieldType.int)) ∈ lw_all := lw_g (lw_at lw_m7 145 rfl) rfl
theorem q1701 : (Jvm.Cond.methodLink "HadForVoiceModel" (96 : Nat) ({ cls := "HadForVoiceModel", name := "isWhole", desc := "(I)Z" } : Jvm.MethodName)) ∈ lw_all := lw_g (lw_at lw_m7 146 rfl) rfl
theorem q1702 : (Jvm.Cond.privateMethod ({ cls := "HadForVoiceModel", name := "isWhole", desc := "(I)Z" } : Jvm.MethodName)) ∈ lw_tbl := lw_at lw_m7 147 rfl
theorem q1703 : (Jvm.Cond.instanceMethod ({ cls := "HadForVoiceModel", name := "isWhole", desc := "(I)Z" } : Jvm.MethodName)) ∈ lw_all := lw_g (lw_at lw_m7 148 rfl) rfl
theorem q1704 : (Jvm.Cond.code ({ cls := "HadForVoiceModel", name := "isWhole", desc := "(I)Z" } : Jvm.MethodName) prog_26_method_14_code (2 : Nat) (Option.some Jvm.ClassFile.FieldType.boolean)) ∈ lw_all := lw_g (lw_at lw_m7 149 rfl) rfl
theorem q1705 : (Jvm.Cond.methodLink "HadForVoiceModel" (103 : Nat) ({ cls := "HadForVoiceModel", name := "ones", desc := "(I)I" } : Jvm.MethodName)) ∈ lw_all := lw_g (lw_at lw_m7 150 rfl) rfl
theorem q1706 : (Jvm.Cond.static ({ cls := "HadForVoiceModel", name := "ones", desc := "(I)I" } : Jvm.MethodName)) ∈ lw_all := lw_g (lw_at lw_m7 151 rfl) rfl
theorem q1707 : (Jvm.Cond.code ({ cls := "HadForVoiceModel", name := "ones", desc := "(I)I" } : Jvm.MethodName) prog_26_method_16_code (3 : Nat) (Option.some Jvm.ClassFile.FieldType.int)) ∈ lw_all := lw_g (lw_at lw_m7 152 rfl) rfl
theorem q1708 : (Jvm.Cond.methodLink "HadForVoiceModel" (110 : Nat) ({ cls := "HadForVoiceModel", name := "isHolding", desc := "(III)Z" } : Jvm.MethodName)) ∈ lw_all := lw_g (lw_at lw_m7 153 rfl) rfl
theorem q1709 : (Jvm.Cond.static ({ cls := "HadForVoiceModel", name := "isHolding", desc := "(III)Z" } : Jvm.MethodName)) ∈ lw_all := lw_g (lw_at lw_m7 154 rfl) rfl
theorem q1710 : (Jvm.Cond.code ({ cls := "HadForVoiceModel", name := "isHolding", desc := "(III)Z" } : Jvm.MethodName) prog_26_method_19_code (3 : Nat) (Option.some Jvm.ClassFile.FieldType.boolean)) ∈ lw_all := lw_g (lw_at lw_m7 155 rfl) rfl
theorem q1711 : (Jvm.Cond.methodLink "HadForVoiceModel" (120 : Nat) ({ cls := "HadForVoiceModel", name := "atLeast", desc := "(I)I" } : Jvm.MethodName)) ∈ lw_all := lw_g (lw_at lw_m7 156 rfl) rfl
theorem q1712 : (Jvm.Cond.static ({ cls := "HadForVoiceModel", name := "atLeast", desc := "(I)I" } : Jvm.MethodName)) ∈ lw_all := lw_g (lw_at lw_m7 157 rfl) rfl
theorem q1713 : (Jvm.Cond.code ({ cls := "HadForVoiceModel", name := "atLeast", desc := "(I)I" } : Jvm.MethodName) prog_26_method_21_code (1 : Nat) (Option.some Jvm.ClassFile.FieldType.int)) ∈ lw_all := lw_g (lw_at lw_m7 158 rfl) rfl
theorem q1715 : (Jvm.Cond.instanceMethod ({ cls := "HadForVoiceModel", name := "change", desc := "(III)I" } : Jvm.MethodName)) ∈ lw_all := lw_g (lw_at lw_m7 160 rfl) rfl
theorem q1716 : (Jvm.Cond.selects "HadForVoiceModel" ({ cls := "HadForVoiceModel", name := "change", desc := "(III)I" } : Jvm.MethodName) ({ cls := "HadForVoiceModel", name := "change", desc := "(III)I" } : Jvm.MethodName)) ∈ lw_all := lw_g (lw_at lw_m7 161 rfl) rfl
theorem q1717 : (Jvm.Cond.code ({ cls := "HadForVoiceModel", name := "change", desc := "(III)I" } : Jvm.MethodName) prog_26_method_24_code (4 : Nat) (Option.some Jvm.ClassFile.FieldType.int)) ∈ lw_all := lw_g (lw_at lw_m7 162 rfl) rfl
theorem q1718 : (Jvm.Cond.methodLink "HadForVoiceModel" (131 : Nat) ({ cls := "HadForVoiceModel", name := "becomes", desc := "(II)I" } : Jvm.MethodName)) ∈ lw_all := lw_g (lw_at lw_m7 163 rfl) rfl
theorem q1719 : (Jvm.Cond.privateMethod ({ cls := "HadForVoiceModel", name := "becomes", desc := "(II)I" } : Jvm.MethodName)) ∈ lw_tbl := lw_at lw_m7 164 rfl
theorem q1720 : (Jvm.Cond.instanceMethod ({ cls := "HadForVoiceModel", name := "becomes", desc := "(II)I" } : Jvm.MethodName)) ∈ lw_all := lw_g (lw_at lw_m7 165 rfl) rfl
theorem q1721 : (Jvm.Cond.code ({ cls := "HadForVoiceModel", name := "becomes", desc := "(II)I" } : Jvm.MethodName) prog_26_method_7_code (4 : Nat) (Option.some Jvm.ClassFile.FieldType.int)) ∈ lw_all := lw_g (lw_at lw_m7 166 rfl) rfl
theorem q1723 : (Jvm.Cond.instanceMethod ({ cls := "HadForVoiceModel", name := "remake", desc := "(II)I" } : Jvm.MethodName)) ∈ lw_all := lw_g (lw_at lw_m7 168 rfl) rfl
theorem q1724 : (Jvm.Cond.selects "HadForVoiceModel" ({ cls := "HadForVoiceModel", name := "remake", desc := "(II)I" } : Jvm.MethodName) ({ cls := "HadForVoiceModel", name := "remake", desc := "(II)I" } : Jvm.MethodName)) ∈ lw_all := lw_g (lw_at lw_m7 169 rfl) rfl
theorem q1725 : (Jvm.Cond.code ({ cls := "HadForVoiceModel", name := "remake", desc := "(II)I" } : Jvm.MethodName) prog_26_method_25_code (3 : Nat) (Option.some Jvm.ClassFile.FieldType.int)) ∈ lw_all := lw_g (lw_at lw_m7 170 rfl) rfl
theorem q1727 : (Jvm.Cond.instanceMethod ({ cls := "HadForVoiceModel", name := "meets", desc := "(IIZ)I" } : Jvm.MethodName)) ∈ lw_all := lw_g (lw_at lw_m7 172 rfl) rfl
theorem q1728 : (Jvm.Cond.selects "HadForVoiceModel" ({ cls := "HadForVoiceModel", name := "meets", desc := "(IIZ)I" } : Jvm.MethodName) ({ cls := "HadForVoiceModel", name := "meets", desc := "(IIZ)I" } : Jvm.MethodName)) ∈ lw_all := lw_g (lw_at lw_m7 173 rfl) rfl
theorem q1729 : (Jvm.Cond.code ({ cls := "HadForVoiceModel", name := "meets", desc := "(IIZ)I" } : Jvm.MethodName) prog_26_method_28_code (5 : Nat) (Option.some Jvm.ClassFile.FieldType.int)) ∈ lw_all := lw_g (lw_at lw_m7 174 rfl) rfl
theorem q1730 : (Jvm.Cond.methodLink "HadForVoiceModel" (134 : Nat) ({ cls := "HadForVoiceModel", name := "doMeet", desc := "(II)Z" } : Jvm.MethodName)) ∈ lw_all := lw_g (lw_at lw_m7 175 rfl) rfl
theorem q1731 : (Jvm.Cond.privateMethod ({ cls := "HadForVoiceModel", name := "doMeet", desc := "(II)Z" } : Jvm.MethodName)) ∈ lw_tbl := lw_at lw_m7 176 rfl
theorem q1732 : (Jvm.Cond.instanceMethod ({ cls := "HadForVoiceModel", name := "doMeet", desc := "(II)Z" } : Jvm.MethodName)) ∈ lw_all := lw_g (lw_at lw_m7 177 rfl) rfl
theorem q1733 : (Jvm.Cond.code ({ cls := "HadForVoiceModel", name := "doMeet", desc := "(II)Z" } : Jvm.MethodName) prog_26_method_26_code (3 : Nat) (Option.some Jvm.ClassFile.FieldType.boolean)) ∈ lw_all := lw_g (lw_at lw_m7 178 rfl) rfl
theorem q1734 : (Jvm.Cond.methodLink "HadForVoiceModel" (137 : Nat) ({ cls := "HadForVoiceModel", name := "lets", desc := "(IIZ)V" } : Jvm.MethodName)) ∈ lw_all := lw_g (lw_at lw_m7 179 rfl) rfl
theorem q1735 : (Jvm.Cond.privateMethod ({ cls := "HadForVoiceModel", name := "lets", desc := "(IIZ)V" } : Jvm.MethodName)) ∈ lw_tbl := lw_at lw_m7 180 rfl
theorem q1736 : (Jvm.Cond.instanceMethod ({ cls := "HadForVoiceModel", name := "lets", desc := "(IIZ)V" } : Jvm.MethodName)) ∈ lw_all := lw_g (lw_at lw_m7 181 rfl) rfl
theorem q1737 : (Jvm.Cond.code ({ cls := "HadForVoiceModel", name := "lets", desc := "(IIZ)V" } : Jvm.MethodName) prog_26_method_27_code (5 : Nat) (Option.none : Option Jvm.ClassFile.FieldType)) ∈ lw_all := lw_g (lw_at lw_m7 182 rfl) rfl
theorem q1739 : (Jvm.Cond.instanceMethod ({ cls := "HadForVoiceModel", name := "worth", desc := "(II)I" } : Jvm.MethodName)) ∈ lw_all := lw_g (lw_at lw_m7 184 rfl) rfl
theorem q1740 : (Jvm.Cond.selects "HadForVoiceModel" ({ cls := "HadForVoiceModel", name := "worth", desc := "(II)I" } : Jvm.MethodName) ({ cls := "HadForVoiceModel", name := "worth", desc := "(II)I" } : Jvm.MethodName)) ∈ lw_all := lw_g (lw_at lw_m7 185 rfl) rfl
theorem q1741 : (Jvm.Cond.code ({ cls := "HadForVoiceModel", name := "worth", desc := "(II)I" } : Jvm.MethodName) prog_26_method_29_code (3 : Nat) (Option.some Jvm.ClassFile.FieldType.int)) ∈ lw_all := lw_g (lw_at lw_m7 186 rfl) rfl
theorem q1742 : (Jvm.Cond.constantLong "HadForVoiceModel" (141 : Nat) (99 : Int64)) ∈ lw_all := lw_g (lw_at lw_m7 187 rfl) rfl
theorem q1744 : (Jvm.Cond.instanceMethod ({ cls := "HadForVoiceModel", name := "jar", desc := "(II)I" } : Jvm.MethodName)) ∈ lw_all := lw_g (lw_at lw_m7 189 rfl) rfl
theorem q1745 : (Jvm.Cond.selects "HadForVoiceModel" ({ cls := "HadForVoiceModel", name := "jar", desc := "(II)I" } : Jvm.MethodName) ({ cls := "HadForVoiceModel", name := "jar", desc := "(II)I" } : Jvm.MethodName)) ∈ lw_all := lw_g (lw_at lw_m7 190 rfl) rfl
theorem q1746 : (Jvm.Cond.code ({ cls := "HadForVoiceModel", name := "jar", desc := "(II)I" } : Jvm.MethodName) prog_26_method_30_code (3 : Nat) (Option.some Jvm.ClassFile.FieldType.int)) ∈ lw_all := lw_g (lw_at lw_m7 191 rfl) rfl
theorem q1747 : (Jvm.Cond.constantLong "HadForVoiceModel" (143 : Nat) (9 : Int64)) ∈ lw_all := lw_g (lw_at lw_m7 192 rfl) rfl
theorem q1749 : (Jvm.Cond.instanceMethod ({ cls := "HadForVoiceModel", name := "fee", desc := "(I)I" } : Jvm.MethodName)) ∈ lw_all := lw_g (lw_at lw_m7 194 rfl) rfl
theorem q1750 : (Jvm.Cond.selects "HadForVoiceModel" ({ cls := "HadForVoiceModel", name := "fee", desc := "(I)I" } : Jvm.MethodName) ({ cls := "HadForVoiceModel", name := "fee", desc := "(I)I" } : Jvm.MethodName)) ∈ lw_all := lw_g (lw_at lw_m7 195 rfl) rfl
theorem q1751 : (Jvm.Cond.code ({ cls := "HadForVoiceModel", name := "fee", desc := "(I)I" } : Jvm.MethodName) prog_26_method_31_code (2 : Nat) (Option.some Jvm.ClassFile.FieldType.int)) ∈ lw_all := lw_g (lw_at lw_m7 196 rfl) rfl
theorem q1752 : (Jvm.Cond.constantLong "HadForVoiceModel" (145 : Nat) (50 : Int64)) ∈ lw_all := lw_g (lw_at lw_m7 197 rfl) rfl
theorem q1754 : (Jvm.Cond.instanceMethod ({ cls := "HadForVoiceModel", name := "thing", desc := "(II)I" } : Jvm.MethodName)) ∈ lw_all := lw_g (lw_at lw_m7 199 rfl) rfl
theorem q1755 : (Jvm.Cond.selects "HadForVoiceModel" ({ cls := "HadForVoiceModel", name := "thing", desc := "(II)I" } : Jvm.MethodName) ({ cls := "HadForVoiceModel", name := "thing", desc := "(II)I" } : Jvm.MethodName)) ∈ lw_all := lw_g (lw_at lw_m7 200 rfl) rfl
theorem q1756 : (Jvm.Cond.code ({ cls := "HadForVoiceModel", name := "thing", desc := "(II)I" } : Jvm.MethodName) prog_26_method_33_code (3 : Nat) (Option.some Jvm.ClassFile.FieldType.int)) ∈ lw_all := lw_g (lw_at lw_m7 201 rfl) rfl
theorem q1757 : (Jvm.Cond.methodLink "HadForVoiceModel" (147 : Nat) ({ cls := "HadForVoiceModel", name := "whoWith", desc := "(II)I" } : Jvm.MethodName)) ∈ lw_all := lw_g (lw_at lw_m7 202 rfl) rfl
theorem q1758 : (Jvm.Cond.privateMethod ({ cls := "HadForVoiceModel", name := "whoWith", desc := "(II)I" } : Jvm.MethodName)) ∈ lw_tbl := lw_at lw_m7 203 rfl
theorem q1759 : (Jvm.Cond.instanceMethod ({ cls := "HadForVoiceModel", name := "whoWith", desc := "(II)I" } : Jvm.MethodName)) ∈ lw_all := lw_g (lw_at lw_m7 204 rfl) rfl
theorem q1760 : (Jvm.Cond.code ({ cls := "HadForVoiceModel", name := "whoWith", desc := "(II)I" } : Jvm.MethodName) prog_26_method_32_code (5 : Nat) (Option.some Jvm.ClassFile.FieldType.int)) ∈ lw_all := lw_g (lw_at lw_m7 205 rfl) rfl
theorem q1762 : (Jvm.Cond.instanceMethod ({ cls := "HadForVoiceModel", name := "state", desc := "(I)I" } : Jvm.MethodName)) ∈ lw_all := lw_g (lw_at lw_m7 207 rfl) rfl
theorem q1763 : (Jvm.Cond.selects "HadForVoiceModel" ({ cls := "HadForVoiceModel", name := "state", desc := "(I)I" } : Jvm.MethodName) ({ cls := "HadForVoiceModel", name := "state", desc := "(I)I" } : Jvm.MethodName)) ∈ lw_all := lw_g (lw_at lw_m7 208 rfl) rfl
theorem q1764 : (Jvm.Cond.code ({ cls := "HadForVoiceModel", name := "state", desc := "(I)I" } : Jvm.MethodName) prog_26_method_34_code (2 : Nat) (Option.some Jvm.ClassFile.FieldType.int)) ∈ lw_all := lw_g (lw_at lw_m7 209 rfl) rfl
theorem q1765 : (Jvm.Cond.methodLink "HadForVoiceModel" (150 : Nat) ({ cls := "HadForVoiceModel", name := "coinsAll", desc := "()I" } : Jvm.MethodName)) ∈ lw_all := lw_g (lw_at lw_m7 210 rfl) rfl
theorem q1766 : (Jvm.Cond.privateMethod ({ cls := "HadForVoiceModel", name := "coinsAll", desc := "()I" } : Jvm.MethodName)) ∈ lw_tbl := lw_at lw_m7 211 rfl
theorem q1767 : (Jvm.Cond.instanceMethod ({ cls := "HadForVoiceModel", name := "coinsAll", desc := "()I" } : Jvm.MethodName)) ∈ lw_all := lw_g (lw_at lw_m7 212 rfl) rfl
theorem q1768 : (Jvm.Cond.code ({ cls := "HadForVoiceModel", name := "coinsAll", desc := "()I" } : Jvm.MethodName) prog_26_method_17_code (3 : Nat) (Option.some Jvm.ClassFile.FieldType.int)) ∈ lw_all := lw_g (lw_at lw_m7 213 rfl) rfl
theorem q1770 : (Jvm.Cond.instanceMethod ({ cls := "HadForVoiceModel", name := "cans", desc := "(I)I" } : Jvm.MethodName)) ∈ lw_all := lw_g (lw_at lw_m7 215 rfl) rfl
theorem q1771 : (Jvm.Cond.selects "HadForVoiceModel" ({ cls := "HadForVoiceModel", name := "cans", desc := "(I)I" } : Jvm.MethodName) ({ cls := "HadForVoiceModel", name := "cans", desc := "(I)I" } : Jvm.MethodName)) ∈ lw_all := lw_g (lw_at lw_m7 216 rfl) rfl
theorem q1772 : (Jvm.Cond.code ({ cls := "HadForVoiceModel", name := "cans", desc := "(I)I" } : Jvm.MethodName) prog_26_method_44_code (3 : Nat) (Option.some Jvm.ClassFile.FieldType.int)) ∈ lw_all := lw_g (lw_at lw_m7 217 rfl) rfl
theorem q1773 : (Jvm.Cond.methodLink "HadForVoiceModel" (179 : Nat) ({ cls := "HadForVoiceModel", name := "nextChange", desc := "(I)I" } : Jvm.MethodName)) ∈ lw_all := lw_g (lw_at lw_m7 218 rfl) rfl
theorem q1774 : (Jvm.Cond.privateMethod ({ cls := "HadForVoiceModel", name := "nextChange", desc := "(I)I" } : Jvm.MethodName)) ∈ lw_tbl := lw_at lw_m7 219 rfl
theorem q1775 : (Jvm.Cond.instanceMethod ({ cls := "HadForVoiceModel", name := "nextChange", desc := "(I)I" } : Jvm.MethodName)) ∈ lw_all := lw_g (lw_at lw_m7 220 rfl) rfl
theorem q1776 : (Jvm.Cond.code ({ cls := "HadForVoiceModel", name := "nextChange", desc := "(I)I" } : Jvm.MethodName) prog_26_method_39_code (4 : Nat) (Option.some Jvm.ClassFile.FieldType.int)) ∈ lw_all := lw_g (lw_at lw_m7 221 rfl) rfl
theorem q1777 : (Jvm.Cond.methodLink "HadForVoiceModel" (159 : Nat) ({ cls := "HadForVoiceModel", name := "isNumber", desc := "(I)Z" } : Jvm.MethodName)) ∈ lw_all := lw_g (lw_at lw_m7 222 rfl) rfl
theorem q1778 : (Jvm.Cond.privateMethod ({ cls := "HadForVoiceModel", name := "isNumber", desc := "(I)Z" } : Jvm.MethodName)) ∈ lw_tbl := lw_at lw_m7 223 rfl
theorem q1779 : (Jvm.Cond.instanceMethod ({ cls := "HadForVoiceModel", name := "isNumber", desc := "(I)Z" } : Jvm.MethodName)) ∈ lw_all := lw_g (lw_at lw_m7 224 rfl) rfl
theorem q1780 : (Jvm.Cond.code ({ cls := "HadForVoiceModel", name := "isNumber", desc := "(I)Z" } : Jvm.MethodName) prog_26_method_36_code (2 : Nat) (Option.some Jvm.ClassFile.FieldType.boolean)) ∈ lw_all := lw_g (lw_at lw_m7 225 rfl) rfl
theorem q1781 : (Jvm.Cond.methodLink "HadForVoiceModel" (153 : Nat) ({ cls := "HadForVoiceModel", name := "isChange", desc := "(II)Z" } : Jvm.MethodName)) ∈ lw_all := lw_g (lw_at lw_m7 226 rfl) rfl
theorem q1782 : (Jvm.Cond.privateMethod ({ cls := "HadForVoiceModel", name := "isChange", desc := "(II)Z" } : Jvm.MethodName)) ∈ lw_tbl := lw_at lw_m7 227 rfl
theorem q1783 : (Jvm.Cond.instanceMethod ({ cls := "HadForVoiceModel", name := "isChange", desc := "(II)Z" } : Jvm.MethodName)) ∈ lw_all := lw_g (lw_at lw_m7 228 rfl) rfl
theorem q1784 : (Jvm.Cond.code ({ cls := "HadForVoiceModel", name := "isChange", desc := "(II)Z" } : Jvm.MethodName) prog_26_method_35_code (3 : Nat) (Option.some Jvm.ClassFile.FieldType.boolean)) ∈ lw_all := lw_g (lw_at lw_m7 229 rfl) rfl
theorem q1785 : (Jvm.Cond.methodLink "HadForVoiceModel" (162 : Nat) ({ cls := "HadForVoiceModel", name := "canBe", desc := "(I)Z" } : Jvm.MethodName)) ∈ lw_all := lw_g (lw_at lw_m7 230 rfl) rfl
theorem q1786 : (Jvm.Cond.privateMethod ({ cls := "HadForVoiceModel", name := "canBe", desc := "(I)Z" } : Jvm.MethodName)) ∈ lw_tbl := lw_at lw_m7 231 rfl
theorem q1787 : (Jvm.Cond.instanceMethod ({ cls := "HadForVoiceModel", name := "canBe", desc := "(I)Z" } : Jvm.MethodName)) ∈ lw_all := lw_g (lw_at lw_m7 232 rfl) rfl
theorem q1788 : (Jvm.Cond.code ({ cls := "HadForVoiceModel", name := "canBe", desc := "(I)Z" } : Jvm.MethodName) prog_26_method_38_code (4 : Nat) (Option.some Jvm.ClassFile.FieldType.boolean)) ∈ lw_all := lw_g (lw_at lw_m7 233 rfl) rfl
theorem q1789 : (Jvm.Cond.methodLink "HadForVoiceModel" (156 : Nat) ({ cls := "HadForVoiceModel", name := "isThere", desc := "(I)Z" } : Jvm.MethodName)) ∈ lw_all := lw_g (lw_at lw_m7 234 rfl) rfl
theorem q1790 : (Jvm.Cond.privateMethod ({ cls := "HadForVoiceModel", name := "isThere", desc := "(I)Z" } : Jvm.MethodName)) ∈ lw_tbl := lw_at lw_m7 235 rfl
theorem q1791 : (Jvm.Cond.instanceMethod ({ cls := "HadForVoiceModel", name := "isThere", desc := "(I)Z" } : Jvm.MethodName)) ∈ lw_all := lw_g (lw_at lw_m7 236 rfl) rfl
theorem q1792 : (Jvm.Cond.code ({ cls := "HadForVoiceModel", name := "isThere", desc := "(I)Z" } : Jvm.MethodName) prog_26_method_37_code (2 : Nat) (Option.some Jvm.ClassFile.FieldType.boolean)) ∈ lw_all := lw_g (lw_at lw_m7 237 rfl) rfl
theorem q1794 : (Jvm.Cond.instanceMethod ({ cls := "HadForVoiceModel", name := "make", desc := "(II)I" } : Jvm.MethodName)) ∈ lw_all := lw_g (lw_at lw_m7 239 rfl) rfl
theorem q1795 : (Jvm.Cond.selects "HadForVoiceModel" ({ cls := "HadForVoiceModel", name := "make", desc := "(II)I" } : Jvm.MethodName) ({ cls := "HadForVoiceModel", name := "make", desc := "(II)I" } : Jvm.MethodName)) ∈ lw_all := lw_g (lw_at lw_m8 0 rfl) rfl
theorem q1796 : (Jvm.Cond.code ({ cls := "HadForVoiceModel", name := "make", desc := "(II)I" } : Jvm.MethodName) prog_26_method_45_code (3 : Nat) (Option.some Jvm.ClassFile.FieldType.int)) ∈ lw_all := lw_g (lw_at lw_m8 1 rfl) rfl
theorem q1797 : (Jvm.Cond.methodLink "HadForVoiceModel" (182 : Nat) ({ cls := "HadForVoiceModel", name := "makes", desc := "(I)V" } : Jvm.MethodName)) ∈ lw_all := lw_g (lw_at lw_m8 2 rfl) rfl
theorem q1798 : (Jvm.Cond.privateMethod ({ cls := "HadForVoiceModel", name := "makes", desc := "(I)V" } : Jvm.MethodName)) ∈ lw_tbl := lw_at lw_m8 3 rfl
theorem q1799 : (Jvm.Cond.instanceMethod ({ cls := "HadForVoiceModel", name := "makes", desc := "(I)V" } : Jvm.MethodName)) ∈ lw_all := lw_g (lw_at lw_m8 4 rfl) rfl
theorem q1800 : (Jvm.Cond.code ({ cls := "HadForVoiceModel", name := "makes", desc := "(I)V" } : Jvm.MethodName) prog_26_method_43_code (4 : Nat) (Option.none : Option Jvm.ClassFile.FieldType)) ∈ lw_all := lw_g (lw_at lw_m8 5 rfl) rfl
theorem q1801 : (Jvm.Cond.methodLink "HadForVoiceModel" (175 : Nat) ({ cls := "HadForVoiceModel", name := "does", desc := "(I)V" } : Jvm.MethodName)) ∈ lw_all := lw_g (lw_at lw_m8 6 rfl) rfl
theorem q1802 : (Jvm.Cond.privateMethod ({ cls := "HadForVoiceModel", name := "does", desc := "(I)V" } : Jvm.MethodName)) ∈ lw_tbl := lw_at lw_m8 7 rfl
theorem q1803 : (Jvm.Cond.instanceMethod ({ cls := "HadForVoiceModel", name := "does", desc := "(I)V" } : Jvm.MethodName)) ∈ lw_all := lw_g (lw_at lw_m8 8 rfl) rfl
theorem q1804 : (Jvm.Cond.code ({ cls := "HadForVoiceModel", name := "does", desc := "(I)V" } : Jvm.MethodName) prog_26_method_41_code (4 : Nat) (Option.none : Option Jvm.ClassFile.FieldType)) ∈ lw_all := lw_g (lw_at lw_m8 9 rfl) rfl
theorem q1805 : (Jvm.Cond.methodLink "HadForVoiceModel" (171 : Nat) ({ cls := "HadForVoiceModel", name := "swaps", desc := "(II)V" } : Jvm.MethodName)) ∈ lw_all := lw_g (lw_at lw_m8 10 rfl) rfl
theorem q1806 : (Jvm.Cond.privateMethod ({ cls := "HadForVoiceModel", name := "swaps", desc := "(II)V" } : Jvm.MethodName)) ∈ lw_tbl := lw_at lw_m8 11 rfl
theorem q1807 : (Jvm.Cond.instanceMethod ({ cls := "HadForVoiceModel", name := "swaps", desc := "(II)V" } : Jvm.MethodName)) ∈ lw_all := lw_g (lw_at lw_m8 12 rfl) rfl
theorem q1808 : (Jvm.Cond.code ({ cls := "HadForVoiceModel", name := "swaps", desc := "(II)V" } : Jvm.MethodName) prog_26_method_40_code (4 : Nat) (Option.none : Option Jvm.ClassFile.FieldType)) ∈ lw_all := lw_g (lw_at lw_m8 13 rfl) rfl
theorem q1810 : (Jvm.Cond.instanceMethod ({ cls := "HadForVoiceModel", name := "back", desc := "()I" } : Jvm.MethodName)) ∈ lw_all := lw_g (lw_at lw_m8 15 rfl) rfl
theorem q1811 : (Jvm.Cond.selects "HadForVoiceModel" ({ cls := "HadForVoiceModel", name := "back", desc := "()I" } : Jvm.MethodName) ({ cls := "HadForVoiceModel", name := "back", desc := "()I" } : Jvm.MethodName)) ∈ lw_all := lw_g (lw_at lw_m8 16 rfl) rfl
theorem q1812 : (Jvm.Cond.code ({ cls := "HadForVoiceModel", name := "back", desc := "()I" } : Jvm.MethodName) prog_26_method_46_code (7 : Nat) (Option.some Jvm.ClassFile.FieldType.int)) ∈ lw_all := lw_g (lw_at lw_m8 17 rfl) rfl
theorem q1813 : (Jvm.Cond.methodLink "HadForVoiceModel" (185 : Nat) ({ cls := "HadForVoiceModel", name := "undoes", desc := "(III)V" } : Jvm.MethodName)) ∈ lw_all := lw_g (lw_at lw_m8 18 rfl) rfl
theorem q1814 : (Jvm.Cond.privateMethod ({ cls := "HadForVoiceModel", name := "undoes", desc := "(III)V" } : Jvm.MethodName)) ∈ lw_tbl := lw_at lw_m8 19 rfl
theorem q1815 : (Jvm.Cond.instanceMethod ({ cls := "HadForVoiceModel", name := "undoes", desc := "(III)V" } : Jvm.MethodName)) ∈ lw_all := lw_g (lw_at lw_m8 20 rfl) rfl
theorem q1816 : (Jvm.Cond.code ({ cls := "HadForVoiceModel", name := "undoes", desc := "(III)V" } : Jvm.MethodName) prog_26_method_42_code (6 : Nat) (Option.none : Option Jvm.ClassFile.FieldType)) ∈ lw_all := lw_g (lw_at lw_m8 21 rfl) rfl
theorem q1818 : (Jvm.Cond.instanceMethod ({ cls := "HadForVoiceModel", name := "fewest", desc := "()I" } : Jvm.MethodName)) ∈ lw_all := lw_g (lw_at lw_m8 23 rfl) rfl
theorem q1819 : (Jvm.Cond.selects "HadForVoiceModel" ({ cls := "HadForVoiceModel", name := "fewest", desc := "()I" } : Jvm.MethodName) ({ cls := "HadForVoiceModel", name := "fewest", desc := "()I" } : Jvm.MethodName)) ∈ lw_all := lw_g (lw_at lw_m8 24 rfl) rfl
theorem q1820 : (Jvm.Cond.code ({ cls := "HadForVoiceModel", name := "fewest", desc := "()I" } : Jvm.MethodName) prog_26_method_53_code (1 : Nat) (Option.some Jvm.ClassFile.FieldType.int)) ∈ lw_all := lw_g (lw_at lw_m8 25 rfl) rfl
theorem q1821 : (Jvm.Cond.methodLink "HadForVoiceModel" (213 : Nat) ({ cls := "HadForVoiceModel", name := "goesAll", desc := "(I)V" } : Jvm.MethodName)) ∈ lw_all := lw_g (lw_at lw_m8 26 rfl) rfl
theorem q1822 : (Jvm.Cond.privateMethod ({ cls := "HadForVoiceModel", name := "goesAll", desc := "(I)V" } : Jvm.MethodName)) ∈ lw_tbl := lw_at lw_m8 27 rfl
theorem q1823 : (Jvm.Cond.instanceMethod ({ cls := "HadForVoiceModel", name := "goesAll", desc := "(I)V" } : Jvm.MethodName)) ∈ lw_all := lw_g (lw_at lw_m8 28 rfl) rfl
theorem q1824 : (Jvm.Cond.code ({ cls := "HadForVoiceModel", name := "goesAll", desc := "(I)V" } : Jvm.MethodName) prog_26_method_50_code (2 : Nat) (Option.none : Option Jvm.ClassFile.FieldType)) ∈ lw_all := lw_g (lw_at lw_m8 29 rfl) rfl
theorem q1825 : (Jvm.Cond.methodLink "HadForVoiceModel" (210 : Nat) ({ cls := "HadForVoiceModel", name := "goes", desc := "(III)V" } : Jvm.MethodName)) ∈ lw_all := lw_g (lw_at lw_m8 30 rfl) rfl
theorem q1826 : (Jvm.Cond.privateMethod ({ cls := "HadForVoiceModel", name := "goes", desc := "(III)V" } : Jvm.MethodName)) ∈ lw_tbl := lw_at lw_m8 31 rfl
theorem q1827 : (Jvm.Cond.instanceMethod ({ cls := "HadForVoiceModel", name := "goes", desc := "(III)V" } : Jvm.MethodName)) ∈ lw_all := lw_g (lw_at lw_m8 32 rfl) rfl
theorem q1828 : (Jvm.Cond.code ({ cls := "HadForVoiceModel", name := "goes", desc := "(III)V" } : Jvm.MethodName) prog_26_method_49_code (9 : Nat) (Option.none : Option Jvm.ClassFile.FieldType)) ∈ lw_all := lw_g (lw_at lw_m8 33 rfl) rfl
theorem q1829 : (Jvm.Cond.methodLink "HadForVoiceModel" (204 : Nat) ({ cls := "HadForVoiceModel", name := "thereSet", desc := "()I" } : Jvm.MethodName)) ∈ lw_all := lw_g (lw_at lw_m8 34 rfl) rfl
theorem q1830 : (Jvm.Cond.privateMethod ({ cls := "HadForVoiceModel", name := "thereSet", desc := "()I" } : Jvm.MethodName)) ∈ lw_tbl := lw_at lw_m8 35 rfl
theorem q1831 : (Jvm.Cond.instanceMethod ({ cls := "HadForVoiceModel", name := "thereSet", desc := "()I" } : Jvm.MethodName)) ∈ lw_all := lw_g (lw_at lw_m8 36 rfl) rfl
theorem q1832 : (Jvm.Cond.code ({ cls := "HadForVoiceModel", name := "thereSet", desc := "()I" } : Jvm.MethodName) prog_26_method_47_code (2 : Nat) (Option.some Jvm.ClassFile.FieldType.int)) ∈ lw_all := lw_g (lw_at lw_m8 37 rfl) rfl
theorem q1833 : (Jvm.Cond.methodLink "HadForVoiceModel" (207 : Nat) ({ cls := "HadForVoiceModel", name := "keeps", desc := "(II)V" } : Jvm.MethodName)) ∈ lw_all := lw_g (lw_at lw_m8 38 rfl) rfl
theorem q1834 : (Jvm.Cond.privateMethod ({ cls := "HadForVoiceModel", name := "keeps", desc := "(II)V" } : Jvm.MethodName)) ∈ lw_tbl := lw_at lw_m8 39 rfl
theorem q1835 : (Jvm.Cond.instanceMethod ({ cls := "HadForVoiceModel", name := "keeps", desc := "(II)V" } : Jvm.MethodName)) ∈ lw_all := lw_g (lw_at lw_m8 40 rfl) rfl
theorem q1836 : (Jvm.Cond.code ({ cls := "HadForVoiceModel", name := "keeps", desc := "(II)V" } : Jvm.MethodName) prog_26_method_48_code (4 : Nat) (Option.none : Option Jvm.ClassFile.FieldType)) ∈ lw_all := lw_g (lw_at lw_m8 41 rfl) rfl
theorem q1838 : (Jvm.Cond.instanceMethod ({ cls := "HadForVoiceModel", name := "ith", desc := "(I)I" } : Jvm.MethodName)) ∈ lw_all := lw_g (lw_at lw_m8 43 rfl) rfl
theorem q1839 : (Jvm.Cond.selects "HadForVoiceModel" ({ cls := "HadForVoiceModel", name := "ith", desc := "(I)I" } : Jvm.MethodName) ({ cls := "HadForVoiceModel", name := "ith", desc := "(I)I" } : Jvm.MethodName)) ∈ lw_all := lw_g (lw_at lw_m8 44 rfl) rfl
theorem q1840 : (Jvm.Cond.code ({ cls := "HadForVoiceModel", name := "ith", desc := "(I)I" } : Jvm.MethodName) prog_26_method_54_code (2 : Nat) (Option.some Jvm.ClassFile.FieldType.int)) ∈ lw_all := lw_g (lw_at lw_m8 45 rfl) rfl
theorem q1841 : (Jvm.Cond.methodLink "HadForVoiceModel" (216 : Nat) ({ cls := "HadForVoiceModel", name := "isPlace", desc := "(I)Z" } : Jvm.MethodName)) ∈ lw_all := lw_g (lw_at lw_m8 46 rfl) rfl
theorem q1842 : (Jvm.Cond.static ({ cls := "HadForVoiceModel", name := "isPlace", desc := "(I)Z" } : Jvm.MethodName)) ∈ lw_all := lw_g (lw_at lw_m8 47 rfl) rfl
theorem q1843 : (Jvm.Cond.code ({ cls := "HadForVoiceModel", name := "isPlace", desc := "(I)Z" } : Jvm.MethodName) prog_26_method_52_code (1 : Nat) (Option.some Jvm.ClassFile.FieldType.boolean)) ∈ lw_all := lw_g (lw_at lw_m8 48 rfl) rfl
theorem q1845 : (Jvm.Cond.instanceMethod ({ cls := "HadForVoiceModel", name := "ways", desc := "(I)I" } : Jvm.MethodName)) ∈ lw_all := lw_g (lw_at lw_m8 50 rfl) rfl
theorem q1846 : (Jvm.Cond.selects "HadForVoiceModel" ({ cls := "HadForVoiceModel", name := "ways", desc := "(I)I" } : Jvm.MethodName) ({ cls := "HadForVoiceModel", name := "ways", desc := "(I)I" } : Jvm.MethodName)) ∈ lw_all := lw_g (lw_at lw_m8 51 rfl) rfl
theorem q1847 : (Jvm.Cond.code ({ cls := "HadForVoiceModel", name := "ways", desc := "(I)I" } : Jvm.MethodName) prog_26_method_55_code (2 : Nat) (Option.some Jvm.ClassFile.FieldType.int)) ∈ lw_all := lw_g (lw_at lw_m8 52 rfl) rfl
theorem q1848 : (Jvm.Cond.methodLink "HadForVoiceModel" (219 : Nat) ({ cls := "HadForVoiceModel", name := "isLong", desc := "(I)Z" } : Jvm.MethodName)) ∈ lw_all := lw_g (lw_at lw_m8 53 rfl) rfl
theorem q1849 : (Jvm.Cond.static ({ cls := "HadForVoiceModel", name := "isLong", desc := "(I)Z" } : Jvm.MethodName)) ∈ lw_all := lw_g (lw_at lw_m8 54 rfl) rfl
theorem q1850 : (Jvm.Cond.code ({ cls := "HadForVoiceModel", name := "isLong", desc := "(I)Z" } : Jvm.MethodName) prog_26_method_51_code (1 : Nat) (Option.some Jvm.ClassFile.FieldType.boolean)) ∈ lw_all := lw_g (lw_at lw_m8 55 rfl) rfl
theorem q1852 : (Jvm.Cond.instanceMethod ({ cls := "HadForVoiceModel", name := "most", desc := "(I)I" } : Jvm.MethodName)) ∈ lw_all := lw_g (lw_at lw_m8 57 rfl) rfl
theorem q1853 : (Jvm.Cond.selects "HadForVoiceModel" ({ cls := "HadForVoiceModel", name := "most", desc := "(I)I" } : Jvm.MethodName) ({ cls := "HadForVoiceModel", name := "most", desc := "(I)I" } : Jvm.MethodName)) ∈ lw_all := lw_g (lw_at lw_m8 58 rfl) rfl
theorem q1854 : (Jvm.Cond.code ({ cls := "HadForVoiceModel", name := "most", desc := "(I)I" } : Jvm.MethodName) prog_26_method_56_code (2 : Nat) (Option.some Jvm.ClassFile.FieldType.int)) ∈ lw_all := lw_g (lw_at lw_m8 59 rfl) rfl
theorem q1856 : (Jvm.Cond.instanceMethod ({ cls := "HadForVoiceModel", name := "cheapest", desc := "(I)I" } : Jvm.MethodName)) ∈ lw_all := lw_g (lw_at lw_m8 61 rfl) rfl
theorem q1857 : (Jvm.Cond.selects "HadForVoiceModel" ({ cls := "HadForVoiceModel", name := "cheapest", desc := "(I)I" } : Jvm.MethodName) ({ cls := "HadForVoiceModel", name := "cheapest", desc := "(I)I" } : Jvm.MethodName)) ∈ lw_all := lw_g (lw_at lw_m8 62 rfl) rfl
theorem q1858 : (Jvm.Cond.code ({ cls := "HadForVoiceModel", name := "cheapest", desc := "(I)I" } : Jvm.MethodName) prog_26_method_57_code (2 : Nat) (Option.some Jvm.ClassFile.FieldType.int)) ∈ lw_all := lw_g (lw_at lw_m8 63 rfl) rfl
theorem q1860 : (Jvm.Cond.instanceMethod ({ cls := "HadForVoiceModel", name := "cheaply", desc := "(II)I" } : Jvm.MethodName)) ∈ lw_all := lw_g (lw_at lw_m8 65 rfl) rfl
theorem q1861 : (Jvm.Cond.selects "HadForVoiceModel" ({ cls := "HadForVoiceModel", name := "cheaply", desc := "(II)I" } : Jvm.MethodName) ({ cls := "HadForVoiceModel", name := "cheaply", desc := "(II)I" } : Jvm.MethodName)) ∈ lw_all := lw_g (lw_at lw_m8 66 rfl) rfl
theorem q1862 : (Jvm.Cond.code ({ cls := "HadForVoiceModel", name := "cheaply", desc := "(II)I" } : Jvm.MethodName) prog_26_method_58_code (3 : Nat) (Option.some Jvm.ClassFile.FieldType.int)) ∈ lw_all := lw_g (lw_at lw_m8 67 rfl) rfl
theorem q1864 : (Jvm.Cond.instanceMethod ({ cls := "HadForVoiceModel", name := "bars", desc := "()I" } : Jvm.MethodName)) ∈ lw_all := lw_g (lw_at lw_m8 69 rfl) rfl
theorem q1865 : (Jvm.Cond.selects "HadForVoiceModel" ({ cls := "HadForVoiceModel", name := "bars", desc := "()I" } : Jvm.MethodName) ({ cls := "HadForVoiceModel", name := "bars", desc := "()I" } : Jvm.MethodName)) ∈ lw_all := lw_g (lw_at lw_m8 70 rfl) rfl
theorem q1866 : (Jvm.Cond.code ({ cls := "HadForVoiceModel", name := "bars", desc := "()I" } : Jvm.MethodName) prog_26_method_59_code (3 : Nat) (Option.some Jvm.ClassFile.FieldType.int)) ∈ lw_all := lw_g (lw_at lw_m8 71 rfl) rfl
theorem q1868 : (Jvm.Cond.instanceMethod ({ cls := "HadForVoiceModel", name := "jars", desc := "()I" } : Jvm.MethodName)) ∈ lw_all := lw_g (lw_at lw_m8 73 rfl) rfl
theorem q1869 : (Jvm.Cond.selects "HadForVoiceModel" ({ cls := "HadForVoiceModel", name := "jars", desc := "()I" } : Jvm.MethodName) ({ cls := "HadForVoiceModel", name := "jars", desc := "()I" } : Jvm.MethodName)) ∈ lw_all := lw_g (lw_at lw_m8 74 rfl) rfl
theorem q1870 : (Jvm.Cond.code ({ cls := "HadForVoiceModel", name := "jars", desc := "()I" } : Jvm.MethodName) prog_26_method_60_code (4 : Nat) (Option.some Jvm.ClassFile.FieldType.int)) ∈ lw_all := lw_g (lw_at lw_m8 75 rfl) rfl
theorem q1872 : (Jvm.Cond.instanceMethod ({ cls := "HadForVoiceModel", name := "feeFor", desc := "(I)I" } : Jvm.MethodName)) ∈ lw_all := lw_g (lw_at lw_m8 77 rfl) rfl
theorem q1873 : (Jvm.Cond.selects "HadForVoiceModel" ({ cls := "HadForVoiceModel", name := "feeFor", desc := "(I)I" } : Jvm.MethodName) ({ cls := "HadForVoiceModel", name := "feeFor", desc := "(I)I" } : Jvm.MethodName)) ∈ lw_all := lw_g (lw_at lw_m8 78 rfl) rfl
theorem q1874 : (Jvm.Cond.code ({ cls := "HadForVoiceModel", name := "feeFor", desc := "(I)I" } : Jvm.MethodName) prog_26_method_61_code (5 : Nat) (Option.some Jvm.ClassFile.FieldType.int)) ∈ lw_all := lw_g (lw_at lw_m8 79 rfl) rfl
theorem q1876 : (Jvm.Cond.instanceMethod ({ cls := "HadForVoiceModel", name := "rings", desc := "(I)I" } : Jvm.MethodName)) ∈ lw_all := lw_g (lw_at lw_m8 81 rfl) rfl
theorem q1877 : (Jvm.Cond.selects "HadForVoiceModel" ({ cls := "HadForVoiceModel", name := "rings", desc := "(I)I" } : Jvm.MethodName) ({ cls := "HadForVoiceModel", name := "rings", desc := "(I)I" } : Jvm.MethodName)) ∈ lw_all := lw_g (lw_at lw_m8 82 rfl) rfl
theorem q1878 : (Jvm.Cond.code ({ cls := "HadForVoiceModel", name := "rings", desc := "(I)I" } : Jvm.MethodName) prog_26_method_65_code (2 : Nat) (Option.some Jvm.ClassFile.FieldType.int)) ∈ lw_all := lw_g (lw_at lw_m8 83 rfl) rfl
theorem q1879 : (Jvm.Cond.constantLong "HadForVoiceModel" (231 : Nat) (2 : Int64)) ∈ lw_all := lw_g (lw_at lw_m8 84 rfl) rfl
theorem q1880 : (Jvm.Cond.methodLink "HadForVoiceModel" (233 : Nat) ({ cls := "HadForVoiceModel", name := "findRings", desc := "(I)V" } : Jvm.MethodName)) ∈ lw_all := lw_g (lw_at lw_m8 85 rfl) rfl
theorem q1881 : (Jvm.Cond.privateMethod ({ cls := "HadForVoiceModel", name := "findRings", desc := "(I)V" } : Jvm.MethodName)) ∈ lw_tbl := lw_at lw_m8 86 rfl
theorem q1882 : (Jvm.Cond.instanceMethod ({ cls := "HadForVoiceModel", name := "findRings", desc := "(I)V" } : Jvm.MethodName)) ∈ lw_all := lw_g (lw_at lw_m8 87 rfl) rfl
theorem q1883 : (Jvm.Cond.code ({ cls := "HadForVoiceModel", name := "findRings", desc := "(I)V" } : Jvm.MethodName) prog_26_method_64_code (3 : Nat) (Option.none : Option Jvm.ClassFile.FieldType)) ∈ lw_all := lw_g (lw_at lw_m8 88 rfl) rfl
theorem q1884 : (Jvm.Cond.methodLink "HadForVoiceModel" (228 : Nat) ({ cls := "HadForVoiceModel", name := "circles", desc := "(III)V" } : Jvm.MethodName)) ∈ lw_all := lw_g (lw_at lw_m8 89 rfl) rfl
theorem q1885 : (Jvm.Cond.privateMethod ({ cls := "HadForVoiceModel", name := "circles", desc := "(III)V" } : Jvm.MethodName)) ∈ lw_tbl := lw_at lw_m8 90 rfl
theorem q1886 : (Jvm.Cond.instanceMethod ({ cls := "HadForVoiceModel", name := "circles", desc := "(III)V" } : Jvm.MethodName)) ∈ lw_all := lw_g (lw_at lw_m8 91 rfl) rfl
theorem q1887 : (Jvm.Cond.code ({ cls := "HadForVoiceModel", name := "circles", desc := "(III)V" } : Jvm.MethodName) prog_26_method_63_code (6 : Nat) (Option.none : Option Jvm.ClassFile.FieldType)) ∈ lw_all := lw_g (lw_at lw_m8 92 rfl) rfl
theorem q1888 : (Jvm.Cond.methodLink "HadForVoiceModel" (222 : Nat) ({ cls := "HadForVoiceModel", name := "isLink", desc := "(II)Z" } : Jvm.MethodName)) ∈ lw_all := lw_g (lw_at lw_m8 93 rfl) rfl
theorem q1889 : (Jvm.Cond.privateMethod ({ cls := "HadForVoiceModel", name := "isLink", desc := "(II)Z" } : Jvm.MethodName)) ∈ lw_tbl := lw_at lw_m8 94 rfl
theorem q1890 : (Jvm.Cond.instanceMethod ({ cls := "HadForVoiceModel", name := "isLink", desc := "(II)Z" } : Jvm.MethodName)) ∈ lw_all := lw_g (lw_at lw_m8 95 rfl) rfl
theorem q1891 : (Jvm.Cond.code ({ cls := "HadForVoiceModel", name := "isLink", desc := "(II)Z" } : Jvm.MethodName) prog_26_method_62_code (3 : Nat) (Option.some Jvm.ClassFile.FieldType.boolean)) ∈ lw_all := lw_g (lw_at lw_m8 96 rfl) rfl
theorem q1893 : (Jvm.Cond.instanceMethod ({ cls := "HadForVoiceModel", name := "ring", desc := "(II)I" } : Jvm.MethodName)) ∈ lw_all := lw_g (lw_at lw_m8 98 rfl) rfl
theorem q1894 : (Jvm.Cond.selects "HadForVoiceModel" ({ cls := "HadForVoiceModel", name := "ring", desc := "(II)I" } : Jvm.MethodName) ({ cls := "HadForVoiceModel", name := "ring", desc := "(II)I" } : Jvm.MethodName)) ∈ lw_all := lw_g (lw_at lw_m8 99 rfl) rfl
theorem q1895 : (Jvm.Cond.code ({ cls := "HadForVoiceModel", name := "ring", desc := "(II)I" } : Jvm.MethodName) prog_26_method_66_code (3 : Nat) (Option.some Jvm.ClassFile.FieldType.int)) ∈ lw_all := lw_g (lw_at lw_m8 100 rfl) rfl
theorem q1897 : (Jvm.Cond.instanceMethod ({ cls := "HadForVoiceModel", name := "comes", desc := "(II)I" } : Jvm.MethodName)) ∈ lw_all := lw_g (lw_at lw_m8 102 rfl) rfl
theorem q1898 : (Jvm.Cond.selects "HadForVoiceModel" ({ cls := "HadForVoiceModel", name := "comes", desc := "(II)I" } : Jvm.MethodName) ({ cls := "HadForVoiceModel", name := "comes", desc := "(II)I" } : Jvm.MethodName)) ∈ lw_all := lw_g (lw_at lw_m8 103 rfl) rfl
theorem q1899 : (Jvm.Cond.code ({ cls := "HadForVoiceModel", name := "comes", desc := "(II)I" } : Jvm.MethodName) prog_26_method_69_code (3 : Nat) (Option.some Jvm.ClassFile.FieldType.int)) ∈ lw_all := lw_g (lw_at lw_m8 104 rfl) rfl
theorem q1900 : (Jvm.Cond.methodLink "HadForVoiceModel" (244 : Nat) ({ cls := "HadForVoiceModel", name := "isBarter", desc := "(II)Z" } : Jvm.MethodName)) ∈ lw_all := lw_g (lw_at lw_m8 105 rfl) rfl
theorem q1901 : (Jvm.Cond.privateMethod ({ cls := "HadForVoiceModel", name := "isBarter", desc := "(II)Z" } : Jvm.MethodName)) ∈ lw_tbl := lw_at lw_m8 106 rfl
theorem q1902 : (Jvm.Cond.instanceMethod ({ cls := "HadForVoiceModel", name := "isBarter", desc := "(II)Z" } : Jvm.MethodName)) ∈ lw_all := lw_g (lw_at lw_m8 107 rfl) rfl
theorem q1903 : (Jvm.Cond.code ({ cls := "HadForVoiceModel", name := "isBarter", desc := "(II)Z" } : Jvm.MethodName) prog_26_method_68_code (3 : Nat) (Option.some Jvm.ClassFile.FieldType.boolean)) ∈ lw_all := lw_g (lw_at lw_m8 108 rfl) rfl
theorem q1904 : (Jvm.Cond.constantLong "HadForVoiceModel" (242 : Nat) (4 : Int64)) ∈ lw_all := lw_g (lw_at lw_m8 109 rfl) rfl
theorem q1905 : (Jvm.Cond.methodLink "HadForVoiceModel" (239 : Nat) ({ cls := "HadForVoiceModel", name := "barters", desc := "(II)V" } : Jvm.MethodName)) ∈ lw_all := lw_g (lw_at lw_m8 110 rfl) rfl
theorem q1906 : (Jvm.Cond.privateMethod ({ cls := "HadForVoiceModel", name := "barters", desc := "(II)V" } : Jvm.MethodName)) ∈ lw_tbl := lw_at lw_m8 111 rfl
theorem q1907 : (Jvm.Cond.instanceMethod ({ cls := "HadForVoiceModel", name := "barters", desc := "(II)V" } : Jvm.MethodName)) ∈ lw_all := lw_g (lw_at lw_m8 112 rfl) rfl
theorem q1908 : (Jvm.Cond.code ({ cls := "HadForVoiceModel", name := "barters", desc := "(II)V" } : Jvm.MethodName) prog_26_method_67_code (6 : Nat) (Option.none : Option Jvm.ClassFile.FieldType)) ∈ lw_all := lw_g (lw_at lw_m8 113 rfl) rfl
theorem q1910 : (Jvm.Cond.instanceMethod ({ cls := "HadForVoiceModel", name := "dearest", desc := "(II)I" } : Jvm.MethodName)) ∈ lw_all := lw_g (lw_at lw_m8 115 rfl) rfl
theorem q1911 : (Jvm.Cond.selects "HadForVoiceModel" ({ cls := "HadForVoiceModel", name := "dearest", desc := "(II)I" } : Jvm.MethodName) ({ cls := "HadForVoiceModel", name := "dearest", desc := "(II)I" } : Jvm.MethodName)) ∈ lw_all := lw_g (lw_at lw_m8 116 rfl) rfl
theorem q1912 : (Jvm.Cond.code ({ cls := "HadForVoiceModel", name := "dearest", desc := "(II)I" } : Jvm.MethodName) prog_26_method_70_code (5 : Nat) (Option.some Jvm.ClassFile.FieldType.int)) ∈ lw_all := lw_g (lw_at lw_m8 117 rfl) rfl
theorem q1914 : (Jvm.Cond.instanceMethod ({ cls := "HadForVoiceModel", name := "game", desc := "(I)I" } : Jvm.MethodName)) ∈ lw_all := lw_g (lw_at lw_m8 119 rfl) rfl
theorem q1915 : (Jvm.Cond.selects "HadForVoiceModel" ({ cls := "HadForVoiceModel", name := "game", desc := "(I)I" } : Jvm.MethodName) ({ cls := "HadForVoiceModel", name := "game", desc := "(I)I" } : Jvm.MethodName)) ∈ lw_all := lw_g (lw_at lw_m8 120 rfl) rfl
theorem q1916 : (Jvm.Cond.code ({ cls := "HadForVoiceModel", name := "game", desc := "(I)I" } : Jvm.MethodName) prog_26_method_75_code (2 : Nat) (Option.some Jvm.ClassFile.FieldType.int)) ∈ lw_all := lw_g (lw_at lw_m8 121 rfl) rfl
theorem q1917 : (Jvm.Cond.methodLink "HadForVoiceModel" (256 : Nat) ({ cls := "HadForVoiceModel", name := "isGame", desc := "(I)Z" } : Jvm.MethodName)) ∈ lw_all := lw_g (lw_at lw_m8 122 rfl) rfl
theorem q1918 : (Jvm.Cond.static ({ cls := "HadForVoiceModel", name := "isGame", desc := "(I)Z" } : Jvm.MethodName)) ∈ lw_all := lw_g (lw_at lw_m8 123 rfl) rfl
theorem q1919 : (Jvm.Cond.code ({ cls := "HadForVoiceModel", name := "isGame", desc := "(I)Z" } : Jvm.MethodName) prog_26_method_74_code (1 : Nat) (Option.some Jvm.ClassFile.FieldType.boolean)) ∈ lw_all := lw_g (lw_at lw_m8 124 rfl) rfl
theorem q1920 : (Jvm.Cond.methodLink "HadForVoiceModel" (247 : Nat) ({ cls := "HadForVoiceModel", name := "valueOf", desc := "(I)I" } : Jvm.MethodName)) ∈ lw_all := lw_g (lw_at lw_m8 125 rfl) rfl
theorem q1921 : (Jvm.Cond.privateMethod ({ cls := "HadForVoiceModel", name := "valueOf", desc := "(I)I" } : Jvm.MethodName)) ∈ lw_tbl := lw_at lw_m8 126 rfl
theorem q1922 : (Jvm.Cond.instanceMethod ({ cls := "HadForVoiceModel", name := "valueOf", desc := "(I)I" } : Jvm.MethodName)) ∈ lw_all := lw_g (lw_at lw_m8 127 rfl) rfl
theorem q1923 : (Jvm.Cond.code ({ cls := "HadForVoiceModel", name := "valueOf", desc := "(I)I" } : Jvm.MethodName) prog_26_method_73_code (5 : Nat) (Option.some Jvm.ClassFile.FieldType.int)) ∈ lw_all := lw_g (lw_at lw_m8 128 rfl) rfl
theorem q1924 : (Jvm.Cond.methodLink "HadForVoiceModel" (253 : Nat) ({ cls := "HadForVoiceModel", name := "valueBy", desc := "(II)I" } : Jvm.MethodName)) ∈ lw_all := lw_g (lw_at lw_m8 129 rfl) rfl
theorem q1925 : (Jvm.Cond.privateMethod ({ cls := "HadForVoiceModel", name := "valueBy", desc := "(II)I" } : Jvm.MethodName)) ∈ lw_tbl := lw_at lw_m8 130 rfl
theorem q1926 : (Jvm.Cond.instanceMethod ({ cls := "HadForVoiceModel", name := "valueBy", desc := "(II)I" } : Jvm.MethodName)) ∈ lw_all := lw_g (lw_at lw_m8 131 rfl) rfl
theorem q1927 : (Jvm.Cond.code ({ cls := "HadForVoiceModel", name := "valueBy", desc := "(II)I" } : Jvm.MethodName) prog_26_method_72_code (6 : Nat) (Option.some Jvm.ClassFile.FieldType.int)) ∈ lw_all := lw_g (lw_at lw_m8 132 rfl) rfl
theorem q1928 : (Jvm.Cond.methodLink "HadForVoiceModel" (250 : Nat) ({ cls := "HadForVoiceModel", name := "turned", desc := "(I)I" } : Jvm.MethodName)) ∈ lw_all := lw_g (lw_at lw_m8 133 rfl) rfl
theorem q1929 : (Jvm.Cond.static ({ cls := "HadForVoiceModel", name := "turned", desc := "(I)I" } : Jvm.MethodName)) ∈ lw_all := lw_g (lw_at lw_m8 134 rfl) rfl
theorem q1930 : (Jvm.Cond.code ({ cls := "HadForVoiceModel", name := "turned", desc := "(I)I" } : Jvm.MethodName) prog_26_method_71_code (1 : Nat) (Option.some Jvm.ClassFile.FieldType.int)) ∈ lw_all := lw_g (lw_at lw_m8 135 rfl) rfl
theorem q1932 : (Jvm.Cond.instanceMethod ({ cls := "HadForVoiceModel", name := "play", desc := "(I)I" } : Jvm.MethodName)) ∈ lw_all := lw_g (lw_at lw_m8 137 rfl) rfl
theorem q1933 : (Jvm.Cond.selects "HadForVoiceModel" ({ cls := "HadForVoiceModel", name := "play", desc := "(I)I" } : Jvm.MethodName) ({ cls := "HadForVoiceModel", name := "play", desc := "(I)I" } : Jvm.MethodName)) ∈ lw_all := lw_g (lw_at lw_m8 138 rfl) rfl
theorem q1934 : (Jvm.Cond.code ({ cls := "HadForVoiceModel", name := "play", desc := "(I)I" } : Jvm.MethodName) prog_26_method_76_code (4 : Nat) (Option.some Jvm.ClassFile.FieldType.int)) ∈ lw_all := lw_g (lw_at lw_m8 139 rfl) rfl
theorem q1936 : (Jvm.Cond.instanceMethod ({ cls := "HadForVoiceModel", name := "report", desc := "(III)I" } : Jvm.MethodName)) ∈ lw_all := lw_g (lw_at lw_m8 141 rfl) rfl
theorem q1937 : (Jvm.Cond.selects "HadForVoiceModel" ({ cls := "HadForVoiceModel", name := "report", desc := "(III)I" } : Jvm.MethodName) ({ cls := "HadForVoiceModel", name := "report", desc := "(III)I" } : Jvm.MethodName)) ∈ lw_all := lw_g (lw_at lw_m8 142 rfl) rfl
theorem q1938 : (Jvm.Cond.code ({ cls := "HadForVoiceModel", name := "report", desc := "(III)I" } : Jvm.MethodName) prog_26_method_77_code (5 : Nat) (Option.some Jvm.ClassFile.FieldType.int)) ∈ lw_all := lw_g (lw_at lw_m8 143 rfl) rfl
theorem q1940 : (Jvm.Cond.instanceMethod ({ cls := "HadForVoiceModel", name := "forget", desc := "()I" } : Jvm.MethodName)) ∈ lw_all := lw_g (lw_at lw_m8 145 rfl) rfl
theorem q1941 : (Jvm.Cond.selects "HadForVoiceModel" ({ cls := "HadForVoiceModel", name := "forget", desc := "()I" } : Jvm.MethodName) ({ cls := "HadForVoiceModel", name := "forget", desc := "()I" } : Jvm.MethodName)) ∈ lw_all := lw_g (lw_at lw_m8 146 rfl) rfl
theorem q1942 : (Jvm.Cond.code ({ cls := "HadForVoiceModel", name := "forget", desc := "()I" } : Jvm.MethodName) prog_26_method_78_code (1 : Nat) (Option.some Jvm.ClassFile.FieldType.int)) ∈ lw_all := lw_g (lw_at lw_m8 147 rfl) rfl
theorem q1944 : (Jvm.Cond.instanceMethod ({ cls := "HadForVoiceModel", name := "span", desc := "(I)I" } : Jvm.MethodName)) ∈ lw_all := lw_g (lw_at lw_m8 149 rfl) rfl
theorem q1945 : (Jvm.Cond.selects "HadForVoiceModel" ({ cls := "HadForVoiceModel", name := "span", desc := "(I)I" } : Jvm.MethodName) ({ cls := "HadForVoiceModel", name := "span", desc := "(I)I" } : Jvm.MethodName)) ∈ lw_all := lw_g (lw_at lw_m8 150 rfl) rfl
theorem q1946 : (Jvm.Cond.code ({ cls := "HadForVoiceModel", name := "span", desc := "(I)I" } : Jvm.MethodName) prog_26_method_81_code (2 : Nat) (Option.some Jvm.ClassFile.FieldType.int)) ∈ lw_all := lw_g (lw_at lw_m8 151 rfl) rfl
theorem q1947 : (Jvm.Cond.methodLink "HadForVoiceModel" (271 : Nat) ({ cls := "HadForVoiceModel", name := "findFits", desc := "(I)V" } : Jvm.MethodName)) ∈ lw_all := lw_g (lw_at lw_m8 152 rfl) rfl
theorem q1948 : (Jvm.Cond.privateMethod ({ cls := "HadForVoiceModel", name := "findFits", desc := "(I)V" } : Jvm.MethodName)) ∈ lw_tbl := lw_at lw_m8 153 rfl
theorem q1949 : (Jvm.Cond.instanceMethod ({ cls := "HadForVoiceModel", name := "findFits", desc := "(I)V" } : Jvm.MethodName)) ∈ lw_all := lw_g (lw_at lw_m8 154 rfl) rfl
theorem q1950 : (Jvm.Cond.code ({ cls := "HadForVoiceModel", name := "findFits", desc := "(I)V" } : Jvm.MethodName) prog_26_method_80_code (4 : Nat) (Option.none : Option Jvm.ClassFile.FieldType)) ∈ lw_all := lw_g (lw_at lw_m8 155 rfl) rfl
theorem q1951 : (Jvm.Cond.methodLink "HadForVoiceModel" (262 : Nat) ({ cls := "HadForVoiceModel", name := "isFit", desc := "(III)Z" } : Jvm.MethodName)) ∈ lw_all := lw_g (lw_at lw_m8 156 rfl) rfl
theorem q1952 : (Jvm.Cond.privateMethod ({ cls := "HadForVoiceModel", name := "isFit", desc := "(III)Z" } : Jvm.MethodName)) ∈ lw_tbl := lw_at lw_m8 157 rfl
theorem q1953 : (Jvm.Cond.instanceMethod ({ cls := "HadForVoiceModel", name := "isFit", desc := "(III)Z" } : Jvm.MethodName)) ∈ lw_all := lw_g (lw_at lw_m8 158 rfl) rfl
theorem q1954 : (Jvm.Cond.code ({ cls := "HadForVoiceModel", name := "isFit", desc := "(III)Z" } : Jvm.MethodName) prog_26_method_79_code (6 : Nat) (Option.some Jvm.ClassFile.FieldType.boolean)) ∈ lw_all := lw_g (lw_at lw_m8 159 rfl) rfl
theorem q1956 : (Jvm.Cond.instanceMethod ({ cls := "HadForVoiceModel", name := "liar", desc := "()I" } : Jvm.MethodName)) ∈ lw_all := lw_g (lw_at lw_m8 161 rfl) rfl
theorem q1957 : (Jvm.Cond.selects "HadForVoiceModel" ({ cls := "HadForVoiceModel", name := "liar", desc := "()I" } : Jvm.MethodName) ({ cls := "HadForVoiceModel", name := "liar", desc := "()I" } : Jvm.MethodName)) ∈ lw_all := lw_g (lw_at lw_m8 162 rfl) rfl
theorem q1958 : (Jvm.Cond.code ({ cls := "HadForVoiceModel", name := "liar", desc := "()I" } : Jvm.MethodName) prog_26_method_82_code (3 : Nat) (Option.some Jvm.ClassFile.FieldType.int)) ∈ lw_all := lw_g (lw_at lw_m8 163 rfl) rfl
theorem q1960 : (Jvm.Cond.instanceMethod ({ cls := "HadForVoiceModel", name := "seed", desc := "(I)I" } : Jvm.MethodName)) ∈ lw_all := lw_g (lw_at lw_m8 165 rfl) rfl
theorem q1961 : (Jvm.Cond.selects "HadForVoiceModel" ({ cls := "HadForVoiceModel", name := "seed", desc := "(I)I" } : Jvm.MethodName) ({ cls := "HadForVoiceModel", name := "seed", desc := "(I)I" } : Jvm.MethodName)) ∈ lw_all := lw_g (lw_at lw_m8 166 rfl) rfl
theorem q1962 : (Jvm.Cond.code ({ cls := "HadForVoiceModel", name := "seed", desc := "(I)I" } : Jvm.MethodName) prog_26_method_83_code (3 : Nat) (Option.some Jvm.ClassFile.FieldType.int)) ∈ lw_all := lw_g (lw_at lw_m8 167 rfl) rfl
theorem q1964 : (Jvm.Cond.instanceMethod ({ cls := "HadForVoiceModel", name := "draw", desc := "()I" } : Jvm.MethodName)) ∈ lw_all := lw_g (lw_at lw_m8 169 rfl) rfl
theorem q1965 : (Jvm.Cond.selects "HadForVoiceModel" ({ cls := "HadForVoiceModel", name := "draw", desc := "()I" } : Jvm.MethodName) ({ cls := "HadForVoiceModel", name := "draw", desc := "()I" } : Jvm.MethodName)) ∈ lw_all := lw_g (lw_at lw_m8 170 rfl) rfl
theorem q1966 : (Jvm.Cond.code ({ cls := "HadForVoiceModel", name := "draw", desc := "()I" } : Jvm.MethodName) prog_26_method_85_code (2 : Nat) (Option.some Jvm.ClassFile.FieldType.int)) ∈ lw_all := lw_g (lw_at lw_m8 171 rfl) rfl
theorem q1967 : (Jvm.Cond.methodLink "HadForVoiceModel" (275 : Nat) ({ cls := "HadForVoiceModel", name := "drawn", desc := "()I" } : Jvm.MethodName)) ∈ lw_all := lw_g (lw_at lw_m8 172 rfl) rfl
theorem q1968 : (Jvm.Cond.privateMethod ({ cls := "HadForVoiceModel", name := "drawn", desc := "()I" } : Jvm.MethodName)) ∈ lw_tbl := lw_at lw_m8 173 rfl
theorem q1969 : (Jvm.Cond.instanceMethod ({ cls := "HadForVoiceModel", name := "drawn", desc := "()I" } : Jvm.MethodName)) ∈ lw_all := lw_g (lw_at lw_m8 174 rfl) rfl
theorem q1970 : (Jvm.Cond.code ({ cls := "HadForVoiceModel", name := "drawn", desc := "()I" } : Jvm.MethodName) prog_26_method_84_code (4 : Nat) (Option.some Jvm.ClassFile.FieldType.int)) ∈ lw_all := lw_g (lw_at lw_m8 175 rfl) rfl
theorem q1971 : (Jvm.Cond.constant "HadForVoiceModel" (274 : Nat) (1103515245 : Int32)) ∈ lw_all := lw_g (lw_at lw_m8 176 rfl) rfl
theorem q1973 : (Jvm.Cond.instanceMethod ({ cls := "HadForVoiceModel", name := "often", desc := "(I)I" } : Jvm.MethodName)) ∈ lw_all := lw_g (lw_at lw_m8 178 rfl) rfl
theorem q1974 : (Jvm.Cond.selects "HadForVoiceModel" ({ cls := "HadForVoiceModel", name := "often", desc := "(I)I" } : Jvm.MethodName) ({ cls := "HadForVoiceModel", name := "often", desc := "(I)I" } : Jvm.MethodName)) ∈ lw_all := lw_g (lw_at lw_m8 179 rfl) rfl
theorem q1975 : (Jvm.Cond.code ({ cls := "HadForVoiceModel", name := "often", desc := "(I)I" } : Jvm.MethodName) prog_26_method_86_code (5 : Nat) (Option.some Jvm.ClassFile.FieldType.int)) ∈ lw_all := lw_g (lw_at lw_m8 180 rfl) rfl
theorem q1976 : (Jvm.Cond.constantLong "HadForVoiceModel" (278 : Nat) (60 : Int64)) ∈ lw_all := lw_g (lw_at lw_m8 181 rfl) rfl
theorem q1977 : (Jvm.Cond.methodLink "HadForVoiceModel" (280 : Nat) ({ cls := "HadForVoiceModel", name := "puts", desc := "()V" } : Jvm.MethodName)) ∈ lw_all := lw_g (lw_at lw_m8 182 rfl) rfl
theorem q1978 : (Jvm.Cond.privateMethod ({ cls := "HadForVoiceModel", name := "puts", desc := "()V" } : Jvm.MethodName)) ∈ lw_tbl := lw_at lw_m8 183 rfl
theorem q1979 : (Jvm.Cond.instanceMethod ({ cls := "HadForVoiceModel", name := "puts", desc := "()V" } : Jvm.MethodName)) ∈ lw_all := lw_g (lw_at lw_m8 184 rfl) rfl
theorem q1980 : (Jvm.Cond.code ({ cls := "HadForVoiceModel", name := "puts", desc := "()V" } : Jvm.MethodName) prog_26_method_5_code (2 : Nat) (Option.none : Option Jvm.ClassFile.FieldType)) ∈ lw_all := lw_g (lw_at lw_m8 185 rfl) rfl
theorem q1981 : (Jvm.Cond.methodLink "HadForVoiceModel" (283 : Nat) ({ cls := "HadForVoiceModel", name := "putsBack", desc := "()V" } : Jvm.MethodName)) ∈ lw_all := lw_g (lw_at lw_m8 186 rfl) rfl
theorem q1982 : (Jvm.Cond.privateMethod ({ cls := "HadForVoiceModel", name := "putsBack", desc := "()V" } : Jvm.MethodName)) ∈ lw_tbl := lw_at lw_m8 187 rfl
theorem q1983 : (Jvm.Cond.instanceMethod ({ cls := "HadForVoiceModel", name := "putsBack", desc := "()V" } : Jvm.MethodName)) ∈ lw_all := lw_g (lw_at lw_m8 188 rfl) rfl
theorem q1984 : (Jvm.Cond.code ({ cls := "HadForVoiceModel", name := "putsBack", desc := "()V" } : Jvm.MethodName) prog_26_method_6_code (2 : Nat) (Option.none : Option Jvm.ClassFile.FieldType)) ∈ lw_all := lw_g (lw_at lw_m8 189 rfl) rfl
theorem q1986 : (Jvm.Cond.instanceMethod ({ cls := "HadForVoiceModel", name := "prove", desc := "()I" } : Jvm.MethodName)) ∈ lw_all := lw_g (lw_at lw_m8 191 rfl) rfl
theorem q1987 : (Jvm.Cond.selects "HadForVoiceModel" ({ cls := "HadForVoiceModel", name := "prove", desc := "()I" } : Jvm.MethodName) ({ cls := "HadForVoiceModel", name := "prove", desc := "()I" } : Jvm.MethodName)) ∈ lw_all := lw_g (lw_at lw_m8 192 rfl) rfl
theorem q1988 : (Jvm.Cond.code ({ cls := "HadForVoiceModel", name := "prove", desc := "()I" } : Jvm.MethodName) prog_26_method_87_code (2 : Nat) (Option.some Jvm.ClassFile.FieldType.int)) ∈ lw_all := lw_g (lw_at lw_m8 193 rfl) rfl
theorem q1990 : (Jvm.Cond.instanceMethod ({ cls := "HadForVoiceModel", name := "row", desc := "(II)I" } : Jvm.MethodName)) ∈ lw_all := lw_g (lw_at lw_m8 195 rfl) rfl
theorem q1991 : (Jvm.Cond.selects "HadForVoiceModel" ({ cls := "HadForVoiceModel", name := "row", desc := "(II)I" } : Jvm.MethodName) ({ cls := "HadForVoiceModel", name := "row", desc := "(II)I" } : Jvm.MethodName)) ∈ lw_all := lw_g (lw_at lw_m8 196 rfl) rfl
theorem q1992 : (Jvm.Cond.code ({ cls := "HadForVoiceModel", name := "row", desc := "(II)I" } : Jvm.MethodName) prog_26_method_89_code (3 : Nat) (Option.some Jvm.ClassFile.FieldType.int)) ∈ lw_all := lw_g (lw_at lw_m8 197 rfl) rfl
theorem q1993 : (Jvm.Cond.methodLink "HadForVoiceModel" (289 : Nat) ({ cls := "HadForVoiceModel", name := "isRow", desc := "(II)Z" } : Jvm.MethodName)) ∈ lw_all := lw_g (lw_at lw_m8 198 rfl) rfl
theorem q1994 : (Jvm.Cond.privateMethod ({ cls := "HadForVoiceModel", name := "isRow", desc := "(II)Z" } : Jvm.MethodName)) ∈ lw_tbl := lw_at lw_m8 199 rfl
theorem q1995 : (Jvm.Cond.instanceMethod ({ cls := "HadForVoiceModel", name := "isRow", desc := "(II)Z" } : Jvm.MethodName)) ∈ lw_all := lw_g (lw_at lw_m8 200 rfl) rfl
theorem q1996 : (Jvm.Cond.code ({ cls := "HadForVoiceModel", name := "isRow", desc := "(II)Z" } : Jvm.MethodName) prog_26_method_88_code (3 : Nat) (Option.some Jvm.ClassFile.FieldType.boolean)) ∈ lw_all := lw_g (lw_at lw_m8 201 rfl) rfl
theorem q1998 : (Jvm.Cond.instanceMethod ({ cls := "HadForVoiceModel", name := "alterRow", desc := "(III)I" } : Jvm.MethodName)) ∈ lw_all := lw_g (lw_at lw_m8 203 rfl) rfl
theorem q1999 : (Jvm.Cond.selects "HadForVoiceModel" ({ cls := "HadForVoiceModel", name := "alterRow", desc := "(III)I" } : Jvm.MethodName) ({ cls := "HadForVoiceModel", name := "alterRow", desc := "(III)I" } : Jvm.MethodName)) ∈ lw_all := lw_g (lw_at lw_m8 204 rfl) rfl
theorem q2000 : (Jvm.Cond.code ({ cls := "HadForVoiceModel", name := "alterRow", desc := "(III)I" } : Jvm.MethodName) prog_26_method_90_code (5 : Nat) (Option.some Jvm.ClassFile.FieldType.int)) ∈ lw_all := lw_g (lw_at lw_m8 205 rfl) rfl
theorem q2002 : (Jvm.Cond.instanceMethod ({ cls := "HadForVoiceModel", name := "judge", desc := "()I" } : Jvm.MethodName)) ∈ lw_all := lw_g (lw_at lw_m8 207 rfl) rfl
theorem q2003 : (Jvm.Cond.selects "HadForVoiceModel" ({ cls := "HadForVoiceModel", name := "judge", desc := "()I" } : Jvm.MethodName) ({ cls := "HadForVoiceModel", name := "judge", desc := "()I" } : Jvm.MethodName)) ∈ lw_all := lw_g (lw_at lw_m8 208 rfl) rfl
theorem q2004 : (Jvm.Cond.code ({ cls := "HadForVoiceModel", name := "judge", desc := "()I" } : Jvm.MethodName) prog_26_method_91_code (4 : Nat) (Option.some Jvm.ClassFile.FieldType.int)) ∈ lw_all := lw_g (lw_at lw_m8 209 rfl) rfl
theorem q2006 : (Jvm.Cond.instanceMethod ({ cls := "HadForVoiceModel", name := "feed", desc := "(JI)I" } : Jvm.MethodName)) ∈ lw_all := lw_g (lw_at lw_m8 211 rfl) rfl
theorem q2007 : (Jvm.Cond.selects "HadForVoiceModel" ({ cls := "HadForVoiceModel", name := "feed", desc := "(JI)I" } : Jvm.MethodName) ({ cls := "HadForVoiceModel", name := "feed", desc := "(JI)I" } : Jvm.MethodName)) ∈ lw_all := lw_g (lw_at lw_m8 212 rfl) rfl
theorem q2008 : (Jvm.Cond.code ({ cls := "HadForVoiceModel", name := "feed", desc := "(JI)I" } : Jvm.MethodName) prog_26_method_92_code (5 : Nat) (Option.some Jvm.ClassFile.FieldType.int)) ∈ lw_all := lw_g (lw_at lw_m8 213 rfl) rfl
theorem q2009 : (Jvm.Cond.constantLong "HadForVoiceModel" (292 : Nat) (8 : Int64)) ∈ lw_all := lw_g (lw_at lw_m8 214 rfl) rfl
theorem q2010 : (Jvm.Cond.constantLong "HadForVoiceModel" (297 : Nat) (255 : Int64)) ∈ lw_all := lw_g (lw_at lw_m8 215 rfl) rfl
theorem q2012 : (Jvm.Cond.instanceMethod ({ cls := "HadForVoiceModel", name := "rules", desc := "()I" } : Jvm.MethodName)) ∈ lw_all := lw_g (lw_at lw_m8 217 rfl) rfl
theorem q2013 : (Jvm.Cond.selects "HadForVoiceModel" ({ cls := "HadForVoiceModel", name := "rules", desc := "()I" } : Jvm.MethodName) ({ cls := "HadForVoiceModel", name := "rules", desc := "()I" } : Jvm.MethodName)) ∈ lw_all := lw_g (lw_at lw_m8 218 rfl) rfl
theorem q2014 : (Jvm.Cond.code ({ cls := "HadForVoiceModel", name := "rules", desc := "()I" } : Jvm.MethodName) prog_26_method_109_code (1 : Nat) (Option.some Jvm.ClassFile.FieldType.int)) ∈ lw_all := lw_g (lw_at lw_m8 219 rfl) rfl
theorem q2015 : (Jvm.Cond.methodLink "HadForVoiceModel" (326 : Nat) ({ cls := "HadForVoiceModel", name := "token", desc := "()V" } : Jvm.MethodName)) ∈ lw_all := lw_g (lw_at lw_m8 220 rfl) rfl
theorem q2016 : (Jvm.Cond.privateMethod ({ cls := "HadForVoiceModel", name := "token", desc := "()V" } : Jvm.MethodName)) ∈ lw_tbl := lw_at lw_m8 221 rfl
theorem q2017 : (Jvm.Cond.instanceMethod ({ cls := "HadForVoiceModel", name := "token", desc := "()V" } : Jvm.MethodName)) ∈ lw_all := lw_g (lw_at lw_m8 222 rfl) rfl
theorem q2018 : (Jvm.Cond.code ({ cls := "HadForVoiceModel", name := "token", desc := "()V" } : Jvm.MethodName) prog_26_method_96_code (3 : Nat) (Option.none : Option Jvm.ClassFile.FieldType)) ∈ lw_all := lw_g (lw_at lw_m8 223 rfl) rfl
theorem q2019 : (Jvm.Cond.methodLink "HadForVoiceModel" (313 : Nat) ({ cls := "HadForVoiceModel", name := "byteAt", desc := "(I)I" } : Jvm.MethodName)) ∈ lw_all := lw_g (lw_at lw_m8 224 rfl) rfl
theorem q2020 : (Jvm.Cond.privateMethod ({ cls := "HadForVoiceModel", name := "byteAt", desc := "(I)I" } : Jvm.MethodName)) ∈ lw_tbl := lw_at lw_m8 225 rfl
theorem q2021 : (Jvm.Cond.instanceMethod ({ cls := "HadForVoiceModel", name := "byteAt", desc := "(I)I" } : Jvm.MethodName)) ∈ lw_all := lw_g (lw_at lw_m8 226 rfl) rfl
theorem q2022 : (Jvm.Cond.code ({ cls := "HadForVoiceModel", name := "byteAt", desc := "(I)I" } : Jvm.MethodName) prog_26_method_93_code (2 : Nat) (Option.some Jvm.ClassFile.FieldType.int)) ∈ lw_all := lw_g (lw_at lw_m8 227 rfl) rfl
theorem q2023 : (Jvm.Cond.methodLink "HadForVoiceModel" (316 : Nat) ({ cls := "HadForVoiceModel", name := "isLetter", desc := "(I)Z" } : Jvm.MethodName)) ∈ lw_all := lw_g (lw_at lw_m8 228 rfl) rfl
theorem q2024 : (Jvm.Cond.static ({ cls := "HadForVoiceModel", name := "isLetter", desc := "(I)Z" } : Jvm.MethodName)) ∈ lw_all := lw_g (lw_at lw_m8 229 rfl) rfl
theorem q2025 : (Jvm.Cond.code ({ cls := "HadForVoiceModel", name := "isLetter", desc := "(I)Z" } : Jvm.MethodName) prog_26_method_94_code (1 : Nat) (Option.some Jvm.ClassFile.FieldType.boolean)) ∈ lw_all := lw_g (lw_at lw_m8 230 rfl) rfl
theorem q2026 : (Jvm.Cond.constantLong "HadForVoiceModel" (299 : Nat) (97 : Int64)) ∈ lw_all := lw_g (lw_at lw_m8 231 rfl) rfl
theorem q2027 : (Jvm.Cond.constantLong "HadForVoiceModel" (301 : Nat) (122 : Int64)) ∈ lw_all := lw_g (lw_at lw_m8 232 rfl) rfl
theorem q2028 : (Jvm.Cond.methodLink "HadForVoiceModel" (319 : Nat) ({ cls := "HadForVoiceModel", name := "isDigit", desc := "(I)Z" } : Jvm.MethodName)) ∈ lw_all := lw_g (lw_at lw_m8 233 rfl) rfl
theorem q2029 : (Jvm.Cond.static ({ cls := "HadForVoiceModel", name := "isDigit", desc := "(I)Z" } : Jvm.MethodName)) ∈ lw_all := lw_g (lw_at lw_m8 234 rfl) rfl
theorem q2030 : (Jvm.Cond.code ({ cls := "HadForVoiceModel", name := "isDigit", desc := "(I)Z" } : Jvm.MethodName) prog_26_method_95_code (1 : Nat) (Option.some Jvm.ClassFile.FieldType.boolean)) ∈ lw_all := lw_g (lw_at lw_m8 235 rfl) rfl
theorem q2031 : (Jvm.Cond.constantLong "HadForVoiceModel" (303 : Nat) (48 : Int64)) ∈ lw_all := lw_g (lw_at lw_m8 236 rfl) rfl
theorem q2032 : (Jvm.Cond.constantLong "HadForVoiceModel" (305 : Nat) (57 : Int64)) ∈ lw_all := lw_g (lw_at lw_m8 237 rfl) rfl
theorem q2033 : (Jvm.Cond.methodLink "HadForVoiceModel" (413 : Nat) ({ cls := "HadForVoiceModel", name := "rule", desc := "()V" } : Jvm.MethodName)) ∈ lw_all := lw_g (lw_at lw_m8 238 rfl) rfl
theorem q2034 : (Jvm.Cond.privateMethod ({ cls := "HadForVoiceModel", name := "rule", desc := "()V" } : Jvm.MethodName)) ∈ lw_tbl := lw_at lw_m8 239 rfl
theorem q2035 : (Jvm.Cond.instanceMethod ({ cls := "HadForVoiceModel", name := "rule", desc := "()V" } : Jvm.MethodName)) ∈ lw_all := lw_g (lw_at lw_m9 0 rfl) rfl
theorem q2036 : (Jvm.Cond.code ({ cls := "HadForVoiceModel", name := "rule", desc := "()V" } : Jvm.MethodName) prog_26_method_108_code (7 : Nat) (Option.none : Option Jvm.ClassFile.FieldType)) ∈ lw_all := lw_g (lw_at lw_m9 1 rfl) rfl
theorem q2037 : (Jvm.Cond.methodLink "HadForVoiceModel" (402 : Nat) ({ cls := "HadForVoiceModel", name := "kindHere", desc := "()I" } : Jvm.MethodName)) ∈ lw_all := lw_g (lw_at lw_m9 2 rfl) rfl
theorem q2038 : (Jvm.Cond.privateMethod ({ cls := "HadForVoiceModel", name := "kindHere", desc := "()I" } : Jvm.MethodName)) ∈ lw_tbl := lw_at lw_m9 3 rfl
theorem q2039 : (Jvm.Cond.instanceMethod ({ cls := "HadForVoiceModel", name := "kindHere", desc := "()I" } : Jvm.MethodName)) ∈ lw_all := lw_g (lw_at lw_m9 4 rfl) rfl
theorem q2040 : (Jvm.Cond.code ({ cls := "HadForVoiceModel", name := "kindHere", desc := "()I" } : Jvm.MethodName) prog_26_method_100_code (3 : Nat) (Option.some Jvm.ClassFile.FieldType.int)) ∈ lw_all := lw_g (lw_at lw_m9 5 rfl) rfl
theorem q2041 : (Jvm.Cond.methodLink "HadForVoiceModel" (340 : Nat) ({ cls := "HadForVoiceModel", name := "word", desc := "()J" } : Jvm.MethodName)) ∈ lw_all := lw_g (lw_at lw_m9 6 rfl) rfl
theorem q2042 : (Jvm.Cond.privateMethod ({ cls := "HadForVoiceModel", name := "word", desc := "()J" } : Jvm.MethodName)) ∈ lw_tbl := lw_at lw_m9 7 rfl
theorem q2043 : (Jvm.Cond.instanceMethod ({ cls := "HadForVoiceModel", name := "word", desc := "()J" } : Jvm.MethodName)) ∈ lw_all := lw_g (lw_at lw_m9 8 rfl) rfl
theorem q2044 : (Jvm.Cond.code ({ cls := "HadForVoiceModel", name := "word", desc := "()J" } : Jvm.MethodName) prog_26_method_98_code (4 : Nat) (Option.some Jvm.ClassFile.FieldType.long)) ∈ lw_all := lw_g (lw_at lw_m9 9 rfl) rfl
theorem q2045 : (Jvm.Cond.constantLong "HadForVoiceModel" (329 : Nat) (36028797018963967 : Int64)) ∈ lw_all := lw_g (lw_at lw_m9 10 rfl) rfl
theorem q2046 : (Jvm.Cond.constantLong "HadForVoiceModel" (331 : Nat) (32 : Int64)) ∈ lw_all := lw_g (lw_at lw_m9 11 rfl) rfl
theorem q2047 : (Jvm.Cond.constantLong "HadForVoiceModel" (344 : Nat) (542723566 : Int64)) ∈ lw_all := lw_g (lw_at lw_m9 12 rfl) rfl
theorem q2048 : (Jvm.Cond.constantLong "HadForVoiceModel" (346 : Nat) (427300 : Int64)) ∈ lw_all := lw_g (lw_at lw_m9 13 rfl) rfl
theorem q2049 : (Jvm.Cond.constantLong "HadForVoiceModel" (348 : Nat) (13946034 : Int64)) ∈ lw_all := lw_g (lw_at lw_m9 14 rfl) rfl
theorem q2050 : (Jvm.Cond.constantLong "HadForVoiceModel" (350 : Nat) (24416759 : Int64)) ∈ lw_all := lw_g (lw_at lw_m9 15 rfl) rfl
theorem q2051 : (Jvm.Cond.constantLong "HadForVoiceModel" (352 : Nat) (556054629 : Int64)) ∈ lw_all := lw_g (lw_at lw_m9 16 rfl) rfl
theorem q2052 : (Jvm.Cond.constantLong "HadForVoiceModel" (354 : Nat) (2262644 : Int64)) ∈ lw_all := lw_g (lw_at lw_m9 17 rfl) rfl
theorem q2053 : (Jvm.Cond.methodLink "HadForVoiceModel" (336 : Nat) ({ cls := "HadForVoiceModel", name := "wants", desc := "(Z)V" } : Jvm.MethodName)) ∈ lw_all := lw_g (lw_at lw_m9 18 rfl) rfl
theorem q2054 : (Jvm.Cond.privateMethod ({ cls := "HadForVoiceModel", name := "wants", desc := "(Z)V" } : Jvm.MethodName)) ∈ lw_tbl := lw_at lw_m9 19 rfl
theorem q2055 : (Jvm.Cond.instanceMethod ({ cls := "HadForVoiceModel", name := "wants", desc := "(Z)V" } : Jvm.MethodName)) ∈ lw_all := lw_g (lw_at lw_m9 20 rfl) rfl
theorem q2056 : (Jvm.Cond.code ({ cls := "HadForVoiceModel", name := "wants", desc := "(Z)V" } : Jvm.MethodName) prog_26_method_97_code (2 : Nat) (Option.none : Option Jvm.ClassFile.FieldType)) ∈ lw_all := lw_g (lw_at lw_m9 21 rfl) rfl
theorem q2057 : (Jvm.Cond.constantLong "HadForVoiceModel" (405 : Nat) (294 : Int64)) ∈ lw_all := lw_g (lw_at lw_m9 22 rfl) rfl
theorem q2058 : (Jvm.Cond.methodLink "HadForVoiceModel" (386 : Nat) ({ cls := "HadForVoiceModel", name := "condition", desc := "()V" } : Jvm.MethodName)) ∈ lw_all := lw_g (lw_at lw_m9 23 rfl) rfl
theorem q2059 : (Jvm.Cond.privateMethod ({ cls := "HadForVoiceModel", name := "condition", desc := "()V" } : Jvm.MethodName)) ∈ lw_tbl := lw_at lw_m9 24 rfl
theorem q2060 : (Jvm.Cond.instanceMethod ({ cls := "HadForVoiceModel", name := "condition", desc := "()V" } : Jvm.MethodName)) ∈ lw_all := lw_g (lw_at lw_m9 25 rfl) rfl
theorem q2061 : (Jvm.Cond.code ({ cls := "HadForVoiceModel", name := "condition", desc := "()V" } : Jvm.MethodName) prog_26_method_107_code (1 : Nat) (Option.none : Option Jvm.ClassFile.FieldType)) ∈ lw_all := lw_g (lw_at lw_m9 26 rfl) rfl
theorem q2062 : (Jvm.Cond.methodLink "HadForVoiceModel" (397 : Nat) ({ cls := "HadForVoiceModel", name := "all", desc := "()V" } : Jvm.MethodName)) ∈ lw_all := lw_g (lw_at lw_m9 27 rfl) rfl
theorem q2063 : (Jvm.Cond.privateMethod ({ cls := "HadForVoiceModel", name := "all", desc := "()V" } : Jvm.MethodName)) ∈ lw_tbl := lw_at lw_m9 28 rfl
theorem q2064 : (Jvm.Cond.instanceMethod ({ cls := "HadForVoiceModel", name := "all", desc := "()V" } : Jvm.MethodName)) ∈ lw_all := lw_g (lw_at lw_m9 29 rfl) rfl
theorem q2065 : (Jvm.Cond.code ({ cls := "HadForVoiceModel", name := "all", desc := "()V" } : Jvm.MethodName) prog_26_method_106_code (1 : Nat) (Option.none : Option Jvm.ClassFile.FieldType)) ∈ lw_all := lw_g (lw_at lw_m9 30 rfl) rfl
theorem q2066 : (Jvm.Cond.methodLink "HadForVoiceModel" (392 : Nat) ({ cls := "HadForVoiceModel", name := "one", desc := "()V" } : Jvm.MethodName)) ∈ lw_all := lw_g (lw_at lw_m9 31 rfl) rfl
theorem q2067 : (Jvm.Cond.privateMethod ({ cls := "HadForVoiceModel", name := "one", desc := "()V" } : Jvm.MethodName)) ∈ lw_tbl := lw_at lw_m9 32 rfl
theorem q2068 : (Jvm.Cond.instanceMethod ({ cls := "HadForVoiceModel", name := "one", desc := "()V" } : Jvm.MethodName)) ∈ lw_all := lw_g (lw_at lw_m9 33 rfl) rfl
theorem q2069 : (Jvm.Cond.code ({ cls := "HadForVoiceModel", name := "one", desc := "()V" } : Jvm.MethodName) prog_26_method_105_code (2 : Nat) (Option.none : Option Jvm.ClassFile.FieldType)) ∈ lw_all := lw_g (lw_at lw_m9 34 rfl) rfl
theorem q2070 : (Jvm.Cond.constantLong "HadForVoiceModel" (381 : Nat) (14836 : Int64)) ∈ lw_all := lw_g (lw_at lw_m9 35 rfl) rfl
theorem q2071 : (Jvm.Cond.methodLink "HadForVoiceModel" (389 : Nat) ({ cls := "HadForVoiceModel", name := "comparison", desc := "()V" } : Jvm.MethodName)) ∈ lw_all := lw_g (lw_at lw_m9 36 rfl) rfl
theorem q2072 : (Jvm.Cond.privateMethod ({ cls := "HadForVoiceModel", name := "comparison", desc := "()V" } : Jvm.MethodName)) ∈ lw_tbl := lw_at lw_m9 37 rfl
theorem q2073 : (Jvm.Cond.instanceMethod ({ cls := "HadForVoiceModel", name := "comparison", desc := "()V" } : Jvm.MethodName)) ∈ lw_all := lw_g (lw_at lw_m9 38 rfl) rfl
theorem q2074 : (Jvm.Cond.code ({ cls := "HadForVoiceModel", name := "comparison", desc := "()V" } : Jvm.MethodName) prog_26_method_104_code (2 : Nat) (Option.none : Option Jvm.ClassFile.FieldType)) ∈ lw_all := lw_g (lw_at lw_m9 39 rfl) rfl
theorem q2075 : (Jvm.Cond.methodLink "HadForVoiceModel" (378 : Nat) ({ cls := "HadForVoiceModel", name := "valueHere", desc := "()V" } : Jvm.MethodName)) ∈ lw_all := lw_g (lw_at lw_m9 40 rfl) rfl
theorem q2076 : (Jvm.Cond.privateMethod ({ cls := "HadForVoiceModel", name := "valueHere", desc := "()V" } : Jvm.MethodName)) ∈ lw_tbl := lw_at lw_m9 41 rfl
theorem q2077 : (Jvm.Cond.instanceMethod ({ cls := "HadForVoiceModel", name := "valueHere", desc := "()V" } : Jvm.MethodName)) ∈ lw_all := lw_g (lw_at lw_m9 42 rfl) rfl
theorem q2078 : (Jvm.Cond.code ({ cls := "HadForVoiceModel", name := "valueHere", desc := "()V" } : Jvm.MethodName) prog_26_method_103_code (2 : Nat) (Option.none : Option Jvm.ClassFile.FieldType)) ∈ lw_all := lw_g (lw_at lw_m9 43 rfl) rfl
theorem q2079 : (Jvm.Cond.methodLink "HadForVoiceModel" (369 : Nat) ({ cls := "HadForVoiceModel", name := "factHere", desc := "()I" } : Jvm.MethodName)) ∈ lw_all := lw_g (lw_at lw_m9 44 rfl) rfl
theorem q2080 : (Jvm.Cond.privateMethod ({ cls := "HadForVoiceModel", name := "factHere", desc := "()I" } : Jvm.MethodName)) ∈ lw_tbl := lw_at lw_m9 45 rfl
theorem q2081 : (Jvm.Cond.instanceMethod ({ cls := "HadForVoiceModel", name := "factHere", desc := "()I" } : Jvm.MethodName)) ∈ lw_all := lw_g (lw_at lw_m9 46 rfl) rfl
theorem q2082 : (Jvm.Cond.code ({ cls := "HadForVoiceModel", name := "factHere", desc := "()I" } : Jvm.MethodName) prog_26_method_101_code (3 : Nat) (Option.some Jvm.ClassFile.FieldType.int)) ∈ lw_all := lw_g (lw_at lw_m9 47 rfl) rfl
theorem q2083 : (Jvm.Cond.constantLong "HadForVoiceModel" (356 : Nat) (8243 : Int64)) ∈ lw_all := lw_g (lw_at lw_m9 48 rfl) rfl
theorem q2084 : (Jvm.Cond.constantLong "HadForVoiceModel" (358 : Nat) (464036 : Int64)) ∈ lw_all := lw_g (lw_at lw_m9 49 rfl) rfl
theorem q2085 : (Jvm.Cond.constantLong "HadForVoiceModel" (360 : Nat) (3646931 : Int64)) ∈ lw_all := lw_g (lw_at lw_m9 50 rfl) rfl
theorem q2086 : (Jvm.Cond.constantLong "HadForVoiceModel" (362 : Nat) (24395141 : Int64)) ∈ lw_all := lw_g (lw_at lw_m9 51 rfl) rfl
theorem q2087 : (Jvm.Cond.constantLong "HadForVoiceModel" (364 : Nat) (492210354 : Int64)) ∈ lw_all := lw_g (lw_at lw_m9 52 rfl) rfl
theorem q2088 : (Jvm.Cond.methodLink "HadForVoiceModel" (372 : Nat) ({ cls := "HadForVoiceModel", name := "writes", desc := "(I)V" } : Jvm.MethodName)) ∈ lw_all := lw_g (lw_at lw_m9 53 rfl) rfl
theorem q2089 : (Jvm.Cond.privateMethod ({ cls := "HadForVoiceModel", name := "writes", desc := "(I)V" } : Jvm.MethodName)) ∈ lw_tbl := lw_at lw_m9 54 rfl
theorem q2090 : (Jvm.Cond.instanceMethod ({ cls := "HadForVoiceModel", name := "writes", desc := "(I)V" } : Jvm.MethodName)) ∈ lw_all := lw_g (lw_at lw_m9 55 rfl) rfl
theorem q2091 : (Jvm.Cond.code ({ cls := "HadForVoiceModel", name := "writes", desc := "(I)V" } : Jvm.MethodName) prog_26_method_102_code (2 : Nat) (Option.none : Option Jvm.ClassFile.FieldType)) ∈ lw_all := lw_g (lw_at lw_m9 56 rfl) rfl
theorem q2092 : (Jvm.Cond.methodLink "HadForVoiceModel" (375 : Nat) ({ cls := "HadForVoiceModel", name := "number", desc := "(I)V" } : Jvm.MethodName)) ∈ lw_all := lw_g (lw_at lw_m9 57 rfl) rfl
theorem q2093 : (Jvm.Cond.privateMethod ({ cls := "HadForVoiceModel", name := "number", desc := "(I)V" } : Jvm.MethodName)) ∈ lw_tbl := lw_at lw_m9 58 rfl
theorem q2094 : (Jvm.Cond.instanceMethod ({ cls := "HadForVoiceModel", name := "number", desc := "(I)V" } : Jvm.MethodName)) ∈ lw_all := lw_g (lw_at lw_m9 59 rfl) rfl
theorem q2095 : (Jvm.Cond.code ({ cls := "HadForVoiceModel", name := "number", desc := "(I)V" } : Jvm.MethodName) prog_26_method_99_code (4 : Nat) (Option.none : Option Jvm.ClassFile.FieldType)) ∈ lw_all := lw_g (lw_at lw_m9 60 rfl) rfl
theorem q2096 : (Jvm.Cond.constantLong "HadForVoiceModel" (395 : Nat) (1476 : Int64)) ∈ lw_all := lw_g (lw_at lw_m9 61 rfl) rfl
theorem q2097 : (Jvm.Cond.constantLong "HadForVoiceModel" (400 : Nat) (498 : Int64)) ∈ lw_all := lw_g (lw_at lw_m9 62 rfl) rfl
theorem q2098 : (Jvm.Cond.constantLong "HadForVoiceModel" (407 : Nat) (441925 : Int64)) ∈ lw_all := lw_g (lw_at lw_m9 63 rfl) rfl
theorem q2099 : (Jvm.Cond.constantLong "HadForVoiceModel" (409 : Nat) (398963 : Int64)) ∈ lw_all := lw_g (lw_at lw_m9 64 rfl) rfl
theorem q2100 : (Jvm.Cond.constantLong "HadForVoiceModel" (411 : Nat) (215205 : Int64)) ∈ lw_all := lw_g (lw_at lw_m9 65 rfl) rfl
theorem q2102 : (Jvm.Cond.instanceMethod ({ cls := "HadForVoiceModel", name := "sheet", desc := "(III)I" } : Jvm.MethodName)) ∈ lw_all := lw_g (lw_at lw_m9 67 rfl) rfl
theorem q2103 : (Jvm.Cond.selects "HadForVoiceModel" ({ cls := "HadForVoiceModel", name := "sheet", desc := "(III)I" } : Jvm.MethodName) ({ cls := "HadForVoiceModel", name := "sheet", desc := "(III)I" } : Jvm.MethodName)) ∈ lw_all := lw_g (lw_at lw_m9 68 rfl) rfl
theorem q2104 : (Jvm.Cond.code ({ cls := "HadForVoiceModel", name := "sheet", desc := "(III)I" } : Jvm.MethodName) prog_26_method_111_code (5 : Nat) (Option.some Jvm.ClassFile.FieldType.int)) ∈ lw_all := lw_g (lw_at lw_m9 69 rfl) rfl
theorem q2105 : (Jvm.Cond.methodLink "HadForVoiceModel" (418 : Nat) ({ cls := "HadForVoiceModel", name := "isOne", desc := "(I)Z" } : Jvm.MethodName)) ∈ lw_all := lw_g (lw_at lw_m9 70 rfl) rfl
theorem q2106 : (Jvm.Cond.static ({ cls := "HadForVoiceModel", name := "isOne", desc := "(I)Z" } : Jvm.MethodName)) ∈ lw_all := lw_g (lw_at lw_m9 71 rfl) rfl
theorem q2107 : (Jvm.Cond.code ({ cls := "HadForVoiceModel", name := "isOne", desc := "(I)Z" } : Jvm.MethodName) prog_26_method_110_code (1 : Nat) (Option.some Jvm.ClassFile.FieldType.boolean)) ∈ lw_all := lw_g (lw_at lw_m9 72 rfl) rfl
theorem q2108 : (Jvm.Cond.constantLong "HadForVoiceModel" (416 : Nat) (3 : Int64)) ∈ lw_all := lw_g (lw_at lw_m9 73 rfl) rfl
theorem q2109 : (Jvm.Cond.constantLong "HadForVoiceModel" (421 : Nat) (-1 : Int64)) ∈ lw_all := lw_g (lw_at lw_m9 74 rfl) rfl
theorem q2111 : (Jvm.Cond.instanceMethod ({ cls := "HadForVoiceModel", name := "write", desc := "(III)I" } : Jvm.MethodName)) ∈ lw_all := lw_g (lw_at lw_m9 76 rfl) rfl
theorem q2112 : (Jvm.Cond.selects "HadForVoiceModel" ({ cls := "HadForVoiceModel", name := "write", desc := "(III)I" } : Jvm.MethodName) ({ cls := "HadForVoiceModel", name := "write", desc := "(III)I" } : Jvm.MethodName)) ∈ lw_all := lw_g (lw_at lw_m9 77 rfl) rfl
theorem q2113 : (Jvm.Cond.code ({ cls := "HadForVoiceModel", name := "write", desc := "(III)I" } : Jvm.MethodName) prog_26_method_113_code (4 : Nat) (Option.some Jvm.ClassFile.FieldType.int)) ∈ lw_all := lw_g (lw_at lw_m9 78 rfl) rfl
theorem q2114 : (Jvm.Cond.methodLink "HadForVoiceModel" (423 : Nat) ({ cls := "HadForVoiceModel", name := "narrowed", desc := "(II)I" } : Jvm.MethodName)) ∈ lw_all := lw_g (lw_at lw_m9 79 rfl) rfl
theorem q2115 : (Jvm.Cond.static ({ cls := "HadForVoiceModel", name := "narrowed", desc := "(II)I" } : Jvm.MethodName)) ∈ lw_all := lw_g (lw_at lw_m9 80 rfl) rfl
theorem q2116 : (Jvm.Cond.code ({ cls := "HadForVoiceModel", name := "narrowed", desc := "(II)I" } : Jvm.MethodName) prog_26_method_112_code (2 : Nat) (Option.some Jvm.ClassFile.FieldType.int)) ∈ lw_all := lw_g (lw_at lw_m9 81 rfl) rfl
theorem q2118 : (Jvm.Cond.instanceMethod ({ cls := "HadForVoiceModel", name := "item", desc := "(III)I" } : Jvm.MethodName)) ∈ lw_all := lw_g (lw_at lw_m9 83 rfl) rfl
theorem q2119 : (Jvm.Cond.selects "HadForVoiceModel" ({ cls := "HadForVoiceModel", name := "item", desc := "(III)I" } : Jvm.MethodName) ({ cls := "HadForVoiceModel", name := "item", desc := "(III)I" } : Jvm.MethodName)) ∈ lw_all := lw_g (lw_at lw_m9 84 rfl) rfl
theorem q2120 : (Jvm.Cond.code ({ cls := "HadForVoiceModel", name := "item", desc := "(III)I" } : Jvm.MethodName) prog_26_method_115_code (5 : Nat) (Option.some Jvm.ClassFile.FieldType.int)) ∈ lw_all := lw_g (lw_at lw_m9 85 rfl) rfl
theorem q2121 : (Jvm.Cond.methodLink "HadForVoiceModel" (426 : Nat) ({ cls := "HadForVoiceModel", name := "whyNot", desc := "(II)I" } : Jvm.MethodName)) ∈ lw_all := lw_g (lw_at lw_m9 86 rfl) rfl
theorem q2122 : (Jvm.Cond.privateMethod ({ cls := "HadForVoiceModel", name := "whyNot", desc := "(II)I" } : Jvm.MethodName)) ∈ lw_tbl := lw_at lw_m9 87 rfl
theorem q2123 : (Jvm.Cond.instanceMethod ({ cls := "HadForVoiceModel", name := "whyNot", desc := "(II)I" } : Jvm.MethodName)) ∈ lw_all := lw_g (lw_at lw_m9 88 rfl) rfl
theorem q2124 : (Jvm.Cond.code ({ cls := "HadForVoiceModel", name := "whyNot", desc := "(II)I" } : Jvm.MethodName) prog_26_method_114_code (3 : Nat) (Option.some Jvm.ClassFile.FieldType.int)) ∈ lw_all := lw_g (lw_at lw_m9 89 rfl) rfl
theorem q2126 : (Jvm.Cond.instanceMethod ({ cls := "HadForVoiceModel", name := "makeAll", desc := "(III)I" } : Jvm.MethodName)) ∈ lw_all := lw_g (lw_at lw_m9 91 rfl) rfl
theorem q2127 : (Jvm.Cond.selects "HadForVoiceModel" ({ cls := "HadForVoiceModel", name := "makeAll", desc := "(III)I" } : Jvm.MethodName) ({ cls := "HadForVoiceModel", name := "makeAll", desc := "(III)I" } : Jvm.MethodName)) ∈ lw_all := lw_g (lw_at lw_m9 92 rfl) rfl
theorem q2128 : (Jvm.Cond.code ({ cls := "HadForVoiceModel", name := "makeAll", desc := "(III)I" } : Jvm.MethodName) prog_26_method_119_code (7 : Nat) (Option.some Jvm.ClassFile.FieldType.int)) ∈ lw_all := lw_g (lw_at lw_m9 93 rfl) rfl
theorem q2129 : (Jvm.Cond.methodLink "HadForVoiceModel" (431 : Nat) ({ cls := "HadForVoiceModel", name := "isSpan", desc := "(II)Z" } : Jvm.MethodName)) ∈ lw_all := lw_g (lw_at lw_m9 94 rfl) rfl
theorem q2130 : (Jvm.Cond.privateMethod ({ cls := "HadForVoiceModel", name := "isSpan", desc := "(II)Z" } : Jvm.MethodName)) ∈ lw_tbl := lw_at lw_m9 95 rfl
theorem q2131 : (Jvm.Cond.instanceMethod ({ cls := "HadForVoiceModel", name := "isSpan", desc := "(II)Z" } : Jvm.MethodName)) ∈ lw_all := lw_g (lw_at lw_m9 96 rfl) rfl
theorem q2132 : (Jvm.Cond.code ({ cls := "HadForVoiceModel", name := "isSpan", desc := "(II)Z" } : Jvm.MethodName) prog_26_method_117_code (3 : Nat) (Option.some Jvm.ClassFile.FieldType.boolean)) ∈ lw_all := lw_g (lw_at lw_m9 97 rfl) rfl
theorem q2133 : (Jvm.Cond.constantLong "HadForVoiceModel" (429 : Nat) (20 : Int64)) ∈ lw_all := lw_g (lw_at lw_m9 98 rfl) rfl
theorem q2134 : (Jvm.Cond.methodLink "HadForVoiceModel" (434 : Nat) ({ cls := "HadForVoiceModel", name := "isItem", desc := "(IJ)Z" } : Jvm.MethodName)) ∈ lw_all := lw_g (lw_at lw_m9 99 rfl) rfl
theorem q2135 : (Jvm.Cond.privateMethod ({ cls := "HadForVoiceModel", name := "isItem", desc := "(IJ)Z" } : Jvm.MethodName)) ∈ lw_tbl := lw_at lw_m9 100 rfl
theorem q2136 : (Jvm.Cond.instanceMethod ({ cls := "HadForVoiceModel", name := "isItem", desc := "(IJ)Z" } : Jvm.MethodName)) ∈ lw_all := lw_g (lw_at lw_m9 101 rfl) rfl
theorem q2137 : (Jvm.Cond.code ({ cls := "HadForVoiceModel", name := "isItem", desc := "(IJ)Z" } : Jvm.MethodName) prog_26_method_116_code (4 : Nat) (Option.some Jvm.ClassFile.FieldType.boolean)) ∈ lw_all := lw_g (lw_at lw_m9 102 rfl) rfl
theorem q2138 : (Jvm.Cond.methodLink "HadForVoiceModel" (438 : Nat) ({ cls := "HadForVoiceModel", name := "isOnTurn", desc := "(II)Z" } : Jvm.MethodName)) ∈ lw_all := lw_g (lw_at lw_m9 103 rfl) rfl
theorem q2139 : (Jvm.Cond.privateMethod ({ cls := "HadForVoiceModel", name := "isOnTurn", desc := "(II)Z" } : Jvm.MethodName)) ∈ lw_tbl := lw_at lw_m9 104 rfl
theorem q2140 : (Jvm.Cond.instanceMethod ({ cls := "HadForVoiceModel", name := "isOnTurn", desc := "(II)Z" } : Jvm.MethodName)) ∈ lw_all := lw_g (lw_at lw_m9 105 rfl) rfl
theorem q2141 : (Jvm.Cond.code ({ cls := "HadForVoiceModel", name := "isOnTurn", desc := "(II)Z" } : Jvm.MethodName) prog_26_method_118_code (4 : Nat) (Option.some Jvm.ClassFile.FieldType.boolean)) ∈ lw_all := lw_g (lw_at lw_m9 106 rfl) rfl
theorem q2143 : (Jvm.Cond.instanceMethod ({ cls := "HadForVoiceModel", name := "wouldCost", desc := "(III)I" } : Jvm.MethodName)) ∈ lw_all := lw_g (lw_at lw_m9 108 rfl) rfl
theorem q2144 : (Jvm.Cond.selects "HadForVoiceModel" ({ cls := "HadForVoiceModel", name := "wouldCost", desc := "(III)I" } : Jvm.MethodName) ({ cls := "HadForVoiceModel", name := "wouldCost", desc := "(III)I" } : Jvm.MethodName)) ∈ lw_all := lw_g (lw_at lw_m9 109 rfl) rfl
theorem q2145 : (Jvm.Cond.code ({ cls := "HadForVoiceModel", name := "wouldCost", desc := "(III)I" } : Jvm.MethodName) prog_26_method_120_code (8 : Nat) (Option.some Jvm.ClassFile.FieldType.int)) ∈ lw_all := lw_g (lw_at lw_m9 110 rfl) rfl
theorem q2147 : (Jvm.Cond.instanceMethod ({ cls := "HadForVoiceModel", name := "shelf", desc := "(III)I" } : Jvm.MethodName)) ∈ lw_all := lw_g (lw_at lw_m9 112 rfl) rfl
theorem q2148 : (Jvm.Cond.selects "HadForVoiceModel" ({ cls := "HadForVoiceModel", name := "shelf", desc := "(III)I" } : Jvm.MethodName) ({ cls := "HadForVoiceModel", name := "shelf", desc := "(III)I" } : Jvm.MethodName)) ∈ lw_all := lw_g (lw_at lw_m9 113 rfl) rfl
theorem q2149 : (Jvm.Cond.code ({ cls := "HadForVoiceModel", name := "shelf", desc := "(III)I" } : Jvm.MethodName) prog_26_method_121_code (4 : Nat) (Option.some Jvm.ClassFile.FieldType.int)) ∈ lw_all := lw_g (lw_at lw_m9 114 rfl) rfl
theorem q2151 : (Jvm.Cond.instanceMethod ({ cls := "HadForVoiceModel", name := "taken", desc := "(II)I" } : Jvm.MethodName)) ∈ lw_all := lw_g (lw_at lw_m9 116 rfl) rfl
theorem q2152 : (Jvm.Cond.selects "HadForVoiceModel" ({ cls := "HadForVoiceModel", name := "taken", desc := "(II)I" } : Jvm.MethodName) ({ cls := "HadForVoiceModel", name := "taken", desc := "(II)I" } : Jvm.MethodName)) ∈ lw_all := lw_g (lw_at lw_m9 117 rfl) rfl
theorem q2153 : (Jvm.Cond.code ({ cls := "HadForVoiceModel", name := "taken", desc := "(II)I" } : Jvm.MethodName) prog_26_method_123_code (5 : Nat) (Option.some Jvm.ClassFile.FieldType.int)) ∈ lw_all := lw_g (lw_at lw_m9 118 rfl) rfl
theorem q2154 : (Jvm.Cond.constantLong "HadForVoiceModel" (441 : Nat) (10 : Int64)) ∈ lw_all := lw_g (lw_at lw_m9 119 rfl) rfl
theorem q2155 : (Jvm.Cond.constantLong "HadForVoiceModel" (443 : Nat) (14 : Int64)) ∈ lw_all := lw_g (lw_at lw_m9 120 rfl) rfl
theorem q2156 : (Jvm.Cond.methodLink "HadForVoiceModel" (445 : Nat) ({ cls := "HadForVoiceModel", name := "onShelf", desc := "(I)I" } : Jvm.MethodName)) ∈ lw_all := lw_g (lw_at lw_m9 121 rfl) rfl
theorem q2157 : (Jvm.Cond.privateMethod ({ cls := "HadForVoiceModel", name := "onShelf", desc := "(I)I" } : Jvm.MethodName)) ∈ lw_tbl := lw_at lw_m9 122 rfl
theorem q2158 : (Jvm.Cond.instanceMethod ({ cls := "HadForVoiceModel", name := "onShelf", desc := "(I)I" } : Jvm.MethodName)) ∈ lw_all := lw_g (lw_at lw_m9 123 rfl) rfl
theorem q2159 : (Jvm.Cond.code ({ cls := "HadForVoiceModel", name := "onShelf", desc := "(I)I" } : Jvm.MethodName) prog_26_method_122_code (2 : Nat) (Option.some Jvm.ClassFile.FieldType.int)) ∈ lw_all := lw_g (lw_at lw_m9 124 rfl) rfl
theorem q2161 : (Jvm.Cond.instanceMethod ({ cls := "HadForVoiceModel", name := "act", desc := "(III)I" } : Jvm.MethodName)) ∈ lw_all := lw_g (lw_at lw_m9 126 rfl) rfl
theorem q2162 : (Jvm.Cond.selects "HadForVoiceModel" ({ cls := "HadForVoiceModel", name := "act", desc := "(III)I" } : Jvm.MethodName) ({ cls := "HadForVoiceModel", name := "act", desc := "(III)I" } : Jvm.MethodName)) ∈ lw_all := lw_g (lw_at lw_m9 127 rfl) rfl
theorem q2163 : (Jvm.Cond.code ({ cls := "HadForVoiceModel", name := "act", desc := "(III)I" } : Jvm.MethodName) prog_26_method_130_code (5 : Nat) (Option.some Jvm.ClassFile.FieldType.int)) ∈ lw_all := lw_g (lw_at lw_m9 128 rfl) rfl
theorem q2164 : (Jvm.Cond.methodLink "HadForVoiceModel" (463 : Nat) ({ cls := "HadForVoiceModel", name := "gives", desc := "(I)I" } : Jvm.MethodName)) ∈ lw_all := lw_g (lw_at lw_m9 129 rfl) rfl
theorem q2165 : (Jvm.Cond.privateMethod ({ cls := "HadForVoiceModel", name := "gives", desc := "(I)I" } : Jvm.MethodName)) ∈ lw_tbl := lw_at lw_m9 130 rfl
theorem q2166 : (Jvm.Cond.instanceMethod ({ cls := "HadForVoiceModel", name := "gives", desc := "(I)I" } : Jvm.MethodName)) ∈ lw_all := lw_g (lw_at lw_m9 131 rfl) rfl
theorem q2167 : (Jvm.Cond.code ({ cls := "HadForVoiceModel", name := "gives", desc := "(I)I" } : Jvm.MethodName) prog_26_method_125_code (3 : Nat) (Option.some Jvm.ClassFile.FieldType.int)) ∈ lw_all := lw_g (lw_at lw_m9 132 rfl) rfl
theorem q2168 : (Jvm.Cond.methodLink "HadForVoiceModel" (457 : Nat) ({ cls := "HadForVoiceModel", name := "runs", desc := "(I)V" } : Jvm.MethodName)) ∈ lw_all := lw_g (lw_at lw_m9 133 rfl) rfl
theorem q2169 : (Jvm.Cond.privateMethod ({ cls := "HadForVoiceModel", name := "runs", desc := "(I)V" } : Jvm.MethodName)) ∈ lw_tbl := lw_at lw_m9 134 rfl
theorem q2170 : (Jvm.Cond.instanceMethod ({ cls := "HadForVoiceModel", name := "runs", desc := "(I)V" } : Jvm.MethodName)) ∈ lw_all := lw_g (lw_at lw_m9 135 rfl) rfl
theorem q2171 : (Jvm.Cond.code ({ cls := "HadForVoiceModel", name := "runs", desc := "(I)V" } : Jvm.MethodName) prog_26_method_124_code (2 : Nat) (Option.none : Option Jvm.ClassFile.FieldType)) ∈ lw_all := lw_g (lw_at lw_m9 136 rfl) rfl
theorem q2172 : (Jvm.Cond.methodLink "HadForVoiceModel" (472 : Nat) ({ cls := "HadForVoiceModel", name := "takes", desc := "(I)I" } : Jvm.MethodName)) ∈ lw_all := lw_g (lw_at lw_m9 137 rfl) rfl
theorem q2173 : (Jvm.Cond.privateMethod ({ cls := "HadForVoiceModel", name := "takes", desc := "(I)I" } : Jvm.MethodName)) ∈ lw_tbl := lw_at lw_m9 138 rfl
theorem q2174 : (Jvm.Cond.instanceMethod ({ cls := "HadForVoiceModel", name := "takes", desc := "(I)I" } : Jvm.MethodName)) ∈ lw_all := lw_g (lw_at lw_m9 139 rfl) rfl
theorem q2175 : (Jvm.Cond.code ({ cls := "HadForVoiceModel", name := "takes", desc := "(I)I" } : Jvm.MethodName) prog_26_method_126_code (4 : Nat) (Option.some Jvm.ClassFile.FieldType.int)) ∈ lw_all := lw_g (lw_at lw_m9 140 rfl) rfl
theorem q2176 : (Jvm.Cond.methodLink "HadForVoiceModel" (475 : Nat) ({ cls := "HadForVoiceModel", name := "halves", desc := "(I)I" } : Jvm.MethodName)) ∈ lw_all := lw_g (lw_at lw_m9 141 rfl) rfl
theorem q2177 : (Jvm.Cond.privateMethod ({ cls := "HadForVoiceModel", name := "halves", desc := "(I)I" } : Jvm.MethodName)) ∈ lw_tbl := lw_at lw_m9 142 rfl
theorem q2178 : (Jvm.Cond.instanceMethod ({ cls := "HadForVoiceModel", name := "halves", desc := "(I)I" } : Jvm.MethodName)) ∈ lw_all := lw_g (lw_at lw_m9 143 rfl) rfl
theorem q2179 : (Jvm.Cond.code ({ cls := "HadForVoiceModel", name := "halves", desc := "(I)I" } : Jvm.MethodName) prog_26_method_128_code (3 : Nat) (Option.some Jvm.ClassFile.FieldType.int)) ∈ lw_all := lw_g (lw_at lw_m9 144 rfl) rfl
theorem q2180 : (Jvm.Cond.methodLink "HadForVoiceModel" (469 : Nat) ({ cls := "HadForVoiceModel", name := "plainHalves", desc := "(I)I" } : Jvm.MethodName)) ∈ lw_all := lw_g (lw_at lw_m9 145 rfl) rfl
theorem q2181 : (Jvm.Cond.privateMethod ({ cls := "HadForVoiceModel", name := "plainHalves", desc := "(I)I" } : Jvm.MethodName)) ∈ lw_tbl := lw_at lw_m9 146 rfl
theorem q2182 : (Jvm.Cond.instanceMethod ({ cls := "HadForVoiceModel", name := "plainHalves", desc := "(I)I" } : Jvm.MethodName)) ∈ lw_all := lw_g (lw_at lw_m9 147 rfl) rfl
theorem q2183 : (Jvm.Cond.code ({ cls := "HadForVoiceModel", name := "plainHalves", desc := "(I)I" } : Jvm.MethodName) prog_26_method_127_code (2 : Nat) (Option.some Jvm.ClassFile.FieldType.int)) ∈ lw_all := lw_g (lw_at lw_m9 148 rfl) rfl
theorem q2184 : (Jvm.Cond.methodLink "HadForVoiceModel" (478 : Nat) ({ cls := "HadForVoiceModel", name := "owes", desc := "(I)I" } : Jvm.MethodName)) ∈ lw_all := lw_g (lw_at lw_m9 149 rfl) rfl
theorem q2185 : (Jvm.Cond.privateMethod ({ cls := "HadForVoiceModel", name := "owes", desc := "(I)I" } : Jvm.MethodName)) ∈ lw_tbl := lw_at lw_m9 150 rfl
theorem q2186 : (Jvm.Cond.instanceMethod ({ cls := "HadForVoiceModel", name := "owes", desc := "(I)I" } : Jvm.MethodName)) ∈ lw_all := lw_g (lw_at lw_m9 151 rfl) rfl
theorem q2187 : (Jvm.Cond.code ({ cls := "HadForVoiceModel", name := "owes", desc := "(I)I" } : Jvm.MethodName) prog_26_method_129_code (3 : Nat) (Option.some Jvm.ClassFile.FieldType.int)) ∈ lw_all := lw_g (lw_at lw_m9 152 rfl) rfl
theorem q2189 : (Jvm.Cond.instanceMethod ({ cls := "HadForVoiceModel", name := "trace", desc := "(I)I" } : Jvm.MethodName)) ∈ lw_all := lw_g (lw_at lw_m9 154 rfl) rfl
theorem q2190 : (Jvm.Cond.selects "HadForVoiceModel" ({ cls := "HadForVoiceModel", name := "trace", desc := "(I)I" } : Jvm.MethodName) ({ cls := "HadForVoiceModel", name := "trace", desc := "(I)I" } : Jvm.MethodName)) ∈ lw_all := lw_g (lw_at lw_m9 155 rfl) rfl
theorem q2191 : (Jvm.Cond.code ({ cls := "HadForVoiceModel", name := "trace", desc := "(I)I" } : Jvm.MethodName) prog_26_method_132_code (2 : Nat) (Option.some Jvm.ClassFile.FieldType.int)) ∈ lw_all := lw_g (lw_at lw_m9 156 rfl) rfl
theorem q2192 : (Jvm.Cond.methodLink "HadForVoiceModel" (481 : Nat) ({ cls := "HadForVoiceModel", name := "traced", desc := "()I" } : Jvm.MethodName)) ∈ lw_all := lw_g (lw_at lw_m9 157 rfl) rfl
theorem q2193 : (Jvm.Cond.privateMethod ({ cls := "HadForVoiceModel", name := "traced", desc := "()I" } : Jvm.MethodName)) ∈ lw_tbl := lw_at lw_m9 158 rfl
theorem q2194 : (Jvm.Cond.instanceMethod ({ cls := "HadForVoiceModel", name := "traced", desc := "()I" } : Jvm.MethodName)) ∈ lw_all := lw_g (lw_at lw_m9 159 rfl) rfl
theorem q2195 : (Jvm.Cond.code ({ cls := "HadForVoiceModel", name := "traced", desc := "()I" } : Jvm.MethodName) prog_26_method_131_code (1 : Nat) (Option.some Jvm.ClassFile.FieldType.int)) ∈ lw_all := lw_g (lw_at lw_m9 160 rfl) rfl
theorem q2197 : (Jvm.Cond.instanceMethod ({ cls := "HadForVoiceModel", name := "many", desc := "(I)I" } : Jvm.MethodName)) ∈ lw_all := lw_g (lw_at lw_m9 162 rfl) rfl
theorem q2198 : (Jvm.Cond.selects "HadForVoiceModel" ({ cls := "HadForVoiceModel", name := "many", desc := "(I)I" } : Jvm.MethodName) ({ cls := "HadForVoiceModel", name := "many", desc := "(I)I" } : Jvm.MethodName)) ∈ lw_all := lw_g (lw_at lw_m9 163 rfl) rfl
theorem q2199 : (Jvm.Cond.code ({ cls := "HadForVoiceModel", name := "many", desc := "(I)I" } : Jvm.MethodName) prog_26_method_133_code (2 : Nat) (Option.some Jvm.ClassFile.FieldType.int)) ∈ lw_all := lw_g (lw_at lw_m9 164 rfl) rfl
theorem q2201 : (Jvm.Cond.instanceMethod ({ cls := "HadForVoiceModel", name := "keep", desc := "()I" } : Jvm.MethodName)) ∈ lw_all := lw_g (lw_at lw_m9 166 rfl) rfl
theorem q2202 : (Jvm.Cond.selects "HadForVoiceModel" ({ cls := "HadForVoiceModel", name := "keep", desc := "()I" } : Jvm.MethodName) ({ cls := "HadForVoiceModel", name := "keep", desc := "()I" } : Jvm.MethodName)) ∈ lw_all := lw_g (lw_at lw_m9 167 rfl) rfl
theorem q2203 : (Jvm.Cond.code ({ cls := "HadForVoiceModel", name := "keep", desc := "()I" } : Jvm.MethodName) prog_26_method_134_code (2 : Nat) (Option.some Jvm.ClassFile.FieldType.int)) ∈ lw_all := lw_g (lw_at lw_m9 168 rfl) rfl
theorem q2205 : (Jvm.Cond.instanceMethod ({ cls := "HadForVoiceModel", name := "again", desc := "()I" } : Jvm.MethodName)) ∈ lw_all := lw_g (lw_at lw_m9 170 rfl) rfl
theorem q2206 : (Jvm.Cond.selects "HadForVoiceModel" ({ cls := "HadForVoiceModel", name := "again", desc := "()I" } : Jvm.MethodName) ({ cls := "HadForVoiceModel", name := "again", desc := "()I" } : Jvm.MethodName)) ∈ lw_all := lw_g (lw_at lw_m9 171 rfl) rfl
theorem q2207 : (Jvm.Cond.code ({ cls := "HadForVoiceModel", name := "again", desc := "()I" } : Jvm.MethodName) prog_26_method_135_code (2 : Nat) (Option.some Jvm.ClassFile.FieldType.int)) ∈ lw_all := lw_g (lw_at lw_m9 172 rfl) rfl
theorem in_X6 : ∀ w ∈ wsX60, w ∈ lw_all := lw_in wsX60 [1556, 1558, 1560, 1562, 1564, 1566, 1568, 1570, 1572, 1574, 1576, 1578, 1580, 1582, 1584, 1586, 1588, 1590, 1592, 1594, 1596, 1598, 1600, 1602, 1604, 1606, 1608, 1610, 1612, 1614, 1616, 1618, 1620, 1622, 1624, 1626, 1628, 1630, 1632, 1634, 1636, 1638, 1640, 1642, 1644] (by decide +kernel) (by decide +kernel)
