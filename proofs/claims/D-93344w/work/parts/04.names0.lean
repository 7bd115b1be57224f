/-! HadForVoice -/
set_option maxRecDepth 100000
def RX0 : String := "HadForVoice"
def TX0 : u_T := fun k => match k with
  | 0 => ("HadForVoice", "refusal", "LHadForVoice$Refusal;", true)
  | 1 => ("HadForVoice", "fault", "LHadForVoice$Fault;", true)
  | 2 => ("HadForVoice", "now", "LHadForVoice$Town;", true)
  | 3 => ("HadForVoice", "kept", "LHadForVoice$Town;", true)
  | 4 => ("HadForVoice", "tried", "LHadForVoice$Town;", true)
  | 5 => ("HadForVoice", "people", "[LHadForVoice$Person;", true)
  | 6 => ("HadForVoice", "isKept", "Z", false)
  | 7 => ("HadForVoice", "kindNames", "[Ljava/lang/String;", true)
  | 8 => ("HadForVoice", "doings", "[Ljava/lang/String;", true)
  | 9 => ("HadForVoice", "names", "[Ljava/lang/String;", true)
  | 10 => ("HadForVoice", "tape", "[B", true)
  | 11 => ("HadForVoice", "tapeMany", "I", false)
  | 12 => ("HadForVoice", "at", "I", false)
  | 13 => ("HadForVoice", "end", "I", false)
  | 14 => ("HadForVoice", "facts", "[I", true)
  | 15 => ("HadForVoice", "absent", "I", false)
  | 16 => ("HadForVoice", "told", "[I", true)
  | 17 => ("HadForVoice", "row", "[I", true)
  | 18 => ("HadForVoice", "rowLong", "I", false)
  | 19 => ("HadForVoice", "wholes", "I", false)
  | 20 => ("HadForVoice", "most", "I", false)
  | 21 => ("HadForVoice", "least", "I", false)
  | 22 => ("HadForVoice", "ring", "[I", true)
  | 23 => ("HadForVoice", "firstRing", "[I", true)
  | 24 => ("HadForVoice", "ringMany", "I", false)
  | 25 => ("HadForVoice", "reach", "I", false)
  | 26 => ("HadForVoice", "firstFit", "I", false)
  | 27 => ("HadForVoice", "rows", "[I", true)
  | 28 => ("HadForVoice", "rowMany", "I", false)
  | 29 => ("HadForVoice", "shelves", "[LHadForVoice$Shelf;", true)
  | 30 => ("HadForVoice", "sheets", "[LHadForVoice$Shelf;", true)
  | _ => ("HadForVoice", "trace", "LHadForVoice$Trace;", true)
def tyX0 : Nat → FieldType := fun k => match k with
  | 0 => .object "HadForVoice$Refusal"
  | 1 => .object "HadForVoice$Fault"
  | 2 => .object "HadForVoice$Town"
  | 3 => .object "HadForVoice$Town"
  | 4 => .object "HadForVoice$Town"
  | 5 => .array (.object "HadForVoice$Person")
  | 6 => .boolean
  | 7 => .array (.object "java/lang/String")
  | 8 => .array (.object "java/lang/String")
  | 9 => .array (.object "java/lang/String")
  | 10 => .array .byte
  | 11 => .int
  | 12 => .int
  | 13 => .int
  | 14 => .array .int
  | 15 => .int
  | 16 => .array .int
  | 17 => .array .int
  | 18 => .int
  | 19 => .int
  | 20 => .int
  | 21 => .int
  | 22 => .array .int
  | 23 => .array .int
  | 24 => .int
  | 25 => .int
  | 26 => .int
  | 27 => .array .int
  | 28 => .int
  | 29 => .array (.object "HadForVoice$Shelf")
  | 30 => .array (.object "HadForVoice$Shelf")
  | _ => .object "HadForVoice$Trace"
abbrev wsX00 : List Cond := u_ws RX0 TX0 32
set_option maxRecDepth 100000 in
theorem nmX0 : ∀ a, a < 32 → ∀ b, b < 32 → a ≠ b → (TX0 a).2.1 ≠ (TX0 b).2.1 := by decide +kernel
set_option maxRecDepth 100000 in
theorem tyX0_ok : ∀ k, k < 32 → parseFieldDescriptor (TX0 k).2.2.1 = some (tyX0 k) := by decide +kernel
abbrev cX0_init : ByteArray := prog_1_method_5_code
def yX0_init : MethodName := ⟨RX0, "<init>", "()V"⟩
def dkwX0_init_12 : List UInt8 := [183, 0, 146, 83, 132, 1, 1, 167, 255, 222, 177]
abbrev dktX0_init_12 : List UInt8 := dkwX0_init_12 ++ []
def dkwX0_init_11 : List UInt8 := [42, 180, 0, 132, 27, 187, 0, 130, 89, 183, 0, 146, 83, 42, 180, 0, 136, 27, 187, 0, 130, 89]
abbrev dktX0_init_11 : List UInt8 := dkwX0_init_11 ++ dktX0_init_12
def dkwX0_init_10 : List UInt8 := [189, 0, 130, 181, 0, 136, 42, 187, 0, 139, 89, 183, 0, 141, 181, 0, 142, 3, 60, 27, 7, 162, 0, 35]
abbrev dktX0_init_10 : List UInt8 := dkwX0_init_10 ++ dktX0_init_11
def dkwX0_init_9 : List UInt8 := [188, 10, 181, 0, 124, 42, 16, 18, 188, 10, 181, 0, 127, 42, 7, 189, 0, 130, 181, 0, 132, 42, 7]
abbrev dktX0_init_9 : List UInt8 := dkwX0_init_9 ++ dktX0_init_10
def dkwX0_init_8 : List UInt8 := [188, 10, 181, 0, 115, 42, 16, 6, 188, 10, 181, 0, 118, 42, 16, 6, 188, 10, 181, 0, 121, 42, 16, 6]
abbrev dktX0_init_8 : List UInt8 := dkwX0_init_8 ++ dktX0_init_9
def dkwX0_init_7 : List UInt8 := [17, 0, 200, 188, 8, 181, 0, 103, 42, 8, 188, 10, 181, 0, 107, 42, 2, 181, 0, 111, 42, 16, 6]
abbrev dktX0_init_7 : List UInt8 := dkwX0_init_7 ++ dktX0_init_8
def dkwX0_init_6 : List UInt8 := [4, 18, 92, 83, 89, 5, 18, 94, 83, 89, 6, 18, 96, 83, 89, 7, 18, 98, 83, 181, 0, 100, 42]
abbrev dktX0_init_6 : List UInt8 := dkwX0_init_6 ++ dktX0_init_7
def dkwX0_init_5 : List UInt8 := [89, 4, 18, 83, 83, 89, 5, 18, 85, 83, 181, 0, 87, 42, 8, 189, 0, 63, 89, 3, 18, 90, 83, 89]
abbrev dktX0_init_5 : List UInt8 := dkwX0_init_5 ++ dktX0_init_6
def dkwX0_init_4 : List UInt8 := [83, 89, 7, 18, 73, 83, 89, 8, 18, 75, 83, 181, 0, 77, 42, 6, 189, 0, 63, 89, 3, 18, 81, 83]
abbrev dktX0_init_4 : List UInt8 := dkwX0_init_4 ++ dktX0_init_5
def dkwX0_init_3 : List UInt8 := [16, 6, 189, 0, 63, 89, 3, 18, 65, 83, 89, 4, 18, 67, 83, 89, 5, 18, 69, 83, 89, 6, 18, 71]
abbrev dktX0_init_3 : List UInt8 := dkwX0_init_3 ++ dktX0_init_4
def dkwX0_init_2 : List UInt8 := [181, 0, 51, 42, 187, 0, 44, 89, 183, 0, 46, 181, 0, 54, 42, 16, 6, 189, 0, 57, 181, 0, 59, 42]
abbrev dktX0_init_2 : List UInt8 := dkwX0_init_2 ++ dktX0_init_3
def dkwX0_init_1 : List UInt8 := [181, 0, 40, 42, 187, 0, 44, 89, 183, 0, 46, 181, 0, 47, 42, 187, 0, 44, 89, 183, 0, 46]
abbrev dktX0_init_1 : List UInt8 := dkwX0_init_1 ++ dktX0_init_2
def dkwX0_init_0 : List UInt8 := [42, 183, 0, 31, 42, 187, 0, 8, 89, 183, 0, 36, 181, 0, 1, 42, 187, 0, 37, 89, 183, 0, 39]
abbrev dktX0_init_0 : List UInt8 := dkwX0_init_0 ++ dktX0_init_1
theorem dksX0_init_0 : cX0_init.data.toList.drop 0 = dktX0_init_0 := by decide +kernel
theorem dksX0_init_1 : cX0_init.data.toList.drop 23 = dktX0_init_1 := dk_seg dksX0_init_0 23 rfl rfl
theorem dksX0_init_2 : cX0_init.data.toList.drop 45 = dktX0_init_2 := dk_seg dksX0_init_1 22 rfl rfl
theorem dksX0_init_3 : cX0_init.data.toList.drop 69 = dktX0_init_3 := dk_seg dksX0_init_2 24 rfl rfl
theorem dksX0_init_4 : cX0_init.data.toList.drop 93 = dktX0_init_4 := dk_seg dksX0_init_3 24 rfl rfl
theorem dksX0_init_5 : cX0_init.data.toList.drop 117 = dktX0_init_5 := dk_seg dksX0_init_4 24 rfl rfl
theorem dksX0_init_6 : cX0_init.data.toList.drop 141 = dktX0_init_6 := dk_seg dksX0_init_5 24 rfl rfl
theorem dksX0_init_7 : cX0_init.data.toList.drop 164 = dktX0_init_7 := dk_seg dksX0_init_6 23 rfl rfl
theorem dksX0_init_8 : cX0_init.data.toList.drop 187 = dktX0_init_8 := dk_seg dksX0_init_7 23 rfl rfl
theorem dksX0_init_9 : cX0_init.data.toList.drop 211 = dktX0_init_9 := dk_seg dksX0_init_8 24 rfl rfl
theorem dksX0_init_10 : cX0_init.data.toList.drop 234 = dktX0_init_10 := dk_seg dksX0_init_9 23 rfl rfl
theorem dksX0_init_11 : cX0_init.data.toList.drop 258 = dktX0_init_11 := dk_seg dksX0_init_10 24 rfl rfl
theorem dksX0_init_12 : cX0_init.data.toList.drop 280 = dktX0_init_12 := dk_seg dksX0_init_11 22 rfl rfl
theorem dX0_init_0 : decode cX0_init 0 = .ok (.aload_n 0, 1) := dk_42 (dk_at dksX0_init_0 0 rfl rfl)
theorem dX0_init_1 : decode cX0_init 1 = .ok (.invokespecial 31, 3) := dk_183 0 31 (dk_at dksX0_init_0 1 rfl rfl)
theorem dX0_init_4 : decode cX0_init 4 = .ok (.aload_n 0, 1) := dk_42 (dk_at dksX0_init_0 4 rfl rfl)
theorem dX0_init_5 : decode cX0_init 5 = .ok (.new 8, 3) := dk_187 0 8 (dk_at dksX0_init_0 5 rfl rfl)
theorem dX0_init_8 : decode cX0_init 8 = .ok (.dup, 1) := dk_89 (dk_at dksX0_init_0 8 rfl rfl)
theorem dX0_init_9 : decode cX0_init 9 = .ok (.invokespecial 36, 3) := dk_183 0 36 (dk_at dksX0_init_0 9 rfl rfl)
theorem dX0_init_12 : decode cX0_init 12 = .ok (.putfield 1, 3) := dk_181 0 1 (dk_at dksX0_init_0 12 rfl rfl)
theorem dX0_init_15 : decode cX0_init 15 = .ok (.aload_n 0, 1) := dk_42 (dk_at dksX0_init_0 15 rfl rfl)
theorem dX0_init_16 : decode cX0_init 16 = .ok (.new 37, 3) := dk_187 0 37 (dk_at dksX0_init_0 16 rfl rfl)
theorem dX0_init_19 : decode cX0_init 19 = .ok (.dup, 1) := dk_89 (dk_at dksX0_init_0 19 rfl rfl)
theorem dX0_init_20 : decode cX0_init 20 = .ok (.invokespecial 39, 3) := dk_183 0 39 (dk_at dksX0_init_0 20 rfl rfl)
theorem dX0_init_23 : decode cX0_init 23 = .ok (.putfield 40, 3) := dk_181 0 40 (dk_at dksX0_init_1 0 rfl rfl)
theorem dX0_init_26 : decode cX0_init 26 = .ok (.aload_n 0, 1) := dk_42 (dk_at dksX0_init_1 3 rfl rfl)
theorem dX0_init_27 : decode cX0_init 27 = .ok (.new 44, 3) := dk_187 0 44 (dk_at dksX0_init_1 4 rfl rfl)
theorem dX0_init_30 : decode cX0_init 30 = .ok (.dup, 1) := dk_89 (dk_at dksX0_init_1 7 rfl rfl)
theorem dX0_init_31 : decode cX0_init 31 = .ok (.invokespecial 46, 3) := dk_183 0 46 (dk_at dksX0_init_1 8 rfl rfl)
theorem dX0_init_34 : decode cX0_init 34 = .ok (.putfield 47, 3) := dk_181 0 47 (dk_at dksX0_init_1 11 rfl rfl)
theorem dX0_init_37 : decode cX0_init 37 = .ok (.aload_n 0, 1) := dk_42 (dk_at dksX0_init_1 14 rfl rfl)
theorem dX0_init_38 : decode cX0_init 38 = .ok (.new 44, 3) := dk_187 0 44 (dk_at dksX0_init_1 15 rfl rfl)
theorem dX0_init_41 : decode cX0_init 41 = .ok (.dup, 1) := dk_89 (dk_at dksX0_init_1 18 rfl rfl)
theorem dX0_init_42 : decode cX0_init 42 = .ok (.invokespecial 46, 3) := dk_183 0 46 (dk_at dksX0_init_1 19 rfl rfl)
theorem dX0_init_45 : decode cX0_init 45 = .ok (.putfield 51, 3) := dk_181 0 51 (dk_at dksX0_init_2 0 rfl rfl)
theorem dX0_init_48 : decode cX0_init 48 = .ok (.aload_n 0, 1) := dk_42 (dk_at dksX0_init_2 3 rfl rfl)
theorem dX0_init_49 : decode cX0_init 49 = .ok (.new 44, 3) := dk_187 0 44 (dk_at dksX0_init_2 4 rfl rfl)
theorem dX0_init_52 : decode cX0_init 52 = .ok (.dup, 1) := dk_89 (dk_at dksX0_init_2 7 rfl rfl)
theorem dX0_init_53 : decode cX0_init 53 = .ok (.invokespecial 46, 3) := dk_183 0 46 (dk_at dksX0_init_2 8 rfl rfl)
theorem dX0_init_56 : decode cX0_init 56 = .ok (.putfield 54, 3) := dk_181 0 54 (dk_at dksX0_init_2 11 rfl rfl)
theorem dX0_init_59 : decode cX0_init 59 = .ok (.aload_n 0, 1) := dk_42 (dk_at dksX0_init_2 14 rfl rfl)
theorem dX0_init_60 : decode cX0_init 60 = .ok (.bipush 6, 2) := dk_16 6 (dk_at dksX0_init_2 15 rfl rfl)
theorem dX0_init_62 : decode cX0_init 62 = .ok (.anewarray 57, 3) := dk_189 0 57 (dk_at dksX0_init_2 17 rfl rfl)
theorem dX0_init_65 : decode cX0_init 65 = .ok (.putfield 59, 3) := dk_181 0 59 (dk_at dksX0_init_2 20 rfl rfl)
theorem dX0_init_68 : decode cX0_init 68 = .ok (.aload_n 0, 1) := dk_42 (dk_at dksX0_init_2 23 rfl rfl)
theorem dX0_init_69 : decode cX0_init 69 = .ok (.bipush 6, 2) := dk_16 6 (dk_at dksX0_init_3 0 rfl rfl)
theorem dX0_init_71 : decode cX0_init 71 = .ok (.anewarray 63, 3) := dk_189 0 63 (dk_at dksX0_init_3 2 rfl rfl)
theorem dX0_init_74 : decode cX0_init 74 = .ok (.dup, 1) := dk_89 (dk_at dksX0_init_3 5 rfl rfl)
theorem dX0_init_75 : decode cX0_init 75 = .ok (.iconst 0, 1) := dk_3 (dk_at dksX0_init_3 6 rfl rfl)
theorem dX0_init_76 : decode cX0_init 76 = .ok (.ldc 65, 2) := dk_18 65 (dk_at dksX0_init_3 7 rfl rfl)
theorem dX0_init_78 : decode cX0_init 78 = .ok (.aastore, 1) := dk_83 (dk_at dksX0_init_3 9 rfl rfl)
theorem dX0_init_79 : decode cX0_init 79 = .ok (.dup, 1) := dk_89 (dk_at dksX0_init_3 10 rfl rfl)
theorem dX0_init_80 : decode cX0_init 80 = .ok (.iconst 1, 1) := dk_4 (dk_at dksX0_init_3 11 rfl rfl)
theorem dX0_init_81 : decode cX0_init 81 = .ok (.ldc 67, 2) := dk_18 67 (dk_at dksX0_init_3 12 rfl rfl)
theorem dX0_init_83 : decode cX0_init 83 = .ok (.aastore, 1) := dk_83 (dk_at dksX0_init_3 14 rfl rfl)
theorem dX0_init_84 : decode cX0_init 84 = .ok (.dup, 1) := dk_89 (dk_at dksX0_init_3 15 rfl rfl)
theorem dX0_init_85 : decode cX0_init 85 = .ok (.iconst 2, 1) := dk_5 (dk_at dksX0_init_3 16 rfl rfl)
theorem dX0_init_86 : decode cX0_init 86 = .ok (.ldc 69, 2) := dk_18 69 (dk_at dksX0_init_3 17 rfl rfl)
theorem dX0_init_88 : decode cX0_init 88 = .ok (.aastore, 1) := dk_83 (dk_at dksX0_init_3 19 rfl rfl)
theorem dX0_init_89 : decode cX0_init 89 = .ok (.dup, 1) := dk_89 (dk_at dksX0_init_3 20 rfl rfl)
theorem dX0_init_90 : decode cX0_init 90 = .ok (.iconst 3, 1) := dk_6 (dk_at dksX0_init_3 21 rfl rfl)
theorem dX0_init_91 : decode cX0_init 91 = .ok (.ldc 71, 2) := dk_18 71 (dk_at dksX0_init_3 22 rfl rfl)
theorem dX0_init_93 : decode cX0_init 93 = .ok (.aastore, 1) := dk_83 (dk_at dksX0_init_4 0 rfl rfl)
theorem dX0_init_94 : decode cX0_init 94 = .ok (.dup, 1) := dk_89 (dk_at dksX0_init_4 1 rfl rfl)
theorem dX0_init_95 : decode cX0_init 95 = .ok (.iconst 4, 1) := dk_7 (dk_at dksX0_init_4 2 rfl rfl)
theorem dX0_init_96 : decode cX0_init 96 = .ok (.ldc 73, 2) := dk_18 73 (dk_at dksX0_init_4 3 rfl rfl)
theorem dX0_init_98 : decode cX0_init 98 = .ok (.aastore, 1) := dk_83 (dk_at dksX0_init_4 5 rfl rfl)
theorem dX0_init_99 : decode cX0_init 99 = .ok (.dup, 1) := dk_89 (dk_at dksX0_init_4 6 rfl rfl)
theorem dX0_init_100 : decode cX0_init 100 = .ok (.iconst 5, 1) := dk_8 (dk_at dksX0_init_4 7 rfl rfl)
theorem dX0_init_101 : decode cX0_init 101 = .ok (.ldc 75, 2) := dk_18 75 (dk_at dksX0_init_4 8 rfl rfl)
theorem dX0_init_103 : decode cX0_init 103 = .ok (.aastore, 1) := dk_83 (dk_at dksX0_init_4 10 rfl rfl)
theorem dX0_init_104 : decode cX0_init 104 = .ok (.putfield 77, 3) := dk_181 0 77 (dk_at dksX0_init_4 11 rfl rfl)
theorem dX0_init_107 : decode cX0_init 107 = .ok (.aload_n 0, 1) := dk_42 (dk_at dksX0_init_4 14 rfl rfl)
theorem dX0_init_108 : decode cX0_init 108 = .ok (.iconst 3, 1) := dk_6 (dk_at dksX0_init_4 15 rfl rfl)
theorem dX0_init_109 : decode cX0_init 109 = .ok (.anewarray 63, 3) := dk_189 0 63 (dk_at dksX0_init_4 16 rfl rfl)
theorem dX0_init_112 : decode cX0_init 112 = .ok (.dup, 1) := dk_89 (dk_at dksX0_init_4 19 rfl rfl)
theorem dX0_init_113 : decode cX0_init 113 = .ok (.iconst 0, 1) := dk_3 (dk_at dksX0_init_4 20 rfl rfl)
theorem dX0_init_114 : decode cX0_init 114 = .ok (.ldc 81, 2) := dk_18 81 (dk_at dksX0_init_4 21 rfl rfl)
theorem dX0_init_116 : decode cX0_init 116 = .ok (.aastore, 1) := dk_83 (dk_at dksX0_init_4 23 rfl rfl)
theorem dX0_init_117 : decode cX0_init 117 = .ok (.dup, 1) := dk_89 (dk_at dksX0_init_5 0 rfl rfl)
theorem dX0_init_118 : decode cX0_init 118 = .ok (.iconst 1, 1) := dk_4 (dk_at dksX0_init_5 1 rfl rfl)
theorem dX0_init_119 : decode cX0_init 119 = .ok (.ldc 83, 2) := dk_18 83 (dk_at dksX0_init_5 2 rfl rfl)
theorem dX0_init_121 : decode cX0_init 121 = .ok (.aastore, 1) := dk_83 (dk_at dksX0_init_5 4 rfl rfl)
theorem dX0_init_122 : decode cX0_init 122 = .ok (.dup, 1) := dk_89 (dk_at dksX0_init_5 5 rfl rfl)
theorem dX0_init_123 : decode cX0_init 123 = .ok (.iconst 2, 1) := dk_5 (dk_at dksX0_init_5 6 rfl rfl)
theorem dX0_init_124 : decode cX0_init 124 = .ok (.ldc 85, 2) := dk_18 85 (dk_at dksX0_init_5 7 rfl rfl)
theorem dX0_init_126 : decode cX0_init 126 = .ok (.aastore, 1) := dk_83 (dk_at dksX0_init_5 9 rfl rfl)
theorem dX0_init_127 : decode cX0_init 127 = .ok (.putfield 87, 3) := dk_181 0 87 (dk_at dksX0_init_5 10 rfl rfl)
theorem dX0_init_130 : decode cX0_init 130 = .ok (.aload_n 0, 1) := dk_42 (dk_at dksX0_init_5 13 rfl rfl)
theorem dX0_init_131 : decode cX0_init 131 = .ok (.iconst 5, 1) := dk_8 (dk_at dksX0_init_5 14 rfl rfl)
theorem dX0_init_132 : decode cX0_init 132 = .ok (.anewarray 63, 3) := dk_189 0 63 (dk_at dksX0_init_5 15 rfl rfl)
theorem dX0_init_135 : decode cX0_init 135 = .ok (.dup, 1) := dk_89 (dk_at dksX0_init_5 18 rfl rfl)
theorem dX0_init_136 : decode cX0_init 136 = .ok (.iconst 0, 1) := dk_3 (dk_at dksX0_init_5 19 rfl rfl)
theorem dX0_init_137 : decode cX0_init 137 = .ok (.ldc 90, 2) := dk_18 90 (dk_at dksX0_init_5 20 rfl rfl)
theorem dX0_init_139 : decode cX0_init 139 = .ok (.aastore, 1) := dk_83 (dk_at dksX0_init_5 22 rfl rfl)
theorem dX0_init_140 : decode cX0_init 140 = .ok (.dup, 1) := dk_89 (dk_at dksX0_init_5 23 rfl rfl)
theorem dX0_init_141 : decode cX0_init 141 = .ok (.iconst 1, 1) := dk_4 (dk_at dksX0_init_6 0 rfl rfl)
theorem dX0_init_142 : decode cX0_init 142 = .ok (.ldc 92, 2) := dk_18 92 (dk_at dksX0_init_6 1 rfl rfl)
theorem dX0_init_144 : decode cX0_init 144 = .ok (.aastore, 1) := dk_83 (dk_at dksX0_init_6 3 rfl rfl)
theorem dX0_init_145 : decode cX0_init 145 = .ok (.dup, 1) := dk_89 (dk_at dksX0_init_6 4 rfl rfl)
theorem dX0_init_146 : decode cX0_init 146 = .ok (.iconst 2, 1) := dk_5 (dk_at dksX0_init_6 5 rfl rfl)
theorem dX0_init_147 : decode cX0_init 147 = .ok (.ldc 94, 2) := dk_18 94 (dk_at dksX0_init_6 6 rfl rfl)
theorem dX0_init_149 : decode cX0_init 149 = .ok (.aastore, 1) := dk_83 (dk_at dksX0_init_6 8 rfl rfl)
theorem dX0_init_150 : decode cX0_init 150 = .ok (.dup, 1) := dk_89 (dk_at dksX0_init_6 9 rfl rfl)
theorem dX0_init_151 : decode cX0_init 151 = .ok (.iconst 3, 1) := dk_6 (dk_at dksX0_init_6 10 rfl rfl)
theorem dX0_init_152 : decode cX0_init 152 = .ok (.ldc 96, 2) := dk_18 96 (dk_at dksX0_init_6 11 rfl rfl)
theorem dX0_init_154 : decode cX0_init 154 = .ok (.aastore, 1) := dk_83 (dk_at dksX0_init_6 13 rfl rfl)
theorem dX0_init_155 : decode cX0_init 155 = .ok (.dup, 1) := dk_89 (dk_at dksX0_init_6 14 rfl rfl)
theorem dX0_init_156 : decode cX0_init 156 = .ok (.iconst 4, 1) := dk_7 (dk_at dksX0_init_6 15 rfl rfl)
theorem dX0_init_157 : decode cX0_init 157 = .ok (.ldc 98, 2) := dk_18 98 (dk_at dksX0_init_6 16 rfl rfl)
theorem dX0_init_159 : decode cX0_init 159 = .ok (.aastore, 1) := dk_83 (dk_at dksX0_init_6 18 rfl rfl)
theorem dX0_init_160 : decode cX0_init 160 = .ok (.putfield 100, 3) := dk_181 0 100 (dk_at dksX0_init_6 19 rfl rfl)
theorem dX0_init_163 : decode cX0_init 163 = .ok (.aload_n 0, 1) := dk_42 (dk_at dksX0_init_6 22 rfl rfl)
theorem dX0_init_164 : decode cX0_init 164 = .ok (.sipush 200, 3) := dk_17 0 200 (dk_at dksX0_init_7 0 rfl rfl)
theorem dX0_init_167 : decode cX0_init 167 = .ok (.newarray .byte, 2) := dk_188_8 (dk_at dksX0_init_7 3 rfl rfl)
theorem dX0_init_169 : decode cX0_init 169 = .ok (.putfield 103, 3) := dk_181 0 103 (dk_at dksX0_init_7 5 rfl rfl)
theorem dX0_init_172 : decode cX0_init 172 = .ok (.aload_n 0, 1) := dk_42 (dk_at dksX0_init_7 8 rfl rfl)
theorem dX0_init_173 : decode cX0_init 173 = .ok (.iconst 5, 1) := dk_8 (dk_at dksX0_init_7 9 rfl rfl)
theorem dX0_init_174 : decode cX0_init 174 = .ok (.newarray .int, 2) := dk_188_10 (dk_at dksX0_init_7 10 rfl rfl)
theorem dX0_init_176 : decode cX0_init 176 = .ok (.putfield 107, 3) := dk_181 0 107 (dk_at dksX0_init_7 12 rfl rfl)
theorem dX0_init_179 : decode cX0_init 179 = .ok (.aload_n 0, 1) := dk_42 (dk_at dksX0_init_7 15 rfl rfl)
theorem dX0_init_180 : decode cX0_init 180 = .ok (.iconst (-1), 1) := dk_2 (dk_at dksX0_init_7 16 rfl rfl)
theorem dX0_init_181 : decode cX0_init 181 = .ok (.putfield 111, 3) := dk_181 0 111 (dk_at dksX0_init_7 17 rfl rfl)
theorem dX0_init_184 : decode cX0_init 184 = .ok (.aload_n 0, 1) := dk_42 (dk_at dksX0_init_7 20 rfl rfl)
theorem dX0_init_185 : decode cX0_init 185 = .ok (.bipush 6, 2) := dk_16 6 (dk_at dksX0_init_7 21 rfl rfl)
theorem dX0_init_187 : decode cX0_init 187 = .ok (.newarray .int, 2) := dk_188_10 (dk_at dksX0_init_8 0 rfl rfl)
theorem dX0_init_189 : decode cX0_init 189 = .ok (.putfield 115, 3) := dk_181 0 115 (dk_at dksX0_init_8 2 rfl rfl)
theorem dX0_init_192 : decode cX0_init 192 = .ok (.aload_n 0, 1) := dk_42 (dk_at dksX0_init_8 5 rfl rfl)
theorem dX0_init_193 : decode cX0_init 193 = .ok (.bipush 6, 2) := dk_16 6 (dk_at dksX0_init_8 6 rfl rfl)
theorem dX0_init_195 : decode cX0_init 195 = .ok (.newarray .int, 2) := dk_188_10 (dk_at dksX0_init_8 8 rfl rfl)
theorem dX0_init_197 : decode cX0_init 197 = .ok (.putfield 118, 3) := dk_181 0 118 (dk_at dksX0_init_8 10 rfl rfl)
theorem dX0_init_200 : decode cX0_init 200 = .ok (.aload_n 0, 1) := dk_42 (dk_at dksX0_init_8 13 rfl rfl)
theorem dX0_init_201 : decode cX0_init 201 = .ok (.bipush 6, 2) := dk_16 6 (dk_at dksX0_init_8 14 rfl rfl)
theorem dX0_init_203 : decode cX0_init 203 = .ok (.newarray .int, 2) := dk_188_10 (dk_at dksX0_init_8 16 rfl rfl)
theorem dX0_init_205 : decode cX0_init 205 = .ok (.putfield 121, 3) := dk_181 0 121 (dk_at dksX0_init_8 18 rfl rfl)
theorem dX0_init_208 : decode cX0_init 208 = .ok (.aload_n 0, 1) := dk_42 (dk_at dksX0_init_8 21 rfl rfl)
theorem dX0_init_209 : decode cX0_init 209 = .ok (.bipush 6, 2) := dk_16 6 (dk_at dksX0_init_8 22 rfl rfl)
theorem dX0_init_211 : decode cX0_init 211 = .ok (.newarray .int, 2) := dk_188_10 (dk_at dksX0_init_9 0 rfl rfl)
theorem dX0_init_213 : decode cX0_init 213 = .ok (.putfield 124, 3) := dk_181 0 124 (dk_at dksX0_init_9 2 rfl rfl)
theorem dX0_init_216 : decode cX0_init 216 = .ok (.aload_n 0, 1) := dk_42 (dk_at dksX0_init_9 5 rfl rfl)
theorem dX0_init_217 : decode cX0_init 217 = .ok (.bipush 18, 2) := dk_16 18 (dk_at dksX0_init_9 6 rfl rfl)
theorem dX0_init_219 : decode cX0_init 219 = .ok (.newarray .int, 2) := dk_188_10 (dk_at dksX0_init_9 8 rfl rfl)
theorem dX0_init_221 : decode cX0_init 221 = .ok (.putfield 127, 3) := dk_181 0 127 (dk_at dksX0_init_9 10 rfl rfl)
theorem dX0_init_224 : decode cX0_init 224 = .ok (.aload_n 0, 1) := dk_42 (dk_at dksX0_init_9 13 rfl rfl)
theorem dX0_init_225 : decode cX0_init 225 = .ok (.iconst 4, 1) := dk_7 (dk_at dksX0_init_9 14 rfl rfl)
theorem dX0_init_226 : decode cX0_init 226 = .ok (.anewarray 130, 3) := dk_189 0 130 (dk_at dksX0_init_9 15 rfl rfl)
theorem dX0_init_229 : decode cX0_init 229 = .ok (.putfield 132, 3) := dk_181 0 132 (dk_at dksX0_init_9 18 rfl rfl)
theorem dX0_init_232 : decode cX0_init 232 = .ok (.aload_n 0, 1) := dk_42 (dk_at dksX0_init_9 21 rfl rfl)
theorem dX0_init_233 : decode cX0_init 233 = .ok (.iconst 4, 1) := dk_7 (dk_at dksX0_init_9 22 rfl rfl)
theorem dX0_init_234 : decode cX0_init 234 = .ok (.anewarray 130, 3) := dk_189 0 130 (dk_at dksX0_init_10 0 rfl rfl)
theorem dX0_init_237 : decode cX0_init 237 = .ok (.putfield 136, 3) := dk_181 0 136 (dk_at dksX0_init_10 3 rfl rfl)
theorem dX0_init_240 : decode cX0_init 240 = .ok (.aload_n 0, 1) := dk_42 (dk_at dksX0_init_10 6 rfl rfl)
theorem dX0_init_241 : decode cX0_init 241 = .ok (.new 139, 3) := dk_187 0 139 (dk_at dksX0_init_10 7 rfl rfl)
theorem dX0_init_244 : decode cX0_init 244 = .ok (.dup, 1) := dk_89 (dk_at dksX0_init_10 10 rfl rfl)
theorem dX0_init_245 : decode cX0_init 245 = .ok (.invokespecial 141, 3) := dk_183 0 141 (dk_at dksX0_init_10 11 rfl rfl)
theorem dX0_init_248 : decode cX0_init 248 = .ok (.putfield 142, 3) := dk_181 0 142 (dk_at dksX0_init_10 14 rfl rfl)
theorem dX0_init_251 : decode cX0_init 251 = .ok (.iconst 0, 1) := dk_3 (dk_at dksX0_init_10 17 rfl rfl)
theorem dX0_init_252 : decode cX0_init 252 = .ok (.istore_n 1, 1) := dk_60 (dk_at dksX0_init_10 18 rfl rfl)
theorem dX0_init_253 : decode cX0_init 253 = .ok (.iload_n 1, 1) := dk_27 (dk_at dksX0_init_10 19 rfl rfl)
theorem dX0_init_254 : decode cX0_init 254 = .ok (.iconst 4, 1) := dk_7 (dk_at dksX0_init_10 20 rfl rfl)
theorem dX0_init_255 : decode cX0_init 255 = .ok (.if_icmp .ge 35, 3) := dk_162 0 35 (dk_at dksX0_init_10 21 rfl rfl)
theorem dX0_init_258 : decode cX0_init 258 = .ok (.aload_n 0, 1) := dk_42 (dk_at dksX0_init_11 0 rfl rfl)
theorem dX0_init_259 : decode cX0_init 259 = .ok (.getfield 132, 3) := dk_180 0 132 (dk_at dksX0_init_11 1 rfl rfl)
theorem dX0_init_262 : decode cX0_init 262 = .ok (.iload_n 1, 1) := dk_27 (dk_at dksX0_init_11 4 rfl rfl)
theorem dX0_init_263 : decode cX0_init 263 = .ok (.new 130, 3) := dk_187 0 130 (dk_at dksX0_init_11 5 rfl rfl)
theorem dX0_init_266 : decode cX0_init 266 = .ok (.dup, 1) := dk_89 (dk_at dksX0_init_11 8 rfl rfl)
theorem dX0_init_267 : decode cX0_init 267 = .ok (.invokespecial 146, 3) := dk_183 0 146 (dk_at dksX0_init_11 9 rfl rfl)
theorem dX0_init_270 : decode cX0_init 270 = .ok (.aastore, 1) := dk_83 (dk_at dksX0_init_11 12 rfl rfl)
theorem dX0_init_271 : decode cX0_init 271 = .ok (.aload_n 0, 1) := dk_42 (dk_at dksX0_init_11 13 rfl rfl)
theorem dX0_init_272 : decode cX0_init 272 = .ok (.getfield 136, 3) := dk_180 0 136 (dk_at dksX0_init_11 14 rfl rfl)
theorem dX0_init_275 : decode cX0_init 275 = .ok (.iload_n 1, 1) := dk_27 (dk_at dksX0_init_11 17 rfl rfl)
theorem dX0_init_276 : decode cX0_init 276 = .ok (.new 130, 3) := dk_187 0 130 (dk_at dksX0_init_11 18 rfl rfl)
theorem dX0_init_279 : decode cX0_init 279 = .ok (.dup, 1) := dk_89 (dk_at dksX0_init_11 21 rfl rfl)
theorem dX0_init_280 : decode cX0_init 280 = .ok (.invokespecial 146, 3) := dk_183 0 146 (dk_at dksX0_init_12 0 rfl rfl)
theorem dX0_init_283 : decode cX0_init 283 = .ok (.aastore, 1) := dk_83 (dk_at dksX0_init_12 3 rfl rfl)
theorem dX0_init_284 : decode cX0_init 284 = .ok (.iinc 1 1, 3) := dk_132 1 1 (dk_at dksX0_init_12 4 rfl rfl)
theorem dX0_init_287 : decode cX0_init 287 = .ok (.goto (-34), 3) := dk_167 255 222 (dk_at dksX0_init_12 7 rfl rfl)
theorem dX0_init_290 : decode cX0_init 290 = .ok (.return_, 1) := dk_177 (dk_at dksX0_init_12 10 rfl rfl)
abbrev cX0_person : ByteArray := prog_1_method_11_code
def yX0_person : MethodName := ⟨RX0, "person", "(IIII)I"⟩
def dkwX0_person_5 : List UInt8 := [180, 0, 47, 89, 180, 0, 147, 4, 96, 181, 0, 147, 42, 21, 5, 182, 0, 181, 21, 5, 172]
abbrev dktX0_person_5 : List UInt8 := dkwX0_person_5 ++ []
def dkwX0_person_4 : List UInt8 := [180, 0, 47, 180, 0, 176, 21, 5, 21, 4, 79, 42, 180, 0, 47, 180, 0, 178, 21, 5, 3, 79, 42]
abbrev dktX0_person_4 : List UInt8 := dkwX0_person_4 ++ dktX0_person_5
def dkwX0_person_3 : List UInt8 := [180, 0, 47, 180, 0, 174, 21, 5, 28, 79, 42, 180, 0, 47, 180, 0, 160, 21, 5, 29, 79, 42]
abbrev dktX0_person_3 : List UInt8 := dkwX0_person_3 ++ dktX0_person_4
def dkwX0_person_2 : List UInt8 := [172, 42, 180, 0, 47, 180, 0, 147, 54, 5, 42, 180, 0, 47, 180, 0, 157, 21, 5, 27, 79, 42]
abbrev dktX0_person_2 : List UInt8 := dkwX0_person_2 ++ dktX0_person_3
def dkwX0_person_1 : List UInt8 := [21, 4, 184, 0, 170, 154, 0, 5, 2, 172, 42, 180, 0, 47, 180, 0, 147, 16, 6, 160, 0, 6, 16, 254]
abbrev dktX0_person_1 : List UInt8 := dkwX0_person_1 ++ dktX0_person_2
def dkwX0_person_0 : List UInt8 := [27, 184, 0, 167, 153, 0, 28, 4, 28, 184, 0, 170, 153, 0, 20, 5, 29, 184, 0, 170, 153, 0, 12, 6]
abbrev dktX0_person_0 : List UInt8 := dkwX0_person_0 ++ dktX0_person_1
theorem dksX0_person_0 : cX0_person.data.toList.drop 0 = dktX0_person_0 := by decide +kernel
theorem dksX0_person_1 : cX0_person.data.toList.drop 24 = dktX0_person_1 := dk_seg dksX0_person_0 24 rfl rfl
theorem dksX0_person_2 : cX0_person.data.toList.drop 48 = dktX0_person_2 := dk_seg dksX0_person_1 24 rfl rfl
theorem dksX0_person_3 : cX0_person.data.toList.drop 70 = dktX0_person_3 := dk_seg dksX0_person_2 22 rfl rfl
theorem dksX0_person_4 : cX0_person.data.toList.drop 92 = dktX0_person_4 := dk_seg dksX0_person_3 22 rfl rfl
theorem dksX0_person_5 : cX0_person.data.toList.drop 115 = dktX0_person_5 := dk_seg dksX0_person_4 23 rfl rfl
theorem dX0_person_0 : decode cX0_person 0 = .ok (.iload_n 1, 1) := dk_27 (dk_at dksX0_person_0 0 rfl rfl)
theorem dX0_person_1 : decode cX0_person 1 = .ok (.invokestatic 167, 3) := dk_184 0 167 (dk_at dksX0_person_0 1 rfl rfl)
theorem dX0_person_4 : decode cX0_person 4 = .ok (.ifCond .eq 28, 3) := dk_153 0 28 (dk_at dksX0_person_0 4 rfl rfl)
theorem dX0_person_7 : decode cX0_person 7 = .ok (.iconst 1, 1) := dk_4 (dk_at dksX0_person_0 7 rfl rfl)
theorem dX0_person_8 : decode cX0_person 8 = .ok (.iload_n 2, 1) := dk_28 (dk_at dksX0_person_0 8 rfl rfl)
theorem dX0_person_9 : decode cX0_person 9 = .ok (.invokestatic 170, 3) := dk_184 0 170 (dk_at dksX0_person_0 9 rfl rfl)
theorem dX0_person_12 : decode cX0_person 12 = .ok (.ifCond .eq 20, 3) := dk_153 0 20 (dk_at dksX0_person_0 12 rfl rfl)
theorem dX0_person_15 : decode cX0_person 15 = .ok (.iconst 2, 1) := dk_5 (dk_at dksX0_person_0 15 rfl rfl)
theorem dX0_person_16 : decode cX0_person 16 = .ok (.iload_n 3, 1) := dk_29 (dk_at dksX0_person_0 16 rfl rfl)
theorem dX0_person_17 : decode cX0_person 17 = .ok (.invokestatic 170, 3) := dk_184 0 170 (dk_at dksX0_person_0 17 rfl rfl)
theorem dX0_person_20 : decode cX0_person 20 = .ok (.ifCond .eq 12, 3) := dk_153 0 12 (dk_at dksX0_person_0 20 rfl rfl)
theorem dX0_person_23 : decode cX0_person 23 = .ok (.iconst 3, 1) := dk_6 (dk_at dksX0_person_0 23 rfl rfl)
theorem dX0_person_24 : decode cX0_person 24 = .ok (.iload 4, 2) := dk_21 4 (dk_at dksX0_person_1 0 rfl rfl)
theorem dX0_person_26 : decode cX0_person 26 = .ok (.invokestatic 170, 3) := dk_184 0 170 (dk_at dksX0_person_1 2 rfl rfl)
theorem dX0_person_29 : decode cX0_person 29 = .ok (.ifCond .ne 5, 3) := dk_154 0 5 (dk_at dksX0_person_1 5 rfl rfl)
theorem dX0_person_32 : decode cX0_person 32 = .ok (.iconst (-1), 1) := dk_2 (dk_at dksX0_person_1 8 rfl rfl)
theorem dX0_person_33 : decode cX0_person 33 = .ok (.ireturn, 1) := dk_172 (dk_at dksX0_person_1 9 rfl rfl)
theorem dX0_person_34 : decode cX0_person 34 = .ok (.aload_n 0, 1) := dk_42 (dk_at dksX0_person_1 10 rfl rfl)
theorem dX0_person_35 : decode cX0_person 35 = .ok (.getfield 47, 3) := dk_180 0 47 (dk_at dksX0_person_1 11 rfl rfl)
theorem dX0_person_38 : decode cX0_person 38 = .ok (.getfield 147, 3) := dk_180 0 147 (dk_at dksX0_person_1 14 rfl rfl)
theorem dX0_person_41 : decode cX0_person 41 = .ok (.bipush 6, 2) := dk_16 6 (dk_at dksX0_person_1 17 rfl rfl)
theorem dX0_person_43 : decode cX0_person 43 = .ok (.if_icmp .ne 6, 3) := dk_160 0 6 (dk_at dksX0_person_1 19 rfl rfl)
theorem dX0_person_46 : decode cX0_person 46 = .ok (.bipush (-2), 2) := dk_16 254 (dk_at dksX0_person_1 22 rfl rfl)
theorem dX0_person_48 : decode cX0_person 48 = .ok (.ireturn, 1) := dk_172 (dk_at dksX0_person_2 0 rfl rfl)
theorem dX0_person_49 : decode cX0_person 49 = .ok (.aload_n 0, 1) := dk_42 (dk_at dksX0_person_2 1 rfl rfl)
theorem dX0_person_50 : decode cX0_person 50 = .ok (.getfield 47, 3) := dk_180 0 47 (dk_at dksX0_person_2 2 rfl rfl)
theorem dX0_person_53 : decode cX0_person 53 = .ok (.getfield 147, 3) := dk_180 0 147 (dk_at dksX0_person_2 5 rfl rfl)
theorem dX0_person_56 : decode cX0_person 56 = .ok (.istore 5, 2) := dk_54 5 (dk_at dksX0_person_2 8 rfl rfl)
theorem dX0_person_58 : decode cX0_person 58 = .ok (.aload_n 0, 1) := dk_42 (dk_at dksX0_person_2 10 rfl rfl)
theorem dX0_person_59 : decode cX0_person 59 = .ok (.getfield 47, 3) := dk_180 0 47 (dk_at dksX0_person_2 11 rfl rfl)
theorem dX0_person_62 : decode cX0_person 62 = .ok (.getfield 157, 3) := dk_180 0 157 (dk_at dksX0_person_2 14 rfl rfl)
theorem dX0_person_65 : decode cX0_person 65 = .ok (.iload 5, 2) := dk_21 5 (dk_at dksX0_person_2 17 rfl rfl)
theorem dX0_person_67 : decode cX0_person 67 = .ok (.iload_n 1, 1) := dk_27 (dk_at dksX0_person_2 19 rfl rfl)
theorem dX0_person_68 : decode cX0_person 68 = .ok (.iastore, 1) := dk_79 (dk_at dksX0_person_2 20 rfl rfl)
theorem dX0_person_69 : decode cX0_person 69 = .ok (.aload_n 0, 1) := dk_42 (dk_at dksX0_person_2 21 rfl rfl)
theorem dX0_person_70 : decode cX0_person 70 = .ok (.getfield 47, 3) := dk_180 0 47 (dk_at dksX0_person_3 0 rfl rfl)
theorem dX0_person_73 : decode cX0_person 73 = .ok (.getfield 174, 3) := dk_180 0 174 (dk_at dksX0_person_3 3 rfl rfl)
theorem dX0_person_76 : decode cX0_person 76 = .ok (.iload 5, 2) := dk_21 5 (dk_at dksX0_person_3 6 rfl rfl)
theorem dX0_person_78 : decode cX0_person 78 = .ok (.iload_n 2, 1) := dk_28 (dk_at dksX0_person_3 8 rfl rfl)
theorem dX0_person_79 : decode cX0_person 79 = .ok (.iastore, 1) := dk_79 (dk_at dksX0_person_3 9 rfl rfl)
theorem dX0_person_80 : decode cX0_person 80 = .ok (.aload_n 0, 1) := dk_42 (dk_at dksX0_person_3 10 rfl rfl)
theorem dX0_person_81 : decode cX0_person 81 = .ok (.getfield 47, 3) := dk_180 0 47 (dk_at dksX0_person_3 11 rfl rfl)
theorem dX0_person_84 : decode cX0_person 84 = .ok (.getfield 160, 3) := dk_180 0 160 (dk_at dksX0_person_3 14 rfl rfl)
theorem dX0_person_87 : decode cX0_person 87 = .ok (.iload 5, 2) := dk_21 5 (dk_at dksX0_person_3 17 rfl rfl)
theorem dX0_person_89 : decode cX0_person 89 = .ok (.iload_n 3, 1) := dk_29 (dk_at dksX0_person_3 19 rfl rfl)
theorem dX0_person_90 : decode cX0_person 90 = .ok (.iastore, 1) := dk_79 (dk_at dksX0_person_3 20 rfl rfl)
theorem dX0_person_91 : decode cX0_person 91 = .ok (.aload_n 0, 1) := dk_42 (dk_at dksX0_person_3 21 rfl rfl)
theorem dX0_person_92 : decode cX0_person 92 = .ok (.getfield 47, 3) := dk_180 0 47 (dk_at dksX0_person_4 0 rfl rfl)
theorem dX0_person_95 : decode cX0_person 95 = .ok (.getfield 176, 3) := dk_180 0 176 (dk_at dksX0_person_4 3 rfl rfl)
theorem dX0_person_98 : decode cX0_person 98 = .ok (.iload 5, 2) := dk_21 5 (dk_at dksX0_person_4 6 rfl rfl)
theorem dX0_person_100 : decode cX0_person 100 = .ok (.iload 4, 2) := dk_21 4 (dk_at dksX0_person_4 8 rfl rfl)
theorem dX0_person_102 : decode cX0_person 102 = .ok (.iastore, 1) := dk_79 (dk_at dksX0_person_4 10 rfl rfl)
theorem dX0_person_103 : decode cX0_person 103 = .ok (.aload_n 0, 1) := dk_42 (dk_at dksX0_person_4 11 rfl rfl)
theorem dX0_person_104 : decode cX0_person 104 = .ok (.getfield 47, 3) := dk_180 0 47 (dk_at dksX0_person_4 12 rfl rfl)
theorem dX0_person_107 : decode cX0_person 107 = .ok (.getfield 178, 3) := dk_180 0 178 (dk_at dksX0_person_4 15 rfl rfl)
theorem dX0_person_110 : decode cX0_person 110 = .ok (.iload 5, 2) := dk_21 5 (dk_at dksX0_person_4 18 rfl rfl)
theorem dX0_person_112 : decode cX0_person 112 = .ok (.iconst 0, 1) := dk_3 (dk_at dksX0_person_4 20 rfl rfl)
theorem dX0_person_113 : decode cX0_person 113 = .ok (.iastore, 1) := dk_79 (dk_at dksX0_person_4 21 rfl rfl)
theorem dX0_person_114 : decode cX0_person 114 = .ok (.aload_n 0, 1) := dk_42 (dk_at dksX0_person_4 22 rfl rfl)
theorem dX0_person_115 : decode cX0_person 115 = .ok (.getfield 47, 3) := dk_180 0 47 (dk_at dksX0_person_5 0 rfl rfl)
theorem dX0_person_118 : decode cX0_person 118 = .ok (.dup, 1) := dk_89 (dk_at dksX0_person_5 3 rfl rfl)
theorem dX0_person_119 : decode cX0_person 119 = .ok (.getfield 147, 3) := dk_180 0 147 (dk_at dksX0_person_5 4 rfl rfl)
theorem dX0_person_122 : decode cX0_person 122 = .ok (.iconst 1, 1) := dk_4 (dk_at dksX0_person_5 7 rfl rfl)
theorem dX0_person_123 : decode cX0_person 123 = .ok (.iadd, 1) := dk_96 (dk_at dksX0_person_5 8 rfl rfl)
theorem dX0_person_124 : decode cX0_person 124 = .ok (.putfield 147, 3) := dk_181 0 147 (dk_at dksX0_person_5 9 rfl rfl)
theorem dX0_person_127 : decode cX0_person 127 = .ok (.aload_n 0, 1) := dk_42 (dk_at dksX0_person_5 12 rfl rfl)
theorem dX0_person_128 : decode cX0_person 128 = .ok (.iload 5, 2) := dk_21 5 (dk_at dksX0_person_5 13 rfl rfl)
theorem dX0_person_130 : decode cX0_person 130 = .ok (.invokevirtual 181, 3) := dk_182 0 181 (dk_at dksX0_person_5 15 rfl rfl)
theorem dX0_person_133 : decode cX0_person 133 = .ok (.iload 5, 2) := dk_21 5 (dk_at dksX0_person_5 18 rfl rfl)
theorem dX0_person_135 : decode cX0_person 135 = .ok (.ireturn, 1) := dk_172 (dk_at dksX0_person_5 20 rfl rfl)
abbrev cX0_isKind : ByteArray := prog_1_method_8_code
def yX0_isKind : MethodName := ⟨RX0, "isKind", "(I)Z"⟩
def dkwX0_isKind_0 : List UInt8 := [26, 4, 8, 184, 0, 149, 172]
abbrev dktX0_isKind_0 : List UInt8 := dkwX0_isKind_0 ++ []
theorem dksX0_isKind_0 : cX0_isKind.data.toList.drop 0 = dktX0_isKind_0 := by decide +kernel
theorem dX0_isKind_0 : decode cX0_isKind 0 = .ok (.iload_n 0, 1) := dk_26 (dk_at dksX0_isKind_0 0 rfl rfl)
theorem dX0_isKind_1 : decode cX0_isKind 1 = .ok (.iconst 1, 1) := dk_4 (dk_at dksX0_isKind_0 1 rfl rfl)
theorem dX0_isKind_2 : decode cX0_isKind 2 = .ok (.iconst 5, 1) := dk_8 (dk_at dksX0_isKind_0 2 rfl rfl)
theorem dX0_isKind_3 : decode cX0_isKind 3 = .ok (.invokestatic 149, 3) := dk_184 0 149 (dk_at dksX0_isKind_0 3 rfl rfl)
theorem dX0_isKind_6 : decode cX0_isKind 6 = .ok (.ireturn, 1) := dk_172 (dk_at dksX0_isKind_0 6 rfl rfl)
abbrev cX0_isIn : ByteArray := prog_1_method_1_code
def yX0_isIn : MethodName := ⟨RX0, "isIn", "(III)Z"⟩
def dkwX0_isIn_0 : List UInt8 := [26, 27, 161, 0, 12, 26, 28, 163, 0, 7, 4, 167, 0, 4, 3, 172]
abbrev dktX0_isIn_0 : List UInt8 := dkwX0_isIn_0 ++ []
theorem dksX0_isIn_0 : cX0_isIn.data.toList.drop 0 = dktX0_isIn_0 := by decide +kernel
theorem dX0_isIn_0 : decode cX0_isIn 0 = .ok (.iload_n 0, 1) := dk_26 (dk_at dksX0_isIn_0 0 rfl rfl)
theorem dX0_isIn_1 : decode cX0_isIn 1 = .ok (.iload_n 1, 1) := dk_27 (dk_at dksX0_isIn_0 1 rfl rfl)
theorem dX0_isIn_2 : decode cX0_isIn 2 = .ok (.if_icmp .lt 12, 3) := dk_161 0 12 (dk_at dksX0_isIn_0 2 rfl rfl)
theorem dX0_isIn_5 : decode cX0_isIn 5 = .ok (.iload_n 0, 1) := dk_26 (dk_at dksX0_isIn_0 5 rfl rfl)
theorem dX0_isIn_6 : decode cX0_isIn 6 = .ok (.iload_n 2, 1) := dk_28 (dk_at dksX0_isIn_0 6 rfl rfl)
theorem dX0_isIn_7 : decode cX0_isIn 7 = .ok (.if_icmp .gt 7, 3) := dk_163 0 7 (dk_at dksX0_isIn_0 7 rfl rfl)
theorem dX0_isIn_10 : decode cX0_isIn 10 = .ok (.iconst 1, 1) := dk_4 (dk_at dksX0_isIn_0 10 rfl rfl)
theorem dX0_isIn_11 : decode cX0_isIn 11 = .ok (.goto 4, 3) := dk_167 0 4 (dk_at dksX0_isIn_0 11 rfl rfl)
theorem dX0_isIn_14 : decode cX0_isIn 14 = .ok (.iconst 0, 1) := dk_3 (dk_at dksX0_isIn_0 14 rfl rfl)
theorem dX0_isIn_15 : decode cX0_isIn 15 = .ok (.ireturn, 1) := dk_172 (dk_at dksX0_isIn_0 15 rfl rfl)
abbrev cX0_isTold : ByteArray := prog_1_method_9_code
def yX0_isTold : MethodName := ⟨RX0, "isTold", "(II)Z"⟩
def dkwX0_isTold_3 : List UInt8 := [167, 0, 4, 3, 172]
abbrev dktX0_isTold_3 : List UInt8 := dkwX0_isTold_3 ++ []
def dkwX0_isTold_2 : List UInt8 := [27, 184, 0, 153, 172, 26, 6, 160, 0, 18, 27, 3, 17, 3, 231, 184, 0, 149, 153, 0, 7, 4]
abbrev dktX0_isTold_2 : List UInt8 := dkwX0_isTold_2 ++ dktX0_isTold_3
def dkwX0_isTold_1 : List UInt8 := [171, 0, 0, 0, 0, 0, 32, 0, 0, 0, 2, 0, 0, 0, 1, 0, 0, 0, 27, 0, 0, 0, 2, 0, 0, 0, 27]
abbrev dktX0_isTold_1 : List UInt8 := dkwX0_isTold_1 ++ dktX0_isTold_2
def dkwX0_isTold_0 : List UInt8 := [26]
abbrev dktX0_isTold_0 : List UInt8 := dkwX0_isTold_0 ++ dktX0_isTold_1
theorem dksX0_isTold_0 : cX0_isTold.data.toList.drop 0 = dktX0_isTold_0 := by decide +kernel
theorem dksX0_isTold_1 : cX0_isTold.data.toList.drop 1 = dktX0_isTold_1 := dk_seg dksX0_isTold_0 1 rfl rfl
theorem dksX0_isTold_2 : cX0_isTold.data.toList.drop 28 = dktX0_isTold_2 := dk_seg dksX0_isTold_1 27 rfl rfl
theorem dksX0_isTold_3 : cX0_isTold.data.toList.drop 50 = dktX0_isTold_3 := dk_seg dksX0_isTold_2 22 rfl rfl
theorem dX0_isTold_0 : decode cX0_isTold 0 = .ok (.iload_n 0, 1) := dk_26 (dk_at dksX0_isTold_0 0 rfl rfl)
theorem dX0_isTold_1 : decode cX0_isTold 1 = .ok (.lookupswitch 32 #[(1, 27), (2, 27)], 27) := by decide +kernel
theorem dX0_isTold_28 : decode cX0_isTold 28 = .ok (.iload_n 1, 1) := dk_27 (dk_at dksX0_isTold_2 0 rfl rfl)
theorem dX0_isTold_29 : decode cX0_isTold 29 = .ok (.invokestatic 153, 3) := dk_184 0 153 (dk_at dksX0_isTold_2 1 rfl rfl)
theorem dX0_isTold_32 : decode cX0_isTold 32 = .ok (.ireturn, 1) := dk_172 (dk_at dksX0_isTold_2 4 rfl rfl)
theorem dX0_isTold_33 : decode cX0_isTold 33 = .ok (.iload_n 0, 1) := dk_26 (dk_at dksX0_isTold_2 5 rfl rfl)
theorem dX0_isTold_34 : decode cX0_isTold 34 = .ok (.iconst 3, 1) := dk_6 (dk_at dksX0_isTold_2 6 rfl rfl)
theorem dX0_isTold_35 : decode cX0_isTold 35 = .ok (.if_icmp .ne 18, 3) := dk_160 0 18 (dk_at dksX0_isTold_2 7 rfl rfl)
theorem dX0_isTold_38 : decode cX0_isTold 38 = .ok (.iload_n 1, 1) := dk_27 (dk_at dksX0_isTold_2 10 rfl rfl)
theorem dX0_isTold_39 : decode cX0_isTold 39 = .ok (.iconst 0, 1) := dk_3 (dk_at dksX0_isTold_2 11 rfl rfl)
theorem dX0_isTold_40 : decode cX0_isTold 40 = .ok (.sipush 999, 3) := dk_17 3 231 (dk_at dksX0_isTold_2 12 rfl rfl)
theorem dX0_isTold_43 : decode cX0_isTold 43 = .ok (.invokestatic 149, 3) := dk_184 0 149 (dk_at dksX0_isTold_2 15 rfl rfl)
theorem dX0_isTold_46 : decode cX0_isTold 46 = .ok (.ifCond .eq 7, 3) := dk_153 0 7 (dk_at dksX0_isTold_2 18 rfl rfl)
theorem dX0_isTold_49 : decode cX0_isTold 49 = .ok (.iconst 1, 1) := dk_4 (dk_at dksX0_isTold_2 21 rfl rfl)
theorem dX0_isTold_50 : decode cX0_isTold 50 = .ok (.goto 4, 3) := dk_167 0 4 (dk_at dksX0_isTold_3 0 rfl rfl)
theorem dX0_isTold_53 : decode cX0_isTold 53 = .ok (.iconst 0, 1) := dk_3 (dk_at dksX0_isTold_3 3 rfl rfl)
theorem dX0_isTold_54 : decode cX0_isTold 54 = .ok (.ireturn, 1) := dk_172 (dk_at dksX0_isTold_3 4 rfl rfl)
abbrev cX0_isThing : ByteArray := prog_1_method_7_code
def yX0_isThing : MethodName := ⟨RX0, "isThing", "(I)Z"⟩
def dkwX0_isThing_0 : List UInt8 := [26, 3, 16, 7, 184, 0, 149, 172]
abbrev dktX0_isThing_0 : List UInt8 := dkwX0_isThing_0 ++ []
theorem dksX0_isThing_0 : cX0_isThing.data.toList.drop 0 = dktX0_isThing_0 := by decide +kernel
theorem dX0_isThing_0 : decode cX0_isThing 0 = .ok (.iload_n 0, 1) := dk_26 (dk_at dksX0_isThing_0 0 rfl rfl)
theorem dX0_isThing_1 : decode cX0_isThing 1 = .ok (.iconst 0, 1) := dk_3 (dk_at dksX0_isThing_0 1 rfl rfl)
theorem dX0_isThing_2 : decode cX0_isThing 2 = .ok (.bipush 7, 2) := dk_16 7 (dk_at dksX0_isThing_0 2 rfl rfl)
theorem dX0_isThing_4 : decode cX0_isThing 4 = .ok (.invokestatic 149, 3) := dk_184 0 149 (dk_at dksX0_isThing_0 4 rfl rfl)
theorem dX0_isThing_7 : decode cX0_isThing 7 = .ok (.ireturn, 1) := dk_172 (dk_at dksX0_isThing_0 7 rfl rfl)
abbrev cX0_renew : ByteArray := prog_1_method_10_code
def yX0_renew : MethodName := ⟨RX0, "renew", "(I)V"⟩
def dkwX0_renew_1 : List UInt8 := [184, 0, 163, 83, 177]
abbrev dktX0_renew_1 : List UInt8 := dkwX0_renew_1 ++ []
def dkwX0_renew_0 : List UInt8 := [42, 180, 0, 59, 27, 42, 180, 0, 47, 180, 0, 157, 27, 46, 27, 42, 180, 0, 47, 180, 0, 160, 27, 46]
abbrev dktX0_renew_0 : List UInt8 := dkwX0_renew_0 ++ dktX0_renew_1
theorem dksX0_renew_0 : cX0_renew.data.toList.drop 0 = dktX0_renew_0 := by decide +kernel
theorem dksX0_renew_1 : cX0_renew.data.toList.drop 24 = dktX0_renew_1 := dk_seg dksX0_renew_0 24 rfl rfl
theorem dX0_renew_0 : decode cX0_renew 0 = .ok (.aload_n 0, 1) := dk_42 (dk_at dksX0_renew_0 0 rfl rfl)
theorem dX0_renew_1 : decode cX0_renew 1 = .ok (.getfield 59, 3) := dk_180 0 59 (dk_at dksX0_renew_0 1 rfl rfl)
theorem dX0_renew_4 : decode cX0_renew 4 = .ok (.iload_n 1, 1) := dk_27 (dk_at dksX0_renew_0 4 rfl rfl)
theorem dX0_renew_5 : decode cX0_renew 5 = .ok (.aload_n 0, 1) := dk_42 (dk_at dksX0_renew_0 5 rfl rfl)
theorem dX0_renew_6 : decode cX0_renew 6 = .ok (.getfield 47, 3) := dk_180 0 47 (dk_at dksX0_renew_0 6 rfl rfl)
theorem dX0_renew_9 : decode cX0_renew 9 = .ok (.getfield 157, 3) := dk_180 0 157 (dk_at dksX0_renew_0 9 rfl rfl)
theorem dX0_renew_12 : decode cX0_renew 12 = .ok (.iload_n 1, 1) := dk_27 (dk_at dksX0_renew_0 12 rfl rfl)
theorem dX0_renew_13 : decode cX0_renew 13 = .ok (.iaload, 1) := dk_46 (dk_at dksX0_renew_0 13 rfl rfl)
theorem dX0_renew_14 : decode cX0_renew 14 = .ok (.iload_n 1, 1) := dk_27 (dk_at dksX0_renew_0 14 rfl rfl)
theorem dX0_renew_15 : decode cX0_renew 15 = .ok (.aload_n 0, 1) := dk_42 (dk_at dksX0_renew_0 15 rfl rfl)
theorem dX0_renew_16 : decode cX0_renew 16 = .ok (.getfield 47, 3) := dk_180 0 47 (dk_at dksX0_renew_0 16 rfl rfl)
theorem dX0_renew_19 : decode cX0_renew 19 = .ok (.getfield 160, 3) := dk_180 0 160 (dk_at dksX0_renew_0 19 rfl rfl)
theorem dX0_renew_22 : decode cX0_renew 22 = .ok (.iload_n 1, 1) := dk_27 (dk_at dksX0_renew_0 22 rfl rfl)
theorem dX0_renew_23 : decode cX0_renew 23 = .ok (.iaload, 1) := dk_46 (dk_at dksX0_renew_0 23 rfl rfl)
theorem dX0_renew_24 : decode cX0_renew 24 = .ok (.invokestatic 163, 3) := dk_184 0 163 (dk_at dksX0_renew_1 0 rfl rfl)
theorem dX0_renew_27 : decode cX0_renew 27 = .ok (.aastore, 1) := dk_83 (dk_at dksX0_renew_1 3 rfl rfl)
theorem dX0_renew_28 : decode cX0_renew 28 = .ok (.return_, 1) := dk_177 (dk_at dksX0_renew_1 4 rfl rfl)
abbrev cX0_made : ByteArray := prog_1_method_3_code
def yX0_made : MethodName := ⟨RX0, "made", "(III)LHadForVoice$Person;"⟩
def dkwX0_made_4 : List UInt8 := [183, 0, 30, 176]
abbrev dktX0_made_4 : List UInt8 := dkwX0_made_4 ++ []
def dkwX0_made_3 : List UInt8 := [27, 28, 183, 0, 24, 176, 187, 0, 25, 89, 27, 28, 183, 0, 27, 176, 187, 0, 28, 89, 27, 28]
abbrev dktX0_made_3 : List UInt8 := dkwX0_made_3 ++ dktX0_made_4
def dkwX0_made_2 : List UInt8 := [187, 0, 13, 89, 27, 28, 183, 0, 15, 176, 187, 0, 19, 89, 27, 28, 183, 0, 21, 176, 187, 0, 22, 89]
abbrev dktX0_made_2 : List UInt8 := dkwX0_made_2 ++ dktX0_made_3
def dkwX0_made_1 : List UInt8 := [170, 0, 0, 0, 0, 0, 71, 0, 0, 0, 1, 0, 0, 0, 4, 0, 0, 0, 31, 0, 0, 0, 41, 0, 0, 0, 51, 0, 0, 0, 61]
abbrev dktX0_made_1 : List UInt8 := dkwX0_made_1 ++ dktX0_made_2
def dkwX0_made_0 : List UInt8 := [26]
abbrev dktX0_made_0 : List UInt8 := dkwX0_made_0 ++ dktX0_made_1
theorem dksX0_made_0 : cX0_made.data.toList.drop 0 = dktX0_made_0 := by decide +kernel
theorem dksX0_made_1 : cX0_made.data.toList.drop 1 = dktX0_made_1 := dk_seg dksX0_made_0 1 rfl rfl
theorem dksX0_made_2 : cX0_made.data.toList.drop 32 = dktX0_made_2 := dk_seg dksX0_made_1 31 rfl rfl
theorem dksX0_made_3 : cX0_made.data.toList.drop 56 = dktX0_made_3 := dk_seg dksX0_made_2 24 rfl rfl
theorem dksX0_made_4 : cX0_made.data.toList.drop 78 = dktX0_made_4 := dk_seg dksX0_made_3 22 rfl rfl
theorem dX0_made_0 : decode cX0_made 0 = .ok (.iload_n 0, 1) := dk_26 (dk_at dksX0_made_0 0 rfl rfl)
theorem dX0_made_1 : decode cX0_made 1 = .ok (.tableswitch 71 1 4 #[31, 41, 51, 61], 31) := by decide +kernel
theorem dX0_made_32 : decode cX0_made 32 = .ok (.new 13, 3) := dk_187 0 13 (dk_at dksX0_made_2 0 rfl rfl)
theorem dX0_made_35 : decode cX0_made 35 = .ok (.dup, 1) := dk_89 (dk_at dksX0_made_2 3 rfl rfl)
theorem dX0_made_36 : decode cX0_made 36 = .ok (.iload_n 1, 1) := dk_27 (dk_at dksX0_made_2 4 rfl rfl)
theorem dX0_made_37 : decode cX0_made 37 = .ok (.iload_n 2, 1) := dk_28 (dk_at dksX0_made_2 5 rfl rfl)
theorem dX0_made_38 : decode cX0_made 38 = .ok (.invokespecial 15, 3) := dk_183 0 15 (dk_at dksX0_made_2 6 rfl rfl)
theorem dX0_made_41 : decode cX0_made 41 = .ok (.areturn, 1) := dk_176 (dk_at dksX0_made_2 9 rfl rfl)
theorem dX0_made_42 : decode cX0_made 42 = .ok (.new 19, 3) := dk_187 0 19 (dk_at dksX0_made_2 10 rfl rfl)
theorem dX0_made_45 : decode cX0_made 45 = .ok (.dup, 1) := dk_89 (dk_at dksX0_made_2 13 rfl rfl)
theorem dX0_made_46 : decode cX0_made 46 = .ok (.iload_n 1, 1) := dk_27 (dk_at dksX0_made_2 14 rfl rfl)
theorem dX0_made_47 : decode cX0_made 47 = .ok (.iload_n 2, 1) := dk_28 (dk_at dksX0_made_2 15 rfl rfl)
theorem dX0_made_48 : decode cX0_made 48 = .ok (.invokespecial 21, 3) := dk_183 0 21 (dk_at dksX0_made_2 16 rfl rfl)
theorem dX0_made_51 : decode cX0_made 51 = .ok (.areturn, 1) := dk_176 (dk_at dksX0_made_2 19 rfl rfl)
theorem dX0_made_52 : decode cX0_made 52 = .ok (.new 22, 3) := dk_187 0 22 (dk_at dksX0_made_2 20 rfl rfl)
theorem dX0_made_55 : decode cX0_made 55 = .ok (.dup, 1) := dk_89 (dk_at dksX0_made_2 23 rfl rfl)
theorem dX0_made_56 : decode cX0_made 56 = .ok (.iload_n 1, 1) := dk_27 (dk_at dksX0_made_3 0 rfl rfl)
theorem dX0_made_57 : decode cX0_made 57 = .ok (.iload_n 2, 1) := dk_28 (dk_at dksX0_made_3 1 rfl rfl)
theorem dX0_made_58 : decode cX0_made 58 = .ok (.invokespecial 24, 3) := dk_183 0 24 (dk_at dksX0_made_3 2 rfl rfl)
theorem dX0_made_61 : decode cX0_made 61 = .ok (.areturn, 1) := dk_176 (dk_at dksX0_made_3 5 rfl rfl)
theorem dX0_made_62 : decode cX0_made 62 = .ok (.new 25, 3) := dk_187 0 25 (dk_at dksX0_made_3 6 rfl rfl)
theorem dX0_made_65 : decode cX0_made 65 = .ok (.dup, 1) := dk_89 (dk_at dksX0_made_3 9 rfl rfl)
theorem dX0_made_66 : decode cX0_made 66 = .ok (.iload_n 1, 1) := dk_27 (dk_at dksX0_made_3 10 rfl rfl)
theorem dX0_made_67 : decode cX0_made 67 = .ok (.iload_n 2, 1) := dk_28 (dk_at dksX0_made_3 11 rfl rfl)
theorem dX0_made_68 : decode cX0_made 68 = .ok (.invokespecial 27, 3) := dk_183 0 27 (dk_at dksX0_made_3 12 rfl rfl)
theorem dX0_made_71 : decode cX0_made 71 = .ok (.areturn, 1) := dk_176 (dk_at dksX0_made_3 15 rfl rfl)
theorem dX0_made_72 : decode cX0_made 72 = .ok (.new 28, 3) := dk_187 0 28 (dk_at dksX0_made_3 16 rfl rfl)
theorem dX0_made_75 : decode cX0_made 75 = .ok (.dup, 1) := dk_89 (dk_at dksX0_made_3 19 rfl rfl)
theorem dX0_made_76 : decode cX0_made 76 = .ok (.iload_n 1, 1) := dk_27 (dk_at dksX0_made_3 20 rfl rfl)
theorem dX0_made_77 : decode cX0_made 77 = .ok (.iload_n 2, 1) := dk_28 (dk_at dksX0_made_3 21 rfl rfl)
theorem dX0_made_78 : decode cX0_made 78 = .ok (.invokespecial 30, 3) := dk_183 0 30 (dk_at dksX0_made_4 0 rfl rfl)
theorem dX0_made_81 : decode cX0_made 81 = .ok (.areturn, 1) := dk_176 (dk_at dksX0_made_4 3 rfl rfl)
abbrev cX0_personOf : ByteArray := prog_1_method_12_code
def yX0_personOf : MethodName := ⟨RX0, "personOf", "(II)I"⟩
def dkwX0_personOf_5 : List UInt8 := [46, 172, 2, 172]
abbrev dktX0_personOf_5 : List UInt8 := dkwX0_personOf_5 ++ []
def dkwX0_personOf_4 : List UInt8 := [180, 0, 47, 27, 182, 0, 192, 153, 0, 7, 4, 167, 0, 4, 3, 172, 42, 180, 0, 47, 180, 0, 178, 27]
abbrev dktX0_personOf_4 : List UInt8 := dkwX0_personOf_4 ++ dktX0_personOf_5
def dkwX0_personOf_3 : List UInt8 := [180, 0, 160, 27, 46, 172, 42, 180, 0, 47, 180, 0, 176, 27, 46, 172, 42, 27, 182, 0, 188, 172, 42]
abbrev dktX0_personOf_3 : List UInt8 := dkwX0_personOf_3 ++ dktX0_personOf_4
def dkwX0_personOf_2 : List UInt8 := [42, 180, 0, 47, 180, 0, 157, 27, 46, 172, 42, 180, 0, 47, 180, 0, 174, 27, 46, 172, 42, 180, 0, 47]
abbrev dktX0_personOf_2 : List UInt8 := dkwX0_personOf_2 ++ dktX0_personOf_3
def dkwX0_personOf_1 : List UInt8 := [170, 0, 0, 0, 114, 0, 0, 0, 0, 0, 0, 0, 6, 0, 0, 0, 41, 0, 0, 0, 51, 0, 0, 0, 61, 0, 0, 0, 71, 0, 0, 0, 81, 0, 0, 0, 87, 0, 0, 0, 104]
abbrev dktX0_personOf_1 : List UInt8 := dkwX0_personOf_1 ++ dktX0_personOf_2
def dkwX0_personOf_0 : List UInt8 := [42, 27, 182, 0, 185, 154, 0, 5, 2, 172, 28]
abbrev dktX0_personOf_0 : List UInt8 := dkwX0_personOf_0 ++ dktX0_personOf_1
theorem dksX0_personOf_0 : cX0_personOf.data.toList.drop 0 = dktX0_personOf_0 := by decide +kernel
theorem dksX0_personOf_1 : cX0_personOf.data.toList.drop 11 = dktX0_personOf_1 := dk_seg dksX0_personOf_0 11 rfl rfl
theorem dksX0_personOf_2 : cX0_personOf.data.toList.drop 52 = dktX0_personOf_2 := dk_seg dksX0_personOf_1 41 rfl rfl
theorem dksX0_personOf_3 : cX0_personOf.data.toList.drop 76 = dktX0_personOf_3 := dk_seg dksX0_personOf_2 24 rfl rfl
theorem dksX0_personOf_4 : cX0_personOf.data.toList.drop 99 = dktX0_personOf_4 := dk_seg dksX0_personOf_3 23 rfl rfl
theorem dksX0_personOf_5 : cX0_personOf.data.toList.drop 123 = dktX0_personOf_5 := dk_seg dksX0_personOf_4 24 rfl rfl
theorem dX0_personOf_0 : decode cX0_personOf 0 = .ok (.aload_n 0, 1) := dk_42 (dk_at dksX0_personOf_0 0 rfl rfl)
theorem dX0_personOf_1 : decode cX0_personOf 1 = .ok (.iload_n 1, 1) := dk_27 (dk_at dksX0_personOf_0 1 rfl rfl)
theorem dX0_personOf_2 : decode cX0_personOf 2 = .ok (.invokevirtual 185, 3) := dk_182 0 185 (dk_at dksX0_personOf_0 2 rfl rfl)
theorem dX0_personOf_5 : decode cX0_personOf 5 = .ok (.ifCond .ne 5, 3) := dk_154 0 5 (dk_at dksX0_personOf_0 5 rfl rfl)
theorem dX0_personOf_8 : decode cX0_personOf 8 = .ok (.iconst (-1), 1) := dk_2 (dk_at dksX0_personOf_0 8 rfl rfl)
theorem dX0_personOf_9 : decode cX0_personOf 9 = .ok (.ireturn, 1) := dk_172 (dk_at dksX0_personOf_0 9 rfl rfl)
theorem dX0_personOf_10 : decode cX0_personOf 10 = .ok (.iload_n 2, 1) := dk_28 (dk_at dksX0_personOf_0 10 rfl rfl)
theorem dX0_personOf_11 : decode cX0_personOf 11 = .ok (.tableswitch 114 0 6 #[41, 51, 61, 71, 81, 87, 104], 41) := by decide +kernel
theorem dX0_personOf_52 : decode cX0_personOf 52 = .ok (.aload_n 0, 1) := dk_42 (dk_at dksX0_personOf_2 0 rfl rfl)
theorem dX0_personOf_53 : decode cX0_personOf 53 = .ok (.getfield 47, 3) := dk_180 0 47 (dk_at dksX0_personOf_2 1 rfl rfl)
theorem dX0_personOf_56 : decode cX0_personOf 56 = .ok (.getfield 157, 3) := dk_180 0 157 (dk_at dksX0_personOf_2 4 rfl rfl)
theorem dX0_personOf_59 : decode cX0_personOf 59 = .ok (.iload_n 1, 1) := dk_27 (dk_at dksX0_personOf_2 7 rfl rfl)
theorem dX0_personOf_60 : decode cX0_personOf 60 = .ok (.iaload, 1) := dk_46 (dk_at dksX0_personOf_2 8 rfl rfl)
theorem dX0_personOf_61 : decode cX0_personOf 61 = .ok (.ireturn, 1) := dk_172 (dk_at dksX0_personOf_2 9 rfl rfl)
theorem dX0_personOf_62 : decode cX0_personOf 62 = .ok (.aload_n 0, 1) := dk_42 (dk_at dksX0_personOf_2 10 rfl rfl)
theorem dX0_personOf_63 : decode cX0_personOf 63 = .ok (.getfield 47, 3) := dk_180 0 47 (dk_at dksX0_personOf_2 11 rfl rfl)
theorem dX0_personOf_66 : decode cX0_personOf 66 = .ok (.getfield 174, 3) := dk_180 0 174 (dk_at dksX0_personOf_2 14 rfl rfl)
theorem dX0_personOf_69 : decode cX0_personOf 69 = .ok (.iload_n 1, 1) := dk_27 (dk_at dksX0_personOf_2 17 rfl rfl)
theorem dX0_personOf_70 : decode cX0_personOf 70 = .ok (.iaload, 1) := dk_46 (dk_at dksX0_personOf_2 18 rfl rfl)
theorem dX0_personOf_71 : decode cX0_personOf 71 = .ok (.ireturn, 1) := dk_172 (dk_at dksX0_personOf_2 19 rfl rfl)
theorem dX0_personOf_72 : decode cX0_personOf 72 = .ok (.aload_n 0, 1) := dk_42 (dk_at dksX0_personOf_2 20 rfl rfl)
theorem dX0_personOf_73 : decode cX0_personOf 73 = .ok (.getfield 47, 3) := dk_180 0 47 (dk_at dksX0_personOf_2 21 rfl rfl)
theorem dX0_personOf_76 : decode cX0_personOf 76 = .ok (.getfield 160, 3) := dk_180 0 160 (dk_at dksX0_personOf_3 0 rfl rfl)
theorem dX0_personOf_79 : decode cX0_personOf 79 = .ok (.iload_n 1, 1) := dk_27 (dk_at dksX0_personOf_3 3 rfl rfl)
theorem dX0_personOf_80 : decode cX0_personOf 80 = .ok (.iaload, 1) := dk_46 (dk_at dksX0_personOf_3 4 rfl rfl)
theorem dX0_personOf_81 : decode cX0_personOf 81 = .ok (.ireturn, 1) := dk_172 (dk_at dksX0_personOf_3 5 rfl rfl)
theorem dX0_personOf_82 : decode cX0_personOf 82 = .ok (.aload_n 0, 1) := dk_42 (dk_at dksX0_personOf_3 6 rfl rfl)
theorem dX0_personOf_83 : decode cX0_personOf 83 = .ok (.getfield 47, 3) := dk_180 0 47 (dk_at dksX0_personOf_3 7 rfl rfl)
theorem dX0_personOf_86 : decode cX0_personOf 86 = .ok (.getfield 176, 3) := dk_180 0 176 (dk_at dksX0_personOf_3 10 rfl rfl)
theorem dX0_personOf_89 : decode cX0_personOf 89 = .ok (.iload_n 1, 1) := dk_27 (dk_at dksX0_personOf_3 13 rfl rfl)
theorem dX0_personOf_90 : decode cX0_personOf 90 = .ok (.iaload, 1) := dk_46 (dk_at dksX0_personOf_3 14 rfl rfl)
theorem dX0_personOf_91 : decode cX0_personOf 91 = .ok (.ireturn, 1) := dk_172 (dk_at dksX0_personOf_3 15 rfl rfl)
theorem dX0_personOf_92 : decode cX0_personOf 92 = .ok (.aload_n 0, 1) := dk_42 (dk_at dksX0_personOf_3 16 rfl rfl)
theorem dX0_personOf_93 : decode cX0_personOf 93 = .ok (.iload_n 1, 1) := dk_27 (dk_at dksX0_personOf_3 17 rfl rfl)
theorem dX0_personOf_94 : decode cX0_personOf 94 = .ok (.invokevirtual 188, 3) := dk_182 0 188 (dk_at dksX0_personOf_3 18 rfl rfl)
theorem dX0_personOf_97 : decode cX0_personOf 97 = .ok (.ireturn, 1) := dk_172 (dk_at dksX0_personOf_3 21 rfl rfl)
theorem dX0_personOf_98 : decode cX0_personOf 98 = .ok (.aload_n 0, 1) := dk_42 (dk_at dksX0_personOf_3 22 rfl rfl)
theorem dX0_personOf_99 : decode cX0_personOf 99 = .ok (.getfield 47, 3) := dk_180 0 47 (dk_at dksX0_personOf_4 0 rfl rfl)
theorem dX0_personOf_102 : decode cX0_personOf 102 = .ok (.iload_n 1, 1) := dk_27 (dk_at dksX0_personOf_4 3 rfl rfl)
theorem dX0_personOf_103 : decode cX0_personOf 103 = .ok (.invokevirtual 192, 3) := dk_182 0 192 (dk_at dksX0_personOf_4 4 rfl rfl)
theorem dX0_personOf_106 : decode cX0_personOf 106 = .ok (.ifCond .eq 7, 3) := dk_153 0 7 (dk_at dksX0_personOf_4 7 rfl rfl)
theorem dX0_personOf_109 : decode cX0_personOf 109 = .ok (.iconst 1, 1) := dk_4 (dk_at dksX0_personOf_4 10 rfl rfl)
theorem dX0_personOf_110 : decode cX0_personOf 110 = .ok (.goto 4, 3) := dk_167 0 4 (dk_at dksX0_personOf_4 11 rfl rfl)
theorem dX0_personOf_113 : decode cX0_personOf 113 = .ok (.iconst 0, 1) := dk_3 (dk_at dksX0_personOf_4 14 rfl rfl)
theorem dX0_personOf_114 : decode cX0_personOf 114 = .ok (.ireturn, 1) := dk_172 (dk_at dksX0_personOf_4 15 rfl rfl)
theorem dX0_personOf_115 : decode cX0_personOf 115 = .ok (.aload_n 0, 1) := dk_42 (dk_at dksX0_personOf_4 16 rfl rfl)
theorem dX0_personOf_116 : decode cX0_personOf 116 = .ok (.getfield 47, 3) := dk_180 0 47 (dk_at dksX0_personOf_4 17 rfl rfl)
theorem dX0_personOf_119 : decode cX0_personOf 119 = .ok (.getfield 178, 3) := dk_180 0 178 (dk_at dksX0_personOf_4 20 rfl rfl)
theorem dX0_personOf_122 : decode cX0_personOf 122 = .ok (.iload_n 1, 1) := dk_27 (dk_at dksX0_personOf_4 23 rfl rfl)
theorem dX0_personOf_123 : decode cX0_personOf 123 = .ok (.iaload, 1) := dk_46 (dk_at dksX0_personOf_5 0 rfl rfl)
theorem dX0_personOf_124 : decode cX0_personOf 124 = .ok (.ireturn, 1) := dk_172 (dk_at dksX0_personOf_5 1 rfl rfl)
theorem dX0_personOf_125 : decode cX0_personOf 125 = .ok (.iconst (-1), 1) := dk_2 (dk_at dksX0_personOf_5 2 rfl rfl)
theorem dX0_personOf_126 : decode cX0_personOf 126 = .ok (.ireturn, 1) := dk_172 (dk_at dksX0_personOf_5 3 rfl rfl)
abbrev cX0_isPerson : ByteArray := prog_1_method_6_code
def yX0_isPerson : MethodName := ⟨RX0, "isPerson", "(I)Z"⟩
def dkwX0_isPerson_0 : List UInt8 := [27, 3, 42, 180, 0, 47, 180, 0, 147, 4, 100, 184, 0, 149, 172]
abbrev dktX0_isPerson_0 : List UInt8 := dkwX0_isPerson_0 ++ []
theorem dksX0_isPerson_0 : cX0_isPerson.data.toList.drop 0 = dktX0_isPerson_0 := by decide +kernel
theorem dX0_isPerson_0 : decode cX0_isPerson 0 = .ok (.iload_n 1, 1) := dk_27 (dk_at dksX0_isPerson_0 0 rfl rfl)
theorem dX0_isPerson_1 : decode cX0_isPerson 1 = .ok (.iconst 0, 1) := dk_3 (dk_at dksX0_isPerson_0 1 rfl rfl)
theorem dX0_isPerson_2 : decode cX0_isPerson 2 = .ok (.aload_n 0, 1) := dk_42 (dk_at dksX0_isPerson_0 2 rfl rfl)
theorem dX0_isPerson_3 : decode cX0_isPerson 3 = .ok (.getfield 47, 3) := dk_180 0 47 (dk_at dksX0_isPerson_0 3 rfl rfl)
theorem dX0_isPerson_6 : decode cX0_isPerson 6 = .ok (.getfield 147, 3) := dk_180 0 147 (dk_at dksX0_isPerson_0 6 rfl rfl)
theorem dX0_isPerson_9 : decode cX0_isPerson 9 = .ok (.iconst 1, 1) := dk_4 (dk_at dksX0_isPerson_0 9 rfl rfl)
theorem dX0_isPerson_10 : decode cX0_isPerson 10 = .ok (.isub, 1) := dk_100 (dk_at dksX0_isPerson_0 10 rfl rfl)
theorem dX0_isPerson_11 : decode cX0_isPerson 11 = .ok (.invokestatic 149, 3) := dk_184 0 149 (dk_at dksX0_isPerson_0 11 rfl rfl)
theorem dX0_isPerson_14 : decode cX0_isPerson 14 = .ok (.ireturn, 1) := dk_172 (dk_at dksX0_isPerson_0 14 rfl rfl)
abbrev cX0_priceOf : ByteArray := prog_1_method_41_code
def yX0_priceOf : MethodName := ⟨RX0, "priceOf", "(I)I"⟩
def dkwX0_priceOf_8 : List UInt8 := [167, 255, 190, 42, 180, 0, 59, 27, 50, 29, 42, 180, 0, 47, 180, 0, 176, 27, 46, 28, 182, 1, 110, 172]
abbrev dktX0_priceOf_8 : List UInt8 := dkwX0_priceOf_8 ++ []
def dkwX0_priceOf_7 : List UInt8 := [167, 0, 21, 42, 180, 0, 47, 180, 1, 82, 21, 4, 50, 29, 182, 1, 107, 62, 167, 0, 9, 132, 4, 1]
abbrev dktX0_priceOf_7 : List UInt8 := dkwX0_priceOf_7 ++ dktX0_priceOf_8
def dkwX0_priceOf_6 : List UInt8 := [21, 4, 50, 42, 180, 0, 47, 180, 0, 157, 27, 46, 42, 180, 0, 107, 182, 1, 103, 154, 0, 6]
abbrev dktX0_priceOf_6 : List UInt8 := dkwX0_priceOf_6 ++ dktX0_priceOf_7
def dkwX0_priceOf_5 : List UInt8 := [62, 3, 54, 4, 21, 4, 42, 180, 0, 47, 180, 1, 82, 190, 162, 0, 59, 42, 180, 0, 47, 180, 1, 82]
abbrev dktX0_priceOf_5 : List UInt8 := dkwX0_priceOf_5 ++ dktX0_priceOf_6
def dkwX0_priceOf_4 : List UInt8 := [42, 180, 0, 107, 4, 46, 42, 180, 0, 107, 3, 46, 100, 184, 1, 97, 42, 180, 0, 47, 180, 0, 204, 96]
abbrev dktX0_priceOf_4 : List UInt8 := dkwX0_priceOf_4 ++ dktX0_priceOf_5
def dkwX0_priceOf_3 : List UInt8 := [180, 0, 47, 180, 0, 176, 27, 46, 79, 42, 180, 0, 107, 6, 28, 79, 42, 180, 0, 107, 7, 27, 79, 3]
abbrev dktX0_priceOf_3 : List UInt8 := dkwX0_priceOf_3 ++ dktX0_priceOf_4
def dkwX0_priceOf_2 : List UInt8 := [180, 0, 47, 180, 0, 198, 42, 180, 0, 47, 180, 0, 160, 27, 46, 46, 79, 42, 180, 0, 107, 5, 42]
abbrev dktX0_priceOf_2 : List UInt8 := dkwX0_priceOf_2 ++ dktX0_priceOf_3
def dkwX0_priceOf_1 : List UInt8 := [180, 0, 47, 180, 0, 198, 42, 180, 0, 47, 180, 0, 174, 27, 46, 46, 79, 42, 180, 0, 107, 4, 42]
abbrev dktX0_priceOf_1 : List UInt8 := dkwX0_priceOf_1 ++ dktX0_priceOf_2
def dkwX0_priceOf_0 : List UInt8 := [42, 180, 0, 47, 182, 0, 211, 42, 182, 1, 89, 2, 130, 126, 184, 1, 92, 61, 42, 180, 0, 107, 3, 42]
abbrev dktX0_priceOf_0 : List UInt8 := dkwX0_priceOf_0 ++ dktX0_priceOf_1
theorem dksX0_priceOf_0 : cX0_priceOf.data.toList.drop 0 = dktX0_priceOf_0 := by decide +kernel
theorem dksX0_priceOf_1 : cX0_priceOf.data.toList.drop 24 = dktX0_priceOf_1 := dk_seg dksX0_priceOf_0 24 rfl rfl
theorem dksX0_priceOf_2 : cX0_priceOf.data.toList.drop 47 = dktX0_priceOf_2 := dk_seg dksX0_priceOf_1 23 rfl rfl
theorem dksX0_priceOf_3 : cX0_priceOf.data.toList.drop 70 = dktX0_priceOf_3 := dk_seg dksX0_priceOf_2 23 rfl rfl
theorem dksX0_priceOf_4 : cX0_priceOf.data.toList.drop 94 = dktX0_priceOf_4 := dk_seg dksX0_priceOf_3 24 rfl rfl
theorem dksX0_priceOf_5 : cX0_priceOf.data.toList.drop 118 = dktX0_priceOf_5 := dk_seg dksX0_priceOf_4 24 rfl rfl
theorem dksX0_priceOf_6 : cX0_priceOf.data.toList.drop 142 = dktX0_priceOf_6 := dk_seg dksX0_priceOf_5 24 rfl rfl
theorem dksX0_priceOf_7 : cX0_priceOf.data.toList.drop 164 = dktX0_priceOf_7 := dk_seg dksX0_priceOf_6 22 rfl rfl
theorem dksX0_priceOf_8 : cX0_priceOf.data.toList.drop 188 = dktX0_priceOf_8 := dk_seg dksX0_priceOf_7 24 rfl rfl
theorem dX0_priceOf_0 : decode cX0_priceOf 0 = .ok (.aload_n 0, 1) := dk_42 (dk_at dksX0_priceOf_0 0 rfl rfl)
theorem dX0_priceOf_1 : decode cX0_priceOf 1 = .ok (.getfield 47, 3) := dk_180 0 47 (dk_at dksX0_priceOf_0 1 rfl rfl)
theorem dX0_priceOf_4 : decode cX0_priceOf 4 = .ok (.invokevirtual 211, 3) := dk_182 0 211 (dk_at dksX0_priceOf_0 4 rfl rfl)
theorem dX0_priceOf_7 : decode cX0_priceOf 7 = .ok (.aload_n 0, 1) := dk_42 (dk_at dksX0_priceOf_0 7 rfl rfl)
theorem dX0_priceOf_8 : decode cX0_priceOf 8 = .ok (.invokevirtual 345, 3) := dk_182 1 89 (dk_at dksX0_priceOf_0 8 rfl rfl)
theorem dX0_priceOf_11 : decode cX0_priceOf 11 = .ok (.iconst (-1), 1) := dk_2 (dk_at dksX0_priceOf_0 11 rfl rfl)
theorem dX0_priceOf_12 : decode cX0_priceOf 12 = .ok (.ixor, 1) := dk_130 (dk_at dksX0_priceOf_0 12 rfl rfl)
theorem dX0_priceOf_13 : decode cX0_priceOf 13 = .ok (.iand, 1) := dk_126 (dk_at dksX0_priceOf_0 13 rfl rfl)
theorem dX0_priceOf_14 : decode cX0_priceOf 14 = .ok (.invokestatic 348, 3) := dk_184 1 92 (dk_at dksX0_priceOf_0 14 rfl rfl)
theorem dX0_priceOf_17 : decode cX0_priceOf 17 = .ok (.istore_n 2, 1) := dk_61 (dk_at dksX0_priceOf_0 17 rfl rfl)
theorem dX0_priceOf_18 : decode cX0_priceOf 18 = .ok (.aload_n 0, 1) := dk_42 (dk_at dksX0_priceOf_0 18 rfl rfl)
theorem dX0_priceOf_19 : decode cX0_priceOf 19 = .ok (.getfield 107, 3) := dk_180 0 107 (dk_at dksX0_priceOf_0 19 rfl rfl)
theorem dX0_priceOf_22 : decode cX0_priceOf 22 = .ok (.iconst 0, 1) := dk_3 (dk_at dksX0_priceOf_0 22 rfl rfl)
theorem dX0_priceOf_23 : decode cX0_priceOf 23 = .ok (.aload_n 0, 1) := dk_42 (dk_at dksX0_priceOf_0 23 rfl rfl)
theorem dX0_priceOf_24 : decode cX0_priceOf 24 = .ok (.getfield 47, 3) := dk_180 0 47 (dk_at dksX0_priceOf_1 0 rfl rfl)
theorem dX0_priceOf_27 : decode cX0_priceOf 27 = .ok (.getfield 198, 3) := dk_180 0 198 (dk_at dksX0_priceOf_1 3 rfl rfl)
theorem dX0_priceOf_30 : decode cX0_priceOf 30 = .ok (.aload_n 0, 1) := dk_42 (dk_at dksX0_priceOf_1 6 rfl rfl)
theorem dX0_priceOf_31 : decode cX0_priceOf 31 = .ok (.getfield 47, 3) := dk_180 0 47 (dk_at dksX0_priceOf_1 7 rfl rfl)
theorem dX0_priceOf_34 : decode cX0_priceOf 34 = .ok (.getfield 174, 3) := dk_180 0 174 (dk_at dksX0_priceOf_1 10 rfl rfl)
theorem dX0_priceOf_37 : decode cX0_priceOf 37 = .ok (.iload_n 1, 1) := dk_27 (dk_at dksX0_priceOf_1 13 rfl rfl)
theorem dX0_priceOf_38 : decode cX0_priceOf 38 = .ok (.iaload, 1) := dk_46 (dk_at dksX0_priceOf_1 14 rfl rfl)
theorem dX0_priceOf_39 : decode cX0_priceOf 39 = .ok (.iaload, 1) := dk_46 (dk_at dksX0_priceOf_1 15 rfl rfl)
theorem dX0_priceOf_40 : decode cX0_priceOf 40 = .ok (.iastore, 1) := dk_79 (dk_at dksX0_priceOf_1 16 rfl rfl)
theorem dX0_priceOf_41 : decode cX0_priceOf 41 = .ok (.aload_n 0, 1) := dk_42 (dk_at dksX0_priceOf_1 17 rfl rfl)
theorem dX0_priceOf_42 : decode cX0_priceOf 42 = .ok (.getfield 107, 3) := dk_180 0 107 (dk_at dksX0_priceOf_1 18 rfl rfl)
theorem dX0_priceOf_45 : decode cX0_priceOf 45 = .ok (.iconst 1, 1) := dk_4 (dk_at dksX0_priceOf_1 21 rfl rfl)
theorem dX0_priceOf_46 : decode cX0_priceOf 46 = .ok (.aload_n 0, 1) := dk_42 (dk_at dksX0_priceOf_1 22 rfl rfl)
theorem dX0_priceOf_47 : decode cX0_priceOf 47 = .ok (.getfield 47, 3) := dk_180 0 47 (dk_at dksX0_priceOf_2 0 rfl rfl)
theorem dX0_priceOf_50 : decode cX0_priceOf 50 = .ok (.getfield 198, 3) := dk_180 0 198 (dk_at dksX0_priceOf_2 3 rfl rfl)
theorem dX0_priceOf_53 : decode cX0_priceOf 53 = .ok (.aload_n 0, 1) := dk_42 (dk_at dksX0_priceOf_2 6 rfl rfl)
theorem dX0_priceOf_54 : decode cX0_priceOf 54 = .ok (.getfield 47, 3) := dk_180 0 47 (dk_at dksX0_priceOf_2 7 rfl rfl)
theorem dX0_priceOf_57 : decode cX0_priceOf 57 = .ok (.getfield 160, 3) := dk_180 0 160 (dk_at dksX0_priceOf_2 10 rfl rfl)
theorem dX0_priceOf_60 : decode cX0_priceOf 60 = .ok (.iload_n 1, 1) := dk_27 (dk_at dksX0_priceOf_2 13 rfl rfl)
theorem dX0_priceOf_61 : decode cX0_priceOf 61 = .ok (.iaload, 1) := dk_46 (dk_at dksX0_priceOf_2 14 rfl rfl)
theorem dX0_priceOf_62 : decode cX0_priceOf 62 = .ok (.iaload, 1) := dk_46 (dk_at dksX0_priceOf_2 15 rfl rfl)
theorem dX0_priceOf_63 : decode cX0_priceOf 63 = .ok (.iastore, 1) := dk_79 (dk_at dksX0_priceOf_2 16 rfl rfl)
theorem dX0_priceOf_64 : decode cX0_priceOf 64 = .ok (.aload_n 0, 1) := dk_42 (dk_at dksX0_priceOf_2 17 rfl rfl)
theorem dX0_priceOf_65 : decode cX0_priceOf 65 = .ok (.getfield 107, 3) := dk_180 0 107 (dk_at dksX0_priceOf_2 18 rfl rfl)
theorem dX0_priceOf_68 : decode cX0_priceOf 68 = .ok (.iconst 2, 1) := dk_5 (dk_at dksX0_priceOf_2 21 rfl rfl)
theorem dX0_priceOf_69 : decode cX0_priceOf 69 = .ok (.aload_n 0, 1) := dk_42 (dk_at dksX0_priceOf_2 22 rfl rfl)
theorem dX0_priceOf_70 : decode cX0_priceOf 70 = .ok (.getfield 47, 3) := dk_180 0 47 (dk_at dksX0_priceOf_3 0 rfl rfl)
theorem dX0_priceOf_73 : decode cX0_priceOf 73 = .ok (.getfield 176, 3) := dk_180 0 176 (dk_at dksX0_priceOf_3 3 rfl rfl)
theorem dX0_priceOf_76 : decode cX0_priceOf 76 = .ok (.iload_n 1, 1) := dk_27 (dk_at dksX0_priceOf_3 6 rfl rfl)
theorem dX0_priceOf_77 : decode cX0_priceOf 77 = .ok (.iaload, 1) := dk_46 (dk_at dksX0_priceOf_3 7 rfl rfl)
theorem dX0_priceOf_78 : decode cX0_priceOf 78 = .ok (.iastore, 1) := dk_79 (dk_at dksX0_priceOf_3 8 rfl rfl)
theorem dX0_priceOf_79 : decode cX0_priceOf 79 = .ok (.aload_n 0, 1) := dk_42 (dk_at dksX0_priceOf_3 9 rfl rfl)
theorem dX0_priceOf_80 : decode cX0_priceOf 80 = .ok (.getfield 107, 3) := dk_180 0 107 (dk_at dksX0_priceOf_3 10 rfl rfl)
theorem dX0_priceOf_83 : decode cX0_priceOf 83 = .ok (.iconst 3, 1) := dk_6 (dk_at dksX0_priceOf_3 13 rfl rfl)
theorem dX0_priceOf_84 : decode cX0_priceOf 84 = .ok (.iload_n 2, 1) := dk_28 (dk_at dksX0_priceOf_3 14 rfl rfl)
theorem dX0_priceOf_85 : decode cX0_priceOf 85 = .ok (.iastore, 1) := dk_79 (dk_at dksX0_priceOf_3 15 rfl rfl)
theorem dX0_priceOf_86 : decode cX0_priceOf 86 = .ok (.aload_n 0, 1) := dk_42 (dk_at dksX0_priceOf_3 16 rfl rfl)
theorem dX0_priceOf_87 : decode cX0_priceOf 87 = .ok (.getfield 107, 3) := dk_180 0 107 (dk_at dksX0_priceOf_3 17 rfl rfl)
theorem dX0_priceOf_90 : decode cX0_priceOf 90 = .ok (.iconst 4, 1) := dk_7 (dk_at dksX0_priceOf_3 20 rfl rfl)
theorem dX0_priceOf_91 : decode cX0_priceOf 91 = .ok (.iload_n 1, 1) := dk_27 (dk_at dksX0_priceOf_3 21 rfl rfl)
theorem dX0_priceOf_92 : decode cX0_priceOf 92 = .ok (.iastore, 1) := dk_79 (dk_at dksX0_priceOf_3 22 rfl rfl)
theorem dX0_priceOf_93 : decode cX0_priceOf 93 = .ok (.iconst 0, 1) := dk_3 (dk_at dksX0_priceOf_3 23 rfl rfl)
theorem dX0_priceOf_94 : decode cX0_priceOf 94 = .ok (.aload_n 0, 1) := dk_42 (dk_at dksX0_priceOf_4 0 rfl rfl)
theorem dX0_priceOf_95 : decode cX0_priceOf 95 = .ok (.getfield 107, 3) := dk_180 0 107 (dk_at dksX0_priceOf_4 1 rfl rfl)
theorem dX0_priceOf_98 : decode cX0_priceOf 98 = .ok (.iconst 1, 1) := dk_4 (dk_at dksX0_priceOf_4 4 rfl rfl)
theorem dX0_priceOf_99 : decode cX0_priceOf 99 = .ok (.iaload, 1) := dk_46 (dk_at dksX0_priceOf_4 5 rfl rfl)
theorem dX0_priceOf_100 : decode cX0_priceOf 100 = .ok (.aload_n 0, 1) := dk_42 (dk_at dksX0_priceOf_4 6 rfl rfl)
theorem dX0_priceOf_101 : decode cX0_priceOf 101 = .ok (.getfield 107, 3) := dk_180 0 107 (dk_at dksX0_priceOf_4 7 rfl rfl)
theorem dX0_priceOf_104 : decode cX0_priceOf 104 = .ok (.iconst 0, 1) := dk_3 (dk_at dksX0_priceOf_4 10 rfl rfl)
theorem dX0_priceOf_105 : decode cX0_priceOf 105 = .ok (.iaload, 1) := dk_46 (dk_at dksX0_priceOf_4 11 rfl rfl)
theorem dX0_priceOf_106 : decode cX0_priceOf 106 = .ok (.isub, 1) := dk_100 (dk_at dksX0_priceOf_4 12 rfl rfl)
theorem dX0_priceOf_107 : decode cX0_priceOf 107 = .ok (.invokestatic 353, 3) := dk_184 1 97 (dk_at dksX0_priceOf_4 13 rfl rfl)
theorem dX0_priceOf_110 : decode cX0_priceOf 110 = .ok (.aload_n 0, 1) := dk_42 (dk_at dksX0_priceOf_4 16 rfl rfl)
theorem dX0_priceOf_111 : decode cX0_priceOf 111 = .ok (.getfield 47, 3) := dk_180 0 47 (dk_at dksX0_priceOf_4 17 rfl rfl)
theorem dX0_priceOf_114 : decode cX0_priceOf 114 = .ok (.getfield 204, 3) := dk_180 0 204 (dk_at dksX0_priceOf_4 20 rfl rfl)
theorem dX0_priceOf_117 : decode cX0_priceOf 117 = .ok (.iadd, 1) := dk_96 (dk_at dksX0_priceOf_4 23 rfl rfl)
theorem dX0_priceOf_118 : decode cX0_priceOf 118 = .ok (.istore_n 3, 1) := dk_62 (dk_at dksX0_priceOf_5 0 rfl rfl)
theorem dX0_priceOf_119 : decode cX0_priceOf 119 = .ok (.iconst 0, 1) := dk_3 (dk_at dksX0_priceOf_5 1 rfl rfl)
theorem dX0_priceOf_120 : decode cX0_priceOf 120 = .ok (.istore 4, 2) := dk_54 4 (dk_at dksX0_priceOf_5 2 rfl rfl)
theorem dX0_priceOf_122 : decode cX0_priceOf 122 = .ok (.iload 4, 2) := dk_21 4 (dk_at dksX0_priceOf_5 4 rfl rfl)
theorem dX0_priceOf_124 : decode cX0_priceOf 124 = .ok (.aload_n 0, 1) := dk_42 (dk_at dksX0_priceOf_5 6 rfl rfl)
theorem dX0_priceOf_125 : decode cX0_priceOf 125 = .ok (.getfield 47, 3) := dk_180 0 47 (dk_at dksX0_priceOf_5 7 rfl rfl)
theorem dX0_priceOf_128 : decode cX0_priceOf 128 = .ok (.getfield 338, 3) := dk_180 1 82 (dk_at dksX0_priceOf_5 10 rfl rfl)
theorem dX0_priceOf_131 : decode cX0_priceOf 131 = .ok (.arraylength, 1) := dk_190 (dk_at dksX0_priceOf_5 13 rfl rfl)
theorem dX0_priceOf_132 : decode cX0_priceOf 132 = .ok (.if_icmp .ge 59, 3) := dk_162 0 59 (dk_at dksX0_priceOf_5 14 rfl rfl)
theorem dX0_priceOf_135 : decode cX0_priceOf 135 = .ok (.aload_n 0, 1) := dk_42 (dk_at dksX0_priceOf_5 17 rfl rfl)
theorem dX0_priceOf_136 : decode cX0_priceOf 136 = .ok (.getfield 47, 3) := dk_180 0 47 (dk_at dksX0_priceOf_5 18 rfl rfl)
theorem dX0_priceOf_139 : decode cX0_priceOf 139 = .ok (.getfield 338, 3) := dk_180 1 82 (dk_at dksX0_priceOf_5 21 rfl rfl)
theorem dX0_priceOf_142 : decode cX0_priceOf 142 = .ok (.iload 4, 2) := dk_21 4 (dk_at dksX0_priceOf_6 0 rfl rfl)
theorem dX0_priceOf_144 : decode cX0_priceOf 144 = .ok (.aaload, 1) := dk_50 (dk_at dksX0_priceOf_6 2 rfl rfl)
theorem dX0_priceOf_145 : decode cX0_priceOf 145 = .ok (.aload_n 0, 1) := dk_42 (dk_at dksX0_priceOf_6 3 rfl rfl)
theorem dX0_priceOf_146 : decode cX0_priceOf 146 = .ok (.getfield 47, 3) := dk_180 0 47 (dk_at dksX0_priceOf_6 4 rfl rfl)
theorem dX0_priceOf_149 : decode cX0_priceOf 149 = .ok (.getfield 157, 3) := dk_180 0 157 (dk_at dksX0_priceOf_6 7 rfl rfl)
theorem dX0_priceOf_152 : decode cX0_priceOf 152 = .ok (.iload_n 1, 1) := dk_27 (dk_at dksX0_priceOf_6 10 rfl rfl)
theorem dX0_priceOf_153 : decode cX0_priceOf 153 = .ok (.iaload, 1) := dk_46 (dk_at dksX0_priceOf_6 11 rfl rfl)
theorem dX0_priceOf_154 : decode cX0_priceOf 154 = .ok (.aload_n 0, 1) := dk_42 (dk_at dksX0_priceOf_6 12 rfl rfl)
theorem dX0_priceOf_155 : decode cX0_priceOf 155 = .ok (.getfield 107, 3) := dk_180 0 107 (dk_at dksX0_priceOf_6 13 rfl rfl)
theorem dX0_priceOf_158 : decode cX0_priceOf 158 = .ok (.invokevirtual 359, 3) := dk_182 1 103 (dk_at dksX0_priceOf_6 16 rfl rfl)
theorem dX0_priceOf_161 : decode cX0_priceOf 161 = .ok (.ifCond .ne 6, 3) := dk_154 0 6 (dk_at dksX0_priceOf_6 19 rfl rfl)
theorem dX0_priceOf_164 : decode cX0_priceOf 164 = .ok (.goto 21, 3) := dk_167 0 21 (dk_at dksX0_priceOf_7 0 rfl rfl)
theorem dX0_priceOf_167 : decode cX0_priceOf 167 = .ok (.aload_n 0, 1) := dk_42 (dk_at dksX0_priceOf_7 3 rfl rfl)
theorem dX0_priceOf_168 : decode cX0_priceOf 168 = .ok (.getfield 47, 3) := dk_180 0 47 (dk_at dksX0_priceOf_7 4 rfl rfl)
theorem dX0_priceOf_171 : decode cX0_priceOf 171 = .ok (.getfield 338, 3) := dk_180 1 82 (dk_at dksX0_priceOf_7 7 rfl rfl)
theorem dX0_priceOf_174 : decode cX0_priceOf 174 = .ok (.iload 4, 2) := dk_21 4 (dk_at dksX0_priceOf_7 10 rfl rfl)
theorem dX0_priceOf_176 : decode cX0_priceOf 176 = .ok (.aaload, 1) := dk_50 (dk_at dksX0_priceOf_7 12 rfl rfl)
theorem dX0_priceOf_177 : decode cX0_priceOf 177 = .ok (.iload_n 3, 1) := dk_29 (dk_at dksX0_priceOf_7 13 rfl rfl)
theorem dX0_priceOf_178 : decode cX0_priceOf 178 = .ok (.invokevirtual 363, 3) := dk_182 1 107 (dk_at dksX0_priceOf_7 14 rfl rfl)
theorem dX0_priceOf_181 : decode cX0_priceOf 181 = .ok (.istore_n 3, 1) := dk_62 (dk_at dksX0_priceOf_7 17 rfl rfl)
theorem dX0_priceOf_182 : decode cX0_priceOf 182 = .ok (.goto 9, 3) := dk_167 0 9 (dk_at dksX0_priceOf_7 18 rfl rfl)
theorem dX0_priceOf_185 : decode cX0_priceOf 185 = .ok (.iinc 4 1, 3) := dk_132 4 1 (dk_at dksX0_priceOf_7 21 rfl rfl)
theorem dX0_priceOf_188 : decode cX0_priceOf 188 = .ok (.goto (-66), 3) := dk_167 255 190 (dk_at dksX0_priceOf_8 0 rfl rfl)
theorem dX0_priceOf_191 : decode cX0_priceOf 191 = .ok (.aload_n 0, 1) := dk_42 (dk_at dksX0_priceOf_8 3 rfl rfl)
theorem dX0_priceOf_192 : decode cX0_priceOf 192 = .ok (.getfield 59, 3) := dk_180 0 59 (dk_at dksX0_priceOf_8 4 rfl rfl)
theorem dX0_priceOf_195 : decode cX0_priceOf 195 = .ok (.iload_n 1, 1) := dk_27 (dk_at dksX0_priceOf_8 7 rfl rfl)
theorem dX0_priceOf_196 : decode cX0_priceOf 196 = .ok (.aaload, 1) := dk_50 (dk_at dksX0_priceOf_8 8 rfl rfl)
theorem dX0_priceOf_197 : decode cX0_priceOf 197 = .ok (.iload_n 3, 1) := dk_29 (dk_at dksX0_priceOf_8 9 rfl rfl)
theorem dX0_priceOf_198 : decode cX0_priceOf 198 = .ok (.aload_n 0, 1) := dk_42 (dk_at dksX0_priceOf_8 10 rfl rfl)
theorem dX0_priceOf_199 : decode cX0_priceOf 199 = .ok (.getfield 47, 3) := dk_180 0 47 (dk_at dksX0_priceOf_8 11 rfl rfl)
theorem dX0_priceOf_202 : decode cX0_priceOf 202 = .ok (.getfield 176, 3) := dk_180 0 176 (dk_at dksX0_priceOf_8 14 rfl rfl)
theorem dX0_priceOf_205 : decode cX0_priceOf 205 = .ok (.iload_n 1, 1) := dk_27 (dk_at dksX0_priceOf_8 17 rfl rfl)
theorem dX0_priceOf_206 : decode cX0_priceOf 206 = .ok (.iaload, 1) := dk_46 (dk_at dksX0_priceOf_8 18 rfl rfl)
theorem dX0_priceOf_207 : decode cX0_priceOf 207 = .ok (.iload_n 2, 1) := dk_28 (dk_at dksX0_priceOf_8 19 rfl rfl)
theorem dX0_priceOf_208 : decode cX0_priceOf 208 = .ok (.invokevirtual 366, 3) := dk_182 1 110 (dk_at dksX0_priceOf_8 20 rfl rfl)
theorem dX0_priceOf_211 : decode cX0_priceOf 211 = .ok (.ireturn, 1) := dk_172 (dk_at dksX0_priceOf_8 23 rfl rfl)
abbrev cX0_absentBit : ByteArray := prog_1_method_42_code
def yX0_absentBit : MethodName := ⟨RX0, "absentBit", "()I"⟩
def dkwX0_absentBit_0 : List UInt8 := [42, 180, 0, 111, 156, 0, 7, 3, 167, 0, 9, 4, 42, 180, 0, 111, 120, 172]
abbrev dktX0_absentBit_0 : List UInt8 := dkwX0_absentBit_0 ++ []
theorem dksX0_absentBit_0 : cX0_absentBit.data.toList.drop 0 = dktX0_absentBit_0 := by decide +kernel
theorem dX0_absentBit_0 : decode cX0_absentBit 0 = .ok (.aload_n 0, 1) := dk_42 (dk_at dksX0_absentBit_0 0 rfl rfl)
theorem dX0_absentBit_1 : decode cX0_absentBit 1 = .ok (.getfield 111, 3) := dk_180 0 111 (dk_at dksX0_absentBit_0 1 rfl rfl)
theorem dX0_absentBit_4 : decode cX0_absentBit 4 = .ok (.ifCond .ge 7, 3) := dk_156 0 7 (dk_at dksX0_absentBit_0 4 rfl rfl)
theorem dX0_absentBit_7 : decode cX0_absentBit 7 = .ok (.iconst 0, 1) := dk_3 (dk_at dksX0_absentBit_0 7 rfl rfl)
theorem dX0_absentBit_8 : decode cX0_absentBit 8 = .ok (.goto 9, 3) := dk_167 0 9 (dk_at dksX0_absentBit_0 8 rfl rfl)
theorem dX0_absentBit_11 : decode cX0_absentBit 11 = .ok (.iconst 1, 1) := dk_4 (dk_at dksX0_absentBit_0 11 rfl rfl)
theorem dX0_absentBit_12 : decode cX0_absentBit 12 = .ok (.aload_n 0, 1) := dk_42 (dk_at dksX0_absentBit_0 12 rfl rfl)
theorem dX0_absentBit_13 : decode cX0_absentBit 13 = .ok (.getfield 111, 3) := dk_180 0 111 (dk_at dksX0_absentBit_0 13 rfl rfl)
theorem dX0_absentBit_16 : decode cX0_absentBit 16 = .ok (.ishl, 1) := dk_120 (dk_at dksX0_absentBit_0 16 rfl rfl)
theorem dX0_absentBit_17 : decode cX0_absentBit 17 = .ok (.ireturn, 1) := dk_172 (dk_at dksX0_absentBit_0 17 rfl rfl)
abbrev cX0_isOf : ByteArray := prog_1_method_4_code
def yX0_isOf : MethodName := ⟨RX0, "isOf", "(II)Z"⟩
def dkwX0_isOf_1 : List UInt8 := [26, 8, 160, 0, 7, 4, 167, 0, 4, 3, 172]
abbrev dktX0_isOf_1 : List UInt8 := dkwX0_isOf_1 ++ []
def dkwX0_isOf_0 : List UInt8 := [27, 153, 0, 28, 27, 26, 159, 0, 23, 27, 5, 160, 0, 8, 26, 6, 159, 0, 13, 27, 7, 160, 0, 12]
abbrev dktX0_isOf_0 : List UInt8 := dkwX0_isOf_0 ++ dktX0_isOf_1
theorem dksX0_isOf_0 : cX0_isOf.data.toList.drop 0 = dktX0_isOf_0 := by decide +kernel
theorem dksX0_isOf_1 : cX0_isOf.data.toList.drop 24 = dktX0_isOf_1 := dk_seg dksX0_isOf_0 24 rfl rfl
theorem dX0_isOf_0 : decode cX0_isOf 0 = .ok (.iload_n 1, 1) := dk_27 (dk_at dksX0_isOf_0 0 rfl rfl)
theorem dX0_isOf_1 : decode cX0_isOf 1 = .ok (.ifCond .eq 28, 3) := dk_153 0 28 (dk_at dksX0_isOf_0 1 rfl rfl)
theorem dX0_isOf_4 : decode cX0_isOf 4 = .ok (.iload_n 1, 1) := dk_27 (dk_at dksX0_isOf_0 4 rfl rfl)
theorem dX0_isOf_5 : decode cX0_isOf 5 = .ok (.iload_n 0, 1) := dk_26 (dk_at dksX0_isOf_0 5 rfl rfl)
theorem dX0_isOf_6 : decode cX0_isOf 6 = .ok (.if_icmp .eq 23, 3) := dk_159 0 23 (dk_at dksX0_isOf_0 6 rfl rfl)
theorem dX0_isOf_9 : decode cX0_isOf 9 = .ok (.iload_n 1, 1) := dk_27 (dk_at dksX0_isOf_0 9 rfl rfl)
theorem dX0_isOf_10 : decode cX0_isOf 10 = .ok (.iconst 2, 1) := dk_5 (dk_at dksX0_isOf_0 10 rfl rfl)
theorem dX0_isOf_11 : decode cX0_isOf 11 = .ok (.if_icmp .ne 8, 3) := dk_160 0 8 (dk_at dksX0_isOf_0 11 rfl rfl)
theorem dX0_isOf_14 : decode cX0_isOf 14 = .ok (.iload_n 0, 1) := dk_26 (dk_at dksX0_isOf_0 14 rfl rfl)
theorem dX0_isOf_15 : decode cX0_isOf 15 = .ok (.iconst 3, 1) := dk_6 (dk_at dksX0_isOf_0 15 rfl rfl)
theorem dX0_isOf_16 : decode cX0_isOf 16 = .ok (.if_icmp .eq 13, 3) := dk_159 0 13 (dk_at dksX0_isOf_0 16 rfl rfl)
theorem dX0_isOf_19 : decode cX0_isOf 19 = .ok (.iload_n 1, 1) := dk_27 (dk_at dksX0_isOf_0 19 rfl rfl)
theorem dX0_isOf_20 : decode cX0_isOf 20 = .ok (.iconst 4, 1) := dk_7 (dk_at dksX0_isOf_0 20 rfl rfl)
theorem dX0_isOf_21 : decode cX0_isOf 21 = .ok (.if_icmp .ne 12, 3) := dk_160 0 12 (dk_at dksX0_isOf_0 21 rfl rfl)
theorem dX0_isOf_24 : decode cX0_isOf 24 = .ok (.iload_n 0, 1) := dk_26 (dk_at dksX0_isOf_1 0 rfl rfl)
theorem dX0_isOf_25 : decode cX0_isOf 25 = .ok (.iconst 5, 1) := dk_8 (dk_at dksX0_isOf_1 1 rfl rfl)
theorem dX0_isOf_26 : decode cX0_isOf 26 = .ok (.if_icmp .ne 7, 3) := dk_160 0 7 (dk_at dksX0_isOf_1 2 rfl rfl)
theorem dX0_isOf_29 : decode cX0_isOf 29 = .ok (.iconst 1, 1) := dk_4 (dk_at dksX0_isOf_1 5 rfl rfl)
theorem dX0_isOf_30 : decode cX0_isOf 30 = .ok (.goto 4, 3) := dk_167 0 4 (dk_at dksX0_isOf_1 6 rfl rfl)
theorem dX0_isOf_33 : decode cX0_isOf 33 = .ok (.iconst 0, 1) := dk_3 (dk_at dksX0_isOf_1 9 rfl rfl)
theorem dX0_isOf_34 : decode cX0_isOf 34 = .ok (.ireturn, 1) := dk_172 (dk_at dksX0_isOf_1 10 rfl rfl)
abbrev cX0_change : ByteArray := prog_1_method_13_code
def yX0_change : MethodName := ⟨RX0, "change", "(III)I"⟩
def dkwX0_change_3 : List UInt8 := [182, 0, 181, 21, 5, 172]
abbrev dktX0_change_3 : List UInt8 := dkwX0_change_3 ++ []
def dkwX0_change_2 : List UInt8 := [42, 180, 0, 47, 180, 0, 176, 58, 4, 25, 4, 27, 46, 54, 5, 25, 4, 27, 29, 79, 42, 27]
abbrev dktX0_change_2 : List UInt8 := dkwX0_change_2 ++ dktX0_change_3
def dkwX0_change_1 : List UInt8 := [180, 0, 47, 180, 0, 174, 167, 0, 25, 28, 5, 160, 0, 13, 42, 180, 0, 47, 180, 0, 160, 167, 0, 10]
abbrev dktX0_change_1 : List UInt8 := dkwX0_change_1 ++ dktX0_change_2
def dkwX0_change_0 : List UInt8 := [42, 27, 182, 0, 185, 153, 0, 11, 28, 29, 184, 0, 170, 154, 0, 5, 2, 172, 28, 4, 160, 0, 13, 42]
abbrev dktX0_change_0 : List UInt8 := dkwX0_change_0 ++ dktX0_change_1
theorem dksX0_change_0 : cX0_change.data.toList.drop 0 = dktX0_change_0 := by decide +kernel
theorem dksX0_change_1 : cX0_change.data.toList.drop 24 = dktX0_change_1 := dk_seg dksX0_change_0 24 rfl rfl
theorem dksX0_change_2 : cX0_change.data.toList.drop 48 = dktX0_change_2 := dk_seg dksX0_change_1 24 rfl rfl
theorem dksX0_change_3 : cX0_change.data.toList.drop 70 = dktX0_change_3 := dk_seg dksX0_change_2 22 rfl rfl
theorem dX0_change_0 : decode cX0_change 0 = .ok (.aload_n 0, 1) := dk_42 (dk_at dksX0_change_0 0 rfl rfl)
theorem dX0_change_1 : decode cX0_change 1 = .ok (.iload_n 1, 1) := dk_27 (dk_at dksX0_change_0 1 rfl rfl)
theorem dX0_change_2 : decode cX0_change 2 = .ok (.invokevirtual 185, 3) := dk_182 0 185 (dk_at dksX0_change_0 2 rfl rfl)
theorem dX0_change_5 : decode cX0_change 5 = .ok (.ifCond .eq 11, 3) := dk_153 0 11 (dk_at dksX0_change_0 5 rfl rfl)
theorem dX0_change_8 : decode cX0_change 8 = .ok (.iload_n 2, 1) := dk_28 (dk_at dksX0_change_0 8 rfl rfl)
theorem dX0_change_9 : decode cX0_change 9 = .ok (.iload_n 3, 1) := dk_29 (dk_at dksX0_change_0 9 rfl rfl)
theorem dX0_change_10 : decode cX0_change 10 = .ok (.invokestatic 170, 3) := dk_184 0 170 (dk_at dksX0_change_0 10 rfl rfl)
theorem dX0_change_13 : decode cX0_change 13 = .ok (.ifCond .ne 5, 3) := dk_154 0 5 (dk_at dksX0_change_0 13 rfl rfl)
theorem dX0_change_16 : decode cX0_change 16 = .ok (.iconst (-1), 1) := dk_2 (dk_at dksX0_change_0 16 rfl rfl)
theorem dX0_change_17 : decode cX0_change 17 = .ok (.ireturn, 1) := dk_172 (dk_at dksX0_change_0 17 rfl rfl)
theorem dX0_change_18 : decode cX0_change 18 = .ok (.iload_n 2, 1) := dk_28 (dk_at dksX0_change_0 18 rfl rfl)
theorem dX0_change_19 : decode cX0_change 19 = .ok (.iconst 1, 1) := dk_4 (dk_at dksX0_change_0 19 rfl rfl)
theorem dX0_change_20 : decode cX0_change 20 = .ok (.if_icmp .ne 13, 3) := dk_160 0 13 (dk_at dksX0_change_0 20 rfl rfl)
theorem dX0_change_23 : decode cX0_change 23 = .ok (.aload_n 0, 1) := dk_42 (dk_at dksX0_change_0 23 rfl rfl)
theorem dX0_change_24 : decode cX0_change 24 = .ok (.getfield 47, 3) := dk_180 0 47 (dk_at dksX0_change_1 0 rfl rfl)
theorem dX0_change_27 : decode cX0_change 27 = .ok (.getfield 174, 3) := dk_180 0 174 (dk_at dksX0_change_1 3 rfl rfl)
theorem dX0_change_30 : decode cX0_change 30 = .ok (.goto 25, 3) := dk_167 0 25 (dk_at dksX0_change_1 6 rfl rfl)
theorem dX0_change_33 : decode cX0_change 33 = .ok (.iload_n 2, 1) := dk_28 (dk_at dksX0_change_1 9 rfl rfl)
theorem dX0_change_34 : decode cX0_change 34 = .ok (.iconst 2, 1) := dk_5 (dk_at dksX0_change_1 10 rfl rfl)
theorem dX0_change_35 : decode cX0_change 35 = .ok (.if_icmp .ne 13, 3) := dk_160 0 13 (dk_at dksX0_change_1 11 rfl rfl)
theorem dX0_change_38 : decode cX0_change 38 = .ok (.aload_n 0, 1) := dk_42 (dk_at dksX0_change_1 14 rfl rfl)
theorem dX0_change_39 : decode cX0_change 39 = .ok (.getfield 47, 3) := dk_180 0 47 (dk_at dksX0_change_1 15 rfl rfl)
theorem dX0_change_42 : decode cX0_change 42 = .ok (.getfield 160, 3) := dk_180 0 160 (dk_at dksX0_change_1 18 rfl rfl)
theorem dX0_change_45 : decode cX0_change 45 = .ok (.goto 10, 3) := dk_167 0 10 (dk_at dksX0_change_1 21 rfl rfl)
theorem dX0_change_48 : decode cX0_change 48 = .ok (.aload_n 0, 1) := dk_42 (dk_at dksX0_change_2 0 rfl rfl)
theorem dX0_change_49 : decode cX0_change 49 = .ok (.getfield 47, 3) := dk_180 0 47 (dk_at dksX0_change_2 1 rfl rfl)
theorem dX0_change_52 : decode cX0_change 52 = .ok (.getfield 176, 3) := dk_180 0 176 (dk_at dksX0_change_2 4 rfl rfl)
theorem dX0_change_55 : decode cX0_change 55 = .ok (.astore 4, 2) := dk_58 4 (dk_at dksX0_change_2 7 rfl rfl)
theorem dX0_change_57 : decode cX0_change 57 = .ok (.aload 4, 2) := dk_25 4 (dk_at dksX0_change_2 9 rfl rfl)
theorem dX0_change_59 : decode cX0_change 59 = .ok (.iload_n 1, 1) := dk_27 (dk_at dksX0_change_2 11 rfl rfl)
theorem dX0_change_60 : decode cX0_change 60 = .ok (.iaload, 1) := dk_46 (dk_at dksX0_change_2 12 rfl rfl)
theorem dX0_change_61 : decode cX0_change 61 = .ok (.istore 5, 2) := dk_54 5 (dk_at dksX0_change_2 13 rfl rfl)
theorem dX0_change_63 : decode cX0_change 63 = .ok (.aload 4, 2) := dk_25 4 (dk_at dksX0_change_2 15 rfl rfl)
theorem dX0_change_65 : decode cX0_change 65 = .ok (.iload_n 1, 1) := dk_27 (dk_at dksX0_change_2 17 rfl rfl)
theorem dX0_change_66 : decode cX0_change 66 = .ok (.iload_n 3, 1) := dk_29 (dk_at dksX0_change_2 18 rfl rfl)
theorem dX0_change_67 : decode cX0_change 67 = .ok (.iastore, 1) := dk_79 (dk_at dksX0_change_2 19 rfl rfl)
theorem dX0_change_68 : decode cX0_change 68 = .ok (.aload_n 0, 1) := dk_42 (dk_at dksX0_change_2 20 rfl rfl)
theorem dX0_change_69 : decode cX0_change 69 = .ok (.iload_n 1, 1) := dk_27 (dk_at dksX0_change_2 21 rfl rfl)
theorem dX0_change_70 : decode cX0_change 70 = .ok (.invokevirtual 181, 3) := dk_182 0 181 (dk_at dksX0_change_3 0 rfl rfl)
theorem dX0_change_73 : decode cX0_change 73 = .ok (.iload 5, 2) := dk_21 5 (dk_at dksX0_change_3 3 rfl rfl)
theorem dX0_change_75 : decode cX0_change 75 = .ok (.ireturn, 1) := dk_172 (dk_at dksX0_change_3 5 rfl rfl)
abbrev cX0_remake : ByteArray := prog_1_method_14_code
def yX0_remake : MethodName := ⟨RX0, "remake", "(II)I"⟩
def dkwX0_remake_1 : List UInt8 := [27, 46, 62, 42, 180, 0, 47, 180, 0, 157, 27, 28, 79, 42, 27, 182, 0, 181, 29, 172]
abbrev dktX0_remake_1 : List UInt8 := dkwX0_remake_1 ++ []
def dkwX0_remake_0 : List UInt8 := [42, 27, 182, 0, 185, 153, 0, 10, 28, 184, 0, 167, 154, 0, 5, 2, 172, 42, 180, 0, 47, 180, 0, 157]
abbrev dktX0_remake_0 : List UInt8 := dkwX0_remake_0 ++ dktX0_remake_1
theorem dksX0_remake_0 : cX0_remake.data.toList.drop 0 = dktX0_remake_0 := by decide +kernel
theorem dksX0_remake_1 : cX0_remake.data.toList.drop 24 = dktX0_remake_1 := dk_seg dksX0_remake_0 24 rfl rfl
theorem dX0_remake_0 : decode cX0_remake 0 = .ok (.aload_n 0, 1) := dk_42 (dk_at dksX0_remake_0 0 rfl rfl)
theorem dX0_remake_1 : decode cX0_remake 1 = .ok (.iload_n 1, 1) := dk_27 (dk_at dksX0_remake_0 1 rfl rfl)
theorem dX0_remake_2 : decode cX0_remake 2 = .ok (.invokevirtual 185, 3) := dk_182 0 185 (dk_at dksX0_remake_0 2 rfl rfl)
theorem dX0_remake_5 : decode cX0_remake 5 = .ok (.ifCond .eq 10, 3) := dk_153 0 10 (dk_at dksX0_remake_0 5 rfl rfl)
theorem dX0_remake_8 : decode cX0_remake 8 = .ok (.iload_n 2, 1) := dk_28 (dk_at dksX0_remake_0 8 rfl rfl)
theorem dX0_remake_9 : decode cX0_remake 9 = .ok (.invokestatic 167, 3) := dk_184 0 167 (dk_at dksX0_remake_0 9 rfl rfl)
theorem dX0_remake_12 : decode cX0_remake 12 = .ok (.ifCond .ne 5, 3) := dk_154 0 5 (dk_at dksX0_remake_0 12 rfl rfl)
theorem dX0_remake_15 : decode cX0_remake 15 = .ok (.iconst (-1), 1) := dk_2 (dk_at dksX0_remake_0 15 rfl rfl)
theorem dX0_remake_16 : decode cX0_remake 16 = .ok (.ireturn, 1) := dk_172 (dk_at dksX0_remake_0 16 rfl rfl)
theorem dX0_remake_17 : decode cX0_remake 17 = .ok (.aload_n 0, 1) := dk_42 (dk_at dksX0_remake_0 17 rfl rfl)
theorem dX0_remake_18 : decode cX0_remake 18 = .ok (.getfield 47, 3) := dk_180 0 47 (dk_at dksX0_remake_0 18 rfl rfl)
theorem dX0_remake_21 : decode cX0_remake 21 = .ok (.getfield 157, 3) := dk_180 0 157 (dk_at dksX0_remake_0 21 rfl rfl)
theorem dX0_remake_24 : decode cX0_remake 24 = .ok (.iload_n 1, 1) := dk_27 (dk_at dksX0_remake_1 0 rfl rfl)
theorem dX0_remake_25 : decode cX0_remake 25 = .ok (.iaload, 1) := dk_46 (dk_at dksX0_remake_1 1 rfl rfl)
theorem dX0_remake_26 : decode cX0_remake 26 = .ok (.istore_n 3, 1) := dk_62 (dk_at dksX0_remake_1 2 rfl rfl)
theorem dX0_remake_27 : decode cX0_remake 27 = .ok (.aload_n 0, 1) := dk_42 (dk_at dksX0_remake_1 3 rfl rfl)
theorem dX0_remake_28 : decode cX0_remake 28 = .ok (.getfield 47, 3) := dk_180 0 47 (dk_at dksX0_remake_1 4 rfl rfl)
theorem dX0_remake_31 : decode cX0_remake 31 = .ok (.getfield 157, 3) := dk_180 0 157 (dk_at dksX0_remake_1 7 rfl rfl)
theorem dX0_remake_34 : decode cX0_remake 34 = .ok (.iload_n 1, 1) := dk_27 (dk_at dksX0_remake_1 10 rfl rfl)
theorem dX0_remake_35 : decode cX0_remake 35 = .ok (.iload_n 2, 1) := dk_28 (dk_at dksX0_remake_1 11 rfl rfl)
theorem dX0_remake_36 : decode cX0_remake 36 = .ok (.iastore, 1) := dk_79 (dk_at dksX0_remake_1 12 rfl rfl)
theorem dX0_remake_37 : decode cX0_remake 37 = .ok (.aload_n 0, 1) := dk_42 (dk_at dksX0_remake_1 13 rfl rfl)
theorem dX0_remake_38 : decode cX0_remake 38 = .ok (.iload_n 1, 1) := dk_27 (dk_at dksX0_remake_1 14 rfl rfl)
theorem dX0_remake_39 : decode cX0_remake 39 = .ok (.invokevirtual 181, 3) := dk_182 0 181 (dk_at dksX0_remake_1 15 rfl rfl)
theorem dX0_remake_42 : decode cX0_remake 42 = .ok (.iload_n 3, 1) := dk_29 (dk_at dksX0_remake_1 18 rfl rfl)
theorem dX0_remake_43 : decode cX0_remake 43 = .ok (.ireturn, 1) := dk_172 (dk_at dksX0_remake_1 19 rfl rfl)
abbrev cX0_meets : ByteArray := prog_1_method_16_code
def yX0_meets : MethodName := ⟨RX0, "meets", "(IIZ)I"⟩
def dkwX0_meets_5 : List UInt8 := [46, 4, 27, 120, 2, 130, 126, 79, 21, 4, 172]
abbrev dktX0_meets_5 : List UInt8 := dkwX0_meets_5 ++ []
def dkwX0_meets_4 : List UInt8 := [42, 180, 0, 47, 180, 0, 178, 28, 46, 4, 27, 120, 128, 167, 0, 18, 42, 180, 0, 47, 180, 0, 178, 28]
abbrev dktX0_meets_4 : List UInt8 := dkwX0_meets_4 ++ dktX0_meets_5
def dkwX0_meets_3 : List UInt8 := [180, 0, 178, 27, 46, 4, 28, 120, 2, 130, 126, 79, 42, 180, 0, 47, 180, 0, 178, 28, 29, 153, 0, 19]
abbrev dktX0_meets_3 : List UInt8 := dkwX0_meets_3 ++ dktX0_meets_4
def dkwX0_meets_2 : List UInt8 := [153, 0, 19, 42, 180, 0, 47, 180, 0, 178, 27, 46, 4, 28, 120, 128, 167, 0, 18, 42, 180, 0, 47]
abbrev dktX0_meets_2 : List UInt8 := dkwX0_meets_2 ++ dktX0_meets_3
def dkwX0_meets_1 : List UInt8 := [27, 28, 182, 0, 195, 153, 0, 7, 4, 167, 0, 4, 3, 54, 4, 42, 180, 0, 47, 180, 0, 178, 27, 29]
abbrev dktX0_meets_1 : List UInt8 := dkwX0_meets_1 ++ dktX0_meets_2
def dkwX0_meets_0 : List UInt8 := [42, 27, 182, 0, 185, 153, 0, 16, 42, 28, 182, 0, 185, 153, 0, 8, 27, 28, 160, 0, 5, 2, 172, 42]
abbrev dktX0_meets_0 : List UInt8 := dkwX0_meets_0 ++ dktX0_meets_1
theorem dksX0_meets_0 : cX0_meets.data.toList.drop 0 = dktX0_meets_0 := by decide +kernel
theorem dksX0_meets_1 : cX0_meets.data.toList.drop 24 = dktX0_meets_1 := dk_seg dksX0_meets_0 24 rfl rfl
theorem dksX0_meets_2 : cX0_meets.data.toList.drop 48 = dktX0_meets_2 := dk_seg dksX0_meets_1 24 rfl rfl
theorem dksX0_meets_3 : cX0_meets.data.toList.drop 71 = dktX0_meets_3 := dk_seg dksX0_meets_2 23 rfl rfl
theorem dksX0_meets_4 : cX0_meets.data.toList.drop 95 = dktX0_meets_4 := dk_seg dksX0_meets_3 24 rfl rfl
theorem dksX0_meets_5 : cX0_meets.data.toList.drop 119 = dktX0_meets_5 := dk_seg dksX0_meets_4 24 rfl rfl
theorem dX0_meets_0 : decode cX0_meets 0 = .ok (.aload_n 0, 1) := dk_42 (dk_at dksX0_meets_0 0 rfl rfl)
theorem dX0_meets_1 : decode cX0_meets 1 = .ok (.iload_n 1, 1) := dk_27 (dk_at dksX0_meets_0 1 rfl rfl)
theorem dX0_meets_2 : decode cX0_meets 2 = .ok (.invokevirtual 185, 3) := dk_182 0 185 (dk_at dksX0_meets_0 2 rfl rfl)
theorem dX0_meets_5 : decode cX0_meets 5 = .ok (.ifCond .eq 16, 3) := dk_153 0 16 (dk_at dksX0_meets_0 5 rfl rfl)
theorem dX0_meets_8 : decode cX0_meets 8 = .ok (.aload_n 0, 1) := dk_42 (dk_at dksX0_meets_0 8 rfl rfl)
theorem dX0_meets_9 : decode cX0_meets 9 = .ok (.iload_n 2, 1) := dk_28 (dk_at dksX0_meets_0 9 rfl rfl)
theorem dX0_meets_10 : decode cX0_meets 10 = .ok (.invokevirtual 185, 3) := dk_182 0 185 (dk_at dksX0_meets_0 10 rfl rfl)
theorem dX0_meets_13 : decode cX0_meets 13 = .ok (.ifCond .eq 8, 3) := dk_153 0 8 (dk_at dksX0_meets_0 13 rfl rfl)
theorem dX0_meets_16 : decode cX0_meets 16 = .ok (.iload_n 1, 1) := dk_27 (dk_at dksX0_meets_0 16 rfl rfl)
theorem dX0_meets_17 : decode cX0_meets 17 = .ok (.iload_n 2, 1) := dk_28 (dk_at dksX0_meets_0 17 rfl rfl)
theorem dX0_meets_18 : decode cX0_meets 18 = .ok (.if_icmp .ne 5, 3) := dk_160 0 5 (dk_at dksX0_meets_0 18 rfl rfl)
theorem dX0_meets_21 : decode cX0_meets 21 = .ok (.iconst (-1), 1) := dk_2 (dk_at dksX0_meets_0 21 rfl rfl)
theorem dX0_meets_22 : decode cX0_meets 22 = .ok (.ireturn, 1) := dk_172 (dk_at dksX0_meets_0 22 rfl rfl)
theorem dX0_meets_23 : decode cX0_meets 23 = .ok (.aload_n 0, 1) := dk_42 (dk_at dksX0_meets_0 23 rfl rfl)
theorem dX0_meets_24 : decode cX0_meets 24 = .ok (.iload_n 1, 1) := dk_27 (dk_at dksX0_meets_1 0 rfl rfl)
theorem dX0_meets_25 : decode cX0_meets 25 = .ok (.iload_n 2, 1) := dk_28 (dk_at dksX0_meets_1 1 rfl rfl)
theorem dX0_meets_26 : decode cX0_meets 26 = .ok (.invokevirtual 195, 3) := dk_182 0 195 (dk_at dksX0_meets_1 2 rfl rfl)
theorem dX0_meets_29 : decode cX0_meets 29 = .ok (.ifCond .eq 7, 3) := dk_153 0 7 (dk_at dksX0_meets_1 5 rfl rfl)
theorem dX0_meets_32 : decode cX0_meets 32 = .ok (.iconst 1, 1) := dk_4 (dk_at dksX0_meets_1 8 rfl rfl)
theorem dX0_meets_33 : decode cX0_meets 33 = .ok (.goto 4, 3) := dk_167 0 4 (dk_at dksX0_meets_1 9 rfl rfl)
theorem dX0_meets_36 : decode cX0_meets 36 = .ok (.iconst 0, 1) := dk_3 (dk_at dksX0_meets_1 12 rfl rfl)
theorem dX0_meets_37 : decode cX0_meets 37 = .ok (.istore 4, 2) := dk_54 4 (dk_at dksX0_meets_1 13 rfl rfl)
theorem dX0_meets_39 : decode cX0_meets 39 = .ok (.aload_n 0, 1) := dk_42 (dk_at dksX0_meets_1 15 rfl rfl)
theorem dX0_meets_40 : decode cX0_meets 40 = .ok (.getfield 47, 3) := dk_180 0 47 (dk_at dksX0_meets_1 16 rfl rfl)
theorem dX0_meets_43 : decode cX0_meets 43 = .ok (.getfield 178, 3) := dk_180 0 178 (dk_at dksX0_meets_1 19 rfl rfl)
theorem dX0_meets_46 : decode cX0_meets 46 = .ok (.iload_n 1, 1) := dk_27 (dk_at dksX0_meets_1 22 rfl rfl)
theorem dX0_meets_47 : decode cX0_meets 47 = .ok (.iload_n 3, 1) := dk_29 (dk_at dksX0_meets_1 23 rfl rfl)
theorem dX0_meets_48 : decode cX0_meets 48 = .ok (.ifCond .eq 19, 3) := dk_153 0 19 (dk_at dksX0_meets_2 0 rfl rfl)
theorem dX0_meets_51 : decode cX0_meets 51 = .ok (.aload_n 0, 1) := dk_42 (dk_at dksX0_meets_2 3 rfl rfl)
theorem dX0_meets_52 : decode cX0_meets 52 = .ok (.getfield 47, 3) := dk_180 0 47 (dk_at dksX0_meets_2 4 rfl rfl)
theorem dX0_meets_55 : decode cX0_meets 55 = .ok (.getfield 178, 3) := dk_180 0 178 (dk_at dksX0_meets_2 7 rfl rfl)
theorem dX0_meets_58 : decode cX0_meets 58 = .ok (.iload_n 1, 1) := dk_27 (dk_at dksX0_meets_2 10 rfl rfl)
theorem dX0_meets_59 : decode cX0_meets 59 = .ok (.iaload, 1) := dk_46 (dk_at dksX0_meets_2 11 rfl rfl)
theorem dX0_meets_60 : decode cX0_meets 60 = .ok (.iconst 1, 1) := dk_4 (dk_at dksX0_meets_2 12 rfl rfl)
theorem dX0_meets_61 : decode cX0_meets 61 = .ok (.iload_n 2, 1) := dk_28 (dk_at dksX0_meets_2 13 rfl rfl)
theorem dX0_meets_62 : decode cX0_meets 62 = .ok (.ishl, 1) := dk_120 (dk_at dksX0_meets_2 14 rfl rfl)
theorem dX0_meets_63 : decode cX0_meets 63 = .ok (.ior, 1) := dk_128 (dk_at dksX0_meets_2 15 rfl rfl)
theorem dX0_meets_64 : decode cX0_meets 64 = .ok (.goto 18, 3) := dk_167 0 18 (dk_at dksX0_meets_2 16 rfl rfl)
theorem dX0_meets_67 : decode cX0_meets 67 = .ok (.aload_n 0, 1) := dk_42 (dk_at dksX0_meets_2 19 rfl rfl)
theorem dX0_meets_68 : decode cX0_meets 68 = .ok (.getfield 47, 3) := dk_180 0 47 (dk_at dksX0_meets_2 20 rfl rfl)
theorem dX0_meets_71 : decode cX0_meets 71 = .ok (.getfield 178, 3) := dk_180 0 178 (dk_at dksX0_meets_3 0 rfl rfl)
theorem dX0_meets_74 : decode cX0_meets 74 = .ok (.iload_n 1, 1) := dk_27 (dk_at dksX0_meets_3 3 rfl rfl)
theorem dX0_meets_75 : decode cX0_meets 75 = .ok (.iaload, 1) := dk_46 (dk_at dksX0_meets_3 4 rfl rfl)
theorem dX0_meets_76 : decode cX0_meets 76 = .ok (.iconst 1, 1) := dk_4 (dk_at dksX0_meets_3 5 rfl rfl)
theorem dX0_meets_77 : decode cX0_meets 77 = .ok (.iload_n 2, 1) := dk_28 (dk_at dksX0_meets_3 6 rfl rfl)
theorem dX0_meets_78 : decode cX0_meets 78 = .ok (.ishl, 1) := dk_120 (dk_at dksX0_meets_3 7 rfl rfl)
theorem dX0_meets_79 : decode cX0_meets 79 = .ok (.iconst (-1), 1) := dk_2 (dk_at dksX0_meets_3 8 rfl rfl)
theorem dX0_meets_80 : decode cX0_meets 80 = .ok (.ixor, 1) := dk_130 (dk_at dksX0_meets_3 9 rfl rfl)
theorem dX0_meets_81 : decode cX0_meets 81 = .ok (.iand, 1) := dk_126 (dk_at dksX0_meets_3 10 rfl rfl)
theorem dX0_meets_82 : decode cX0_meets 82 = .ok (.iastore, 1) := dk_79 (dk_at dksX0_meets_3 11 rfl rfl)
theorem dX0_meets_83 : decode cX0_meets 83 = .ok (.aload_n 0, 1) := dk_42 (dk_at dksX0_meets_3 12 rfl rfl)
theorem dX0_meets_84 : decode cX0_meets 84 = .ok (.getfield 47, 3) := dk_180 0 47 (dk_at dksX0_meets_3 13 rfl rfl)
theorem dX0_meets_87 : decode cX0_meets 87 = .ok (.getfield 178, 3) := dk_180 0 178 (dk_at dksX0_meets_3 16 rfl rfl)
theorem dX0_meets_90 : decode cX0_meets 90 = .ok (.iload_n 2, 1) := dk_28 (dk_at dksX0_meets_3 19 rfl rfl)
theorem dX0_meets_91 : decode cX0_meets 91 = .ok (.iload_n 3, 1) := dk_29 (dk_at dksX0_meets_3 20 rfl rfl)
theorem dX0_meets_92 : decode cX0_meets 92 = .ok (.ifCond .eq 19, 3) := dk_153 0 19 (dk_at dksX0_meets_3 21 rfl rfl)
theorem dX0_meets_95 : decode cX0_meets 95 = .ok (.aload_n 0, 1) := dk_42 (dk_at dksX0_meets_4 0 rfl rfl)
theorem dX0_meets_96 : decode cX0_meets 96 = .ok (.getfield 47, 3) := dk_180 0 47 (dk_at dksX0_meets_4 1 rfl rfl)
theorem dX0_meets_99 : decode cX0_meets 99 = .ok (.getfield 178, 3) := dk_180 0 178 (dk_at dksX0_meets_4 4 rfl rfl)
theorem dX0_meets_102 : decode cX0_meets 102 = .ok (.iload_n 2, 1) := dk_28 (dk_at dksX0_meets_4 7 rfl rfl)
theorem dX0_meets_103 : decode cX0_meets 103 = .ok (.iaload, 1) := dk_46 (dk_at dksX0_meets_4 8 rfl rfl)
theorem dX0_meets_104 : decode cX0_meets 104 = .ok (.iconst 1, 1) := dk_4 (dk_at dksX0_meets_4 9 rfl rfl)
theorem dX0_meets_105 : decode cX0_meets 105 = .ok (.iload_n 1, 1) := dk_27 (dk_at dksX0_meets_4 10 rfl rfl)
theorem dX0_meets_106 : decode cX0_meets 106 = .ok (.ishl, 1) := dk_120 (dk_at dksX0_meets_4 11 rfl rfl)
theorem dX0_meets_107 : decode cX0_meets 107 = .ok (.ior, 1) := dk_128 (dk_at dksX0_meets_4 12 rfl rfl)
theorem dX0_meets_108 : decode cX0_meets 108 = .ok (.goto 18, 3) := dk_167 0 18 (dk_at dksX0_meets_4 13 rfl rfl)
theorem dX0_meets_111 : decode cX0_meets 111 = .ok (.aload_n 0, 1) := dk_42 (dk_at dksX0_meets_4 16 rfl rfl)
theorem dX0_meets_112 : decode cX0_meets 112 = .ok (.getfield 47, 3) := dk_180 0 47 (dk_at dksX0_meets_4 17 rfl rfl)
theorem dX0_meets_115 : decode cX0_meets 115 = .ok (.getfield 178, 3) := dk_180 0 178 (dk_at dksX0_meets_4 20 rfl rfl)
theorem dX0_meets_118 : decode cX0_meets 118 = .ok (.iload_n 2, 1) := dk_28 (dk_at dksX0_meets_4 23 rfl rfl)
theorem dX0_meets_119 : decode cX0_meets 119 = .ok (.iaload, 1) := dk_46 (dk_at dksX0_meets_5 0 rfl rfl)
theorem dX0_meets_120 : decode cX0_meets 120 = .ok (.iconst 1, 1) := dk_4 (dk_at dksX0_meets_5 1 rfl rfl)
theorem dX0_meets_121 : decode cX0_meets 121 = .ok (.iload_n 1, 1) := dk_27 (dk_at dksX0_meets_5 2 rfl rfl)
theorem dX0_meets_122 : decode cX0_meets 122 = .ok (.ishl, 1) := dk_120 (dk_at dksX0_meets_5 3 rfl rfl)
theorem dX0_meets_123 : decode cX0_meets 123 = .ok (.iconst (-1), 1) := dk_2 (dk_at dksX0_meets_5 4 rfl rfl)
theorem dX0_meets_124 : decode cX0_meets 124 = .ok (.ixor, 1) := dk_130 (dk_at dksX0_meets_5 5 rfl rfl)
theorem dX0_meets_125 : decode cX0_meets 125 = .ok (.iand, 1) := dk_126 (dk_at dksX0_meets_5 6 rfl rfl)
theorem dX0_meets_126 : decode cX0_meets 126 = .ok (.iastore, 1) := dk_79 (dk_at dksX0_meets_5 7 rfl rfl)
theorem dX0_meets_127 : decode cX0_meets 127 = .ok (.iload 4, 2) := dk_21 4 (dk_at dksX0_meets_5 8 rfl rfl)
theorem dX0_meets_129 : decode cX0_meets 129 = .ok (.ireturn, 1) := dk_172 (dk_at dksX0_meets_5 10 rfl rfl)
abbrev cX0_meet : ByteArray := prog_1_method_15_code
def yX0_meet : MethodName := ⟨RX0, "meet", "(II)Z"⟩
def dkwX0_meet_0 : List UInt8 := [42, 180, 0, 47, 180, 0, 178, 27, 46, 28, 122, 4, 126, 4, 160, 0, 7, 4, 167, 0, 4, 3, 172]
abbrev dktX0_meet_0 : List UInt8 := dkwX0_meet_0 ++ []
theorem dksX0_meet_0 : cX0_meet.data.toList.drop 0 = dktX0_meet_0 := by decide +kernel
theorem dX0_meet_0 : decode cX0_meet 0 = .ok (.aload_n 0, 1) := dk_42 (dk_at dksX0_meet_0 0 rfl rfl)
theorem dX0_meet_1 : decode cX0_meet 1 = .ok (.getfield 47, 3) := dk_180 0 47 (dk_at dksX0_meet_0 1 rfl rfl)
theorem dX0_meet_4 : decode cX0_meet 4 = .ok (.getfield 178, 3) := dk_180 0 178 (dk_at dksX0_meet_0 4 rfl rfl)
theorem dX0_meet_7 : decode cX0_meet 7 = .ok (.iload_n 1, 1) := dk_27 (dk_at dksX0_meet_0 7 rfl rfl)
theorem dX0_meet_8 : decode cX0_meet 8 = .ok (.iaload, 1) := dk_46 (dk_at dksX0_meet_0 8 rfl rfl)
theorem dX0_meet_9 : decode cX0_meet 9 = .ok (.iload_n 2, 1) := dk_28 (dk_at dksX0_meet_0 9 rfl rfl)
theorem dX0_meet_10 : decode cX0_meet 10 = .ok (.ishr, 1) := dk_122 (dk_at dksX0_meet_0 10 rfl rfl)
theorem dX0_meet_11 : decode cX0_meet 11 = .ok (.iconst 1, 1) := dk_4 (dk_at dksX0_meet_0 11 rfl rfl)
theorem dX0_meet_12 : decode cX0_meet 12 = .ok (.iand, 1) := dk_126 (dk_at dksX0_meet_0 12 rfl rfl)
theorem dX0_meet_13 : decode cX0_meet 13 = .ok (.iconst 1, 1) := dk_4 (dk_at dksX0_meet_0 13 rfl rfl)
theorem dX0_meet_14 : decode cX0_meet 14 = .ok (.if_icmp .ne 7, 3) := dk_160 0 7 (dk_at dksX0_meet_0 14 rfl rfl)
theorem dX0_meet_17 : decode cX0_meet 17 = .ok (.iconst 1, 1) := dk_4 (dk_at dksX0_meet_0 17 rfl rfl)
theorem dX0_meet_18 : decode cX0_meet 18 = .ok (.goto 4, 3) := dk_167 0 4 (dk_at dksX0_meet_0 18 rfl rfl)
theorem dX0_meet_21 : decode cX0_meet 21 = .ok (.iconst 0, 1) := dk_3 (dk_at dksX0_meet_0 21 rfl rfl)
theorem dX0_meet_22 : decode cX0_meet 22 = .ok (.ireturn, 1) := dk_172 (dk_at dksX0_meet_0 22 rfl rfl)
abbrev cX0_worth : ByteArray := prog_1_method_17_code
def yX0_worth : MethodName := ⟨RX0, "worth", "(II)I"⟩
def dkwX0_worth_1 : List UInt8 := [180, 0, 198, 27, 46, 62, 42, 180, 0, 47, 180, 0, 198, 27, 28, 79, 29, 172]
abbrev dktX0_worth_1 : List UInt8 := dkwX0_worth_1 ++ []
def dkwX0_worth_0 : List UInt8 := [27, 184, 0, 153, 153, 0, 13, 28, 3, 16, 99, 184, 0, 149, 154, 0, 5, 2, 172, 42, 180, 0, 47]
abbrev dktX0_worth_0 : List UInt8 := dkwX0_worth_0 ++ dktX0_worth_1
theorem dksX0_worth_0 : cX0_worth.data.toList.drop 0 = dktX0_worth_0 := by decide +kernel
theorem dksX0_worth_1 : cX0_worth.data.toList.drop 23 = dktX0_worth_1 := dk_seg dksX0_worth_0 23 rfl rfl
theorem dX0_worth_0 : decode cX0_worth 0 = .ok (.iload_n 1, 1) := dk_27 (dk_at dksX0_worth_0 0 rfl rfl)
theorem dX0_worth_1 : decode cX0_worth 1 = .ok (.invokestatic 153, 3) := dk_184 0 153 (dk_at dksX0_worth_0 1 rfl rfl)
theorem dX0_worth_4 : decode cX0_worth 4 = .ok (.ifCond .eq 13, 3) := dk_153 0 13 (dk_at dksX0_worth_0 4 rfl rfl)
theorem dX0_worth_7 : decode cX0_worth 7 = .ok (.iload_n 2, 1) := dk_28 (dk_at dksX0_worth_0 7 rfl rfl)
theorem dX0_worth_8 : decode cX0_worth 8 = .ok (.iconst 0, 1) := dk_3 (dk_at dksX0_worth_0 8 rfl rfl)
theorem dX0_worth_9 : decode cX0_worth 9 = .ok (.bipush 99, 2) := dk_16 99 (dk_at dksX0_worth_0 9 rfl rfl)
theorem dX0_worth_11 : decode cX0_worth 11 = .ok (.invokestatic 149, 3) := dk_184 0 149 (dk_at dksX0_worth_0 11 rfl rfl)
theorem dX0_worth_14 : decode cX0_worth 14 = .ok (.ifCond .ne 5, 3) := dk_154 0 5 (dk_at dksX0_worth_0 14 rfl rfl)
theorem dX0_worth_17 : decode cX0_worth 17 = .ok (.iconst (-1), 1) := dk_2 (dk_at dksX0_worth_0 17 rfl rfl)
theorem dX0_worth_18 : decode cX0_worth 18 = .ok (.ireturn, 1) := dk_172 (dk_at dksX0_worth_0 18 rfl rfl)
theorem dX0_worth_19 : decode cX0_worth 19 = .ok (.aload_n 0, 1) := dk_42 (dk_at dksX0_worth_0 19 rfl rfl)
theorem dX0_worth_20 : decode cX0_worth 20 = .ok (.getfield 47, 3) := dk_180 0 47 (dk_at dksX0_worth_0 20 rfl rfl)
theorem dX0_worth_23 : decode cX0_worth 23 = .ok (.getfield 198, 3) := dk_180 0 198 (dk_at dksX0_worth_1 0 rfl rfl)
theorem dX0_worth_26 : decode cX0_worth 26 = .ok (.iload_n 1, 1) := dk_27 (dk_at dksX0_worth_1 3 rfl rfl)
theorem dX0_worth_27 : decode cX0_worth 27 = .ok (.iaload, 1) := dk_46 (dk_at dksX0_worth_1 4 rfl rfl)
theorem dX0_worth_28 : decode cX0_worth 28 = .ok (.istore_n 3, 1) := dk_62 (dk_at dksX0_worth_1 5 rfl rfl)
theorem dX0_worth_29 : decode cX0_worth 29 = .ok (.aload_n 0, 1) := dk_42 (dk_at dksX0_worth_1 6 rfl rfl)
theorem dX0_worth_30 : decode cX0_worth 30 = .ok (.getfield 47, 3) := dk_180 0 47 (dk_at dksX0_worth_1 7 rfl rfl)
theorem dX0_worth_33 : decode cX0_worth 33 = .ok (.getfield 198, 3) := dk_180 0 198 (dk_at dksX0_worth_1 10 rfl rfl)
theorem dX0_worth_36 : decode cX0_worth 36 = .ok (.iload_n 1, 1) := dk_27 (dk_at dksX0_worth_1 13 rfl rfl)
theorem dX0_worth_37 : decode cX0_worth 37 = .ok (.iload_n 2, 1) := dk_28 (dk_at dksX0_worth_1 14 rfl rfl)
theorem dX0_worth_38 : decode cX0_worth 38 = .ok (.iastore, 1) := dk_79 (dk_at dksX0_worth_1 15 rfl rfl)
theorem dX0_worth_39 : decode cX0_worth 39 = .ok (.iload_n 3, 1) := dk_29 (dk_at dksX0_worth_1 16 rfl rfl)
theorem dX0_worth_40 : decode cX0_worth 40 = .ok (.ireturn, 1) := dk_172 (dk_at dksX0_worth_1 17 rfl rfl)
abbrev cX0_jar : ByteArray := prog_1_method_18_code
def yX0_jar : MethodName := ⟨RX0, "jar", "(II)I"⟩
def dkwX0_jar_1 : List UInt8 := [180, 0, 201, 27, 46, 62, 42, 180, 0, 47, 180, 0, 201, 27, 28, 79, 29, 172]
abbrev dktX0_jar_1 : List UInt8 := dkwX0_jar_1 ++ []
def dkwX0_jar_0 : List UInt8 := [27, 184, 0, 153, 153, 0, 13, 28, 3, 16, 9, 184, 0, 149, 154, 0, 5, 2, 172, 42, 180, 0, 47]
abbrev dktX0_jar_0 : List UInt8 := dkwX0_jar_0 ++ dktX0_jar_1
theorem dksX0_jar_0 : cX0_jar.data.toList.drop 0 = dktX0_jar_0 := by decide +kernel
theorem dksX0_jar_1 : cX0_jar.data.toList.drop 23 = dktX0_jar_1 := dk_seg dksX0_jar_0 23 rfl rfl
theorem dX0_jar_0 : decode cX0_jar 0 = .ok (.iload_n 1, 1) := dk_27 (dk_at dksX0_jar_0 0 rfl rfl)
theorem dX0_jar_1 : decode cX0_jar 1 = .ok (.invokestatic 153, 3) := dk_184 0 153 (dk_at dksX0_jar_0 1 rfl rfl)
theorem dX0_jar_4 : decode cX0_jar 4 = .ok (.ifCond .eq 13, 3) := dk_153 0 13 (dk_at dksX0_jar_0 4 rfl rfl)
theorem dX0_jar_7 : decode cX0_jar 7 = .ok (.iload_n 2, 1) := dk_28 (dk_at dksX0_jar_0 7 rfl rfl)
theorem dX0_jar_8 : decode cX0_jar 8 = .ok (.iconst 0, 1) := dk_3 (dk_at dksX0_jar_0 8 rfl rfl)
theorem dX0_jar_9 : decode cX0_jar 9 = .ok (.bipush 9, 2) := dk_16 9 (dk_at dksX0_jar_0 9 rfl rfl)
theorem dX0_jar_11 : decode cX0_jar 11 = .ok (.invokestatic 149, 3) := dk_184 0 149 (dk_at dksX0_jar_0 11 rfl rfl)
theorem dX0_jar_14 : decode cX0_jar 14 = .ok (.ifCond .ne 5, 3) := dk_154 0 5 (dk_at dksX0_jar_0 14 rfl rfl)
theorem dX0_jar_17 : decode cX0_jar 17 = .ok (.iconst (-1), 1) := dk_2 (dk_at dksX0_jar_0 17 rfl rfl)
theorem dX0_jar_18 : decode cX0_jar 18 = .ok (.ireturn, 1) := dk_172 (dk_at dksX0_jar_0 18 rfl rfl)
theorem dX0_jar_19 : decode cX0_jar 19 = .ok (.aload_n 0, 1) := dk_42 (dk_at dksX0_jar_0 19 rfl rfl)
theorem dX0_jar_20 : decode cX0_jar 20 = .ok (.getfield 47, 3) := dk_180 0 47 (dk_at dksX0_jar_0 20 rfl rfl)
theorem dX0_jar_23 : decode cX0_jar 23 = .ok (.getfield 201, 3) := dk_180 0 201 (dk_at dksX0_jar_1 0 rfl rfl)
theorem dX0_jar_26 : decode cX0_jar 26 = .ok (.iload_n 1, 1) := dk_27 (dk_at dksX0_jar_1 3 rfl rfl)
theorem dX0_jar_27 : decode cX0_jar 27 = .ok (.iaload, 1) := dk_46 (dk_at dksX0_jar_1 4 rfl rfl)
theorem dX0_jar_28 : decode cX0_jar 28 = .ok (.istore_n 3, 1) := dk_62 (dk_at dksX0_jar_1 5 rfl rfl)
theorem dX0_jar_29 : decode cX0_jar 29 = .ok (.aload_n 0, 1) := dk_42 (dk_at dksX0_jar_1 6 rfl rfl)
theorem dX0_jar_30 : decode cX0_jar 30 = .ok (.getfield 47, 3) := dk_180 0 47 (dk_at dksX0_jar_1 7 rfl rfl)
theorem dX0_jar_33 : decode cX0_jar 33 = .ok (.getfield 201, 3) := dk_180 0 201 (dk_at dksX0_jar_1 10 rfl rfl)
theorem dX0_jar_36 : decode cX0_jar 36 = .ok (.iload_n 1, 1) := dk_27 (dk_at dksX0_jar_1 13 rfl rfl)
theorem dX0_jar_37 : decode cX0_jar 37 = .ok (.iload_n 2, 1) := dk_28 (dk_at dksX0_jar_1 14 rfl rfl)
theorem dX0_jar_38 : decode cX0_jar 38 = .ok (.iastore, 1) := dk_79 (dk_at dksX0_jar_1 15 rfl rfl)
theorem dX0_jar_39 : decode cX0_jar 39 = .ok (.iload_n 3, 1) := dk_29 (dk_at dksX0_jar_1 16 rfl rfl)
theorem dX0_jar_40 : decode cX0_jar 40 = .ok (.ireturn, 1) := dk_172 (dk_at dksX0_jar_1 17 rfl rfl)
abbrev cX0_fee : ByteArray := prog_1_method_19_code
def yX0_fee : MethodName := ⟨RX0, "fee", "(I)I"⟩
def dkwX0_fee_1 : List UInt8 := [27, 181, 0, 204, 28, 172]
abbrev dktX0_fee_1 : List UInt8 := dkwX0_fee_1 ++ []
def dkwX0_fee_0 : List UInt8 := [27, 3, 16, 50, 184, 0, 149, 154, 0, 5, 2, 172, 42, 180, 0, 47, 180, 0, 204, 61, 42, 180, 0, 47]
abbrev dktX0_fee_0 : List UInt8 := dkwX0_fee_0 ++ dktX0_fee_1
theorem dksX0_fee_0 : cX0_fee.data.toList.drop 0 = dktX0_fee_0 := by decide +kernel
theorem dksX0_fee_1 : cX0_fee.data.toList.drop 24 = dktX0_fee_1 := dk_seg dksX0_fee_0 24 rfl rfl
theorem dX0_fee_0 : decode cX0_fee 0 = .ok (.iload_n 1, 1) := dk_27 (dk_at dksX0_fee_0 0 rfl rfl)
theorem dX0_fee_1 : decode cX0_fee 1 = .ok (.iconst 0, 1) := dk_3 (dk_at dksX0_fee_0 1 rfl rfl)
theorem dX0_fee_2 : decode cX0_fee 2 = .ok (.bipush 50, 2) := dk_16 50 (dk_at dksX0_fee_0 2 rfl rfl)
theorem dX0_fee_4 : decode cX0_fee 4 = .ok (.invokestatic 149, 3) := dk_184 0 149 (dk_at dksX0_fee_0 4 rfl rfl)
theorem dX0_fee_7 : decode cX0_fee 7 = .ok (.ifCond .ne 5, 3) := dk_154 0 5 (dk_at dksX0_fee_0 7 rfl rfl)
theorem dX0_fee_10 : decode cX0_fee 10 = .ok (.iconst (-1), 1) := dk_2 (dk_at dksX0_fee_0 10 rfl rfl)
theorem dX0_fee_11 : decode cX0_fee 11 = .ok (.ireturn, 1) := dk_172 (dk_at dksX0_fee_0 11 rfl rfl)
theorem dX0_fee_12 : decode cX0_fee 12 = .ok (.aload_n 0, 1) := dk_42 (dk_at dksX0_fee_0 12 rfl rfl)
theorem dX0_fee_13 : decode cX0_fee 13 = .ok (.getfield 47, 3) := dk_180 0 47 (dk_at dksX0_fee_0 13 rfl rfl)
theorem dX0_fee_16 : decode cX0_fee 16 = .ok (.getfield 204, 3) := dk_180 0 204 (dk_at dksX0_fee_0 16 rfl rfl)
theorem dX0_fee_19 : decode cX0_fee 19 = .ok (.istore_n 2, 1) := dk_61 (dk_at dksX0_fee_0 19 rfl rfl)
theorem dX0_fee_20 : decode cX0_fee 20 = .ok (.aload_n 0, 1) := dk_42 (dk_at dksX0_fee_0 20 rfl rfl)
theorem dX0_fee_21 : decode cX0_fee 21 = .ok (.getfield 47, 3) := dk_180 0 47 (dk_at dksX0_fee_0 21 rfl rfl)
theorem dX0_fee_24 : decode cX0_fee 24 = .ok (.iload_n 1, 1) := dk_27 (dk_at dksX0_fee_1 0 rfl rfl)
theorem dX0_fee_25 : decode cX0_fee 25 = .ok (.putfield 204, 3) := dk_181 0 204 (dk_at dksX0_fee_1 1 rfl rfl)
theorem dX0_fee_28 : decode cX0_fee 28 = .ok (.iload_n 2, 1) := dk_28 (dk_at dksX0_fee_1 4 rfl rfl)
theorem dX0_fee_29 : decode cX0_fee 29 = .ok (.ireturn, 1) := dk_172 (dk_at dksX0_fee_1 5 rfl rfl)
abbrev cX0_thing : ByteArray := prog_1_method_21_code
def yX0_thing : MethodName := ⟨RX0, "thing", "(II)I"⟩
def dkwX0_thing_4 : List UInt8 := [172]
abbrev dktX0_thing_4 : List UInt8 := dkwX0_thing_4 ++ []
def dkwX0_thing_3 : List UInt8 := [180, 0, 47, 180, 0, 174, 182, 0, 207, 172, 42, 27, 42, 180, 0, 47, 180, 0, 160, 182, 0, 207, 172, 2]
abbrev dktX0_thing_3 : List UInt8 := dkwX0_thing_3 ++ dktX0_thing_4
def dkwX0_thing_2 : List UInt8 := [42, 180, 0, 47, 180, 0, 198, 27, 46, 172, 42, 180, 0, 47, 180, 0, 201, 27, 46, 172, 42, 27, 42]
abbrev dktX0_thing_2 : List UInt8 := dkwX0_thing_2 ++ dktX0_thing_3
def dkwX0_thing_1 : List UInt8 := [170, 0, 0, 0, 0, 76, 0, 0, 0, 0, 0, 0, 0, 3, 0, 0, 0, 30, 0, 0, 0, 40, 0, 0, 0, 50, 0, 0, 0, 63]
abbrev dktX0_thing_1 : List UInt8 := dkwX0_thing_1 ++ dktX0_thing_2
def dkwX0_thing_0 : List UInt8 := [27, 184, 0, 153, 154, 0, 5, 2, 172, 28]
abbrev dktX0_thing_0 : List UInt8 := dkwX0_thing_0 ++ dktX0_thing_1
theorem dksX0_thing_0 : cX0_thing.data.toList.drop 0 = dktX0_thing_0 := by decide +kernel
theorem dksX0_thing_1 : cX0_thing.data.toList.drop 10 = dktX0_thing_1 := dk_seg dksX0_thing_0 10 rfl rfl
theorem dksX0_thing_2 : cX0_thing.data.toList.drop 40 = dktX0_thing_2 := dk_seg dksX0_thing_1 30 rfl rfl
theorem dksX0_thing_3 : cX0_thing.data.toList.drop 63 = dktX0_thing_3 := dk_seg dksX0_thing_2 23 rfl rfl
theorem dksX0_thing_4 : cX0_thing.data.toList.drop 87 = dktX0_thing_4 := dk_seg dksX0_thing_3 24 rfl rfl
theorem dX0_thing_0 : decode cX0_thing 0 = .ok (.iload_n 1, 1) := dk_27 (dk_at dksX0_thing_0 0 rfl rfl)
theorem dX0_thing_1 : decode cX0_thing 1 = .ok (.invokestatic 153, 3) := dk_184 0 153 (dk_at dksX0_thing_0 1 rfl rfl)
theorem dX0_thing_4 : decode cX0_thing 4 = .ok (.ifCond .ne 5, 3) := dk_154 0 5 (dk_at dksX0_thing_0 4 rfl rfl)
theorem dX0_thing_7 : decode cX0_thing 7 = .ok (.iconst (-1), 1) := dk_2 (dk_at dksX0_thing_0 7 rfl rfl)
theorem dX0_thing_8 : decode cX0_thing 8 = .ok (.ireturn, 1) := dk_172 (dk_at dksX0_thing_0 8 rfl rfl)
theorem dX0_thing_9 : decode cX0_thing 9 = .ok (.iload_n 2, 1) := dk_28 (dk_at dksX0_thing_0 9 rfl rfl)
theorem dX0_thing_10 : decode cX0_thing 10 = .ok (.tableswitch 76 0 3 #[30, 40, 50, 63], 30) := by decide +kernel
theorem dX0_thing_40 : decode cX0_thing 40 = .ok (.aload_n 0, 1) := dk_42 (dk_at dksX0_thing_2 0 rfl rfl)
theorem dX0_thing_41 : decode cX0_thing 41 = .ok (.getfield 47, 3) := dk_180 0 47 (dk_at dksX0_thing_2 1 rfl rfl)
theorem dX0_thing_44 : decode cX0_thing 44 = .ok (.getfield 198, 3) := dk_180 0 198 (dk_at dksX0_thing_2 4 rfl rfl)
theorem dX0_thing_47 : decode cX0_thing 47 = .ok (.iload_n 1, 1) := dk_27 (dk_at dksX0_thing_2 7 rfl rfl)
theorem dX0_thing_48 : decode cX0_thing 48 = .ok (.iaload, 1) := dk_46 (dk_at dksX0_thing_2 8 rfl rfl)
theorem dX0_thing_49 : decode cX0_thing 49 = .ok (.ireturn, 1) := dk_172 (dk_at dksX0_thing_2 9 rfl rfl)
theorem dX0_thing_50 : decode cX0_thing 50 = .ok (.aload_n 0, 1) := dk_42 (dk_at dksX0_thing_2 10 rfl rfl)
theorem dX0_thing_51 : decode cX0_thing 51 = .ok (.getfield 47, 3) := dk_180 0 47 (dk_at dksX0_thing_2 11 rfl rfl)
theorem dX0_thing_54 : decode cX0_thing 54 = .ok (.getfield 201, 3) := dk_180 0 201 (dk_at dksX0_thing_2 14 rfl rfl)
theorem dX0_thing_57 : decode cX0_thing 57 = .ok (.iload_n 1, 1) := dk_27 (dk_at dksX0_thing_2 17 rfl rfl)
theorem dX0_thing_58 : decode cX0_thing 58 = .ok (.iaload, 1) := dk_46 (dk_at dksX0_thing_2 18 rfl rfl)
theorem dX0_thing_59 : decode cX0_thing 59 = .ok (.ireturn, 1) := dk_172 (dk_at dksX0_thing_2 19 rfl rfl)
theorem dX0_thing_60 : decode cX0_thing 60 = .ok (.aload_n 0, 1) := dk_42 (dk_at dksX0_thing_2 20 rfl rfl)
theorem dX0_thing_61 : decode cX0_thing 61 = .ok (.iload_n 1, 1) := dk_27 (dk_at dksX0_thing_2 21 rfl rfl)
theorem dX0_thing_62 : decode cX0_thing 62 = .ok (.aload_n 0, 1) := dk_42 (dk_at dksX0_thing_2 22 rfl rfl)
theorem dX0_thing_63 : decode cX0_thing 63 = .ok (.getfield 47, 3) := dk_180 0 47 (dk_at dksX0_thing_3 0 rfl rfl)
theorem dX0_thing_66 : decode cX0_thing 66 = .ok (.getfield 174, 3) := dk_180 0 174 (dk_at dksX0_thing_3 3 rfl rfl)
theorem dX0_thing_69 : decode cX0_thing 69 = .ok (.invokevirtual 207, 3) := dk_182 0 207 (dk_at dksX0_thing_3 6 rfl rfl)
theorem dX0_thing_72 : decode cX0_thing 72 = .ok (.ireturn, 1) := dk_172 (dk_at dksX0_thing_3 9 rfl rfl)
theorem dX0_thing_73 : decode cX0_thing 73 = .ok (.aload_n 0, 1) := dk_42 (dk_at dksX0_thing_3 10 rfl rfl)
theorem dX0_thing_74 : decode cX0_thing 74 = .ok (.iload_n 1, 1) := dk_27 (dk_at dksX0_thing_3 11 rfl rfl)
theorem dX0_thing_75 : decode cX0_thing 75 = .ok (.aload_n 0, 1) := dk_42 (dk_at dksX0_thing_3 12 rfl rfl)
theorem dX0_thing_76 : decode cX0_thing 76 = .ok (.getfield 47, 3) := dk_180 0 47 (dk_at dksX0_thing_3 13 rfl rfl)
theorem dX0_thing_79 : decode cX0_thing 79 = .ok (.getfield 160, 3) := dk_180 0 160 (dk_at dksX0_thing_3 16 rfl rfl)
theorem dX0_thing_82 : decode cX0_thing 82 = .ok (.invokevirtual 207, 3) := dk_182 0 207 (dk_at dksX0_thing_3 19 rfl rfl)
theorem dX0_thing_85 : decode cX0_thing 85 = .ok (.ireturn, 1) := dk_172 (dk_at dksX0_thing_3 22 rfl rfl)
theorem dX0_thing_86 : decode cX0_thing 86 = .ok (.iconst (-1), 1) := dk_2 (dk_at dksX0_thing_3 23 rfl rfl)
theorem dX0_thing_87 : decode cX0_thing 87 = .ok (.ireturn, 1) := dk_172 (dk_at dksX0_thing_4 0 rfl rfl)
abbrev cX0_those : ByteArray := prog_1_method_20_code
def yX0_those : MethodName := ⟨RX0, "those", "(I[I)I"⟩
def dkwX0_those_1 : List UInt8 := [160, 0, 10, 4, 21, 4, 120, 167, 0, 4, 3, 128, 62, 132, 4, 1, 167, 255, 222, 29, 172]
abbrev dktX0_those_1 : List UInt8 := dkwX0_those_1 ++ []
def dkwX0_those_0 : List UInt8 := [3, 62, 3, 54, 4, 21, 4, 42, 180, 0, 47, 180, 0, 147, 162, 0, 28, 29, 44, 21, 4, 46, 27]
abbrev dktX0_those_0 : List UInt8 := dkwX0_those_0 ++ dktX0_those_1
theorem dksX0_those_0 : cX0_those.data.toList.drop 0 = dktX0_those_0 := by decide +kernel
theorem dksX0_those_1 : cX0_those.data.toList.drop 23 = dktX0_those_1 := dk_seg dksX0_those_0 23 rfl rfl
theorem dX0_those_0 : decode cX0_those 0 = .ok (.iconst 0, 1) := dk_3 (dk_at dksX0_those_0 0 rfl rfl)
theorem dX0_those_1 : decode cX0_those 1 = .ok (.istore_n 3, 1) := dk_62 (dk_at dksX0_those_0 1 rfl rfl)
theorem dX0_those_2 : decode cX0_those 2 = .ok (.iconst 0, 1) := dk_3 (dk_at dksX0_those_0 2 rfl rfl)
theorem dX0_those_3 : decode cX0_those 3 = .ok (.istore 4, 2) := dk_54 4 (dk_at dksX0_those_0 3 rfl rfl)
theorem dX0_those_5 : decode cX0_those 5 = .ok (.iload 4, 2) := dk_21 4 (dk_at dksX0_those_0 5 rfl rfl)
theorem dX0_those_7 : decode cX0_those 7 = .ok (.aload_n 0, 1) := dk_42 (dk_at dksX0_those_0 7 rfl rfl)
theorem dX0_those_8 : decode cX0_those 8 = .ok (.getfield 47, 3) := dk_180 0 47 (dk_at dksX0_those_0 8 rfl rfl)
theorem dX0_those_11 : decode cX0_those 11 = .ok (.getfield 147, 3) := dk_180 0 147 (dk_at dksX0_those_0 11 rfl rfl)
theorem dX0_those_14 : decode cX0_those 14 = .ok (.if_icmp .ge 28, 3) := dk_162 0 28 (dk_at dksX0_those_0 14 rfl rfl)
theorem dX0_those_17 : decode cX0_those 17 = .ok (.iload_n 3, 1) := dk_29 (dk_at dksX0_those_0 17 rfl rfl)
theorem dX0_those_18 : decode cX0_those 18 = .ok (.aload_n 2, 1) := dk_44 (dk_at dksX0_those_0 18 rfl rfl)
theorem dX0_those_19 : decode cX0_those 19 = .ok (.iload 4, 2) := dk_21 4 (dk_at dksX0_those_0 19 rfl rfl)
theorem dX0_those_21 : decode cX0_those 21 = .ok (.iaload, 1) := dk_46 (dk_at dksX0_those_0 21 rfl rfl)
theorem dX0_those_22 : decode cX0_those 22 = .ok (.iload_n 1, 1) := dk_27 (dk_at dksX0_those_0 22 rfl rfl)
theorem dX0_those_23 : decode cX0_those 23 = .ok (.if_icmp .ne 10, 3) := dk_160 0 10 (dk_at dksX0_those_1 0 rfl rfl)
theorem dX0_those_26 : decode cX0_those 26 = .ok (.iconst 1, 1) := dk_4 (dk_at dksX0_those_1 3 rfl rfl)
theorem dX0_those_27 : decode cX0_those 27 = .ok (.iload 4, 2) := dk_21 4 (dk_at dksX0_those_1 4 rfl rfl)
theorem dX0_those_29 : decode cX0_those 29 = .ok (.ishl, 1) := dk_120 (dk_at dksX0_those_1 6 rfl rfl)
theorem dX0_those_30 : decode cX0_those 30 = .ok (.goto 4, 3) := dk_167 0 4 (dk_at dksX0_those_1 7 rfl rfl)
theorem dX0_those_33 : decode cX0_those 33 = .ok (.iconst 0, 1) := dk_3 (dk_at dksX0_those_1 10 rfl rfl)
theorem dX0_those_34 : decode cX0_those 34 = .ok (.ior, 1) := dk_128 (dk_at dksX0_those_1 11 rfl rfl)
theorem dX0_those_35 : decode cX0_those 35 = .ok (.istore_n 3, 1) := dk_62 (dk_at dksX0_those_1 12 rfl rfl)
theorem dX0_those_36 : decode cX0_those 36 = .ok (.iinc 4 1, 3) := dk_132 4 1 (dk_at dksX0_those_1 13 rfl rfl)
theorem dX0_those_39 : decode cX0_those 39 = .ok (.goto (-34), 3) := dk_167 255 222 (dk_at dksX0_those_1 16 rfl rfl)
theorem dX0_those_42 : decode cX0_those 42 = .ok (.iload_n 3, 1) := dk_29 (dk_at dksX0_those_1 19 rfl rfl)
theorem dX0_those_43 : decode cX0_those 43 = .ok (.ireturn, 1) := dk_172 (dk_at dksX0_those_1 20 rfl rfl)
abbrev cX0_state : ByteArray := prog_1_method_22_code
def yX0_state : MethodName := ⟨RX0, "state", "(I)I"⟩
def dkwX0_state_3 : List UInt8 := [42, 180, 0, 47, 180, 0, 217, 172, 2, 172]
abbrev dktX0_state_3 : List UInt8 := dkwX0_state_3 ++ []
def dkwX0_state_2 : List UInt8 := [42, 180, 0, 47, 182, 0, 211, 172, 42, 180, 0, 47, 182, 0, 214, 172, 42, 180, 0, 47, 180, 0, 204, 172]
abbrev dktX0_state_2 : List UInt8 := dkwX0_state_2 ++ dktX0_state_3
def dkwX0_state_1 : List UInt8 := [170, 0, 0, 0, 0, 0, 63, 0, 0, 0, 0, 0, 0, 0, 3, 0, 0, 0, 31, 0, 0, 0, 39, 0, 0, 0, 47, 0, 0, 0, 55]
abbrev dktX0_state_1 : List UInt8 := dkwX0_state_1 ++ dktX0_state_2
def dkwX0_state_0 : List UInt8 := [27]
abbrev dktX0_state_0 : List UInt8 := dkwX0_state_0 ++ dktX0_state_1
theorem dksX0_state_0 : cX0_state.data.toList.drop 0 = dktX0_state_0 := by decide +kernel
theorem dksX0_state_1 : cX0_state.data.toList.drop 1 = dktX0_state_1 := dk_seg dksX0_state_0 1 rfl rfl
theorem dksX0_state_2 : cX0_state.data.toList.drop 32 = dktX0_state_2 := dk_seg dksX0_state_1 31 rfl rfl
theorem dksX0_state_3 : cX0_state.data.toList.drop 56 = dktX0_state_3 := dk_seg dksX0_state_2 24 rfl rfl
theorem dX0_state_0 : decode cX0_state 0 = .ok (.iload_n 1, 1) := dk_27 (dk_at dksX0_state_0 0 rfl rfl)
theorem dX0_state_1 : decode cX0_state 1 = .ok (.tableswitch 63 0 3 #[31, 39, 47, 55], 31) := by decide +kernel
theorem dX0_state_32 : decode cX0_state 32 = .ok (.aload_n 0, 1) := dk_42 (dk_at dksX0_state_2 0 rfl rfl)
theorem dX0_state_33 : decode cX0_state 33 = .ok (.getfield 47, 3) := dk_180 0 47 (dk_at dksX0_state_2 1 rfl rfl)
theorem dX0_state_36 : decode cX0_state 36 = .ok (.invokevirtual 211, 3) := dk_182 0 211 (dk_at dksX0_state_2 4 rfl rfl)
theorem dX0_state_39 : decode cX0_state 39 = .ok (.ireturn, 1) := dk_172 (dk_at dksX0_state_2 7 rfl rfl)
theorem dX0_state_40 : decode cX0_state 40 = .ok (.aload_n 0, 1) := dk_42 (dk_at dksX0_state_2 8 rfl rfl)
theorem dX0_state_41 : decode cX0_state 41 = .ok (.getfield 47, 3) := dk_180 0 47 (dk_at dksX0_state_2 9 rfl rfl)
theorem dX0_state_44 : decode cX0_state 44 = .ok (.invokevirtual 214, 3) := dk_182 0 214 (dk_at dksX0_state_2 12 rfl rfl)
theorem dX0_state_47 : decode cX0_state 47 = .ok (.ireturn, 1) := dk_172 (dk_at dksX0_state_2 15 rfl rfl)
theorem dX0_state_48 : decode cX0_state 48 = .ok (.aload_n 0, 1) := dk_42 (dk_at dksX0_state_2 16 rfl rfl)
theorem dX0_state_49 : decode cX0_state 49 = .ok (.getfield 47, 3) := dk_180 0 47 (dk_at dksX0_state_2 17 rfl rfl)
theorem dX0_state_52 : decode cX0_state 52 = .ok (.getfield 204, 3) := dk_180 0 204 (dk_at dksX0_state_2 20 rfl rfl)
theorem dX0_state_55 : decode cX0_state 55 = .ok (.ireturn, 1) := dk_172 (dk_at dksX0_state_2 23 rfl rfl)
theorem dX0_state_56 : decode cX0_state 56 = .ok (.aload_n 0, 1) := dk_42 (dk_at dksX0_state_3 0 rfl rfl)
theorem dX0_state_57 : decode cX0_state 57 = .ok (.getfield 47, 3) := dk_180 0 47 (dk_at dksX0_state_3 1 rfl rfl)
theorem dX0_state_60 : decode cX0_state 60 = .ok (.getfield 217, 3) := dk_180 0 217 (dk_at dksX0_state_3 4 rfl rfl)
theorem dX0_state_63 : decode cX0_state 63 = .ok (.ireturn, 1) := dk_172 (dk_at dksX0_state_3 7 rfl rfl)
theorem dX0_state_64 : decode cX0_state 64 = .ok (.iconst (-1), 1) := dk_2 (dk_at dksX0_state_3 8 rfl rfl)
theorem dX0_state_65 : decode cX0_state 65 = .ok (.ireturn, 1) := dk_172 (dk_at dksX0_state_3 9 rfl rfl)
abbrev cX0_feed : ByteArray := prog_1_method_23_code
def yX0_feed : MethodName := ⟨RX0, "feed", "(JI)I"⟩
def dkwX0_feed_3 : List UInt8 := [181, 0, 219, 42, 180, 0, 219, 172]
abbrev dktX0_feed_3 : List UInt8 := dkwX0_feed_3 ++ []
def dkwX0_feed_2 : List UInt8 := [16, 8, 21, 4, 104, 123, 136, 145, 84, 132, 4, 1, 167, 255, 226, 42, 89, 180, 0, 219, 29, 96]
abbrev dktX0_feed_2 : List UInt8 := dkwX0_feed_2 ++ dktX0_feed_3
def dkwX0_feed_1 : List UInt8 := [16, 254, 172, 3, 54, 4, 21, 4, 29, 162, 0, 30, 42, 180, 0, 103, 42, 180, 0, 219, 21, 4, 96, 31]
abbrev dktX0_feed_1 : List UInt8 := dkwX0_feed_1 ++ dktX0_feed_2
def dkwX0_feed_0 : List UInt8 := [29, 4, 16, 8, 184, 0, 149, 154, 0, 5, 2, 172, 42, 180, 0, 219, 29, 96, 17, 0, 200, 164, 0, 6]
abbrev dktX0_feed_0 : List UInt8 := dkwX0_feed_0 ++ dktX0_feed_1
theorem dksX0_feed_0 : cX0_feed.data.toList.drop 0 = dktX0_feed_0 := by decide +kernel
theorem dksX0_feed_1 : cX0_feed.data.toList.drop 24 = dktX0_feed_1 := dk_seg dksX0_feed_0 24 rfl rfl
theorem dksX0_feed_2 : cX0_feed.data.toList.drop 48 = dktX0_feed_2 := dk_seg dksX0_feed_1 24 rfl rfl
theorem dksX0_feed_3 : cX0_feed.data.toList.drop 70 = dktX0_feed_3 := dk_seg dksX0_feed_2 22 rfl rfl
theorem dX0_feed_0 : decode cX0_feed 0 = .ok (.iload_n 3, 1) := dk_29 (dk_at dksX0_feed_0 0 rfl rfl)
theorem dX0_feed_1 : decode cX0_feed 1 = .ok (.iconst 1, 1) := dk_4 (dk_at dksX0_feed_0 1 rfl rfl)
theorem dX0_feed_2 : decode cX0_feed 2 = .ok (.bipush 8, 2) := dk_16 8 (dk_at dksX0_feed_0 2 rfl rfl)
theorem dX0_feed_4 : decode cX0_feed 4 = .ok (.invokestatic 149, 3) := dk_184 0 149 (dk_at dksX0_feed_0 4 rfl rfl)
theorem dX0_feed_7 : decode cX0_feed 7 = .ok (.ifCond .ne 5, 3) := dk_154 0 5 (dk_at dksX0_feed_0 7 rfl rfl)
theorem dX0_feed_10 : decode cX0_feed 10 = .ok (.iconst (-1), 1) := dk_2 (dk_at dksX0_feed_0 10 rfl rfl)
theorem dX0_feed_11 : decode cX0_feed 11 = .ok (.ireturn, 1) := dk_172 (dk_at dksX0_feed_0 11 rfl rfl)
theorem dX0_feed_12 : decode cX0_feed 12 = .ok (.aload_n 0, 1) := dk_42 (dk_at dksX0_feed_0 12 rfl rfl)
theorem dX0_feed_13 : decode cX0_feed 13 = .ok (.getfield 219, 3) := dk_180 0 219 (dk_at dksX0_feed_0 13 rfl rfl)
theorem dX0_feed_16 : decode cX0_feed 16 = .ok (.iload_n 3, 1) := dk_29 (dk_at dksX0_feed_0 16 rfl rfl)
theorem dX0_feed_17 : decode cX0_feed 17 = .ok (.iadd, 1) := dk_96 (dk_at dksX0_feed_0 17 rfl rfl)
theorem dX0_feed_18 : decode cX0_feed 18 = .ok (.sipush 200, 3) := dk_17 0 200 (dk_at dksX0_feed_0 18 rfl rfl)
theorem dX0_feed_21 : decode cX0_feed 21 = .ok (.if_icmp .le 6, 3) := dk_164 0 6 (dk_at dksX0_feed_0 21 rfl rfl)
theorem dX0_feed_24 : decode cX0_feed 24 = .ok (.bipush (-2), 2) := dk_16 254 (dk_at dksX0_feed_1 0 rfl rfl)
theorem dX0_feed_26 : decode cX0_feed 26 = .ok (.ireturn, 1) := dk_172 (dk_at dksX0_feed_1 2 rfl rfl)
theorem dX0_feed_27 : decode cX0_feed 27 = .ok (.iconst 0, 1) := dk_3 (dk_at dksX0_feed_1 3 rfl rfl)
theorem dX0_feed_28 : decode cX0_feed 28 = .ok (.istore 4, 2) := dk_54 4 (dk_at dksX0_feed_1 4 rfl rfl)
theorem dX0_feed_30 : decode cX0_feed 30 = .ok (.iload 4, 2) := dk_21 4 (dk_at dksX0_feed_1 6 rfl rfl)
theorem dX0_feed_32 : decode cX0_feed 32 = .ok (.iload_n 3, 1) := dk_29 (dk_at dksX0_feed_1 8 rfl rfl)
theorem dX0_feed_33 : decode cX0_feed 33 = .ok (.if_icmp .ge 30, 3) := dk_162 0 30 (dk_at dksX0_feed_1 9 rfl rfl)
theorem dX0_feed_36 : decode cX0_feed 36 = .ok (.aload_n 0, 1) := dk_42 (dk_at dksX0_feed_1 12 rfl rfl)
theorem dX0_feed_37 : decode cX0_feed 37 = .ok (.getfield 103, 3) := dk_180 0 103 (dk_at dksX0_feed_1 13 rfl rfl)
theorem dX0_feed_40 : decode cX0_feed 40 = .ok (.aload_n 0, 1) := dk_42 (dk_at dksX0_feed_1 16 rfl rfl)
theorem dX0_feed_41 : decode cX0_feed 41 = .ok (.getfield 219, 3) := dk_180 0 219 (dk_at dksX0_feed_1 17 rfl rfl)
theorem dX0_feed_44 : decode cX0_feed 44 = .ok (.iload 4, 2) := dk_21 4 (dk_at dksX0_feed_1 20 rfl rfl)
theorem dX0_feed_46 : decode cX0_feed 46 = .ok (.iadd, 1) := dk_96 (dk_at dksX0_feed_1 22 rfl rfl)
theorem dX0_feed_47 : decode cX0_feed 47 = .ok (.lload_n 1, 1) := dk_31 (dk_at dksX0_feed_1 23 rfl rfl)
theorem dX0_feed_48 : decode cX0_feed 48 = .ok (.bipush 8, 2) := dk_16 8 (dk_at dksX0_feed_2 0 rfl rfl)
theorem dX0_feed_50 : decode cX0_feed 50 = .ok (.iload 4, 2) := dk_21 4 (dk_at dksX0_feed_2 2 rfl rfl)
theorem dX0_feed_52 : decode cX0_feed 52 = .ok (.imul, 1) := dk_104 (dk_at dksX0_feed_2 4 rfl rfl)
theorem dX0_feed_53 : decode cX0_feed 53 = .ok (.lshr, 1) := dk_123 (dk_at dksX0_feed_2 5 rfl rfl)
theorem dX0_feed_54 : decode cX0_feed 54 = .ok (.l2i, 1) := dk_136 (dk_at dksX0_feed_2 6 rfl rfl)
theorem dX0_feed_55 : decode cX0_feed 55 = .ok (.i2b, 1) := dk_145 (dk_at dksX0_feed_2 7 rfl rfl)
theorem dX0_feed_56 : decode cX0_feed 56 = .ok (.bastore, 1) := dk_84 (dk_at dksX0_feed_2 8 rfl rfl)
theorem dX0_feed_57 : decode cX0_feed 57 = .ok (.iinc 4 1, 3) := dk_132 4 1 (dk_at dksX0_feed_2 9 rfl rfl)
theorem dX0_feed_60 : decode cX0_feed 60 = .ok (.goto (-30), 3) := dk_167 255 226 (dk_at dksX0_feed_2 12 rfl rfl)
theorem dX0_feed_63 : decode cX0_feed 63 = .ok (.aload_n 0, 1) := dk_42 (dk_at dksX0_feed_2 15 rfl rfl)
theorem dX0_feed_64 : decode cX0_feed 64 = .ok (.dup, 1) := dk_89 (dk_at dksX0_feed_2 16 rfl rfl)
theorem dX0_feed_65 : decode cX0_feed 65 = .ok (.getfield 219, 3) := dk_180 0 219 (dk_at dksX0_feed_2 17 rfl rfl)
theorem dX0_feed_68 : decode cX0_feed 68 = .ok (.iload_n 3, 1) := dk_29 (dk_at dksX0_feed_2 20 rfl rfl)
theorem dX0_feed_69 : decode cX0_feed 69 = .ok (.iadd, 1) := dk_96 (dk_at dksX0_feed_2 21 rfl rfl)
theorem dX0_feed_70 : decode cX0_feed 70 = .ok (.putfield 219, 3) := dk_181 0 219 (dk_at dksX0_feed_3 0 rfl rfl)
theorem dX0_feed_73 : decode cX0_feed 73 = .ok (.aload_n 0, 1) := dk_42 (dk_at dksX0_feed_3 3 rfl rfl)
theorem dX0_feed_74 : decode cX0_feed 74 = .ok (.getfield 219, 3) := dk_180 0 219 (dk_at dksX0_feed_3 4 rfl rfl)
theorem dX0_feed_77 : decode cX0_feed 77 = .ok (.ireturn, 1) := dk_172 (dk_at dksX0_feed_3 7 rfl rfl)
abbrev cX0_rules : ByteArray := prog_1_method_40_code
def yX0_rules : MethodName := ⟨RX0, "rules", "()I"⟩
def dkwX0_rules_2 : List UInt8 := [181, 0, 219, 45, 191]
abbrev dktX0_rules_2 : List UInt8 := dkwX0_rules_2 ++ []
def dkwX0_rules_1 : List UInt8 := [181, 0, 219, 27, 172, 76, 16, 156, 43, 180, 1, 86, 100, 61, 42, 3, 181, 0, 219, 28, 172, 78, 42, 3]
abbrev dktX0_rules_1 : List UInt8 := dkwX0_rules_1 ++ dktX0_rules_2
def dkwX0_rules_0 : List UInt8 := [42, 180, 0, 47, 42, 182, 1, 78, 181, 1, 82, 42, 180, 0, 47, 180, 1, 82, 190, 60, 42, 3]
abbrev dktX0_rules_0 : List UInt8 := dkwX0_rules_0 ++ dktX0_rules_1
theorem dksX0_rules_0 : cX0_rules.data.toList.drop 0 = dktX0_rules_0 := by decide +kernel
theorem dksX0_rules_1 : cX0_rules.data.toList.drop 22 = dktX0_rules_1 := dk_seg dksX0_rules_0 22 rfl rfl
theorem dksX0_rules_2 : cX0_rules.data.toList.drop 46 = dktX0_rules_2 := dk_seg dksX0_rules_1 24 rfl rfl
theorem dX0_rules_0 : decode cX0_rules 0 = .ok (.aload_n 0, 1) := dk_42 (dk_at dksX0_rules_0 0 rfl rfl)
theorem dX0_rules_1 : decode cX0_rules 1 = .ok (.getfield 47, 3) := dk_180 0 47 (dk_at dksX0_rules_0 1 rfl rfl)
theorem dX0_rules_4 : decode cX0_rules 4 = .ok (.aload_n 0, 1) := dk_42 (dk_at dksX0_rules_0 4 rfl rfl)
theorem dX0_rules_5 : decode cX0_rules 5 = .ok (.invokevirtual 334, 3) := dk_182 1 78 (dk_at dksX0_rules_0 5 rfl rfl)
theorem dX0_rules_8 : decode cX0_rules 8 = .ok (.putfield 338, 3) := dk_181 1 82 (dk_at dksX0_rules_0 8 rfl rfl)
theorem dX0_rules_11 : decode cX0_rules 11 = .ok (.aload_n 0, 1) := dk_42 (dk_at dksX0_rules_0 11 rfl rfl)
theorem dX0_rules_12 : decode cX0_rules 12 = .ok (.getfield 47, 3) := dk_180 0 47 (dk_at dksX0_rules_0 12 rfl rfl)
theorem dX0_rules_15 : decode cX0_rules 15 = .ok (.getfield 338, 3) := dk_180 1 82 (dk_at dksX0_rules_0 15 rfl rfl)
theorem dX0_rules_18 : decode cX0_rules 18 = .ok (.arraylength, 1) := dk_190 (dk_at dksX0_rules_0 18 rfl rfl)
theorem dX0_rules_19 : decode cX0_rules 19 = .ok (.istore_n 1, 1) := dk_60 (dk_at dksX0_rules_0 19 rfl rfl)
theorem dX0_rules_20 : decode cX0_rules 20 = .ok (.aload_n 0, 1) := dk_42 (dk_at dksX0_rules_0 20 rfl rfl)
theorem dX0_rules_21 : decode cX0_rules 21 = .ok (.iconst 0, 1) := dk_3 (dk_at dksX0_rules_0 21 rfl rfl)
theorem dX0_rules_22 : decode cX0_rules 22 = .ok (.putfield 219, 3) := dk_181 0 219 (dk_at dksX0_rules_1 0 rfl rfl)
theorem dX0_rules_25 : decode cX0_rules 25 = .ok (.iload_n 1, 1) := dk_27 (dk_at dksX0_rules_1 3 rfl rfl)
theorem dX0_rules_26 : decode cX0_rules 26 = .ok (.ireturn, 1) := dk_172 (dk_at dksX0_rules_1 4 rfl rfl)
theorem dX0_rules_27 : decode cX0_rules 27 = .ok (.astore_n 1, 1) := dk_76 (dk_at dksX0_rules_1 5 rfl rfl)
theorem dX0_rules_28 : decode cX0_rules 28 = .ok (.bipush (-100), 2) := dk_16 156 (dk_at dksX0_rules_1 6 rfl rfl)
theorem dX0_rules_30 : decode cX0_rules 30 = .ok (.aload_n 1, 1) := dk_43 (dk_at dksX0_rules_1 8 rfl rfl)
theorem dX0_rules_31 : decode cX0_rules 31 = .ok (.getfield 342, 3) := dk_180 1 86 (dk_at dksX0_rules_1 9 rfl rfl)
theorem dX0_rules_34 : decode cX0_rules 34 = .ok (.isub, 1) := dk_100 (dk_at dksX0_rules_1 12 rfl rfl)
theorem dX0_rules_35 : decode cX0_rules 35 = .ok (.istore_n 2, 1) := dk_61 (dk_at dksX0_rules_1 13 rfl rfl)
theorem dX0_rules_36 : decode cX0_rules 36 = .ok (.aload_n 0, 1) := dk_42 (dk_at dksX0_rules_1 14 rfl rfl)
theorem dX0_rules_37 : decode cX0_rules 37 = .ok (.iconst 0, 1) := dk_3 (dk_at dksX0_rules_1 15 rfl rfl)
theorem dX0_rules_38 : decode cX0_rules 38 = .ok (.putfield 219, 3) := dk_181 0 219 (dk_at dksX0_rules_1 16 rfl rfl)
theorem dX0_rules_41 : decode cX0_rules 41 = .ok (.iload_n 2, 1) := dk_28 (dk_at dksX0_rules_1 19 rfl rfl)
theorem dX0_rules_42 : decode cX0_rules 42 = .ok (.ireturn, 1) := dk_172 (dk_at dksX0_rules_1 20 rfl rfl)
theorem dX0_rules_43 : decode cX0_rules 43 = .ok (.astore_n 3, 1) := dk_78 (dk_at dksX0_rules_1 21 rfl rfl)
theorem dX0_rules_44 : decode cX0_rules 44 = .ok (.aload_n 0, 1) := dk_42 (dk_at dksX0_rules_1 22 rfl rfl)
theorem dX0_rules_45 : decode cX0_rules 45 = .ok (.iconst 0, 1) := dk_3 (dk_at dksX0_rules_1 23 rfl rfl)
theorem dX0_rules_46 : decode cX0_rules 46 = .ok (.putfield 219, 3) := dk_181 0 219 (dk_at dksX0_rules_2 0 rfl rfl)
theorem dX0_rules_49 : decode cX0_rules 49 = .ok (.aload_n 3, 1) := dk_45 (dk_at dksX0_rules_2 3 rfl rfl)
theorem dX0_rules_50 : decode cX0_rules 50 = .ok (.athrow, 1) := dk_191 (dk_at dksX0_rules_2 4 rfl rfl)
abbrev cX0_allRules : ByteArray := prog_1_method_39_code
def yX0_allRules : MethodName := ⟨RX0, "allRules", "()[LHadForVoice$Rule;"⟩
def dkwX0_allRules_2 : List UInt8 := [132, 2, 1, 167, 255, 224, 28, 189, 1, 63, 78, 43, 3, 45, 3, 28, 184, 1, 72, 45, 176]
abbrev dktX0_allRules_2 : List UInt8 := dkwX0_allRules_2 ++ []
def dkwX0_allRules_1 : List UInt8 := [180, 0, 219, 162, 0, 27, 28, 16, 8, 160, 0, 8, 42, 182, 0, 252, 191, 43, 28, 42, 182, 1, 68, 83]
abbrev dktX0_allRules_1 : List UInt8 := dkwX0_allRules_1 ++ dktX0_allRules_2
def dkwX0_allRules_0 : List UInt8 := [16, 8, 189, 1, 63, 76, 3, 61, 42, 3, 181, 0, 222, 42, 182, 0, 246, 42, 180, 0, 225, 42]
abbrev dktX0_allRules_0 : List UInt8 := dkwX0_allRules_0 ++ dktX0_allRules_1
theorem dksX0_allRules_0 : cX0_allRules.data.toList.drop 0 = dktX0_allRules_0 := by decide +kernel
theorem dksX0_allRules_1 : cX0_allRules.data.toList.drop 22 = dktX0_allRules_1 := dk_seg dksX0_allRules_0 22 rfl rfl
theorem dksX0_allRules_2 : cX0_allRules.data.toList.drop 46 = dktX0_allRules_2 := dk_seg dksX0_allRules_1 24 rfl rfl
theorem dX0_allRules_0 : decode cX0_allRules 0 = .ok (.bipush 8, 2) := dk_16 8 (dk_at dksX0_allRules_0 0 rfl rfl)
theorem dX0_allRules_2 : decode cX0_allRules 2 = .ok (.anewarray 319, 3) := dk_189 1 63 (dk_at dksX0_allRules_0 2 rfl rfl)
theorem dX0_allRules_5 : decode cX0_allRules 5 = .ok (.astore_n 1, 1) := dk_76 (dk_at dksX0_allRules_0 5 rfl rfl)
theorem dX0_allRules_6 : decode cX0_allRules 6 = .ok (.iconst 0, 1) := dk_3 (dk_at dksX0_allRules_0 6 rfl rfl)
theorem dX0_allRules_7 : decode cX0_allRules 7 = .ok (.istore_n 2, 1) := dk_61 (dk_at dksX0_allRules_0 7 rfl rfl)
theorem dX0_allRules_8 : decode cX0_allRules 8 = .ok (.aload_n 0, 1) := dk_42 (dk_at dksX0_allRules_0 8 rfl rfl)
theorem dX0_allRules_9 : decode cX0_allRules 9 = .ok (.iconst 0, 1) := dk_3 (dk_at dksX0_allRules_0 9 rfl rfl)
theorem dX0_allRules_10 : decode cX0_allRules 10 = .ok (.putfield 222, 3) := dk_181 0 222 (dk_at dksX0_allRules_0 10 rfl rfl)
theorem dX0_allRules_13 : decode cX0_allRules 13 = .ok (.aload_n 0, 1) := dk_42 (dk_at dksX0_allRules_0 13 rfl rfl)
theorem dX0_allRules_14 : decode cX0_allRules 14 = .ok (.invokevirtual 246, 3) := dk_182 0 246 (dk_at dksX0_allRules_0 14 rfl rfl)
theorem dX0_allRules_17 : decode cX0_allRules 17 = .ok (.aload_n 0, 1) := dk_42 (dk_at dksX0_allRules_0 17 rfl rfl)
theorem dX0_allRules_18 : decode cX0_allRules 18 = .ok (.getfield 225, 3) := dk_180 0 225 (dk_at dksX0_allRules_0 18 rfl rfl)
theorem dX0_allRules_21 : decode cX0_allRules 21 = .ok (.aload_n 0, 1) := dk_42 (dk_at dksX0_allRules_0 21 rfl rfl)
theorem dX0_allRules_22 : decode cX0_allRules 22 = .ok (.getfield 219, 3) := dk_180 0 219 (dk_at dksX0_allRules_1 0 rfl rfl)
theorem dX0_allRules_25 : decode cX0_allRules 25 = .ok (.if_icmp .ge 27, 3) := dk_162 0 27 (dk_at dksX0_allRules_1 3 rfl rfl)
theorem dX0_allRules_28 : decode cX0_allRules 28 = .ok (.iload_n 2, 1) := dk_28 (dk_at dksX0_allRules_1 6 rfl rfl)
theorem dX0_allRules_29 : decode cX0_allRules 29 = .ok (.bipush 8, 2) := dk_16 8 (dk_at dksX0_allRules_1 7 rfl rfl)
theorem dX0_allRules_31 : decode cX0_allRules 31 = .ok (.if_icmp .ne 8, 3) := dk_160 0 8 (dk_at dksX0_allRules_1 9 rfl rfl)
theorem dX0_allRules_34 : decode cX0_allRules 34 = .ok (.aload_n 0, 1) := dk_42 (dk_at dksX0_allRules_1 12 rfl rfl)
theorem dX0_allRules_35 : decode cX0_allRules 35 = .ok (.invokevirtual 252, 3) := dk_182 0 252 (dk_at dksX0_allRules_1 13 rfl rfl)
theorem dX0_allRules_38 : decode cX0_allRules 38 = .ok (.athrow, 1) := dk_191 (dk_at dksX0_allRules_1 16 rfl rfl)
theorem dX0_allRules_39 : decode cX0_allRules 39 = .ok (.aload_n 1, 1) := dk_43 (dk_at dksX0_allRules_1 17 rfl rfl)
theorem dX0_allRules_40 : decode cX0_allRules 40 = .ok (.iload_n 2, 1) := dk_28 (dk_at dksX0_allRules_1 18 rfl rfl)
theorem dX0_allRules_41 : decode cX0_allRules 41 = .ok (.aload_n 0, 1) := dk_42 (dk_at dksX0_allRules_1 19 rfl rfl)
theorem dX0_allRules_42 : decode cX0_allRules 42 = .ok (.invokevirtual 324, 3) := dk_182 1 68 (dk_at dksX0_allRules_1 20 rfl rfl)
theorem dX0_allRules_45 : decode cX0_allRules 45 = .ok (.aastore, 1) := dk_83 (dk_at dksX0_allRules_1 23 rfl rfl)
theorem dX0_allRules_46 : decode cX0_allRules 46 = .ok (.iinc 2 1, 3) := dk_132 2 1 (dk_at dksX0_allRules_2 0 rfl rfl)
theorem dX0_allRules_49 : decode cX0_allRules 49 = .ok (.goto (-32), 3) := dk_167 255 224 (dk_at dksX0_allRules_2 3 rfl rfl)
theorem dX0_allRules_52 : decode cX0_allRules 52 = .ok (.iload_n 2, 1) := dk_28 (dk_at dksX0_allRules_2 6 rfl rfl)
theorem dX0_allRules_53 : decode cX0_allRules 53 = .ok (.anewarray 319, 3) := dk_189 1 63 (dk_at dksX0_allRules_2 7 rfl rfl)
theorem dX0_allRules_56 : decode cX0_allRules 56 = .ok (.astore_n 3, 1) := dk_78 (dk_at dksX0_allRules_2 10 rfl rfl)
theorem dX0_allRules_57 : decode cX0_allRules 57 = .ok (.aload_n 1, 1) := dk_43 (dk_at dksX0_allRules_2 11 rfl rfl)
theorem dX0_allRules_58 : decode cX0_allRules 58 = .ok (.iconst 0, 1) := dk_3 (dk_at dksX0_allRules_2 12 rfl rfl)
theorem dX0_allRules_59 : decode cX0_allRules 59 = .ok (.aload_n 3, 1) := dk_45 (dk_at dksX0_allRules_2 13 rfl rfl)
theorem dX0_allRules_60 : decode cX0_allRules 60 = .ok (.iconst 0, 1) := dk_3 (dk_at dksX0_allRules_2 14 rfl rfl)
theorem dX0_allRules_61 : decode cX0_allRules 61 = .ok (.iload_n 2, 1) := dk_28 (dk_at dksX0_allRules_2 15 rfl rfl)
theorem dX0_allRules_62 : decode cX0_allRules 62 = .ok (.invokestatic 328, 3) := dk_184 1 72 (dk_at dksX0_allRules_2 16 rfl rfl)
theorem dX0_allRules_65 : decode cX0_allRules 65 = .ok (.aload_n 3, 1) := dk_45 (dk_at dksX0_allRules_2 19 rfl rfl)
theorem dX0_allRules_66 : decode cX0_allRules 66 = .ok (.areturn, 1) := dk_176 (dk_at dksX0_allRules_2 20 rfl rfl)
abbrev cX0_next : ByteArray := prog_1_method_26_code
def yX0_next : MethodName := ⟨RX0, "next", "()V"⟩
def dkwX0_next_6 : List UInt8 := [132, 1, 1, 167, 255, 213, 42, 27, 181, 0, 222, 177]
abbrev dktX0_next_6 : List UInt8 := dkwX0_next_6 ++ []
def dkwX0_next_5 : List UInt8 := [184, 0, 228, 154, 0, 19, 29, 153, 0, 21, 42, 180, 0, 103, 27, 51, 184, 0, 231, 153, 0, 9]
abbrev dktX0_next_5 : List UInt8 := dkwX0_next_5 ++ dktX0_next_6
def dkwX0_next_4 : List UInt8 := [162, 0, 6, 132, 1, 1, 27, 42, 180, 0, 219, 162, 0, 41, 28, 153, 0, 15, 42, 180, 0, 103, 27, 51]
abbrev dktX0_next_4 : List UInt8 := dkwX0_next_4 ++ dktX0_next_5
def dkwX0_next_3 : List UInt8 := [180, 0, 103, 27, 51, 184, 0, 231, 153, 0, 7, 4, 167, 0, 4, 3, 62, 27, 42, 180, 0, 219]
abbrev dktX0_next_3 : List UInt8 := dkwX0_next_3 ++ dktX0_next_4
def dkwX0_next_2 : List UInt8 := [51, 184, 0, 228, 153, 0, 7, 4, 167, 0, 4, 3, 61, 27, 42, 180, 0, 219, 162, 0, 19, 42]
abbrev dktX0_next_2 : List UInt8 := dkwX0_next_2 ++ dktX0_next_3
def dkwX0_next_1 : List UInt8 := [132, 1, 1, 167, 255, 234, 42, 27, 181, 0, 225, 27, 42, 180, 0, 219, 162, 0, 19, 42, 180, 0, 103, 27]
abbrev dktX0_next_1 : List UInt8 := dkwX0_next_1 ++ dktX0_next_2
def dkwX0_next_0 : List UInt8 := [42, 180, 0, 222, 60, 27, 42, 180, 0, 219, 162, 0, 20, 42, 180, 0, 103, 27, 51, 16, 32, 160, 0, 9]
abbrev dktX0_next_0 : List UInt8 := dkwX0_next_0 ++ dktX0_next_1
theorem dksX0_next_0 : cX0_next.data.toList.drop 0 = dktX0_next_0 := by decide +kernel
theorem dksX0_next_1 : cX0_next.data.toList.drop 24 = dktX0_next_1 := dk_seg dksX0_next_0 24 rfl rfl
theorem dksX0_next_2 : cX0_next.data.toList.drop 48 = dktX0_next_2 := dk_seg dksX0_next_1 24 rfl rfl
theorem dksX0_next_3 : cX0_next.data.toList.drop 70 = dktX0_next_3 := dk_seg dksX0_next_2 22 rfl rfl
theorem dksX0_next_4 : cX0_next.data.toList.drop 92 = dktX0_next_4 := dk_seg dksX0_next_3 22 rfl rfl
theorem dksX0_next_5 : cX0_next.data.toList.drop 116 = dktX0_next_5 := dk_seg dksX0_next_4 24 rfl rfl
theorem dksX0_next_6 : cX0_next.data.toList.drop 138 = dktX0_next_6 := dk_seg dksX0_next_5 22 rfl rfl
theorem dX0_next_0 : decode cX0_next 0 = .ok (.aload_n 0, 1) := dk_42 (dk_at dksX0_next_0 0 rfl rfl)
theorem dX0_next_1 : decode cX0_next 1 = .ok (.getfield 222, 3) := dk_180 0 222 (dk_at dksX0_next_0 1 rfl rfl)
theorem dX0_next_4 : decode cX0_next 4 = .ok (.istore_n 1, 1) := dk_60 (dk_at dksX0_next_0 4 rfl rfl)
theorem dX0_next_5 : decode cX0_next 5 = .ok (.iload_n 1, 1) := dk_27 (dk_at dksX0_next_0 5 rfl rfl)
theorem dX0_next_6 : decode cX0_next 6 = .ok (.aload_n 0, 1) := dk_42 (dk_at dksX0_next_0 6 rfl rfl)
theorem dX0_next_7 : decode cX0_next 7 = .ok (.getfield 219, 3) := dk_180 0 219 (dk_at dksX0_next_0 7 rfl rfl)
theorem dX0_next_10 : decode cX0_next 10 = .ok (.if_icmp .ge 20, 3) := dk_162 0 20 (dk_at dksX0_next_0 10 rfl rfl)
theorem dX0_next_13 : decode cX0_next 13 = .ok (.aload_n 0, 1) := dk_42 (dk_at dksX0_next_0 13 rfl rfl)
theorem dX0_next_14 : decode cX0_next 14 = .ok (.getfield 103, 3) := dk_180 0 103 (dk_at dksX0_next_0 14 rfl rfl)
theorem dX0_next_17 : decode cX0_next 17 = .ok (.iload_n 1, 1) := dk_27 (dk_at dksX0_next_0 17 rfl rfl)
theorem dX0_next_18 : decode cX0_next 18 = .ok (.baload, 1) := dk_51 (dk_at dksX0_next_0 18 rfl rfl)
theorem dX0_next_19 : decode cX0_next 19 = .ok (.bipush 32, 2) := dk_16 32 (dk_at dksX0_next_0 19 rfl rfl)
theorem dX0_next_21 : decode cX0_next 21 = .ok (.if_icmp .ne 9, 3) := dk_160 0 9 (dk_at dksX0_next_0 21 rfl rfl)
theorem dX0_next_24 : decode cX0_next 24 = .ok (.iinc 1 1, 3) := dk_132 1 1 (dk_at dksX0_next_1 0 rfl rfl)
theorem dX0_next_27 : decode cX0_next 27 = .ok (.goto (-22), 3) := dk_167 255 234 (dk_at dksX0_next_1 3 rfl rfl)
theorem dX0_next_30 : decode cX0_next 30 = .ok (.aload_n 0, 1) := dk_42 (dk_at dksX0_next_1 6 rfl rfl)
theorem dX0_next_31 : decode cX0_next 31 = .ok (.iload_n 1, 1) := dk_27 (dk_at dksX0_next_1 7 rfl rfl)
theorem dX0_next_32 : decode cX0_next 32 = .ok (.putfield 225, 3) := dk_181 0 225 (dk_at dksX0_next_1 8 rfl rfl)
theorem dX0_next_35 : decode cX0_next 35 = .ok (.iload_n 1, 1) := dk_27 (dk_at dksX0_next_1 11 rfl rfl)
theorem dX0_next_36 : decode cX0_next 36 = .ok (.aload_n 0, 1) := dk_42 (dk_at dksX0_next_1 12 rfl rfl)
theorem dX0_next_37 : decode cX0_next 37 = .ok (.getfield 219, 3) := dk_180 0 219 (dk_at dksX0_next_1 13 rfl rfl)
theorem dX0_next_40 : decode cX0_next 40 = .ok (.if_icmp .ge 19, 3) := dk_162 0 19 (dk_at dksX0_next_1 16 rfl rfl)
theorem dX0_next_43 : decode cX0_next 43 = .ok (.aload_n 0, 1) := dk_42 (dk_at dksX0_next_1 19 rfl rfl)
theorem dX0_next_44 : decode cX0_next 44 = .ok (.getfield 103, 3) := dk_180 0 103 (dk_at dksX0_next_1 20 rfl rfl)
theorem dX0_next_47 : decode cX0_next 47 = .ok (.iload_n 1, 1) := dk_27 (dk_at dksX0_next_1 23 rfl rfl)
theorem dX0_next_48 : decode cX0_next 48 = .ok (.baload, 1) := dk_51 (dk_at dksX0_next_2 0 rfl rfl)
theorem dX0_next_49 : decode cX0_next 49 = .ok (.invokestatic 228, 3) := dk_184 0 228 (dk_at dksX0_next_2 1 rfl rfl)
theorem dX0_next_52 : decode cX0_next 52 = .ok (.ifCond .eq 7, 3) := dk_153 0 7 (dk_at dksX0_next_2 4 rfl rfl)
theorem dX0_next_55 : decode cX0_next 55 = .ok (.iconst 1, 1) := dk_4 (dk_at dksX0_next_2 7 rfl rfl)
theorem dX0_next_56 : decode cX0_next 56 = .ok (.goto 4, 3) := dk_167 0 4 (dk_at dksX0_next_2 8 rfl rfl)
theorem dX0_next_59 : decode cX0_next 59 = .ok (.iconst 0, 1) := dk_3 (dk_at dksX0_next_2 11 rfl rfl)
theorem dX0_next_60 : decode cX0_next 60 = .ok (.istore_n 2, 1) := dk_61 (dk_at dksX0_next_2 12 rfl rfl)
theorem dX0_next_61 : decode cX0_next 61 = .ok (.iload_n 1, 1) := dk_27 (dk_at dksX0_next_2 13 rfl rfl)
theorem dX0_next_62 : decode cX0_next 62 = .ok (.aload_n 0, 1) := dk_42 (dk_at dksX0_next_2 14 rfl rfl)
theorem dX0_next_63 : decode cX0_next 63 = .ok (.getfield 219, 3) := dk_180 0 219 (dk_at dksX0_next_2 15 rfl rfl)
theorem dX0_next_66 : decode cX0_next 66 = .ok (.if_icmp .ge 19, 3) := dk_162 0 19 (dk_at dksX0_next_2 18 rfl rfl)
theorem dX0_next_69 : decode cX0_next 69 = .ok (.aload_n 0, 1) := dk_42 (dk_at dksX0_next_2 21 rfl rfl)
theorem dX0_next_70 : decode cX0_next 70 = .ok (.getfield 103, 3) := dk_180 0 103 (dk_at dksX0_next_3 0 rfl rfl)
theorem dX0_next_73 : decode cX0_next 73 = .ok (.iload_n 1, 1) := dk_27 (dk_at dksX0_next_3 3 rfl rfl)
theorem dX0_next_74 : decode cX0_next 74 = .ok (.baload, 1) := dk_51 (dk_at dksX0_next_3 4 rfl rfl)
theorem dX0_next_75 : decode cX0_next 75 = .ok (.invokestatic 231, 3) := dk_184 0 231 (dk_at dksX0_next_3 5 rfl rfl)
theorem dX0_next_78 : decode cX0_next 78 = .ok (.ifCond .eq 7, 3) := dk_153 0 7 (dk_at dksX0_next_3 8 rfl rfl)
theorem dX0_next_81 : decode cX0_next 81 = .ok (.iconst 1, 1) := dk_4 (dk_at dksX0_next_3 11 rfl rfl)
theorem dX0_next_82 : decode cX0_next 82 = .ok (.goto 4, 3) := dk_167 0 4 (dk_at dksX0_next_3 12 rfl rfl)
theorem dX0_next_85 : decode cX0_next 85 = .ok (.iconst 0, 1) := dk_3 (dk_at dksX0_next_3 15 rfl rfl)
theorem dX0_next_86 : decode cX0_next 86 = .ok (.istore_n 3, 1) := dk_62 (dk_at dksX0_next_3 16 rfl rfl)
theorem dX0_next_87 : decode cX0_next 87 = .ok (.iload_n 1, 1) := dk_27 (dk_at dksX0_next_3 17 rfl rfl)
theorem dX0_next_88 : decode cX0_next 88 = .ok (.aload_n 0, 1) := dk_42 (dk_at dksX0_next_3 18 rfl rfl)
theorem dX0_next_89 : decode cX0_next 89 = .ok (.getfield 219, 3) := dk_180 0 219 (dk_at dksX0_next_3 19 rfl rfl)
theorem dX0_next_92 : decode cX0_next 92 = .ok (.if_icmp .ge 6, 3) := dk_162 0 6 (dk_at dksX0_next_4 0 rfl rfl)
theorem dX0_next_95 : decode cX0_next 95 = .ok (.iinc 1 1, 3) := dk_132 1 1 (dk_at dksX0_next_4 3 rfl rfl)
theorem dX0_next_98 : decode cX0_next 98 = .ok (.iload_n 1, 1) := dk_27 (dk_at dksX0_next_4 6 rfl rfl)
theorem dX0_next_99 : decode cX0_next 99 = .ok (.aload_n 0, 1) := dk_42 (dk_at dksX0_next_4 7 rfl rfl)
theorem dX0_next_100 : decode cX0_next 100 = .ok (.getfield 219, 3) := dk_180 0 219 (dk_at dksX0_next_4 8 rfl rfl)
theorem dX0_next_103 : decode cX0_next 103 = .ok (.if_icmp .ge 41, 3) := dk_162 0 41 (dk_at dksX0_next_4 11 rfl rfl)
theorem dX0_next_106 : decode cX0_next 106 = .ok (.iload_n 2, 1) := dk_28 (dk_at dksX0_next_4 14 rfl rfl)
theorem dX0_next_107 : decode cX0_next 107 = .ok (.ifCond .eq 15, 3) := dk_153 0 15 (dk_at dksX0_next_4 15 rfl rfl)
theorem dX0_next_110 : decode cX0_next 110 = .ok (.aload_n 0, 1) := dk_42 (dk_at dksX0_next_4 18 rfl rfl)
theorem dX0_next_111 : decode cX0_next 111 = .ok (.getfield 103, 3) := dk_180 0 103 (dk_at dksX0_next_4 19 rfl rfl)
theorem dX0_next_114 : decode cX0_next 114 = .ok (.iload_n 1, 1) := dk_27 (dk_at dksX0_next_4 22 rfl rfl)
theorem dX0_next_115 : decode cX0_next 115 = .ok (.baload, 1) := dk_51 (dk_at dksX0_next_4 23 rfl rfl)
theorem dX0_next_116 : decode cX0_next 116 = .ok (.invokestatic 228, 3) := dk_184 0 228 (dk_at dksX0_next_5 0 rfl rfl)
theorem dX0_next_119 : decode cX0_next 119 = .ok (.ifCond .ne 19, 3) := dk_154 0 19 (dk_at dksX0_next_5 3 rfl rfl)
theorem dX0_next_122 : decode cX0_next 122 = .ok (.iload_n 3, 1) := dk_29 (dk_at dksX0_next_5 6 rfl rfl)
theorem dX0_next_123 : decode cX0_next 123 = .ok (.ifCond .eq 21, 3) := dk_153 0 21 (dk_at dksX0_next_5 7 rfl rfl)
theorem dX0_next_126 : decode cX0_next 126 = .ok (.aload_n 0, 1) := dk_42 (dk_at dksX0_next_5 10 rfl rfl)
theorem dX0_next_127 : decode cX0_next 127 = .ok (.getfield 103, 3) := dk_180 0 103 (dk_at dksX0_next_5 11 rfl rfl)
theorem dX0_next_130 : decode cX0_next 130 = .ok (.iload_n 1, 1) := dk_27 (dk_at dksX0_next_5 14 rfl rfl)
theorem dX0_next_131 : decode cX0_next 131 = .ok (.baload, 1) := dk_51 (dk_at dksX0_next_5 15 rfl rfl)
theorem dX0_next_132 : decode cX0_next 132 = .ok (.invokestatic 231, 3) := dk_184 0 231 (dk_at dksX0_next_5 16 rfl rfl)
theorem dX0_next_135 : decode cX0_next 135 = .ok (.ifCond .eq 9, 3) := dk_153 0 9 (dk_at dksX0_next_5 19 rfl rfl)
theorem dX0_next_138 : decode cX0_next 138 = .ok (.iinc 1 1, 3) := dk_132 1 1 (dk_at dksX0_next_6 0 rfl rfl)
theorem dX0_next_141 : decode cX0_next 141 = .ok (.goto (-43), 3) := dk_167 255 213 (dk_at dksX0_next_6 3 rfl rfl)
theorem dX0_next_144 : decode cX0_next 144 = .ok (.aload_n 0, 1) := dk_42 (dk_at dksX0_next_6 6 rfl rfl)
theorem dX0_next_145 : decode cX0_next 145 = .ok (.iload_n 1, 1) := dk_27 (dk_at dksX0_next_6 7 rfl rfl)
theorem dX0_next_146 : decode cX0_next 146 = .ok (.putfield 222, 3) := dk_181 0 222 (dk_at dksX0_next_6 8 rfl rfl)
theorem dX0_next_149 : decode cX0_next 149 = .ok (.return_, 1) := dk_177 (dk_at dksX0_next_6 11 rfl rfl)
abbrev cX0_isLetter : ByteArray := prog_1_method_25_code
def yX0_isLetter : MethodName := ⟨RX0, "isLetter", "(I)Z"⟩
def dkwX0_isLetter_0 : List UInt8 := [26, 16, 97, 161, 0, 13, 26, 16, 122, 163, 0, 7, 4, 167, 0, 4, 3, 172]
abbrev dktX0_isLetter_0 : List UInt8 := dkwX0_isLetter_0 ++ []
theorem dksX0_isLetter_0 : cX0_isLetter.data.toList.drop 0 = dktX0_isLetter_0 := by decide +kernel
theorem dX0_isLetter_0 : decode cX0_isLetter 0 = .ok (.iload_n 0, 1) := dk_26 (dk_at dksX0_isLetter_0 0 rfl rfl)
theorem dX0_isLetter_1 : decode cX0_isLetter 1 = .ok (.bipush 97, 2) := dk_16 97 (dk_at dksX0_isLetter_0 1 rfl rfl)
theorem dX0_isLetter_3 : decode cX0_isLetter 3 = .ok (.if_icmp .lt 13, 3) := dk_161 0 13 (dk_at dksX0_isLetter_0 3 rfl rfl)
theorem dX0_isLetter_6 : decode cX0_isLetter 6 = .ok (.iload_n 0, 1) := dk_26 (dk_at dksX0_isLetter_0 6 rfl rfl)
theorem dX0_isLetter_7 : decode cX0_isLetter 7 = .ok (.bipush 122, 2) := dk_16 122 (dk_at dksX0_isLetter_0 7 rfl rfl)
theorem dX0_isLetter_9 : decode cX0_isLetter 9 = .ok (.if_icmp .gt 7, 3) := dk_163 0 7 (dk_at dksX0_isLetter_0 9 rfl rfl)
theorem dX0_isLetter_12 : decode cX0_isLetter 12 = .ok (.iconst 1, 1) := dk_4 (dk_at dksX0_isLetter_0 12 rfl rfl)
theorem dX0_isLetter_13 : decode cX0_isLetter 13 = .ok (.goto 4, 3) := dk_167 0 4 (dk_at dksX0_isLetter_0 13 rfl rfl)
theorem dX0_isLetter_16 : decode cX0_isLetter 16 = .ok (.iconst 0, 1) := dk_3 (dk_at dksX0_isLetter_0 16 rfl rfl)
theorem dX0_isLetter_17 : decode cX0_isLetter 17 = .ok (.ireturn, 1) := dk_172 (dk_at dksX0_isLetter_0 17 rfl rfl)
abbrev cX0_isDigit : ByteArray := prog_1_method_24_code
def yX0_isDigit : MethodName := ⟨RX0, "isDigit", "(I)Z"⟩
def dkwX0_isDigit_0 : List UInt8 := [26, 16, 48, 161, 0, 13, 26, 16, 57, 163, 0, 7, 4, 167, 0, 4, 3, 172]
abbrev dktX0_isDigit_0 : List UInt8 := dkwX0_isDigit_0 ++ []
theorem dksX0_isDigit_0 : cX0_isDigit.data.toList.drop 0 = dktX0_isDigit_0 := by decide +kernel
theorem dX0_isDigit_0 : decode cX0_isDigit 0 = .ok (.iload_n 0, 1) := dk_26 (dk_at dksX0_isDigit_0 0 rfl rfl)
theorem dX0_isDigit_1 : decode cX0_isDigit 1 = .ok (.bipush 48, 2) := dk_16 48 (dk_at dksX0_isDigit_0 1 rfl rfl)
theorem dX0_isDigit_3 : decode cX0_isDigit 3 = .ok (.if_icmp .lt 13, 3) := dk_161 0 13 (dk_at dksX0_isDigit_0 3 rfl rfl)
theorem dX0_isDigit_6 : decode cX0_isDigit 6 = .ok (.iload_n 0, 1) := dk_26 (dk_at dksX0_isDigit_0 6 rfl rfl)
theorem dX0_isDigit_7 : decode cX0_isDigit 7 = .ok (.bipush 57, 2) := dk_16 57 (dk_at dksX0_isDigit_0 7 rfl rfl)
theorem dX0_isDigit_9 : decode cX0_isDigit 9 = .ok (.if_icmp .gt 7, 3) := dk_163 0 7 (dk_at dksX0_isDigit_0 9 rfl rfl)
theorem dX0_isDigit_12 : decode cX0_isDigit 12 = .ok (.iconst 1, 1) := dk_4 (dk_at dksX0_isDigit_0 12 rfl rfl)
theorem dX0_isDigit_13 : decode cX0_isDigit 13 = .ok (.goto 4, 3) := dk_167 0 4 (dk_at dksX0_isDigit_0 13 rfl rfl)
theorem dX0_isDigit_16 : decode cX0_isDigit 16 = .ok (.iconst 0, 1) := dk_3 (dk_at dksX0_isDigit_0 16 rfl rfl)
theorem dX0_isDigit_17 : decode cX0_isDigit 17 = .ok (.ireturn, 1) := dk_172 (dk_at dksX0_isDigit_0 17 rfl rfl)
abbrev cX0_faultHere : ByteArray := prog_1_method_27_code
def yX0_faultHere : MethodName := ⟨RX0, "faultHere", "()LHadForVoice$Refusal;"⟩
def dkwX0_faultHere_0 : List UInt8 := [42, 180, 0, 40, 42, 180, 0, 225, 182, 0, 234, 176]
abbrev dktX0_faultHere_0 : List UInt8 := dkwX0_faultHere_0 ++ []
theorem dksX0_faultHere_0 : cX0_faultHere.data.toList.drop 0 = dktX0_faultHere_0 := by decide +kernel
theorem dX0_faultHere_0 : decode cX0_faultHere 0 = .ok (.aload_n 0, 1) := dk_42 (dk_at dksX0_faultHere_0 0 rfl rfl)
theorem dX0_faultHere_1 : decode cX0_faultHere 1 = .ok (.getfield 40, 3) := dk_180 0 40 (dk_at dksX0_faultHere_0 1 rfl rfl)
theorem dX0_faultHere_4 : decode cX0_faultHere 4 = .ok (.aload_n 0, 1) := dk_42 (dk_at dksX0_faultHere_0 4 rfl rfl)
theorem dX0_faultHere_5 : decode cX0_faultHere 5 = .ok (.getfield 225, 3) := dk_180 0 225 (dk_at dksX0_faultHere_0 5 rfl rfl)
theorem dX0_faultHere_8 : decode cX0_faultHere 8 = .ok (.invokevirtual 234, 3) := dk_182 0 234 (dk_at dksX0_faultHere_0 8 rfl rfl)
theorem dX0_faultHere_11 : decode cX0_faultHere 11 = .ok (.areturn, 1) := dk_176 (dk_at dksX0_faultHere_0 11 rfl rfl)
abbrev cX0_rule : ByteArray := prog_1_method_38_code
def yX0_rule : MethodName := ⟨RX0, "rule", "()LHadForVoice$Rule;"⟩
def dkwX0_rule_4 : List UInt8 := [176]
abbrev dktX0_rule_4 : List UInt8 := dkwX0_rule_4 ++ []
def dkwX0_rule_3 : List UInt8 := [182, 1, 58, 54, 4, 42, 19, 1, 61, 182, 1, 28, 187, 1, 63, 89, 27, 44, 29, 21, 4, 183, 1, 65]
abbrev dktX0_rule_3 : List UInt8 := dkwX0_rule_3 ++ dktX0_rule_4
def dkwX0_rule_2 : List UInt8 := [62, 29, 156, 0, 8, 42, 182, 0, 252, 191, 29, 5, 160, 0, 7, 3, 167, 0, 9, 42, 16, 99]
abbrev dktX0_rule_2 : List UInt8 := dkwX0_rule_2 ++ dktX0_rule_3
def dkwX0_rule_1 : List UInt8 := [182, 0, 249, 153, 0, 11, 42, 3, 182, 1, 23, 167, 0, 4, 1, 77, 42, 42, 180, 0, 87, 182, 1, 0]
abbrev dktX0_rule_1 : List UInt8 := dkwX0_rule_1 ++ dktX0_rule_2
def dkwX0_rule_0 : List UInt8 := [42, 42, 180, 0, 77, 182, 1, 0, 60, 27, 156, 0, 8, 42, 182, 0, 252, 191, 42, 19, 1, 56]
abbrev dktX0_rule_0 : List UInt8 := dkwX0_rule_0 ++ dktX0_rule_1
theorem dksX0_rule_0 : cX0_rule.data.toList.drop 0 = dktX0_rule_0 := by decide +kernel
theorem dksX0_rule_1 : cX0_rule.data.toList.drop 22 = dktX0_rule_1 := dk_seg dksX0_rule_0 22 rfl rfl
theorem dksX0_rule_2 : cX0_rule.data.toList.drop 46 = dktX0_rule_2 := dk_seg dksX0_rule_1 24 rfl rfl
theorem dksX0_rule_3 : cX0_rule.data.toList.drop 68 = dktX0_rule_3 := dk_seg dksX0_rule_2 22 rfl rfl
theorem dksX0_rule_4 : cX0_rule.data.toList.drop 92 = dktX0_rule_4 := dk_seg dksX0_rule_3 24 rfl rfl
theorem dX0_rule_0 : decode cX0_rule 0 = .ok (.aload_n 0, 1) := dk_42 (dk_at dksX0_rule_0 0 rfl rfl)
theorem dX0_rule_1 : decode cX0_rule 1 = .ok (.aload_n 0, 1) := dk_42 (dk_at dksX0_rule_0 1 rfl rfl)
theorem dX0_rule_2 : decode cX0_rule 2 = .ok (.getfield 77, 3) := dk_180 0 77 (dk_at dksX0_rule_0 2 rfl rfl)
theorem dX0_rule_5 : decode cX0_rule 5 = .ok (.invokevirtual 256, 3) := dk_182 1 0 (dk_at dksX0_rule_0 5 rfl rfl)
theorem dX0_rule_8 : decode cX0_rule 8 = .ok (.istore_n 1, 1) := dk_60 (dk_at dksX0_rule_0 8 rfl rfl)
theorem dX0_rule_9 : decode cX0_rule 9 = .ok (.iload_n 1, 1) := dk_27 (dk_at dksX0_rule_0 9 rfl rfl)
theorem dX0_rule_10 : decode cX0_rule 10 = .ok (.ifCond .ge 8, 3) := dk_156 0 8 (dk_at dksX0_rule_0 10 rfl rfl)
theorem dX0_rule_13 : decode cX0_rule 13 = .ok (.aload_n 0, 1) := dk_42 (dk_at dksX0_rule_0 13 rfl rfl)
theorem dX0_rule_14 : decode cX0_rule 14 = .ok (.invokevirtual 252, 3) := dk_182 0 252 (dk_at dksX0_rule_0 14 rfl rfl)
theorem dX0_rule_17 : decode cX0_rule 17 = .ok (.athrow, 1) := dk_191 (dk_at dksX0_rule_0 17 rfl rfl)
theorem dX0_rule_18 : decode cX0_rule 18 = .ok (.aload_n 0, 1) := dk_42 (dk_at dksX0_rule_0 18 rfl rfl)
theorem dX0_rule_19 : decode cX0_rule 19 = .ok (.ldc_w 312, 3) := dk_19 1 56 (dk_at dksX0_rule_0 19 rfl rfl)
theorem dX0_rule_22 : decode cX0_rule 22 = .ok (.invokevirtual 249, 3) := dk_182 0 249 (dk_at dksX0_rule_1 0 rfl rfl)
theorem dX0_rule_25 : decode cX0_rule 25 = .ok (.ifCond .eq 11, 3) := dk_153 0 11 (dk_at dksX0_rule_1 3 rfl rfl)
theorem dX0_rule_28 : decode cX0_rule 28 = .ok (.aload_n 0, 1) := dk_42 (dk_at dksX0_rule_1 6 rfl rfl)
theorem dX0_rule_29 : decode cX0_rule 29 = .ok (.iconst 0, 1) := dk_3 (dk_at dksX0_rule_1 7 rfl rfl)
theorem dX0_rule_30 : decode cX0_rule 30 = .ok (.invokevirtual 279, 3) := dk_182 1 23 (dk_at dksX0_rule_1 8 rfl rfl)
theorem dX0_rule_33 : decode cX0_rule 33 = .ok (.goto 4, 3) := dk_167 0 4 (dk_at dksX0_rule_1 11 rfl rfl)
theorem dX0_rule_36 : decode cX0_rule 36 = .ok (.aconst_null, 1) := dk_1 (dk_at dksX0_rule_1 14 rfl rfl)
theorem dX0_rule_37 : decode cX0_rule 37 = .ok (.astore_n 2, 1) := dk_77 (dk_at dksX0_rule_1 15 rfl rfl)
theorem dX0_rule_38 : decode cX0_rule 38 = .ok (.aload_n 0, 1) := dk_42 (dk_at dksX0_rule_1 16 rfl rfl)
theorem dX0_rule_39 : decode cX0_rule 39 = .ok (.aload_n 0, 1) := dk_42 (dk_at dksX0_rule_1 17 rfl rfl)
theorem dX0_rule_40 : decode cX0_rule 40 = .ok (.getfield 87, 3) := dk_180 0 87 (dk_at dksX0_rule_1 18 rfl rfl)
theorem dX0_rule_43 : decode cX0_rule 43 = .ok (.invokevirtual 256, 3) := dk_182 1 0 (dk_at dksX0_rule_1 21 rfl rfl)
theorem dX0_rule_46 : decode cX0_rule 46 = .ok (.istore_n 3, 1) := dk_62 (dk_at dksX0_rule_2 0 rfl rfl)
theorem dX0_rule_47 : decode cX0_rule 47 = .ok (.iload_n 3, 1) := dk_29 (dk_at dksX0_rule_2 1 rfl rfl)
theorem dX0_rule_48 : decode cX0_rule 48 = .ok (.ifCond .ge 8, 3) := dk_156 0 8 (dk_at dksX0_rule_2 2 rfl rfl)
theorem dX0_rule_51 : decode cX0_rule 51 = .ok (.aload_n 0, 1) := dk_42 (dk_at dksX0_rule_2 5 rfl rfl)
theorem dX0_rule_52 : decode cX0_rule 52 = .ok (.invokevirtual 252, 3) := dk_182 0 252 (dk_at dksX0_rule_2 6 rfl rfl)
theorem dX0_rule_55 : decode cX0_rule 55 = .ok (.athrow, 1) := dk_191 (dk_at dksX0_rule_2 9 rfl rfl)
theorem dX0_rule_56 : decode cX0_rule 56 = .ok (.iload_n 3, 1) := dk_29 (dk_at dksX0_rule_2 10 rfl rfl)
theorem dX0_rule_57 : decode cX0_rule 57 = .ok (.iconst 2, 1) := dk_5 (dk_at dksX0_rule_2 11 rfl rfl)
theorem dX0_rule_58 : decode cX0_rule 58 = .ok (.if_icmp .ne 7, 3) := dk_160 0 7 (dk_at dksX0_rule_2 12 rfl rfl)
theorem dX0_rule_61 : decode cX0_rule 61 = .ok (.iconst 0, 1) := dk_3 (dk_at dksX0_rule_2 15 rfl rfl)
theorem dX0_rule_62 : decode cX0_rule 62 = .ok (.goto 9, 3) := dk_167 0 9 (dk_at dksX0_rule_2 16 rfl rfl)
theorem dX0_rule_65 : decode cX0_rule 65 = .ok (.aload_n 0, 1) := dk_42 (dk_at dksX0_rule_2 19 rfl rfl)
theorem dX0_rule_66 : decode cX0_rule 66 = .ok (.bipush 99, 2) := dk_16 99 (dk_at dksX0_rule_2 20 rfl rfl)
theorem dX0_rule_68 : decode cX0_rule 68 = .ok (.invokevirtual 314, 3) := dk_182 1 58 (dk_at dksX0_rule_3 0 rfl rfl)
theorem dX0_rule_71 : decode cX0_rule 71 = .ok (.istore 4, 2) := dk_54 4 (dk_at dksX0_rule_3 3 rfl rfl)
theorem dX0_rule_73 : decode cX0_rule 73 = .ok (.aload_n 0, 1) := dk_42 (dk_at dksX0_rule_3 5 rfl rfl)
theorem dX0_rule_74 : decode cX0_rule 74 = .ok (.ldc_w 317, 3) := dk_19 1 61 (dk_at dksX0_rule_3 6 rfl rfl)
theorem dX0_rule_77 : decode cX0_rule 77 = .ok (.invokevirtual 284, 3) := dk_182 1 28 (dk_at dksX0_rule_3 9 rfl rfl)
theorem dX0_rule_80 : decode cX0_rule 80 = .ok (.new 319, 3) := dk_187 1 63 (dk_at dksX0_rule_3 12 rfl rfl)
theorem dX0_rule_83 : decode cX0_rule 83 = .ok (.dup, 1) := dk_89 (dk_at dksX0_rule_3 15 rfl rfl)
theorem dX0_rule_84 : decode cX0_rule 84 = .ok (.iload_n 1, 1) := dk_27 (dk_at dksX0_rule_3 16 rfl rfl)
theorem dX0_rule_85 : decode cX0_rule 85 = .ok (.aload_n 2, 1) := dk_44 (dk_at dksX0_rule_3 17 rfl rfl)
theorem dX0_rule_86 : decode cX0_rule 86 = .ok (.iload_n 3, 1) := dk_29 (dk_at dksX0_rule_3 18 rfl rfl)
theorem dX0_rule_87 : decode cX0_rule 87 = .ok (.iload 4, 2) := dk_21 4 (dk_at dksX0_rule_3 19 rfl rfl)
theorem dX0_rule_89 : decode cX0_rule 89 = .ok (.invokespecial 321, 3) := dk_183 1 65 (dk_at dksX0_rule_3 21 rfl rfl)
theorem dX0_rule_92 : decode cX0_rule 92 = .ok (.areturn, 1) := dk_176 (dk_at dksX0_rule_4 0 rfl rfl)
abbrev cX0_nameOf : ByteArray := prog_1_method_32_code
def yX0_nameOf : MethodName := ⟨RX0, "nameOf", "([Ljava/lang/String;)I"⟩
def dkwX0_nameOf_1 : List UInt8 := [167, 255, 239, 28, 155, 0, 7, 42, 182, 0, 246, 28, 172]
abbrev dktX0_nameOf_1 : List UInt8 := dkwX0_nameOf_1 ++ []
def dkwX0_nameOf_0 : List UInt8 := [43, 190, 4, 100, 61, 28, 155, 0, 19, 42, 43, 28, 50, 182, 0, 242, 154, 0, 9, 132, 2, 255]
abbrev dktX0_nameOf_0 : List UInt8 := dkwX0_nameOf_0 ++ dktX0_nameOf_1
theorem dksX0_nameOf_0 : cX0_nameOf.data.toList.drop 0 = dktX0_nameOf_0 := by decide +kernel
theorem dksX0_nameOf_1 : cX0_nameOf.data.toList.drop 22 = dktX0_nameOf_1 := dk_seg dksX0_nameOf_0 22 rfl rfl
theorem dX0_nameOf_0 : decode cX0_nameOf 0 = .ok (.aload_n 1, 1) := dk_43 (dk_at dksX0_nameOf_0 0 rfl rfl)
theorem dX0_nameOf_1 : decode cX0_nameOf 1 = .ok (.arraylength, 1) := dk_190 (dk_at dksX0_nameOf_0 1 rfl rfl)
theorem dX0_nameOf_2 : decode cX0_nameOf 2 = .ok (.iconst 1, 1) := dk_4 (dk_at dksX0_nameOf_0 2 rfl rfl)
theorem dX0_nameOf_3 : decode cX0_nameOf 3 = .ok (.isub, 1) := dk_100 (dk_at dksX0_nameOf_0 3 rfl rfl)
theorem dX0_nameOf_4 : decode cX0_nameOf 4 = .ok (.istore_n 2, 1) := dk_61 (dk_at dksX0_nameOf_0 4 rfl rfl)
theorem dX0_nameOf_5 : decode cX0_nameOf 5 = .ok (.iload_n 2, 1) := dk_28 (dk_at dksX0_nameOf_0 5 rfl rfl)
theorem dX0_nameOf_6 : decode cX0_nameOf 6 = .ok (.ifCond .lt 19, 3) := dk_155 0 19 (dk_at dksX0_nameOf_0 6 rfl rfl)
theorem dX0_nameOf_9 : decode cX0_nameOf 9 = .ok (.aload_n 0, 1) := dk_42 (dk_at dksX0_nameOf_0 9 rfl rfl)
theorem dX0_nameOf_10 : decode cX0_nameOf 10 = .ok (.aload_n 1, 1) := dk_43 (dk_at dksX0_nameOf_0 10 rfl rfl)
theorem dX0_nameOf_11 : decode cX0_nameOf 11 = .ok (.iload_n 2, 1) := dk_28 (dk_at dksX0_nameOf_0 11 rfl rfl)
theorem dX0_nameOf_12 : decode cX0_nameOf 12 = .ok (.aaload, 1) := dk_50 (dk_at dksX0_nameOf_0 12 rfl rfl)
theorem dX0_nameOf_13 : decode cX0_nameOf 13 = .ok (.invokevirtual 242, 3) := dk_182 0 242 (dk_at dksX0_nameOf_0 13 rfl rfl)
theorem dX0_nameOf_16 : decode cX0_nameOf 16 = .ok (.ifCond .ne 9, 3) := dk_154 0 9 (dk_at dksX0_nameOf_0 16 rfl rfl)
theorem dX0_nameOf_19 : decode cX0_nameOf 19 = .ok (.iinc 2 (-1), 3) := dk_132 2 255 (dk_at dksX0_nameOf_0 19 rfl rfl)
theorem dX0_nameOf_22 : decode cX0_nameOf 22 = .ok (.goto (-17), 3) := dk_167 255 239 (dk_at dksX0_nameOf_1 0 rfl rfl)
theorem dX0_nameOf_25 : decode cX0_nameOf 25 = .ok (.iload_n 2, 1) := dk_28 (dk_at dksX0_nameOf_1 3 rfl rfl)
theorem dX0_nameOf_26 : decode cX0_nameOf 26 = .ok (.ifCond .lt 7, 3) := dk_155 0 7 (dk_at dksX0_nameOf_1 4 rfl rfl)
theorem dX0_nameOf_29 : decode cX0_nameOf 29 = .ok (.aload_n 0, 1) := dk_42 (dk_at dksX0_nameOf_1 7 rfl rfl)
theorem dX0_nameOf_30 : decode cX0_nameOf 30 = .ok (.invokevirtual 246, 3) := dk_182 0 246 (dk_at dksX0_nameOf_1 8 rfl rfl)
theorem dX0_nameOf_33 : decode cX0_nameOf 33 = .ok (.iload_n 2, 1) := dk_28 (dk_at dksX0_nameOf_1 11 rfl rfl)
theorem dX0_nameOf_34 : decode cX0_nameOf 34 = .ok (.ireturn, 1) := dk_172 (dk_at dksX0_nameOf_1 12 rfl rfl)
abbrev cX0_isName : ByteArray := prog_1_method_28_code
def yX0_isName : MethodName := ⟨RX0, "isName", "(Ljava/lang/String;)Z"⟩
def dkwX0_isName_2 : List UInt8 := [159, 0, 5, 3, 172, 132, 2, 1, 167, 255, 224, 4, 172]
abbrev dktX0_isName_2 : List UInt8 := dkwX0_isName_2 ++ []
def dkwX0_isName_1 : List UInt8 := [182, 0, 235, 162, 0, 30, 42, 180, 0, 103, 42, 180, 0, 225, 28, 96, 51, 43, 28, 182, 0, 238]
abbrev dktX0_isName_1 : List UInt8 := dkwX0_isName_1 ++ dktX0_isName_2
def dkwX0_isName_0 : List UInt8 := [42, 180, 0, 222, 42, 180, 0, 225, 100, 43, 182, 0, 235, 159, 0, 5, 3, 172, 3, 61, 28, 43]
abbrev dktX0_isName_0 : List UInt8 := dkwX0_isName_0 ++ dktX0_isName_1
theorem dksX0_isName_0 : cX0_isName.data.toList.drop 0 = dktX0_isName_0 := by decide +kernel
theorem dksX0_isName_1 : cX0_isName.data.toList.drop 22 = dktX0_isName_1 := dk_seg dksX0_isName_0 22 rfl rfl
theorem dksX0_isName_2 : cX0_isName.data.toList.drop 44 = dktX0_isName_2 := dk_seg dksX0_isName_1 22 rfl rfl
theorem dX0_isName_0 : decode cX0_isName 0 = .ok (.aload_n 0, 1) := dk_42 (dk_at dksX0_isName_0 0 rfl rfl)
theorem dX0_isName_1 : decode cX0_isName 1 = .ok (.getfield 222, 3) := dk_180 0 222 (dk_at dksX0_isName_0 1 rfl rfl)
theorem dX0_isName_4 : decode cX0_isName 4 = .ok (.aload_n 0, 1) := dk_42 (dk_at dksX0_isName_0 4 rfl rfl)
theorem dX0_isName_5 : decode cX0_isName 5 = .ok (.getfield 225, 3) := dk_180 0 225 (dk_at dksX0_isName_0 5 rfl rfl)
theorem dX0_isName_8 : decode cX0_isName 8 = .ok (.isub, 1) := dk_100 (dk_at dksX0_isName_0 8 rfl rfl)
theorem dX0_isName_9 : decode cX0_isName 9 = .ok (.aload_n 1, 1) := dk_43 (dk_at dksX0_isName_0 9 rfl rfl)
theorem dX0_isName_10 : decode cX0_isName 10 = .ok (.invokevirtual 235, 3) := dk_182 0 235 (dk_at dksX0_isName_0 10 rfl rfl)
theorem dX0_isName_13 : decode cX0_isName 13 = .ok (.if_icmp .eq 5, 3) := dk_159 0 5 (dk_at dksX0_isName_0 13 rfl rfl)
theorem dX0_isName_16 : decode cX0_isName 16 = .ok (.iconst 0, 1) := dk_3 (dk_at dksX0_isName_0 16 rfl rfl)
theorem dX0_isName_17 : decode cX0_isName 17 = .ok (.ireturn, 1) := dk_172 (dk_at dksX0_isName_0 17 rfl rfl)
theorem dX0_isName_18 : decode cX0_isName 18 = .ok (.iconst 0, 1) := dk_3 (dk_at dksX0_isName_0 18 rfl rfl)
theorem dX0_isName_19 : decode cX0_isName 19 = .ok (.istore_n 2, 1) := dk_61 (dk_at dksX0_isName_0 19 rfl rfl)
theorem dX0_isName_20 : decode cX0_isName 20 = .ok (.iload_n 2, 1) := dk_28 (dk_at dksX0_isName_0 20 rfl rfl)
theorem dX0_isName_21 : decode cX0_isName 21 = .ok (.aload_n 1, 1) := dk_43 (dk_at dksX0_isName_0 21 rfl rfl)
theorem dX0_isName_22 : decode cX0_isName 22 = .ok (.invokevirtual 235, 3) := dk_182 0 235 (dk_at dksX0_isName_1 0 rfl rfl)
theorem dX0_isName_25 : decode cX0_isName 25 = .ok (.if_icmp .ge 30, 3) := dk_162 0 30 (dk_at dksX0_isName_1 3 rfl rfl)
theorem dX0_isName_28 : decode cX0_isName 28 = .ok (.aload_n 0, 1) := dk_42 (dk_at dksX0_isName_1 6 rfl rfl)
theorem dX0_isName_29 : decode cX0_isName 29 = .ok (.getfield 103, 3) := dk_180 0 103 (dk_at dksX0_isName_1 7 rfl rfl)
theorem dX0_isName_32 : decode cX0_isName 32 = .ok (.aload_n 0, 1) := dk_42 (dk_at dksX0_isName_1 10 rfl rfl)
theorem dX0_isName_33 : decode cX0_isName 33 = .ok (.getfield 225, 3) := dk_180 0 225 (dk_at dksX0_isName_1 11 rfl rfl)
theorem dX0_isName_36 : decode cX0_isName 36 = .ok (.iload_n 2, 1) := dk_28 (dk_at dksX0_isName_1 14 rfl rfl)
theorem dX0_isName_37 : decode cX0_isName 37 = .ok (.iadd, 1) := dk_96 (dk_at dksX0_isName_1 15 rfl rfl)
theorem dX0_isName_38 : decode cX0_isName 38 = .ok (.baload, 1) := dk_51 (dk_at dksX0_isName_1 16 rfl rfl)
theorem dX0_isName_39 : decode cX0_isName 39 = .ok (.aload_n 1, 1) := dk_43 (dk_at dksX0_isName_1 17 rfl rfl)
theorem dX0_isName_40 : decode cX0_isName 40 = .ok (.iload_n 2, 1) := dk_28 (dk_at dksX0_isName_1 18 rfl rfl)
theorem dX0_isName_41 : decode cX0_isName 41 = .ok (.invokevirtual 238, 3) := dk_182 0 238 (dk_at dksX0_isName_1 19 rfl rfl)
theorem dX0_isName_44 : decode cX0_isName 44 = .ok (.if_icmp .eq 5, 3) := dk_159 0 5 (dk_at dksX0_isName_2 0 rfl rfl)
theorem dX0_isName_47 : decode cX0_isName 47 = .ok (.iconst 0, 1) := dk_3 (dk_at dksX0_isName_2 3 rfl rfl)
theorem dX0_isName_48 : decode cX0_isName 48 = .ok (.ireturn, 1) := dk_172 (dk_at dksX0_isName_2 4 rfl rfl)
theorem dX0_isName_49 : decode cX0_isName 49 = .ok (.iinc 2 1, 3) := dk_132 2 1 (dk_at dksX0_isName_2 5 rfl rfl)
theorem dX0_isName_52 : decode cX0_isName 52 = .ok (.goto (-32), 3) := dk_167 255 224 (dk_at dksX0_isName_2 8 rfl rfl)
theorem dX0_isName_55 : decode cX0_isName 55 = .ok (.iconst 1, 1) := dk_4 (dk_at dksX0_isName_2 11 rfl rfl)
theorem dX0_isName_56 : decode cX0_isName 56 = .ok (.ireturn, 1) := dk_172 (dk_at dksX0_isName_2 12 rfl rfl)
abbrev cX0_goesOn : ByteArray := prog_1_method_29_code
def yX0_goesOn : MethodName := ⟨RX0, "goesOn", "(Ljava/lang/String;)Z"⟩
def dkwX0_goesOn_0 : List UInt8 := [42, 43, 182, 0, 242, 154, 0, 5, 3, 172, 42, 182, 0, 246, 4, 172]
abbrev dktX0_goesOn_0 : List UInt8 := dkwX0_goesOn_0 ++ []
theorem dksX0_goesOn_0 : cX0_goesOn.data.toList.drop 0 = dktX0_goesOn_0 := by decide +kernel
theorem dX0_goesOn_0 : decode cX0_goesOn 0 = .ok (.aload_n 0, 1) := dk_42 (dk_at dksX0_goesOn_0 0 rfl rfl)
theorem dX0_goesOn_1 : decode cX0_goesOn 1 = .ok (.aload_n 1, 1) := dk_43 (dk_at dksX0_goesOn_0 1 rfl rfl)
theorem dX0_goesOn_2 : decode cX0_goesOn 2 = .ok (.invokevirtual 242, 3) := dk_182 0 242 (dk_at dksX0_goesOn_0 2 rfl rfl)
theorem dX0_goesOn_5 : decode cX0_goesOn 5 = .ok (.ifCond .ne 5, 3) := dk_154 0 5 (dk_at dksX0_goesOn_0 5 rfl rfl)
theorem dX0_goesOn_8 : decode cX0_goesOn 8 = .ok (.iconst 0, 1) := dk_3 (dk_at dksX0_goesOn_0 8 rfl rfl)
theorem dX0_goesOn_9 : decode cX0_goesOn 9 = .ok (.ireturn, 1) := dk_172 (dk_at dksX0_goesOn_0 9 rfl rfl)
theorem dX0_goesOn_10 : decode cX0_goesOn 10 = .ok (.aload_n 0, 1) := dk_42 (dk_at dksX0_goesOn_0 10 rfl rfl)
theorem dX0_goesOn_11 : decode cX0_goesOn 11 = .ok (.invokevirtual 246, 3) := dk_182 0 246 (dk_at dksX0_goesOn_0 11 rfl rfl)
theorem dX0_goesOn_14 : decode cX0_goesOn 14 = .ok (.iconst 1, 1) := dk_4 (dk_at dksX0_goesOn_0 14 rfl rfl)
theorem dX0_goesOn_15 : decode cX0_goesOn 15 = .ok (.ireturn, 1) := dk_172 (dk_at dksX0_goesOn_0 15 rfl rfl)
abbrev cX0_cond : ByteArray := prog_1_method_36_code
def yX0_cond : MethodName := ⟨RX0, "cond", "(I)LHadForVoice$Cond;"⟩
def dkwX0_cond_1 : List UInt8 := [182, 1, 48, 183, 1, 55, 77, 167, 255, 232, 44, 176]
abbrev dktX0_cond_1 : List UInt8 := dkwX0_cond_1 ++ []
def dkwX0_cond_0 : List UInt8 := [42, 27, 182, 1, 48, 77, 42, 19, 1, 51, 182, 0, 249, 153, 0, 20, 187, 1, 53, 89, 44, 42, 27]
abbrev dktX0_cond_0 : List UInt8 := dkwX0_cond_0 ++ dktX0_cond_1
theorem dksX0_cond_0 : cX0_cond.data.toList.drop 0 = dktX0_cond_0 := by decide +kernel
theorem dksX0_cond_1 : cX0_cond.data.toList.drop 23 = dktX0_cond_1 := dk_seg dksX0_cond_0 23 rfl rfl
theorem dX0_cond_0 : decode cX0_cond 0 = .ok (.aload_n 0, 1) := dk_42 (dk_at dksX0_cond_0 0 rfl rfl)
theorem dX0_cond_1 : decode cX0_cond 1 = .ok (.iload_n 1, 1) := dk_27 (dk_at dksX0_cond_0 1 rfl rfl)
theorem dX0_cond_2 : decode cX0_cond 2 = .ok (.invokevirtual 304, 3) := dk_182 1 48 (dk_at dksX0_cond_0 2 rfl rfl)
theorem dX0_cond_5 : decode cX0_cond 5 = .ok (.astore_n 2, 1) := dk_77 (dk_at dksX0_cond_0 5 rfl rfl)
theorem dX0_cond_6 : decode cX0_cond 6 = .ok (.aload_n 0, 1) := dk_42 (dk_at dksX0_cond_0 6 rfl rfl)
theorem dX0_cond_7 : decode cX0_cond 7 = .ok (.ldc_w 307, 3) := dk_19 1 51 (dk_at dksX0_cond_0 7 rfl rfl)
theorem dX0_cond_10 : decode cX0_cond 10 = .ok (.invokevirtual 249, 3) := dk_182 0 249 (dk_at dksX0_cond_0 10 rfl rfl)
theorem dX0_cond_13 : decode cX0_cond 13 = .ok (.ifCond .eq 20, 3) := dk_153 0 20 (dk_at dksX0_cond_0 13 rfl rfl)
theorem dX0_cond_16 : decode cX0_cond 16 = .ok (.new 309, 3) := dk_187 1 53 (dk_at dksX0_cond_0 16 rfl rfl)
theorem dX0_cond_19 : decode cX0_cond 19 = .ok (.dup, 1) := dk_89 (dk_at dksX0_cond_0 19 rfl rfl)
theorem dX0_cond_20 : decode cX0_cond 20 = .ok (.aload_n 2, 1) := dk_44 (dk_at dksX0_cond_0 20 rfl rfl)
theorem dX0_cond_21 : decode cX0_cond 21 = .ok (.aload_n 0, 1) := dk_42 (dk_at dksX0_cond_0 21 rfl rfl)
theorem dX0_cond_22 : decode cX0_cond 22 = .ok (.iload_n 1, 1) := dk_27 (dk_at dksX0_cond_0 22 rfl rfl)
theorem dX0_cond_23 : decode cX0_cond 23 = .ok (.invokevirtual 304, 3) := dk_182 1 48 (dk_at dksX0_cond_1 0 rfl rfl)
theorem dX0_cond_26 : decode cX0_cond 26 = .ok (.invokespecial 311, 3) := dk_183 1 55 (dk_at dksX0_cond_1 3 rfl rfl)
theorem dX0_cond_29 : decode cX0_cond 29 = .ok (.astore_n 2, 1) := dk_77 (dk_at dksX0_cond_1 6 rfl rfl)
theorem dX0_cond_30 : decode cX0_cond 30 = .ok (.goto (-24), 3) := dk_167 255 232 (dk_at dksX0_cond_1 7 rfl rfl)
theorem dX0_cond_33 : decode cX0_cond 33 = .ok (.aload_n 2, 1) := dk_44 (dk_at dksX0_cond_1 10 rfl rfl)
theorem dX0_cond_34 : decode cX0_cond 34 = .ok (.areturn, 1) := dk_176 (dk_at dksX0_cond_1 11 rfl rfl)
abbrev cX0_all : ByteArray := prog_1_method_35_code
def yX0_all : MethodName := ⟨RX0, "all", "(I)LHadForVoice$Cond;"⟩
def dkwX0_all_1 : List UInt8 := [182, 1, 14, 183, 1, 45, 77, 167, 255, 232, 44, 176]
abbrev dktX0_all_1 : List UInt8 := dkwX0_all_1 ++ []
def dkwX0_all_0 : List UInt8 := [42, 27, 182, 1, 14, 77, 42, 19, 1, 41, 182, 0, 249, 153, 0, 20, 187, 1, 43, 89, 44, 42, 27]
abbrev dktX0_all_0 : List UInt8 := dkwX0_all_0 ++ dktX0_all_1
theorem dksX0_all_0 : cX0_all.data.toList.drop 0 = dktX0_all_0 := by decide +kernel
theorem dksX0_all_1 : cX0_all.data.toList.drop 23 = dktX0_all_1 := dk_seg dksX0_all_0 23 rfl rfl
theorem dX0_all_0 : decode cX0_all 0 = .ok (.aload_n 0, 1) := dk_42 (dk_at dksX0_all_0 0 rfl rfl)
theorem dX0_all_1 : decode cX0_all 1 = .ok (.iload_n 1, 1) := dk_27 (dk_at dksX0_all_0 1 rfl rfl)
theorem dX0_all_2 : decode cX0_all 2 = .ok (.invokevirtual 270, 3) := dk_182 1 14 (dk_at dksX0_all_0 2 rfl rfl)
theorem dX0_all_5 : decode cX0_all 5 = .ok (.astore_n 2, 1) := dk_77 (dk_at dksX0_all_0 5 rfl rfl)
theorem dX0_all_6 : decode cX0_all 6 = .ok (.aload_n 0, 1) := dk_42 (dk_at dksX0_all_0 6 rfl rfl)
theorem dX0_all_7 : decode cX0_all 7 = .ok (.ldc_w 297, 3) := dk_19 1 41 (dk_at dksX0_all_0 7 rfl rfl)
theorem dX0_all_10 : decode cX0_all 10 = .ok (.invokevirtual 249, 3) := dk_182 0 249 (dk_at dksX0_all_0 10 rfl rfl)
theorem dX0_all_13 : decode cX0_all 13 = .ok (.ifCond .eq 20, 3) := dk_153 0 20 (dk_at dksX0_all_0 13 rfl rfl)
theorem dX0_all_16 : decode cX0_all 16 = .ok (.new 299, 3) := dk_187 1 43 (dk_at dksX0_all_0 16 rfl rfl)
theorem dX0_all_19 : decode cX0_all 19 = .ok (.dup, 1) := dk_89 (dk_at dksX0_all_0 19 rfl rfl)
theorem dX0_all_20 : decode cX0_all 20 = .ok (.aload_n 2, 1) := dk_44 (dk_at dksX0_all_0 20 rfl rfl)
theorem dX0_all_21 : decode cX0_all 21 = .ok (.aload_n 0, 1) := dk_42 (dk_at dksX0_all_0 21 rfl rfl)
theorem dX0_all_22 : decode cX0_all 22 = .ok (.iload_n 1, 1) := dk_27 (dk_at dksX0_all_0 22 rfl rfl)
theorem dX0_all_23 : decode cX0_all 23 = .ok (.invokevirtual 270, 3) := dk_182 1 14 (dk_at dksX0_all_1 0 rfl rfl)
theorem dX0_all_26 : decode cX0_all 26 = .ok (.invokespecial 301, 3) := dk_183 1 45 (dk_at dksX0_all_1 3 rfl rfl)
theorem dX0_all_29 : decode cX0_all 29 = .ok (.astore_n 2, 1) := dk_77 (dk_at dksX0_all_1 6 rfl rfl)
theorem dX0_all_30 : decode cX0_all 30 = .ok (.goto (-24), 3) := dk_167 255 232 (dk_at dksX0_all_1 7 rfl rfl)
theorem dX0_all_33 : decode cX0_all 33 = .ok (.aload_n 2, 1) := dk_44 (dk_at dksX0_all_1 10 rfl rfl)
theorem dX0_all_34 : decode cX0_all 34 = .ok (.areturn, 1) := dk_176 (dk_at dksX0_all_1 11 rfl rfl)
abbrev cX0_oneOf : ByteArray := prog_1_method_34_code
def yX0_oneOf : MethodName := ⟨RX0, "oneOf", "(I)LHadForVoice$Cond;"⟩
def dkwX0_oneOf_5 : List UInt8 := [44, 29, 42, 182, 1, 32, 183, 1, 38, 176]
abbrev dktX0_oneOf_5 : List UInt8 := dkwX0_oneOf_5 ++ []
def dkwX0_oneOf_4 : List UInt8 := [16, 61, 159, 0, 14, 29, 16, 62, 159, 0, 8, 42, 182, 0, 252, 191, 42, 182, 0, 246, 187, 1, 36, 89]
abbrev dktX0_oneOf_4 : List UInt8 := dkwX0_oneOf_4 ++ dktX0_oneOf_5
def dkwX0_oneOf_3 : List UInt8 := [160, 0, 15, 42, 180, 0, 103, 42, 180, 0, 225, 51, 167, 0, 4, 2, 62, 29, 16, 60, 159, 0, 20, 29]
abbrev dktX0_oneOf_3 : List UInt8 := dkwX0_oneOf_3 ++ dktX0_oneOf_4
def dkwX0_oneOf_2 : List UInt8 := [19, 1, 26, 182, 1, 28, 44, 176, 42, 182, 1, 32, 77, 42, 180, 0, 222, 42, 180, 0, 225, 100, 4]
abbrev dktX0_oneOf_2 : List UInt8 := dkwX0_oneOf_2 ++ dktX0_oneOf_3
def dkwX0_oneOf_1 : List UInt8 := [6, 162, 0, 30, 42, 19, 1, 21, 182, 0, 249, 153, 0, 20, 42, 27, 4, 96, 182, 1, 23, 77, 42]
abbrev dktX0_oneOf_1 : List UInt8 := dkwX0_oneOf_1 ++ dktX0_oneOf_2
def dkwX0_oneOf_0 : List UInt8 := [42, 19, 1, 10, 182, 0, 249, 153, 0, 16, 187, 1, 12, 89, 42, 27, 182, 1, 14, 183, 1, 18, 176, 27]
abbrev dktX0_oneOf_0 : List UInt8 := dkwX0_oneOf_0 ++ dktX0_oneOf_1
theorem dksX0_oneOf_0 : cX0_oneOf.data.toList.drop 0 = dktX0_oneOf_0 := by decide +kernel
theorem dksX0_oneOf_1 : cX0_oneOf.data.toList.drop 24 = dktX0_oneOf_1 := dk_seg dksX0_oneOf_0 24 rfl rfl
theorem dksX0_oneOf_2 : cX0_oneOf.data.toList.drop 47 = dktX0_oneOf_2 := dk_seg dksX0_oneOf_1 23 rfl rfl
theorem dksX0_oneOf_3 : cX0_oneOf.data.toList.drop 70 = dktX0_oneOf_3 := dk_seg dksX0_oneOf_2 23 rfl rfl
theorem dksX0_oneOf_4 : cX0_oneOf.data.toList.drop 94 = dktX0_oneOf_4 := dk_seg dksX0_oneOf_3 24 rfl rfl
theorem dksX0_oneOf_5 : cX0_oneOf.data.toList.drop 118 = dktX0_oneOf_5 := dk_seg dksX0_oneOf_4 24 rfl rfl
theorem dX0_oneOf_0 : decode cX0_oneOf 0 = .ok (.aload_n 0, 1) := dk_42 (dk_at dksX0_oneOf_0 0 rfl rfl)
theorem dX0_oneOf_1 : decode cX0_oneOf 1 = .ok (.ldc_w 266, 3) := dk_19 1 10 (dk_at dksX0_oneOf_0 1 rfl rfl)
theorem dX0_oneOf_4 : decode cX0_oneOf 4 = .ok (.invokevirtual 249, 3) := dk_182 0 249 (dk_at dksX0_oneOf_0 4 rfl rfl)
theorem dX0_oneOf_7 : decode cX0_oneOf 7 = .ok (.ifCond .eq 16, 3) := dk_153 0 16 (dk_at dksX0_oneOf_0 7 rfl rfl)
theorem dX0_oneOf_10 : decode cX0_oneOf 10 = .ok (.new 268, 3) := dk_187 1 12 (dk_at dksX0_oneOf_0 10 rfl rfl)
theorem dX0_oneOf_13 : decode cX0_oneOf 13 = .ok (.dup, 1) := dk_89 (dk_at dksX0_oneOf_0 13 rfl rfl)
theorem dX0_oneOf_14 : decode cX0_oneOf 14 = .ok (.aload_n 0, 1) := dk_42 (dk_at dksX0_oneOf_0 14 rfl rfl)
theorem dX0_oneOf_15 : decode cX0_oneOf 15 = .ok (.iload_n 1, 1) := dk_27 (dk_at dksX0_oneOf_0 15 rfl rfl)
theorem dX0_oneOf_16 : decode cX0_oneOf 16 = .ok (.invokevirtual 270, 3) := dk_182 1 14 (dk_at dksX0_oneOf_0 16 rfl rfl)
theorem dX0_oneOf_19 : decode cX0_oneOf 19 = .ok (.invokespecial 274, 3) := dk_183 1 18 (dk_at dksX0_oneOf_0 19 rfl rfl)
theorem dX0_oneOf_22 : decode cX0_oneOf 22 = .ok (.areturn, 1) := dk_176 (dk_at dksX0_oneOf_0 22 rfl rfl)
theorem dX0_oneOf_23 : decode cX0_oneOf 23 = .ok (.iload_n 1, 1) := dk_27 (dk_at dksX0_oneOf_0 23 rfl rfl)
theorem dX0_oneOf_24 : decode cX0_oneOf 24 = .ok (.iconst 3, 1) := dk_6 (dk_at dksX0_oneOf_1 0 rfl rfl)
theorem dX0_oneOf_25 : decode cX0_oneOf 25 = .ok (.if_icmp .ge 30, 3) := dk_162 0 30 (dk_at dksX0_oneOf_1 1 rfl rfl)
theorem dX0_oneOf_28 : decode cX0_oneOf 28 = .ok (.aload_n 0, 1) := dk_42 (dk_at dksX0_oneOf_1 4 rfl rfl)
theorem dX0_oneOf_29 : decode cX0_oneOf 29 = .ok (.ldc_w 277, 3) := dk_19 1 21 (dk_at dksX0_oneOf_1 5 rfl rfl)
theorem dX0_oneOf_32 : decode cX0_oneOf 32 = .ok (.invokevirtual 249, 3) := dk_182 0 249 (dk_at dksX0_oneOf_1 8 rfl rfl)
theorem dX0_oneOf_35 : decode cX0_oneOf 35 = .ok (.ifCond .eq 20, 3) := dk_153 0 20 (dk_at dksX0_oneOf_1 11 rfl rfl)
theorem dX0_oneOf_38 : decode cX0_oneOf 38 = .ok (.aload_n 0, 1) := dk_42 (dk_at dksX0_oneOf_1 14 rfl rfl)
theorem dX0_oneOf_39 : decode cX0_oneOf 39 = .ok (.iload_n 1, 1) := dk_27 (dk_at dksX0_oneOf_1 15 rfl rfl)
theorem dX0_oneOf_40 : decode cX0_oneOf 40 = .ok (.iconst 1, 1) := dk_4 (dk_at dksX0_oneOf_1 16 rfl rfl)
theorem dX0_oneOf_41 : decode cX0_oneOf 41 = .ok (.iadd, 1) := dk_96 (dk_at dksX0_oneOf_1 17 rfl rfl)
theorem dX0_oneOf_42 : decode cX0_oneOf 42 = .ok (.invokevirtual 279, 3) := dk_182 1 23 (dk_at dksX0_oneOf_1 18 rfl rfl)
theorem dX0_oneOf_45 : decode cX0_oneOf 45 = .ok (.astore_n 2, 1) := dk_77 (dk_at dksX0_oneOf_1 21 rfl rfl)
theorem dX0_oneOf_46 : decode cX0_oneOf 46 = .ok (.aload_n 0, 1) := dk_42 (dk_at dksX0_oneOf_1 22 rfl rfl)
theorem dX0_oneOf_47 : decode cX0_oneOf 47 = .ok (.ldc_w 282, 3) := dk_19 1 26 (dk_at dksX0_oneOf_2 0 rfl rfl)
theorem dX0_oneOf_50 : decode cX0_oneOf 50 = .ok (.invokevirtual 284, 3) := dk_182 1 28 (dk_at dksX0_oneOf_2 3 rfl rfl)
theorem dX0_oneOf_53 : decode cX0_oneOf 53 = .ok (.aload_n 2, 1) := dk_44 (dk_at dksX0_oneOf_2 6 rfl rfl)
theorem dX0_oneOf_54 : decode cX0_oneOf 54 = .ok (.areturn, 1) := dk_176 (dk_at dksX0_oneOf_2 7 rfl rfl)
theorem dX0_oneOf_55 : decode cX0_oneOf 55 = .ok (.aload_n 0, 1) := dk_42 (dk_at dksX0_oneOf_2 8 rfl rfl)
theorem dX0_oneOf_56 : decode cX0_oneOf 56 = .ok (.invokevirtual 288, 3) := dk_182 1 32 (dk_at dksX0_oneOf_2 9 rfl rfl)
theorem dX0_oneOf_59 : decode cX0_oneOf 59 = .ok (.astore_n 2, 1) := dk_77 (dk_at dksX0_oneOf_2 12 rfl rfl)
theorem dX0_oneOf_60 : decode cX0_oneOf 60 = .ok (.aload_n 0, 1) := dk_42 (dk_at dksX0_oneOf_2 13 rfl rfl)
theorem dX0_oneOf_61 : decode cX0_oneOf 61 = .ok (.getfield 222, 3) := dk_180 0 222 (dk_at dksX0_oneOf_2 14 rfl rfl)
theorem dX0_oneOf_64 : decode cX0_oneOf 64 = .ok (.aload_n 0, 1) := dk_42 (dk_at dksX0_oneOf_2 17 rfl rfl)
theorem dX0_oneOf_65 : decode cX0_oneOf 65 = .ok (.getfield 225, 3) := dk_180 0 225 (dk_at dksX0_oneOf_2 18 rfl rfl)
theorem dX0_oneOf_68 : decode cX0_oneOf 68 = .ok (.isub, 1) := dk_100 (dk_at dksX0_oneOf_2 21 rfl rfl)
theorem dX0_oneOf_69 : decode cX0_oneOf 69 = .ok (.iconst 1, 1) := dk_4 (dk_at dksX0_oneOf_2 22 rfl rfl)
theorem dX0_oneOf_70 : decode cX0_oneOf 70 = .ok (.if_icmp .ne 15, 3) := dk_160 0 15 (dk_at dksX0_oneOf_3 0 rfl rfl)
theorem dX0_oneOf_73 : decode cX0_oneOf 73 = .ok (.aload_n 0, 1) := dk_42 (dk_at dksX0_oneOf_3 3 rfl rfl)
theorem dX0_oneOf_74 : decode cX0_oneOf 74 = .ok (.getfield 103, 3) := dk_180 0 103 (dk_at dksX0_oneOf_3 4 rfl rfl)
theorem dX0_oneOf_77 : decode cX0_oneOf 77 = .ok (.aload_n 0, 1) := dk_42 (dk_at dksX0_oneOf_3 7 rfl rfl)
theorem dX0_oneOf_78 : decode cX0_oneOf 78 = .ok (.getfield 225, 3) := dk_180 0 225 (dk_at dksX0_oneOf_3 8 rfl rfl)
theorem dX0_oneOf_81 : decode cX0_oneOf 81 = .ok (.baload, 1) := dk_51 (dk_at dksX0_oneOf_3 11 rfl rfl)
theorem dX0_oneOf_82 : decode cX0_oneOf 82 = .ok (.goto 4, 3) := dk_167 0 4 (dk_at dksX0_oneOf_3 12 rfl rfl)
theorem dX0_oneOf_85 : decode cX0_oneOf 85 = .ok (.iconst (-1), 1) := dk_2 (dk_at dksX0_oneOf_3 15 rfl rfl)
theorem dX0_oneOf_86 : decode cX0_oneOf 86 = .ok (.istore_n 3, 1) := dk_62 (dk_at dksX0_oneOf_3 16 rfl rfl)
theorem dX0_oneOf_87 : decode cX0_oneOf 87 = .ok (.iload_n 3, 1) := dk_29 (dk_at dksX0_oneOf_3 17 rfl rfl)
theorem dX0_oneOf_88 : decode cX0_oneOf 88 = .ok (.bipush 60, 2) := dk_16 60 (dk_at dksX0_oneOf_3 18 rfl rfl)
theorem dX0_oneOf_90 : decode cX0_oneOf 90 = .ok (.if_icmp .eq 20, 3) := dk_159 0 20 (dk_at dksX0_oneOf_3 20 rfl rfl)
theorem dX0_oneOf_93 : decode cX0_oneOf 93 = .ok (.iload_n 3, 1) := dk_29 (dk_at dksX0_oneOf_3 23 rfl rfl)
theorem dX0_oneOf_94 : decode cX0_oneOf 94 = .ok (.bipush 61, 2) := dk_16 61 (dk_at dksX0_oneOf_4 0 rfl rfl)
theorem dX0_oneOf_96 : decode cX0_oneOf 96 = .ok (.if_icmp .eq 14, 3) := dk_159 0 14 (dk_at dksX0_oneOf_4 2 rfl rfl)
theorem dX0_oneOf_99 : decode cX0_oneOf 99 = .ok (.iload_n 3, 1) := dk_29 (dk_at dksX0_oneOf_4 5 rfl rfl)
theorem dX0_oneOf_100 : decode cX0_oneOf 100 = .ok (.bipush 62, 2) := dk_16 62 (dk_at dksX0_oneOf_4 6 rfl rfl)
theorem dX0_oneOf_102 : decode cX0_oneOf 102 = .ok (.if_icmp .eq 8, 3) := dk_159 0 8 (dk_at dksX0_oneOf_4 8 rfl rfl)
theorem dX0_oneOf_105 : decode cX0_oneOf 105 = .ok (.aload_n 0, 1) := dk_42 (dk_at dksX0_oneOf_4 11 rfl rfl)
theorem dX0_oneOf_106 : decode cX0_oneOf 106 = .ok (.invokevirtual 252, 3) := dk_182 0 252 (dk_at dksX0_oneOf_4 12 rfl rfl)
theorem dX0_oneOf_109 : decode cX0_oneOf 109 = .ok (.athrow, 1) := dk_191 (dk_at dksX0_oneOf_4 15 rfl rfl)
theorem dX0_oneOf_110 : decode cX0_oneOf 110 = .ok (.aload_n 0, 1) := dk_42 (dk_at dksX0_oneOf_4 16 rfl rfl)
theorem dX0_oneOf_111 : decode cX0_oneOf 111 = .ok (.invokevirtual 246, 3) := dk_182 0 246 (dk_at dksX0_oneOf_4 17 rfl rfl)
theorem dX0_oneOf_114 : decode cX0_oneOf 114 = .ok (.new 292, 3) := dk_187 1 36 (dk_at dksX0_oneOf_4 20 rfl rfl)
theorem dX0_oneOf_117 : decode cX0_oneOf 117 = .ok (.dup, 1) := dk_89 (dk_at dksX0_oneOf_4 23 rfl rfl)
theorem dX0_oneOf_118 : decode cX0_oneOf 118 = .ok (.aload_n 2, 1) := dk_44 (dk_at dksX0_oneOf_5 0 rfl rfl)
theorem dX0_oneOf_119 : decode cX0_oneOf 119 = .ok (.iload_n 3, 1) := dk_29 (dk_at dksX0_oneOf_5 1 rfl rfl)
theorem dX0_oneOf_120 : decode cX0_oneOf 120 = .ok (.aload_n 0, 1) := dk_42 (dk_at dksX0_oneOf_5 2 rfl rfl)
theorem dX0_oneOf_121 : decode cX0_oneOf 121 = .ok (.invokevirtual 288, 3) := dk_182 1 32 (dk_at dksX0_oneOf_5 3 rfl rfl)
theorem dX0_oneOf_124 : decode cX0_oneOf 124 = .ok (.invokespecial 294, 3) := dk_183 1 38 (dk_at dksX0_oneOf_5 6 rfl rfl)
theorem dX0_oneOf_127 : decode cX0_oneOf 127 = .ok (.areturn, 1) := dk_176 (dk_at dksX0_oneOf_5 9 rfl rfl)
abbrev cX0_want : ByteArray := prog_1_method_30_code
def yX0_want : MethodName := ⟨RX0, "want", "(Ljava/lang/String;)V"⟩
def dkwX0_want_0 : List UInt8 := [42, 43, 182, 0, 249, 154, 0, 8, 42, 182, 0, 252, 191, 177]
abbrev dktX0_want_0 : List UInt8 := dkwX0_want_0 ++ []
theorem dksX0_want_0 : cX0_want.data.toList.drop 0 = dktX0_want_0 := by decide +kernel
theorem dX0_want_0 : decode cX0_want 0 = .ok (.aload_n 0, 1) := dk_42 (dk_at dksX0_want_0 0 rfl rfl)
theorem dX0_want_1 : decode cX0_want 1 = .ok (.aload_n 1, 1) := dk_43 (dk_at dksX0_want_0 1 rfl rfl)
theorem dX0_want_2 : decode cX0_want 2 = .ok (.invokevirtual 249, 3) := dk_182 0 249 (dk_at dksX0_want_0 2 rfl rfl)
theorem dX0_want_5 : decode cX0_want 5 = .ok (.ifCond .ne 8, 3) := dk_154 0 8 (dk_at dksX0_want_0 5 rfl rfl)
theorem dX0_want_8 : decode cX0_want 8 = .ok (.aload_n 0, 1) := dk_42 (dk_at dksX0_want_0 8 rfl rfl)
theorem dX0_want_9 : decode cX0_want 9 = .ok (.invokevirtual 252, 3) := dk_182 0 252 (dk_at dksX0_want_0 9 rfl rfl)
theorem dX0_want_12 : decode cX0_want 12 = .ok (.athrow, 1) := dk_191 (dk_at dksX0_want_0 12 rfl rfl)
theorem dX0_want_13 : decode cX0_want 13 = .ok (.return_, 1) := dk_177 (dk_at dksX0_want_0 13 rfl rfl)
abbrev cX0_value : ByteArray := prog_1_method_33_code
def yX0_value : MethodName := ⟨RX0, "value", "()LHadForVoice$Value;"⟩
def dkwX0_value_1 : List UInt8 := [167, 0, 15, 187, 1, 4, 89, 2, 42, 182, 1, 7, 183, 1, 6, 176]
abbrev dktX0_value_1 : List UInt8 := dkwX0_value_1 ++ []
def dkwX0_value_0 : List UInt8 := [42, 42, 180, 0, 100, 182, 1, 0, 60, 27, 155, 0, 15, 187, 1, 4, 89, 27, 3, 183, 1, 6]
abbrev dktX0_value_0 : List UInt8 := dkwX0_value_0 ++ dktX0_value_1
theorem dksX0_value_0 : cX0_value.data.toList.drop 0 = dktX0_value_0 := by decide +kernel
theorem dksX0_value_1 : cX0_value.data.toList.drop 22 = dktX0_value_1 := dk_seg dksX0_value_0 22 rfl rfl
theorem dX0_value_0 : decode cX0_value 0 = .ok (.aload_n 0, 1) := dk_42 (dk_at dksX0_value_0 0 rfl rfl)
theorem dX0_value_1 : decode cX0_value 1 = .ok (.aload_n 0, 1) := dk_42 (dk_at dksX0_value_0 1 rfl rfl)
theorem dX0_value_2 : decode cX0_value 2 = .ok (.getfield 100, 3) := dk_180 0 100 (dk_at dksX0_value_0 2 rfl rfl)
theorem dX0_value_5 : decode cX0_value 5 = .ok (.invokevirtual 256, 3) := dk_182 1 0 (dk_at dksX0_value_0 5 rfl rfl)
theorem dX0_value_8 : decode cX0_value 8 = .ok (.istore_n 1, 1) := dk_60 (dk_at dksX0_value_0 8 rfl rfl)
theorem dX0_value_9 : decode cX0_value 9 = .ok (.iload_n 1, 1) := dk_27 (dk_at dksX0_value_0 9 rfl rfl)
theorem dX0_value_10 : decode cX0_value 10 = .ok (.ifCond .lt 15, 3) := dk_155 0 15 (dk_at dksX0_value_0 10 rfl rfl)
theorem dX0_value_13 : decode cX0_value 13 = .ok (.new 260, 3) := dk_187 1 4 (dk_at dksX0_value_0 13 rfl rfl)
theorem dX0_value_16 : decode cX0_value 16 = .ok (.dup, 1) := dk_89 (dk_at dksX0_value_0 16 rfl rfl)
theorem dX0_value_17 : decode cX0_value 17 = .ok (.iload_n 1, 1) := dk_27 (dk_at dksX0_value_0 17 rfl rfl)
theorem dX0_value_18 : decode cX0_value 18 = .ok (.iconst 0, 1) := dk_3 (dk_at dksX0_value_0 18 rfl rfl)
theorem dX0_value_19 : decode cX0_value 19 = .ok (.invokespecial 262, 3) := dk_183 1 6 (dk_at dksX0_value_0 19 rfl rfl)
theorem dX0_value_22 : decode cX0_value 22 = .ok (.goto 15, 3) := dk_167 0 15 (dk_at dksX0_value_1 0 rfl rfl)
theorem dX0_value_25 : decode cX0_value 25 = .ok (.new 260, 3) := dk_187 1 4 (dk_at dksX0_value_1 3 rfl rfl)
theorem dX0_value_28 : decode cX0_value 28 = .ok (.dup, 1) := dk_89 (dk_at dksX0_value_1 6 rfl rfl)
theorem dX0_value_29 : decode cX0_value 29 = .ok (.iconst (-1), 1) := dk_2 (dk_at dksX0_value_1 7 rfl rfl)
theorem dX0_value_30 : decode cX0_value 30 = .ok (.aload_n 0, 1) := dk_42 (dk_at dksX0_value_1 8 rfl rfl)
theorem dX0_value_31 : decode cX0_value 31 = .ok (.invokevirtual 263, 3) := dk_182 1 7 (dk_at dksX0_value_1 9 rfl rfl)
theorem dX0_value_34 : decode cX0_value 34 = .ok (.invokespecial 262, 3) := dk_183 1 6 (dk_at dksX0_value_1 12 rfl rfl)
theorem dX0_value_37 : decode cX0_value 37 = .ok (.areturn, 1) := dk_176 (dk_at dksX0_value_1 15 rfl rfl)
abbrev cX0_figure : ByteArray := prog_1_method_31_code
def yX0_figure : MethodName := ⟨RX0, "figure", "()I"⟩
def dkwX0_figure_3 : List UInt8 := [132, 3, 1, 167, 255, 230, 42, 182, 0, 246, 28, 172]
abbrev dktX0_figure_3 : List UInt8 := dkwX0_figure_3 ++ []
def dkwX0_figure_2 : List UInt8 := [42, 180, 0, 222, 162, 0, 24, 16, 10, 28, 104, 42, 180, 0, 103, 29, 51, 96, 16, 48, 100, 61]
abbrev dktX0_figure_2 : List UInt8 := dkwX0_figure_2 ++ dktX0_figure_3
def dkwX0_figure_1 : List UInt8 := [42, 180, 0, 225, 51, 184, 0, 231, 154, 0, 8, 42, 182, 0, 252, 191, 3, 61, 42, 180, 0, 225, 62, 29]
abbrev dktX0_figure_1 : List UInt8 := dkwX0_figure_1 ++ dktX0_figure_2
def dkwX0_figure_0 : List UInt8 := [42, 180, 0, 222, 42, 180, 0, 225, 100, 60, 27, 4, 161, 0, 23, 27, 7, 163, 0, 18, 42, 180, 0, 103]
abbrev dktX0_figure_0 : List UInt8 := dkwX0_figure_0 ++ dktX0_figure_1
theorem dksX0_figure_0 : cX0_figure.data.toList.drop 0 = dktX0_figure_0 := by decide +kernel
theorem dksX0_figure_1 : cX0_figure.data.toList.drop 24 = dktX0_figure_1 := dk_seg dksX0_figure_0 24 rfl rfl
theorem dksX0_figure_2 : cX0_figure.data.toList.drop 48 = dktX0_figure_2 := dk_seg dksX0_figure_1 24 rfl rfl
theorem dksX0_figure_3 : cX0_figure.data.toList.drop 70 = dktX0_figure_3 := dk_seg dksX0_figure_2 22 rfl rfl
theorem dX0_figure_0 : decode cX0_figure 0 = .ok (.aload_n 0, 1) := dk_42 (dk_at dksX0_figure_0 0 rfl rfl)
theorem dX0_figure_1 : decode cX0_figure 1 = .ok (.getfield 222, 3) := dk_180 0 222 (dk_at dksX0_figure_0 1 rfl rfl)
theorem dX0_figure_4 : decode cX0_figure 4 = .ok (.aload_n 0, 1) := dk_42 (dk_at dksX0_figure_0 4 rfl rfl)
theorem dX0_figure_5 : decode cX0_figure 5 = .ok (.getfield 225, 3) := dk_180 0 225 (dk_at dksX0_figure_0 5 rfl rfl)
theorem dX0_figure_8 : decode cX0_figure 8 = .ok (.isub, 1) := dk_100 (dk_at dksX0_figure_0 8 rfl rfl)
theorem dX0_figure_9 : decode cX0_figure 9 = .ok (.istore_n 1, 1) := dk_60 (dk_at dksX0_figure_0 9 rfl rfl)
theorem dX0_figure_10 : decode cX0_figure 10 = .ok (.iload_n 1, 1) := dk_27 (dk_at dksX0_figure_0 10 rfl rfl)
theorem dX0_figure_11 : decode cX0_figure 11 = .ok (.iconst 1, 1) := dk_4 (dk_at dksX0_figure_0 11 rfl rfl)
theorem dX0_figure_12 : decode cX0_figure 12 = .ok (.if_icmp .lt 23, 3) := dk_161 0 23 (dk_at dksX0_figure_0 12 rfl rfl)
theorem dX0_figure_15 : decode cX0_figure 15 = .ok (.iload_n 1, 1) := dk_27 (dk_at dksX0_figure_0 15 rfl rfl)
theorem dX0_figure_16 : decode cX0_figure 16 = .ok (.iconst 4, 1) := dk_7 (dk_at dksX0_figure_0 16 rfl rfl)
theorem dX0_figure_17 : decode cX0_figure 17 = .ok (.if_icmp .gt 18, 3) := dk_163 0 18 (dk_at dksX0_figure_0 17 rfl rfl)
theorem dX0_figure_20 : decode cX0_figure 20 = .ok (.aload_n 0, 1) := dk_42 (dk_at dksX0_figure_0 20 rfl rfl)
theorem dX0_figure_21 : decode cX0_figure 21 = .ok (.getfield 103, 3) := dk_180 0 103 (dk_at dksX0_figure_0 21 rfl rfl)
theorem dX0_figure_24 : decode cX0_figure 24 = .ok (.aload_n 0, 1) := dk_42 (dk_at dksX0_figure_1 0 rfl rfl)
theorem dX0_figure_25 : decode cX0_figure 25 = .ok (.getfield 225, 3) := dk_180 0 225 (dk_at dksX0_figure_1 1 rfl rfl)
theorem dX0_figure_28 : decode cX0_figure 28 = .ok (.baload, 1) := dk_51 (dk_at dksX0_figure_1 4 rfl rfl)
theorem dX0_figure_29 : decode cX0_figure 29 = .ok (.invokestatic 231, 3) := dk_184 0 231 (dk_at dksX0_figure_1 5 rfl rfl)
theorem dX0_figure_32 : decode cX0_figure 32 = .ok (.ifCond .ne 8, 3) := dk_154 0 8 (dk_at dksX0_figure_1 8 rfl rfl)
theorem dX0_figure_35 : decode cX0_figure 35 = .ok (.aload_n 0, 1) := dk_42 (dk_at dksX0_figure_1 11 rfl rfl)
theorem dX0_figure_36 : decode cX0_figure 36 = .ok (.invokevirtual 252, 3) := dk_182 0 252 (dk_at dksX0_figure_1 12 rfl rfl)
theorem dX0_figure_39 : decode cX0_figure 39 = .ok (.athrow, 1) := dk_191 (dk_at dksX0_figure_1 15 rfl rfl)
theorem dX0_figure_40 : decode cX0_figure 40 = .ok (.iconst 0, 1) := dk_3 (dk_at dksX0_figure_1 16 rfl rfl)
theorem dX0_figure_41 : decode cX0_figure 41 = .ok (.istore_n 2, 1) := dk_61 (dk_at dksX0_figure_1 17 rfl rfl)
theorem dX0_figure_42 : decode cX0_figure 42 = .ok (.aload_n 0, 1) := dk_42 (dk_at dksX0_figure_1 18 rfl rfl)
theorem dX0_figure_43 : decode cX0_figure 43 = .ok (.getfield 225, 3) := dk_180 0 225 (dk_at dksX0_figure_1 19 rfl rfl)
theorem dX0_figure_46 : decode cX0_figure 46 = .ok (.istore_n 3, 1) := dk_62 (dk_at dksX0_figure_1 22 rfl rfl)
theorem dX0_figure_47 : decode cX0_figure 47 = .ok (.iload_n 3, 1) := dk_29 (dk_at dksX0_figure_1 23 rfl rfl)
theorem dX0_figure_48 : decode cX0_figure 48 = .ok (.aload_n 0, 1) := dk_42 (dk_at dksX0_figure_2 0 rfl rfl)
theorem dX0_figure_49 : decode cX0_figure 49 = .ok (.getfield 222, 3) := dk_180 0 222 (dk_at dksX0_figure_2 1 rfl rfl)
theorem dX0_figure_52 : decode cX0_figure 52 = .ok (.if_icmp .ge 24, 3) := dk_162 0 24 (dk_at dksX0_figure_2 4 rfl rfl)
theorem dX0_figure_55 : decode cX0_figure 55 = .ok (.bipush 10, 2) := dk_16 10 (dk_at dksX0_figure_2 7 rfl rfl)
theorem dX0_figure_57 : decode cX0_figure 57 = .ok (.iload_n 2, 1) := dk_28 (dk_at dksX0_figure_2 9 rfl rfl)
theorem dX0_figure_58 : decode cX0_figure 58 = .ok (.imul, 1) := dk_104 (dk_at dksX0_figure_2 10 rfl rfl)
theorem dX0_figure_59 : decode cX0_figure 59 = .ok (.aload_n 0, 1) := dk_42 (dk_at dksX0_figure_2 11 rfl rfl)
theorem dX0_figure_60 : decode cX0_figure 60 = .ok (.getfield 103, 3) := dk_180 0 103 (dk_at dksX0_figure_2 12 rfl rfl)
theorem dX0_figure_63 : decode cX0_figure 63 = .ok (.iload_n 3, 1) := dk_29 (dk_at dksX0_figure_2 15 rfl rfl)
theorem dX0_figure_64 : decode cX0_figure 64 = .ok (.baload, 1) := dk_51 (dk_at dksX0_figure_2 16 rfl rfl)
theorem dX0_figure_65 : decode cX0_figure 65 = .ok (.iadd, 1) := dk_96 (dk_at dksX0_figure_2 17 rfl rfl)
theorem dX0_figure_66 : decode cX0_figure 66 = .ok (.bipush 48, 2) := dk_16 48 (dk_at dksX0_figure_2 18 rfl rfl)
theorem dX0_figure_68 : decode cX0_figure 68 = .ok (.isub, 1) := dk_100 (dk_at dksX0_figure_2 20 rfl rfl)
theorem dX0_figure_69 : decode cX0_figure 69 = .ok (.istore_n 2, 1) := dk_61 (dk_at dksX0_figure_2 21 rfl rfl)
theorem dX0_figure_70 : decode cX0_figure 70 = .ok (.iinc 3 1, 3) := dk_132 3 1 (dk_at dksX0_figure_3 0 rfl rfl)
theorem dX0_figure_73 : decode cX0_figure 73 = .ok (.goto (-26), 3) := dk_167 255 230 (dk_at dksX0_figure_3 3 rfl rfl)
theorem dX0_figure_76 : decode cX0_figure 76 = .ok (.aload_n 0, 1) := dk_42 (dk_at dksX0_figure_3 6 rfl rfl)
theorem dX0_figure_77 : decode cX0_figure 77 = .ok (.invokevirtual 246, 3) := dk_182 0 246 (dk_at dksX0_figure_3 7 rfl rfl)
theorem dX0_figure_80 : decode cX0_figure 80 = .ok (.iload_n 2, 1) := dk_28 (dk_at dksX0_figure_3 10 rfl rfl)
theorem dX0_figure_81 : decode cX0_figure 81 = .ok (.ireturn, 1) := dk_172 (dk_at dksX0_figure_3 11 rfl rfl)
abbrev cX0_upTo : ByteArray := prog_1_method_37_code
def yX0_upTo : MethodName := ⟨RX0, "upTo", "(I)I"⟩
def dkwX0_upTo_1 : List UInt8 := [29, 172]
abbrev dktX0_upTo_1 : List UInt8 := dkwX0_upTo_1 ++ []
def dkwX0_upTo_0 : List UInt8 := [42, 180, 0, 225, 61, 42, 182, 1, 7, 62, 29, 27, 164, 0, 12, 42, 180, 0, 40, 28, 182, 0, 234, 191]
abbrev dktX0_upTo_0 : List UInt8 := dkwX0_upTo_0 ++ dktX0_upTo_1
theorem dksX0_upTo_0 : cX0_upTo.data.toList.drop 0 = dktX0_upTo_0 := by decide +kernel
theorem dksX0_upTo_1 : cX0_upTo.data.toList.drop 24 = dktX0_upTo_1 := dk_seg dksX0_upTo_0 24 rfl rfl
theorem dX0_upTo_0 : decode cX0_upTo 0 = .ok (.aload_n 0, 1) := dk_42 (dk_at dksX0_upTo_0 0 rfl rfl)
theorem dX0_upTo_1 : decode cX0_upTo 1 = .ok (.getfield 225, 3) := dk_180 0 225 (dk_at dksX0_upTo_0 1 rfl rfl)
theorem dX0_upTo_4 : decode cX0_upTo 4 = .ok (.istore_n 2, 1) := dk_61 (dk_at dksX0_upTo_0 4 rfl rfl)
theorem dX0_upTo_5 : decode cX0_upTo 5 = .ok (.aload_n 0, 1) := dk_42 (dk_at dksX0_upTo_0 5 rfl rfl)
theorem dX0_upTo_6 : decode cX0_upTo 6 = .ok (.invokevirtual 263, 3) := dk_182 1 7 (dk_at dksX0_upTo_0 6 rfl rfl)
theorem dX0_upTo_9 : decode cX0_upTo 9 = .ok (.istore_n 3, 1) := dk_62 (dk_at dksX0_upTo_0 9 rfl rfl)
theorem dX0_upTo_10 : decode cX0_upTo 10 = .ok (.iload_n 3, 1) := dk_29 (dk_at dksX0_upTo_0 10 rfl rfl)
theorem dX0_upTo_11 : decode cX0_upTo 11 = .ok (.iload_n 1, 1) := dk_27 (dk_at dksX0_upTo_0 11 rfl rfl)
theorem dX0_upTo_12 : decode cX0_upTo 12 = .ok (.if_icmp .le 12, 3) := dk_164 0 12 (dk_at dksX0_upTo_0 12 rfl rfl)
theorem dX0_upTo_15 : decode cX0_upTo 15 = .ok (.aload_n 0, 1) := dk_42 (dk_at dksX0_upTo_0 15 rfl rfl)
theorem dX0_upTo_16 : decode cX0_upTo 16 = .ok (.getfield 40, 3) := dk_180 0 40 (dk_at dksX0_upTo_0 16 rfl rfl)
theorem dX0_upTo_19 : decode cX0_upTo 19 = .ok (.iload_n 2, 1) := dk_28 (dk_at dksX0_upTo_0 19 rfl rfl)
theorem dX0_upTo_20 : decode cX0_upTo 20 = .ok (.invokevirtual 234, 3) := dk_182 0 234 (dk_at dksX0_upTo_0 20 rfl rfl)
theorem dX0_upTo_23 : decode cX0_upTo 23 = .ok (.athrow, 1) := dk_191 (dk_at dksX0_upTo_0 23 rfl rfl)
theorem dX0_upTo_24 : decode cX0_upTo 24 = .ok (.iload_n 3, 1) := dk_29 (dk_at dksX0_upTo_1 0 rfl rfl)
theorem dX0_upTo_25 : decode cX0_upTo 25 = .ok (.ireturn, 1) := dk_172 (dk_at dksX0_upTo_1 1 rfl rfl)
abbrev cX0_cans : ByteArray := prog_1_method_50_code
def yX0_cans : MethodName := ⟨RX0, "cans", "(I)I"⟩
def dkwX0_cans_2 : List UInt8 := [16, 99, 162, 0, 7, 28, 167, 0, 5, 16, 253, 172]
abbrev dktX0_cans_2 : List UInt8 := dkwX0_cans_2 ++ []
def dkwX0_cans_1 : List UInt8 := [28, 16, 99, 162, 0, 20, 42, 28, 182, 1, 133, 154, 0, 12, 42, 28, 182, 1, 130, 61, 167, 255, 236, 28]
abbrev dktX0_cans_1 : List UInt8 := dkwX0_cans_1 ++ dktX0_cans_2
def dkwX0_cans_0 : List UInt8 := [27, 2, 162, 0, 5, 2, 172, 27, 16, 60, 162, 0, 11, 42, 27, 182, 1, 130, 167, 0, 5, 16, 99, 61]
abbrev dktX0_cans_0 : List UInt8 := dkwX0_cans_0 ++ dktX0_cans_1
theorem dksX0_cans_0 : cX0_cans.data.toList.drop 0 = dktX0_cans_0 := by decide +kernel
theorem dksX0_cans_1 : cX0_cans.data.toList.drop 24 = dktX0_cans_1 := dk_seg dksX0_cans_0 24 rfl rfl
theorem dksX0_cans_2 : cX0_cans.data.toList.drop 48 = dktX0_cans_2 := dk_seg dksX0_cans_1 24 rfl rfl
theorem dX0_cans_0 : decode cX0_cans 0 = .ok (.iload_n 1, 1) := dk_27 (dk_at dksX0_cans_0 0 rfl rfl)
theorem dX0_cans_1 : decode cX0_cans 1 = .ok (.iconst (-1), 1) := dk_2 (dk_at dksX0_cans_0 1 rfl rfl)
theorem dX0_cans_2 : decode cX0_cans 2 = .ok (.if_icmp .ge 5, 3) := dk_162 0 5 (dk_at dksX0_cans_0 2 rfl rfl)
theorem dX0_cans_5 : decode cX0_cans 5 = .ok (.iconst (-1), 1) := dk_2 (dk_at dksX0_cans_0 5 rfl rfl)
theorem dX0_cans_6 : decode cX0_cans 6 = .ok (.ireturn, 1) := dk_172 (dk_at dksX0_cans_0 6 rfl rfl)
theorem dX0_cans_7 : decode cX0_cans 7 = .ok (.iload_n 1, 1) := dk_27 (dk_at dksX0_cans_0 7 rfl rfl)
theorem dX0_cans_8 : decode cX0_cans 8 = .ok (.bipush 60, 2) := dk_16 60 (dk_at dksX0_cans_0 8 rfl rfl)
theorem dX0_cans_10 : decode cX0_cans 10 = .ok (.if_icmp .ge 11, 3) := dk_162 0 11 (dk_at dksX0_cans_0 10 rfl rfl)
theorem dX0_cans_13 : decode cX0_cans 13 = .ok (.aload_n 0, 1) := dk_42 (dk_at dksX0_cans_0 13 rfl rfl)
theorem dX0_cans_14 : decode cX0_cans 14 = .ok (.iload_n 1, 1) := dk_27 (dk_at dksX0_cans_0 14 rfl rfl)
theorem dX0_cans_15 : decode cX0_cans 15 = .ok (.invokevirtual 386, 3) := dk_182 1 130 (dk_at dksX0_cans_0 15 rfl rfl)
theorem dX0_cans_18 : decode cX0_cans 18 = .ok (.goto 5, 3) := dk_167 0 5 (dk_at dksX0_cans_0 18 rfl rfl)
theorem dX0_cans_21 : decode cX0_cans 21 = .ok (.bipush 99, 2) := dk_16 99 (dk_at dksX0_cans_0 21 rfl rfl)
theorem dX0_cans_23 : decode cX0_cans 23 = .ok (.istore_n 2, 1) := dk_61 (dk_at dksX0_cans_0 23 rfl rfl)
theorem dX0_cans_24 : decode cX0_cans 24 = .ok (.iload_n 2, 1) := dk_28 (dk_at dksX0_cans_1 0 rfl rfl)
theorem dX0_cans_25 : decode cX0_cans 25 = .ok (.bipush 99, 2) := dk_16 99 (dk_at dksX0_cans_1 1 rfl rfl)
theorem dX0_cans_27 : decode cX0_cans 27 = .ok (.if_icmp .ge 20, 3) := dk_162 0 20 (dk_at dksX0_cans_1 3 rfl rfl)
theorem dX0_cans_30 : decode cX0_cans 30 = .ok (.aload_n 0, 1) := dk_42 (dk_at dksX0_cans_1 6 rfl rfl)
theorem dX0_cans_31 : decode cX0_cans 31 = .ok (.iload_n 2, 1) := dk_28 (dk_at dksX0_cans_1 7 rfl rfl)
theorem dX0_cans_32 : decode cX0_cans 32 = .ok (.invokevirtual 389, 3) := dk_182 1 133 (dk_at dksX0_cans_1 8 rfl rfl)
theorem dX0_cans_35 : decode cX0_cans 35 = .ok (.ifCond .ne 12, 3) := dk_154 0 12 (dk_at dksX0_cans_1 11 rfl rfl)
theorem dX0_cans_38 : decode cX0_cans 38 = .ok (.aload_n 0, 1) := dk_42 (dk_at dksX0_cans_1 14 rfl rfl)
theorem dX0_cans_39 : decode cX0_cans 39 = .ok (.iload_n 2, 1) := dk_28 (dk_at dksX0_cans_1 15 rfl rfl)
theorem dX0_cans_40 : decode cX0_cans 40 = .ok (.invokevirtual 386, 3) := dk_182 1 130 (dk_at dksX0_cans_1 16 rfl rfl)
theorem dX0_cans_43 : decode cX0_cans 43 = .ok (.istore_n 2, 1) := dk_61 (dk_at dksX0_cans_1 19 rfl rfl)
theorem dX0_cans_44 : decode cX0_cans 44 = .ok (.goto (-20), 3) := dk_167 255 236 (dk_at dksX0_cans_1 20 rfl rfl)
theorem dX0_cans_47 : decode cX0_cans 47 = .ok (.iload_n 2, 1) := dk_28 (dk_at dksX0_cans_1 23 rfl rfl)
theorem dX0_cans_48 : decode cX0_cans 48 = .ok (.bipush 99, 2) := dk_16 99 (dk_at dksX0_cans_2 0 rfl rfl)
theorem dX0_cans_50 : decode cX0_cans 50 = .ok (.if_icmp .ge 7, 3) := dk_162 0 7 (dk_at dksX0_cans_2 2 rfl rfl)
theorem dX0_cans_53 : decode cX0_cans 53 = .ok (.iload_n 2, 1) := dk_28 (dk_at dksX0_cans_2 5 rfl rfl)
theorem dX0_cans_54 : decode cX0_cans 54 = .ok (.goto 5, 3) := dk_167 0 5 (dk_at dksX0_cans_2 6 rfl rfl)
theorem dX0_cans_57 : decode cX0_cans 57 = .ok (.bipush (-3), 2) := dk_16 253 (dk_at dksX0_cans_2 9 rfl rfl)
theorem dX0_cans_59 : decode cX0_cans 59 = .ok (.ireturn, 1) := dk_172 (dk_at dksX0_cans_2 11 rfl rfl)
abbrev cX0_after : ByteArray := prog_1_method_47_code
def yX0_after : MethodName := ⟨RX0, "after", "(I)I"⟩
def dkwX0_after_2 : List UInt8 := [167, 0, 5, 16, 99, 172]
abbrev dktX0_after_2 : List UInt8 := dkwX0_after_2 ++ []
def dkwX0_after_1 : List UInt8 := [154, 0, 9, 132, 2, 1, 167, 255, 231, 28, 16, 10, 42, 180, 0, 47, 180, 0, 147, 104, 162, 0, 7, 28]
abbrev dktX0_after_1 : List UInt8 := dkwX0_after_1 ++ dktX0_after_2
def dkwX0_after_0 : List UInt8 := [27, 4, 96, 61, 28, 16, 10, 42, 180, 0, 47, 180, 0, 147, 104, 162, 0, 17, 42, 28, 182, 1, 120]
abbrev dktX0_after_0 : List UInt8 := dkwX0_after_0 ++ dktX0_after_1
theorem dksX0_after_0 : cX0_after.data.toList.drop 0 = dktX0_after_0 := by decide +kernel
theorem dksX0_after_1 : cX0_after.data.toList.drop 23 = dktX0_after_1 := dk_seg dksX0_after_0 23 rfl rfl
theorem dksX0_after_2 : cX0_after.data.toList.drop 47 = dktX0_after_2 := dk_seg dksX0_after_1 24 rfl rfl
theorem dX0_after_0 : decode cX0_after 0 = .ok (.iload_n 1, 1) := dk_27 (dk_at dksX0_after_0 0 rfl rfl)
theorem dX0_after_1 : decode cX0_after 1 = .ok (.iconst 1, 1) := dk_4 (dk_at dksX0_after_0 1 rfl rfl)
theorem dX0_after_2 : decode cX0_after 2 = .ok (.iadd, 1) := dk_96 (dk_at dksX0_after_0 2 rfl rfl)
theorem dX0_after_3 : decode cX0_after 3 = .ok (.istore_n 2, 1) := dk_61 (dk_at dksX0_after_0 3 rfl rfl)
theorem dX0_after_4 : decode cX0_after 4 = .ok (.iload_n 2, 1) := dk_28 (dk_at dksX0_after_0 4 rfl rfl)
theorem dX0_after_5 : decode cX0_after 5 = .ok (.bipush 10, 2) := dk_16 10 (dk_at dksX0_after_0 5 rfl rfl)
theorem dX0_after_7 : decode cX0_after 7 = .ok (.aload_n 0, 1) := dk_42 (dk_at dksX0_after_0 7 rfl rfl)
theorem dX0_after_8 : decode cX0_after 8 = .ok (.getfield 47, 3) := dk_180 0 47 (dk_at dksX0_after_0 8 rfl rfl)
theorem dX0_after_11 : decode cX0_after 11 = .ok (.getfield 147, 3) := dk_180 0 147 (dk_at dksX0_after_0 11 rfl rfl)
theorem dX0_after_14 : decode cX0_after 14 = .ok (.imul, 1) := dk_104 (dk_at dksX0_after_0 14 rfl rfl)
theorem dX0_after_15 : decode cX0_after 15 = .ok (.if_icmp .ge 17, 3) := dk_162 0 17 (dk_at dksX0_after_0 15 rfl rfl)
theorem dX0_after_18 : decode cX0_after 18 = .ok (.aload_n 0, 1) := dk_42 (dk_at dksX0_after_0 18 rfl rfl)
theorem dX0_after_19 : decode cX0_after 19 = .ok (.iload_n 2, 1) := dk_28 (dk_at dksX0_after_0 19 rfl rfl)
theorem dX0_after_20 : decode cX0_after 20 = .ok (.invokevirtual 376, 3) := dk_182 1 120 (dk_at dksX0_after_0 20 rfl rfl)
theorem dX0_after_23 : decode cX0_after 23 = .ok (.ifCond .ne 9, 3) := dk_154 0 9 (dk_at dksX0_after_1 0 rfl rfl)
theorem dX0_after_26 : decode cX0_after 26 = .ok (.iinc 2 1, 3) := dk_132 2 1 (dk_at dksX0_after_1 3 rfl rfl)
theorem dX0_after_29 : decode cX0_after 29 = .ok (.goto (-25), 3) := dk_167 255 231 (dk_at dksX0_after_1 6 rfl rfl)
theorem dX0_after_32 : decode cX0_after 32 = .ok (.iload_n 2, 1) := dk_28 (dk_at dksX0_after_1 9 rfl rfl)
theorem dX0_after_33 : decode cX0_after 33 = .ok (.bipush 10, 2) := dk_16 10 (dk_at dksX0_after_1 10 rfl rfl)
theorem dX0_after_35 : decode cX0_after 35 = .ok (.aload_n 0, 1) := dk_42 (dk_at dksX0_after_1 12 rfl rfl)
theorem dX0_after_36 : decode cX0_after 36 = .ok (.getfield 47, 3) := dk_180 0 47 (dk_at dksX0_after_1 13 rfl rfl)
theorem dX0_after_39 : decode cX0_after 39 = .ok (.getfield 147, 3) := dk_180 0 147 (dk_at dksX0_after_1 16 rfl rfl)
theorem dX0_after_42 : decode cX0_after 42 = .ok (.imul, 1) := dk_104 (dk_at dksX0_after_1 19 rfl rfl)
theorem dX0_after_43 : decode cX0_after 43 = .ok (.if_icmp .ge 7, 3) := dk_162 0 7 (dk_at dksX0_after_1 20 rfl rfl)
theorem dX0_after_46 : decode cX0_after 46 = .ok (.iload_n 2, 1) := dk_28 (dk_at dksX0_after_1 23 rfl rfl)
theorem dX0_after_47 : decode cX0_after 47 = .ok (.goto 5, 3) := dk_167 0 5 (dk_at dksX0_after_2 0 rfl rfl)
theorem dX0_after_50 : decode cX0_after 50 = .ok (.bipush 99, 2) := dk_16 99 (dk_at dksX0_after_2 3 rfl rfl)
theorem dX0_after_52 : decode cX0_after 52 = .ok (.ireturn, 1) := dk_172 (dk_at dksX0_after_2 5 rfl rfl)
abbrev cX0_isChange : ByteArray := prog_1_method_45_code
def yX0_isChange : MethodName := ⟨RX0, "isChange", "(I)Z"⟩
def dkwX0_isChange_1 : List UInt8 := [16, 9, 159, 0, 16, 42, 29, 182, 0, 185, 153, 0, 12, 28, 29, 162, 0, 7, 4, 167, 0, 4, 3, 172]
abbrev dktX0_isChange_1 : List UInt8 := dkwX0_isChange_1 ++ []
def dkwX0_isChange_0 : List UInt8 := [27, 16, 10, 108, 61, 27, 16, 10, 112, 62, 27, 155, 0, 34, 42, 28, 182, 0, 185, 153, 0, 26, 29]
abbrev dktX0_isChange_0 : List UInt8 := dkwX0_isChange_0 ++ dktX0_isChange_1
theorem dksX0_isChange_0 : cX0_isChange.data.toList.drop 0 = dktX0_isChange_0 := by decide +kernel
theorem dksX0_isChange_1 : cX0_isChange.data.toList.drop 23 = dktX0_isChange_1 := dk_seg dksX0_isChange_0 23 rfl rfl
theorem dX0_isChange_0 : decode cX0_isChange 0 = .ok (.iload_n 1, 1) := dk_27 (dk_at dksX0_isChange_0 0 rfl rfl)
theorem dX0_isChange_1 : decode cX0_isChange 1 = .ok (.bipush 10, 2) := dk_16 10 (dk_at dksX0_isChange_0 1 rfl rfl)
theorem dX0_isChange_3 : decode cX0_isChange 3 = .ok (.idiv, 1) := dk_108 (dk_at dksX0_isChange_0 3 rfl rfl)
theorem dX0_isChange_4 : decode cX0_isChange 4 = .ok (.istore_n 2, 1) := dk_61 (dk_at dksX0_isChange_0 4 rfl rfl)
theorem dX0_isChange_5 : decode cX0_isChange 5 = .ok (.iload_n 1, 1) := dk_27 (dk_at dksX0_isChange_0 5 rfl rfl)
theorem dX0_isChange_6 : decode cX0_isChange 6 = .ok (.bipush 10, 2) := dk_16 10 (dk_at dksX0_isChange_0 6 rfl rfl)
theorem dX0_isChange_8 : decode cX0_isChange 8 = .ok (.irem, 1) := dk_112 (dk_at dksX0_isChange_0 8 rfl rfl)
theorem dX0_isChange_9 : decode cX0_isChange 9 = .ok (.istore_n 3, 1) := dk_62 (dk_at dksX0_isChange_0 9 rfl rfl)
theorem dX0_isChange_10 : decode cX0_isChange 10 = .ok (.iload_n 1, 1) := dk_27 (dk_at dksX0_isChange_0 10 rfl rfl)
theorem dX0_isChange_11 : decode cX0_isChange 11 = .ok (.ifCond .lt 34, 3) := dk_155 0 34 (dk_at dksX0_isChange_0 11 rfl rfl)
theorem dX0_isChange_14 : decode cX0_isChange 14 = .ok (.aload_n 0, 1) := dk_42 (dk_at dksX0_isChange_0 14 rfl rfl)
theorem dX0_isChange_15 : decode cX0_isChange 15 = .ok (.iload_n 2, 1) := dk_28 (dk_at dksX0_isChange_0 15 rfl rfl)
theorem dX0_isChange_16 : decode cX0_isChange 16 = .ok (.invokevirtual 185, 3) := dk_182 0 185 (dk_at dksX0_isChange_0 16 rfl rfl)
theorem dX0_isChange_19 : decode cX0_isChange 19 = .ok (.ifCond .eq 26, 3) := dk_153 0 26 (dk_at dksX0_isChange_0 19 rfl rfl)
theorem dX0_isChange_22 : decode cX0_isChange 22 = .ok (.iload_n 3, 1) := dk_29 (dk_at dksX0_isChange_0 22 rfl rfl)
theorem dX0_isChange_23 : decode cX0_isChange 23 = .ok (.bipush 9, 2) := dk_16 9 (dk_at dksX0_isChange_1 0 rfl rfl)
theorem dX0_isChange_25 : decode cX0_isChange 25 = .ok (.if_icmp .eq 16, 3) := dk_159 0 16 (dk_at dksX0_isChange_1 2 rfl rfl)
theorem dX0_isChange_28 : decode cX0_isChange 28 = .ok (.aload_n 0, 1) := dk_42 (dk_at dksX0_isChange_1 5 rfl rfl)
theorem dX0_isChange_29 : decode cX0_isChange 29 = .ok (.iload_n 3, 1) := dk_29 (dk_at dksX0_isChange_1 6 rfl rfl)
theorem dX0_isChange_30 : decode cX0_isChange 30 = .ok (.invokevirtual 185, 3) := dk_182 0 185 (dk_at dksX0_isChange_1 7 rfl rfl)
theorem dX0_isChange_33 : decode cX0_isChange 33 = .ok (.ifCond .eq 12, 3) := dk_153 0 12 (dk_at dksX0_isChange_1 10 rfl rfl)
theorem dX0_isChange_36 : decode cX0_isChange 36 = .ok (.iload_n 2, 1) := dk_28 (dk_at dksX0_isChange_1 13 rfl rfl)
theorem dX0_isChange_37 : decode cX0_isChange 37 = .ok (.iload_n 3, 1) := dk_29 (dk_at dksX0_isChange_1 14 rfl rfl)
theorem dX0_isChange_38 : decode cX0_isChange 38 = .ok (.if_icmp .ge 7, 3) := dk_162 0 7 (dk_at dksX0_isChange_1 15 rfl rfl)
theorem dX0_isChange_41 : decode cX0_isChange 41 = .ok (.iconst 1, 1) := dk_4 (dk_at dksX0_isChange_1 18 rfl rfl)
theorem dX0_isChange_42 : decode cX0_isChange 42 = .ok (.goto 4, 3) := dk_167 0 4 (dk_at dksX0_isChange_1 19 rfl rfl)
theorem dX0_isChange_45 : decode cX0_isChange 45 = .ok (.iconst 0, 1) := dk_3 (dk_at dksX0_isChange_1 22 rfl rfl)
theorem dX0_isChange_46 : decode cX0_isChange 46 = .ok (.ireturn, 1) := dk_172 (dk_at dksX0_isChange_1 23 rfl rfl)
abbrev cX0_can : ByteArray := prog_1_method_46_code
def yX0_can : MethodName := ⟨RX0, "can", "(I)Z"⟩
def dkwX0_can_2 : List UInt8 := [182, 1, 117, 172]
abbrev dktX0_can_2 : List UInt8 := dkwX0_can_2 ++ []
def dkwX0_can_1 : List UInt8 := [160, 0, 5, 3, 172, 29, 16, 9, 160, 0, 11, 42, 28, 182, 1, 114, 167, 0, 9, 42, 28, 29]
abbrev dktX0_can_1 : List UInt8 := dkwX0_can_1 ++ dktX0_can_2
def dkwX0_can_0 : List UInt8 := [27, 16, 10, 108, 61, 27, 16, 10, 112, 62, 28, 42, 180, 0, 111, 159, 0, 11, 29, 42, 180, 0, 111]
abbrev dktX0_can_0 : List UInt8 := dkwX0_can_0 ++ dktX0_can_1
theorem dksX0_can_0 : cX0_can.data.toList.drop 0 = dktX0_can_0 := by decide +kernel
theorem dksX0_can_1 : cX0_can.data.toList.drop 23 = dktX0_can_1 := dk_seg dksX0_can_0 23 rfl rfl
theorem dksX0_can_2 : cX0_can.data.toList.drop 45 = dktX0_can_2 := dk_seg dksX0_can_1 22 rfl rfl
theorem dX0_can_0 : decode cX0_can 0 = .ok (.iload_n 1, 1) := dk_27 (dk_at dksX0_can_0 0 rfl rfl)
theorem dX0_can_1 : decode cX0_can 1 = .ok (.bipush 10, 2) := dk_16 10 (dk_at dksX0_can_0 1 rfl rfl)
theorem dX0_can_3 : decode cX0_can 3 = .ok (.idiv, 1) := dk_108 (dk_at dksX0_can_0 3 rfl rfl)
theorem dX0_can_4 : decode cX0_can 4 = .ok (.istore_n 2, 1) := dk_61 (dk_at dksX0_can_0 4 rfl rfl)
theorem dX0_can_5 : decode cX0_can 5 = .ok (.iload_n 1, 1) := dk_27 (dk_at dksX0_can_0 5 rfl rfl)
theorem dX0_can_6 : decode cX0_can 6 = .ok (.bipush 10, 2) := dk_16 10 (dk_at dksX0_can_0 6 rfl rfl)
theorem dX0_can_8 : decode cX0_can 8 = .ok (.irem, 1) := dk_112 (dk_at dksX0_can_0 8 rfl rfl)
theorem dX0_can_9 : decode cX0_can 9 = .ok (.istore_n 3, 1) := dk_62 (dk_at dksX0_can_0 9 rfl rfl)
theorem dX0_can_10 : decode cX0_can 10 = .ok (.iload_n 2, 1) := dk_28 (dk_at dksX0_can_0 10 rfl rfl)
theorem dX0_can_11 : decode cX0_can 11 = .ok (.aload_n 0, 1) := dk_42 (dk_at dksX0_can_0 11 rfl rfl)
theorem dX0_can_12 : decode cX0_can 12 = .ok (.getfield 111, 3) := dk_180 0 111 (dk_at dksX0_can_0 12 rfl rfl)
theorem dX0_can_15 : decode cX0_can 15 = .ok (.if_icmp .eq 11, 3) := dk_159 0 11 (dk_at dksX0_can_0 15 rfl rfl)
theorem dX0_can_18 : decode cX0_can 18 = .ok (.iload_n 3, 1) := dk_29 (dk_at dksX0_can_0 18 rfl rfl)
theorem dX0_can_19 : decode cX0_can 19 = .ok (.aload_n 0, 1) := dk_42 (dk_at dksX0_can_0 19 rfl rfl)
theorem dX0_can_20 : decode cX0_can 20 = .ok (.getfield 111, 3) := dk_180 0 111 (dk_at dksX0_can_0 20 rfl rfl)
theorem dX0_can_23 : decode cX0_can 23 = .ok (.if_icmp .ne 5, 3) := dk_160 0 5 (dk_at dksX0_can_1 0 rfl rfl)
theorem dX0_can_26 : decode cX0_can 26 = .ok (.iconst 0, 1) := dk_3 (dk_at dksX0_can_1 3 rfl rfl)
theorem dX0_can_27 : decode cX0_can 27 = .ok (.ireturn, 1) := dk_172 (dk_at dksX0_can_1 4 rfl rfl)
theorem dX0_can_28 : decode cX0_can 28 = .ok (.iload_n 3, 1) := dk_29 (dk_at dksX0_can_1 5 rfl rfl)
theorem dX0_can_29 : decode cX0_can 29 = .ok (.bipush 9, 2) := dk_16 9 (dk_at dksX0_can_1 6 rfl rfl)
theorem dX0_can_31 : decode cX0_can 31 = .ok (.if_icmp .ne 11, 3) := dk_160 0 11 (dk_at dksX0_can_1 8 rfl rfl)
theorem dX0_can_34 : decode cX0_can 34 = .ok (.aload_n 0, 1) := dk_42 (dk_at dksX0_can_1 11 rfl rfl)
theorem dX0_can_35 : decode cX0_can 35 = .ok (.iload_n 2, 1) := dk_28 (dk_at dksX0_can_1 12 rfl rfl)
theorem dX0_can_36 : decode cX0_can 36 = .ok (.invokevirtual 370, 3) := dk_182 1 114 (dk_at dksX0_can_1 13 rfl rfl)
theorem dX0_can_39 : decode cX0_can 39 = .ok (.goto 9, 3) := dk_167 0 9 (dk_at dksX0_can_1 16 rfl rfl)
theorem dX0_can_42 : decode cX0_can 42 = .ok (.aload_n 0, 1) := dk_42 (dk_at dksX0_can_1 19 rfl rfl)
theorem dX0_can_43 : decode cX0_can 43 = .ok (.iload_n 2, 1) := dk_28 (dk_at dksX0_can_1 20 rfl rfl)
theorem dX0_can_44 : decode cX0_can 44 = .ok (.iload_n 3, 1) := dk_29 (dk_at dksX0_can_1 21 rfl rfl)
theorem dX0_can_45 : decode cX0_can 45 = .ok (.invokevirtual 373, 3) := dk_182 1 117 (dk_at dksX0_can_2 0 rfl rfl)
theorem dX0_can_48 : decode cX0_can 48 = .ok (.ireturn, 1) := dk_172 (dk_at dksX0_can_2 3 rfl rfl)
abbrev cX0_canTrade : ByteArray := prog_1_method_44_code
def yX0_canTrade : MethodName := ⟨RX0, "canTrade", "(I)Z"⟩
def dkwX0_canTrade_3 : List UInt8 := [4, 167, 0, 4, 3, 172]
abbrev dktX0_canTrade_3 : List UInt8 := dkwX0_canTrade_3 ++ []
def dkwX0_canTrade_2 : List UInt8 := [46, 46, 16, 99, 162, 0, 24, 42, 27, 182, 0, 188, 42, 180, 0, 47, 180, 0, 176, 27, 46, 163, 0, 7]
abbrev dktX0_canTrade_2 : List UInt8 := dkwX0_canTrade_2 ++ dktX0_canTrade_3
def dkwX0_canTrade_1 : List UInt8 := [180, 0, 160, 27, 46, 46, 158, 0, 46, 42, 180, 0, 47, 180, 0, 201, 42, 180, 0, 47, 180, 0, 174, 27]
abbrev dktX0_canTrade_1 : List UInt8 := dkwX0_canTrade_1 ++ dktX0_canTrade_2
def dkwX0_canTrade_0 : List UInt8 := [42, 180, 0, 47, 27, 182, 0, 192, 154, 0, 66, 42, 180, 0, 47, 180, 0, 201, 42, 180, 0, 47]
abbrev dktX0_canTrade_0 : List UInt8 := dkwX0_canTrade_0 ++ dktX0_canTrade_1
theorem dksX0_canTrade_0 : cX0_canTrade.data.toList.drop 0 = dktX0_canTrade_0 := by decide +kernel
theorem dksX0_canTrade_1 : cX0_canTrade.data.toList.drop 22 = dktX0_canTrade_1 := dk_seg dksX0_canTrade_0 22 rfl rfl
theorem dksX0_canTrade_2 : cX0_canTrade.data.toList.drop 46 = dktX0_canTrade_2 := dk_seg dksX0_canTrade_1 24 rfl rfl
theorem dksX0_canTrade_3 : cX0_canTrade.data.toList.drop 70 = dktX0_canTrade_3 := dk_seg dksX0_canTrade_2 24 rfl rfl
theorem dX0_canTrade_0 : decode cX0_canTrade 0 = .ok (.aload_n 0, 1) := dk_42 (dk_at dksX0_canTrade_0 0 rfl rfl)
theorem dX0_canTrade_1 : decode cX0_canTrade 1 = .ok (.getfield 47, 3) := dk_180 0 47 (dk_at dksX0_canTrade_0 1 rfl rfl)
theorem dX0_canTrade_4 : decode cX0_canTrade 4 = .ok (.iload_n 1, 1) := dk_27 (dk_at dksX0_canTrade_0 4 rfl rfl)
theorem dX0_canTrade_5 : decode cX0_canTrade 5 = .ok (.invokevirtual 192, 3) := dk_182 0 192 (dk_at dksX0_canTrade_0 5 rfl rfl)
theorem dX0_canTrade_8 : decode cX0_canTrade 8 = .ok (.ifCond .ne 66, 3) := dk_154 0 66 (dk_at dksX0_canTrade_0 8 rfl rfl)
theorem dX0_canTrade_11 : decode cX0_canTrade 11 = .ok (.aload_n 0, 1) := dk_42 (dk_at dksX0_canTrade_0 11 rfl rfl)
theorem dX0_canTrade_12 : decode cX0_canTrade 12 = .ok (.getfield 47, 3) := dk_180 0 47 (dk_at dksX0_canTrade_0 12 rfl rfl)
theorem dX0_canTrade_15 : decode cX0_canTrade 15 = .ok (.getfield 201, 3) := dk_180 0 201 (dk_at dksX0_canTrade_0 15 rfl rfl)
theorem dX0_canTrade_18 : decode cX0_canTrade 18 = .ok (.aload_n 0, 1) := dk_42 (dk_at dksX0_canTrade_0 18 rfl rfl)
theorem dX0_canTrade_19 : decode cX0_canTrade 19 = .ok (.getfield 47, 3) := dk_180 0 47 (dk_at dksX0_canTrade_0 19 rfl rfl)
theorem dX0_canTrade_22 : decode cX0_canTrade 22 = .ok (.getfield 160, 3) := dk_180 0 160 (dk_at dksX0_canTrade_1 0 rfl rfl)
theorem dX0_canTrade_25 : decode cX0_canTrade 25 = .ok (.iload_n 1, 1) := dk_27 (dk_at dksX0_canTrade_1 3 rfl rfl)
theorem dX0_canTrade_26 : decode cX0_canTrade 26 = .ok (.iaload, 1) := dk_46 (dk_at dksX0_canTrade_1 4 rfl rfl)
theorem dX0_canTrade_27 : decode cX0_canTrade 27 = .ok (.iaload, 1) := dk_46 (dk_at dksX0_canTrade_1 5 rfl rfl)
theorem dX0_canTrade_28 : decode cX0_canTrade 28 = .ok (.ifCond .le 46, 3) := dk_158 0 46 (dk_at dksX0_canTrade_1 6 rfl rfl)
theorem dX0_canTrade_31 : decode cX0_canTrade 31 = .ok (.aload_n 0, 1) := dk_42 (dk_at dksX0_canTrade_1 9 rfl rfl)
theorem dX0_canTrade_32 : decode cX0_canTrade 32 = .ok (.getfield 47, 3) := dk_180 0 47 (dk_at dksX0_canTrade_1 10 rfl rfl)
theorem dX0_canTrade_35 : decode cX0_canTrade 35 = .ok (.getfield 201, 3) := dk_180 0 201 (dk_at dksX0_canTrade_1 13 rfl rfl)
theorem dX0_canTrade_38 : decode cX0_canTrade 38 = .ok (.aload_n 0, 1) := dk_42 (dk_at dksX0_canTrade_1 16 rfl rfl)
theorem dX0_canTrade_39 : decode cX0_canTrade 39 = .ok (.getfield 47, 3) := dk_180 0 47 (dk_at dksX0_canTrade_1 17 rfl rfl)
theorem dX0_canTrade_42 : decode cX0_canTrade 42 = .ok (.getfield 174, 3) := dk_180 0 174 (dk_at dksX0_canTrade_1 20 rfl rfl)
theorem dX0_canTrade_45 : decode cX0_canTrade 45 = .ok (.iload_n 1, 1) := dk_27 (dk_at dksX0_canTrade_1 23 rfl rfl)
theorem dX0_canTrade_46 : decode cX0_canTrade 46 = .ok (.iaload, 1) := dk_46 (dk_at dksX0_canTrade_2 0 rfl rfl)
theorem dX0_canTrade_47 : decode cX0_canTrade 47 = .ok (.iaload, 1) := dk_46 (dk_at dksX0_canTrade_2 1 rfl rfl)
theorem dX0_canTrade_48 : decode cX0_canTrade 48 = .ok (.bipush 99, 2) := dk_16 99 (dk_at dksX0_canTrade_2 2 rfl rfl)
theorem dX0_canTrade_50 : decode cX0_canTrade 50 = .ok (.if_icmp .ge 24, 3) := dk_162 0 24 (dk_at dksX0_canTrade_2 4 rfl rfl)
theorem dX0_canTrade_53 : decode cX0_canTrade 53 = .ok (.aload_n 0, 1) := dk_42 (dk_at dksX0_canTrade_2 7 rfl rfl)
theorem dX0_canTrade_54 : decode cX0_canTrade 54 = .ok (.iload_n 1, 1) := dk_27 (dk_at dksX0_canTrade_2 8 rfl rfl)
theorem dX0_canTrade_55 : decode cX0_canTrade 55 = .ok (.invokevirtual 188, 3) := dk_182 0 188 (dk_at dksX0_canTrade_2 9 rfl rfl)
theorem dX0_canTrade_58 : decode cX0_canTrade 58 = .ok (.aload_n 0, 1) := dk_42 (dk_at dksX0_canTrade_2 12 rfl rfl)
theorem dX0_canTrade_59 : decode cX0_canTrade 59 = .ok (.getfield 47, 3) := dk_180 0 47 (dk_at dksX0_canTrade_2 13 rfl rfl)
theorem dX0_canTrade_62 : decode cX0_canTrade 62 = .ok (.getfield 176, 3) := dk_180 0 176 (dk_at dksX0_canTrade_2 16 rfl rfl)
theorem dX0_canTrade_65 : decode cX0_canTrade 65 = .ok (.iload_n 1, 1) := dk_27 (dk_at dksX0_canTrade_2 19 rfl rfl)
theorem dX0_canTrade_66 : decode cX0_canTrade 66 = .ok (.iaload, 1) := dk_46 (dk_at dksX0_canTrade_2 20 rfl rfl)
theorem dX0_canTrade_67 : decode cX0_canTrade 67 = .ok (.if_icmp .gt 7, 3) := dk_163 0 7 (dk_at dksX0_canTrade_2 21 rfl rfl)
theorem dX0_canTrade_70 : decode cX0_canTrade 70 = .ok (.iconst 1, 1) := dk_4 (dk_at dksX0_canTrade_3 0 rfl rfl)
theorem dX0_canTrade_71 : decode cX0_canTrade 71 = .ok (.goto 4, 3) := dk_167 0 4 (dk_at dksX0_canTrade_3 1 rfl rfl)
theorem dX0_canTrade_74 : decode cX0_canTrade 74 = .ok (.iconst 0, 1) := dk_3 (dk_at dksX0_canTrade_3 4 rfl rfl)
theorem dX0_canTrade_75 : decode cX0_canTrade 75 = .ok (.ireturn, 1) := dk_172 (dk_at dksX0_canTrade_3 5 rfl rfl)
abbrev cX0_canExchange : ByteArray := prog_1_method_43_code
def yX0_canExchange : MethodName := ⟨RX0, "canExchange", "(II)Z"⟩
def dkwX0_canExchange_3 : List UInt8 := [28, 46, 160, 0, 7, 4, 167, 0, 4, 3, 172]
abbrev dktX0_canExchange_3 : List UInt8 := dkwX0_canExchange_3 ++ []
def dkwX0_canExchange_2 : List UInt8 := [180, 0, 160, 27, 46, 159, 0, 24, 42, 180, 0, 47, 180, 0, 174, 27, 46, 42, 180, 0, 47, 180, 0, 160]
abbrev dktX0_canExchange_2 : List UInt8 := dkwX0_canExchange_2 ++ dktX0_canExchange_3
def dkwX0_canExchange_1 : List UInt8 := [28, 182, 0, 192, 153, 0, 5, 3, 172, 42, 180, 0, 47, 180, 0, 174, 28, 46, 42, 180, 0, 47]
abbrev dktX0_canExchange_1 : List UInt8 := dkwX0_canExchange_1 ++ dktX0_canExchange_2
def dkwX0_canExchange_0 : List UInt8 := [42, 27, 28, 182, 0, 195, 153, 0, 25, 42, 180, 0, 47, 27, 182, 0, 192, 154, 0, 14, 42, 180, 0, 47]
abbrev dktX0_canExchange_0 : List UInt8 := dkwX0_canExchange_0 ++ dktX0_canExchange_1
theorem dksX0_canExchange_0 : cX0_canExchange.data.toList.drop 0 = dktX0_canExchange_0 := by decide +kernel
theorem dksX0_canExchange_1 : cX0_canExchange.data.toList.drop 24 = dktX0_canExchange_1 := dk_seg dksX0_canExchange_0 24 rfl rfl
theorem dksX0_canExchange_2 : cX0_canExchange.data.toList.drop 46 = dktX0_canExchange_2 := dk_seg dksX0_canExchange_1 22 rfl rfl
theorem dksX0_canExchange_3 : cX0_canExchange.data.toList.drop 70 = dktX0_canExchange_3 := dk_seg dksX0_canExchange_2 24 rfl rfl
theorem dX0_canExchange_0 : decode cX0_canExchange 0 = .ok (.aload_n 0, 1) := dk_42 (dk_at dksX0_canExchange_0 0 rfl rfl)
theorem dX0_canExchange_1 : decode cX0_canExchange 1 = .ok (.iload_n 1, 1) := dk_27 (dk_at dksX0_canExchange_0 1 rfl rfl)
theorem dX0_canExchange_2 : decode cX0_canExchange 2 = .ok (.iload_n 2, 1) := dk_28 (dk_at dksX0_canExchange_0 2 rfl rfl)
theorem dX0_canExchange_3 : decode cX0_canExchange 3 = .ok (.invokevirtual 195, 3) := dk_182 0 195 (dk_at dksX0_canExchange_0 3 rfl rfl)
theorem dX0_canExchange_6 : decode cX0_canExchange 6 = .ok (.ifCond .eq 25, 3) := dk_153 0 25 (dk_at dksX0_canExchange_0 6 rfl rfl)
theorem dX0_canExchange_9 : decode cX0_canExchange 9 = .ok (.aload_n 0, 1) := dk_42 (dk_at dksX0_canExchange_0 9 rfl rfl)
theorem dX0_canExchange_10 : decode cX0_canExchange 10 = .ok (.getfield 47, 3) := dk_180 0 47 (dk_at dksX0_canExchange_0 10 rfl rfl)
theorem dX0_canExchange_13 : decode cX0_canExchange 13 = .ok (.iload_n 1, 1) := dk_27 (dk_at dksX0_canExchange_0 13 rfl rfl)
theorem dX0_canExchange_14 : decode cX0_canExchange 14 = .ok (.invokevirtual 192, 3) := dk_182 0 192 (dk_at dksX0_canExchange_0 14 rfl rfl)
theorem dX0_canExchange_17 : decode cX0_canExchange 17 = .ok (.ifCond .ne 14, 3) := dk_154 0 14 (dk_at dksX0_canExchange_0 17 rfl rfl)
theorem dX0_canExchange_20 : decode cX0_canExchange 20 = .ok (.aload_n 0, 1) := dk_42 (dk_at dksX0_canExchange_0 20 rfl rfl)
theorem dX0_canExchange_21 : decode cX0_canExchange 21 = .ok (.getfield 47, 3) := dk_180 0 47 (dk_at dksX0_canExchange_0 21 rfl rfl)
theorem dX0_canExchange_24 : decode cX0_canExchange 24 = .ok (.iload_n 2, 1) := dk_28 (dk_at dksX0_canExchange_1 0 rfl rfl)
theorem dX0_canExchange_25 : decode cX0_canExchange 25 = .ok (.invokevirtual 192, 3) := dk_182 0 192 (dk_at dksX0_canExchange_1 1 rfl rfl)
theorem dX0_canExchange_28 : decode cX0_canExchange 28 = .ok (.ifCond .eq 5, 3) := dk_153 0 5 (dk_at dksX0_canExchange_1 4 rfl rfl)
theorem dX0_canExchange_31 : decode cX0_canExchange 31 = .ok (.iconst 0, 1) := dk_3 (dk_at dksX0_canExchange_1 7 rfl rfl)
theorem dX0_canExchange_32 : decode cX0_canExchange 32 = .ok (.ireturn, 1) := dk_172 (dk_at dksX0_canExchange_1 8 rfl rfl)
theorem dX0_canExchange_33 : decode cX0_canExchange 33 = .ok (.aload_n 0, 1) := dk_42 (dk_at dksX0_canExchange_1 9 rfl rfl)
theorem dX0_canExchange_34 : decode cX0_canExchange 34 = .ok (.getfield 47, 3) := dk_180 0 47 (dk_at dksX0_canExchange_1 10 rfl rfl)
theorem dX0_canExchange_37 : decode cX0_canExchange 37 = .ok (.getfield 174, 3) := dk_180 0 174 (dk_at dksX0_canExchange_1 13 rfl rfl)
theorem dX0_canExchange_40 : decode cX0_canExchange 40 = .ok (.iload_n 2, 1) := dk_28 (dk_at dksX0_canExchange_1 16 rfl rfl)
theorem dX0_canExchange_41 : decode cX0_canExchange 41 = .ok (.iaload, 1) := dk_46 (dk_at dksX0_canExchange_1 17 rfl rfl)
theorem dX0_canExchange_42 : decode cX0_canExchange 42 = .ok (.aload_n 0, 1) := dk_42 (dk_at dksX0_canExchange_1 18 rfl rfl)
theorem dX0_canExchange_43 : decode cX0_canExchange 43 = .ok (.getfield 47, 3) := dk_180 0 47 (dk_at dksX0_canExchange_1 19 rfl rfl)
theorem dX0_canExchange_46 : decode cX0_canExchange 46 = .ok (.getfield 160, 3) := dk_180 0 160 (dk_at dksX0_canExchange_2 0 rfl rfl)
theorem dX0_canExchange_49 : decode cX0_canExchange 49 = .ok (.iload_n 1, 1) := dk_27 (dk_at dksX0_canExchange_2 3 rfl rfl)
theorem dX0_canExchange_50 : decode cX0_canExchange 50 = .ok (.iaload, 1) := dk_46 (dk_at dksX0_canExchange_2 4 rfl rfl)
theorem dX0_canExchange_51 : decode cX0_canExchange 51 = .ok (.if_icmp .eq 24, 3) := dk_159 0 24 (dk_at dksX0_canExchange_2 5 rfl rfl)
theorem dX0_canExchange_54 : decode cX0_canExchange 54 = .ok (.aload_n 0, 1) := dk_42 (dk_at dksX0_canExchange_2 8 rfl rfl)
theorem dX0_canExchange_55 : decode cX0_canExchange 55 = .ok (.getfield 47, 3) := dk_180 0 47 (dk_at dksX0_canExchange_2 9 rfl rfl)
theorem dX0_canExchange_58 : decode cX0_canExchange 58 = .ok (.getfield 174, 3) := dk_180 0 174 (dk_at dksX0_canExchange_2 12 rfl rfl)
theorem dX0_canExchange_61 : decode cX0_canExchange 61 = .ok (.iload_n 1, 1) := dk_27 (dk_at dksX0_canExchange_2 15 rfl rfl)
theorem dX0_canExchange_62 : decode cX0_canExchange 62 = .ok (.iaload, 1) := dk_46 (dk_at dksX0_canExchange_2 16 rfl rfl)
theorem dX0_canExchange_63 : decode cX0_canExchange 63 = .ok (.aload_n 0, 1) := dk_42 (dk_at dksX0_canExchange_2 17 rfl rfl)
theorem dX0_canExchange_64 : decode cX0_canExchange 64 = .ok (.getfield 47, 3) := dk_180 0 47 (dk_at dksX0_canExchange_2 18 rfl rfl)
theorem dX0_canExchange_67 : decode cX0_canExchange 67 = .ok (.getfield 160, 3) := dk_180 0 160 (dk_at dksX0_canExchange_2 21 rfl rfl)
theorem dX0_canExchange_70 : decode cX0_canExchange 70 = .ok (.iload_n 2, 1) := dk_28 (dk_at dksX0_canExchange_3 0 rfl rfl)
theorem dX0_canExchange_71 : decode cX0_canExchange 71 = .ok (.iaload, 1) := dk_46 (dk_at dksX0_canExchange_3 1 rfl rfl)
theorem dX0_canExchange_72 : decode cX0_canExchange 72 = .ok (.if_icmp .ne 7, 3) := dk_160 0 7 (dk_at dksX0_canExchange_3 2 rfl rfl)
theorem dX0_canExchange_75 : decode cX0_canExchange 75 = .ok (.iconst 1, 1) := dk_4 (dk_at dksX0_canExchange_3 5 rfl rfl)
theorem dX0_canExchange_76 : decode cX0_canExchange 76 = .ok (.goto 4, 3) := dk_167 0 4 (dk_at dksX0_canExchange_3 6 rfl rfl)
theorem dX0_canExchange_79 : decode cX0_canExchange 79 = .ok (.iconst 0, 1) := dk_3 (dk_at dksX0_canExchange_3 9 rfl rfl)
theorem dX0_canExchange_80 : decode cX0_canExchange 80 = .ok (.ireturn, 1) := dk_172 (dk_at dksX0_canExchange_3 10 rfl rfl)
abbrev cX0_make : ByteArray := prog_1_method_52_code
def yX0_make : MethodName := ⟨RX0, "make", "(II)I"⟩
def dkwX0_make_2 : List UInt8 := [182, 1, 133, 153, 0, 16, 42, 16, 10, 27, 104, 28, 96, 182, 1, 142, 167, 0, 5, 16, 252, 172]
abbrev dktX0_make_2 : List UInt8 := dkwX0_make_2 ++ []
def dkwX0_make_1 : List UInt8 := [162, 0, 7, 4, 167, 0, 4, 3, 62, 29, 154, 0, 5, 2, 172, 42, 16, 10, 27, 104, 28, 96]
abbrev dktX0_make_1 : List UInt8 := dkwX0_make_1 ++ dktX0_make_2
def dkwX0_make_0 : List UInt8 := [42, 27, 182, 0, 185, 153, 0, 26, 28, 16, 9, 159, 0, 16, 42, 28, 182, 0, 185, 153, 0, 12, 27, 28]
abbrev dktX0_make_0 : List UInt8 := dkwX0_make_0 ++ dktX0_make_1
theorem dksX0_make_0 : cX0_make.data.toList.drop 0 = dktX0_make_0 := by decide +kernel
theorem dksX0_make_1 : cX0_make.data.toList.drop 24 = dktX0_make_1 := dk_seg dksX0_make_0 24 rfl rfl
theorem dksX0_make_2 : cX0_make.data.toList.drop 46 = dktX0_make_2 := dk_seg dksX0_make_1 22 rfl rfl
theorem dX0_make_0 : decode cX0_make 0 = .ok (.aload_n 0, 1) := dk_42 (dk_at dksX0_make_0 0 rfl rfl)
theorem dX0_make_1 : decode cX0_make 1 = .ok (.iload_n 1, 1) := dk_27 (dk_at dksX0_make_0 1 rfl rfl)
theorem dX0_make_2 : decode cX0_make 2 = .ok (.invokevirtual 185, 3) := dk_182 0 185 (dk_at dksX0_make_0 2 rfl rfl)
theorem dX0_make_5 : decode cX0_make 5 = .ok (.ifCond .eq 26, 3) := dk_153 0 26 (dk_at dksX0_make_0 5 rfl rfl)
theorem dX0_make_8 : decode cX0_make 8 = .ok (.iload_n 2, 1) := dk_28 (dk_at dksX0_make_0 8 rfl rfl)
theorem dX0_make_9 : decode cX0_make 9 = .ok (.bipush 9, 2) := dk_16 9 (dk_at dksX0_make_0 9 rfl rfl)
theorem dX0_make_11 : decode cX0_make 11 = .ok (.if_icmp .eq 16, 3) := dk_159 0 16 (dk_at dksX0_make_0 11 rfl rfl)
theorem dX0_make_14 : decode cX0_make 14 = .ok (.aload_n 0, 1) := dk_42 (dk_at dksX0_make_0 14 rfl rfl)
theorem dX0_make_15 : decode cX0_make 15 = .ok (.iload_n 2, 1) := dk_28 (dk_at dksX0_make_0 15 rfl rfl)
theorem dX0_make_16 : decode cX0_make 16 = .ok (.invokevirtual 185, 3) := dk_182 0 185 (dk_at dksX0_make_0 16 rfl rfl)
theorem dX0_make_19 : decode cX0_make 19 = .ok (.ifCond .eq 12, 3) := dk_153 0 12 (dk_at dksX0_make_0 19 rfl rfl)
theorem dX0_make_22 : decode cX0_make 22 = .ok (.iload_n 1, 1) := dk_27 (dk_at dksX0_make_0 22 rfl rfl)
theorem dX0_make_23 : decode cX0_make 23 = .ok (.iload_n 2, 1) := dk_28 (dk_at dksX0_make_0 23 rfl rfl)
theorem dX0_make_24 : decode cX0_make 24 = .ok (.if_icmp .ge 7, 3) := dk_162 0 7 (dk_at dksX0_make_1 0 rfl rfl)
theorem dX0_make_27 : decode cX0_make 27 = .ok (.iconst 1, 1) := dk_4 (dk_at dksX0_make_1 3 rfl rfl)
theorem dX0_make_28 : decode cX0_make 28 = .ok (.goto 4, 3) := dk_167 0 4 (dk_at dksX0_make_1 4 rfl rfl)
theorem dX0_make_31 : decode cX0_make 31 = .ok (.iconst 0, 1) := dk_3 (dk_at dksX0_make_1 7 rfl rfl)
theorem dX0_make_32 : decode cX0_make 32 = .ok (.istore_n 3, 1) := dk_62 (dk_at dksX0_make_1 8 rfl rfl)
theorem dX0_make_33 : decode cX0_make 33 = .ok (.iload_n 3, 1) := dk_29 (dk_at dksX0_make_1 9 rfl rfl)
theorem dX0_make_34 : decode cX0_make 34 = .ok (.ifCond .ne 5, 3) := dk_154 0 5 (dk_at dksX0_make_1 10 rfl rfl)
theorem dX0_make_37 : decode cX0_make 37 = .ok (.iconst (-1), 1) := dk_2 (dk_at dksX0_make_1 13 rfl rfl)
theorem dX0_make_38 : decode cX0_make 38 = .ok (.ireturn, 1) := dk_172 (dk_at dksX0_make_1 14 rfl rfl)
theorem dX0_make_39 : decode cX0_make 39 = .ok (.aload_n 0, 1) := dk_42 (dk_at dksX0_make_1 15 rfl rfl)
theorem dX0_make_40 : decode cX0_make 40 = .ok (.bipush 10, 2) := dk_16 10 (dk_at dksX0_make_1 16 rfl rfl)
theorem dX0_make_42 : decode cX0_make 42 = .ok (.iload_n 1, 1) := dk_27 (dk_at dksX0_make_1 18 rfl rfl)
theorem dX0_make_43 : decode cX0_make 43 = .ok (.imul, 1) := dk_104 (dk_at dksX0_make_1 19 rfl rfl)
theorem dX0_make_44 : decode cX0_make 44 = .ok (.iload_n 2, 1) := dk_28 (dk_at dksX0_make_1 20 rfl rfl)
theorem dX0_make_45 : decode cX0_make 45 = .ok (.iadd, 1) := dk_96 (dk_at dksX0_make_1 21 rfl rfl)
theorem dX0_make_46 : decode cX0_make 46 = .ok (.invokevirtual 389, 3) := dk_182 1 133 (dk_at dksX0_make_2 0 rfl rfl)
theorem dX0_make_49 : decode cX0_make 49 = .ok (.ifCond .eq 16, 3) := dk_153 0 16 (dk_at dksX0_make_2 3 rfl rfl)
theorem dX0_make_52 : decode cX0_make 52 = .ok (.aload_n 0, 1) := dk_42 (dk_at dksX0_make_2 6 rfl rfl)
theorem dX0_make_53 : decode cX0_make 53 = .ok (.bipush 10, 2) := dk_16 10 (dk_at dksX0_make_2 7 rfl rfl)
theorem dX0_make_55 : decode cX0_make 55 = .ok (.iload_n 1, 1) := dk_27 (dk_at dksX0_make_2 9 rfl rfl)
theorem dX0_make_56 : decode cX0_make 56 = .ok (.imul, 1) := dk_104 (dk_at dksX0_make_2 10 rfl rfl)
theorem dX0_make_57 : decode cX0_make 57 = .ok (.iload_n 2, 1) := dk_28 (dk_at dksX0_make_2 11 rfl rfl)
theorem dX0_make_58 : decode cX0_make 58 = .ok (.iadd, 1) := dk_96 (dk_at dksX0_make_2 12 rfl rfl)
theorem dX0_make_59 : decode cX0_make 59 = .ok (.invokevirtual 398, 3) := dk_182 1 142 (dk_at dksX0_make_2 13 rfl rfl)
theorem dX0_make_62 : decode cX0_make 62 = .ok (.goto 5, 3) := dk_167 0 5 (dk_at dksX0_make_2 16 rfl rfl)
theorem dX0_make_65 : decode cX0_make 65 = .ok (.bipush (-4), 2) := dk_16 252 (dk_at dksX0_make_2 19 rfl rfl)
theorem dX0_make_67 : decode cX0_make 67 = .ok (.ireturn, 1) := dk_172 (dk_at dksX0_make_2 21 rfl rfl)
abbrev cX0_makes : ByteArray := prog_1_method_51_code
def yX0_makes : MethodName := ⟨RX0, "makes", "(I)I"⟩
def dkwX0_makes_1 : List UInt8 := [180, 0, 47, 27, 29, 42, 180, 0, 47, 180, 0, 174, 28, 46, 182, 1, 139, 21, 4, 172]
abbrev dktX0_makes_1 : List UInt8 := dkwX0_makes_1 ++ []
def dkwX0_makes_0 : List UInt8 := [27, 16, 10, 108, 61, 42, 180, 0, 47, 180, 0, 174, 28, 46, 62, 42, 27, 182, 1, 136, 54, 4, 42]
abbrev dktX0_makes_0 : List UInt8 := dkwX0_makes_0 ++ dktX0_makes_1
theorem dksX0_makes_0 : cX0_makes.data.toList.drop 0 = dktX0_makes_0 := by decide +kernel
theorem dksX0_makes_1 : cX0_makes.data.toList.drop 23 = dktX0_makes_1 := dk_seg dksX0_makes_0 23 rfl rfl
theorem dX0_makes_0 : decode cX0_makes 0 = .ok (.iload_n 1, 1) := dk_27 (dk_at dksX0_makes_0 0 rfl rfl)
theorem dX0_makes_1 : decode cX0_makes 1 = .ok (.bipush 10, 2) := dk_16 10 (dk_at dksX0_makes_0 1 rfl rfl)
theorem dX0_makes_3 : decode cX0_makes 3 = .ok (.idiv, 1) := dk_108 (dk_at dksX0_makes_0 3 rfl rfl)
theorem dX0_makes_4 : decode cX0_makes 4 = .ok (.istore_n 2, 1) := dk_61 (dk_at dksX0_makes_0 4 rfl rfl)
theorem dX0_makes_5 : decode cX0_makes 5 = .ok (.aload_n 0, 1) := dk_42 (dk_at dksX0_makes_0 5 rfl rfl)
theorem dX0_makes_6 : decode cX0_makes 6 = .ok (.getfield 47, 3) := dk_180 0 47 (dk_at dksX0_makes_0 6 rfl rfl)
theorem dX0_makes_9 : decode cX0_makes 9 = .ok (.getfield 174, 3) := dk_180 0 174 (dk_at dksX0_makes_0 9 rfl rfl)
theorem dX0_makes_12 : decode cX0_makes 12 = .ok (.iload_n 2, 1) := dk_28 (dk_at dksX0_makes_0 12 rfl rfl)
theorem dX0_makes_13 : decode cX0_makes 13 = .ok (.iaload, 1) := dk_46 (dk_at dksX0_makes_0 13 rfl rfl)
theorem dX0_makes_14 : decode cX0_makes 14 = .ok (.istore_n 3, 1) := dk_62 (dk_at dksX0_makes_0 14 rfl rfl)
theorem dX0_makes_15 : decode cX0_makes 15 = .ok (.aload_n 0, 1) := dk_42 (dk_at dksX0_makes_0 15 rfl rfl)
theorem dX0_makes_16 : decode cX0_makes 16 = .ok (.iload_n 1, 1) := dk_27 (dk_at dksX0_makes_0 16 rfl rfl)
theorem dX0_makes_17 : decode cX0_makes 17 = .ok (.invokevirtual 392, 3) := dk_182 1 136 (dk_at dksX0_makes_0 17 rfl rfl)
theorem dX0_makes_20 : decode cX0_makes 20 = .ok (.istore 4, 2) := dk_54 4 (dk_at dksX0_makes_0 20 rfl rfl)
theorem dX0_makes_22 : decode cX0_makes 22 = .ok (.aload_n 0, 1) := dk_42 (dk_at dksX0_makes_0 22 rfl rfl)
theorem dX0_makes_23 : decode cX0_makes 23 = .ok (.getfield 47, 3) := dk_180 0 47 (dk_at dksX0_makes_1 0 rfl rfl)
theorem dX0_makes_26 : decode cX0_makes 26 = .ok (.iload_n 1, 1) := dk_27 (dk_at dksX0_makes_1 3 rfl rfl)
theorem dX0_makes_27 : decode cX0_makes 27 = .ok (.iload_n 3, 1) := dk_29 (dk_at dksX0_makes_1 4 rfl rfl)
theorem dX0_makes_28 : decode cX0_makes 28 = .ok (.aload_n 0, 1) := dk_42 (dk_at dksX0_makes_1 5 rfl rfl)
theorem dX0_makes_29 : decode cX0_makes 29 = .ok (.getfield 47, 3) := dk_180 0 47 (dk_at dksX0_makes_1 6 rfl rfl)
theorem dX0_makes_32 : decode cX0_makes 32 = .ok (.getfield 174, 3) := dk_180 0 174 (dk_at dksX0_makes_1 9 rfl rfl)
theorem dX0_makes_35 : decode cX0_makes 35 = .ok (.iload_n 2, 1) := dk_28 (dk_at dksX0_makes_1 12 rfl rfl)
theorem dX0_makes_36 : decode cX0_makes 36 = .ok (.iaload, 1) := dk_46 (dk_at dksX0_makes_1 13 rfl rfl)
theorem dX0_makes_37 : decode cX0_makes 37 = .ok (.invokevirtual 395, 3) := dk_182 1 139 (dk_at dksX0_makes_1 14 rfl rfl)
theorem dX0_makes_40 : decode cX0_makes 40 = .ok (.iload 4, 2) := dk_21 4 (dk_at dksX0_makes_1 17 rfl rfl)
theorem dX0_makes_42 : decode cX0_makes 42 = .ok (.ireturn, 1) := dk_172 (dk_at dksX0_makes_1 19 rfl rfl)
abbrev cX0_carry : ByteArray := prog_1_method_48_code
def yX0_carry : MethodName := ⟨RX0, "carry", "(I)I"⟩
def dkwX0_carry_2 : List UInt8 := [180, 0, 47, 28, 29, 182, 1, 127, 3, 172]
abbrev dktX0_carry_2 : List UInt8 := dkwX0_carry_2 ++ []
def dkwX0_carry_1 : List UInt8 := [180, 0, 47, 28, 42, 180, 0, 47, 180, 0, 160, 28, 46, 21, 4, 182, 1, 123, 21, 4, 172, 42]
abbrev dktX0_carry_1 : List UInt8 := dkwX0_carry_1 ++ dktX0_carry_2
def dkwX0_carry_0 : List UInt8 := [27, 16, 10, 108, 61, 27, 16, 10, 112, 62, 29, 16, 9, 160, 0, 32, 42, 28, 182, 0, 188, 54, 4, 42]
abbrev dktX0_carry_0 : List UInt8 := dkwX0_carry_0 ++ dktX0_carry_1
theorem dksX0_carry_0 : cX0_carry.data.toList.drop 0 = dktX0_carry_0 := by decide +kernel
theorem dksX0_carry_1 : cX0_carry.data.toList.drop 24 = dktX0_carry_1 := dk_seg dksX0_carry_0 24 rfl rfl
theorem dksX0_carry_2 : cX0_carry.data.toList.drop 46 = dktX0_carry_2 := dk_seg dksX0_carry_1 22 rfl rfl
theorem dX0_carry_0 : decode cX0_carry 0 = .ok (.iload_n 1, 1) := dk_27 (dk_at dksX0_carry_0 0 rfl rfl)
theorem dX0_carry_1 : decode cX0_carry 1 = .ok (.bipush 10, 2) := dk_16 10 (dk_at dksX0_carry_0 1 rfl rfl)
theorem dX0_carry_3 : decode cX0_carry 3 = .ok (.idiv, 1) := dk_108 (dk_at dksX0_carry_0 3 rfl rfl)
theorem dX0_carry_4 : decode cX0_carry 4 = .ok (.istore_n 2, 1) := dk_61 (dk_at dksX0_carry_0 4 rfl rfl)
theorem dX0_carry_5 : decode cX0_carry 5 = .ok (.iload_n 1, 1) := dk_27 (dk_at dksX0_carry_0 5 rfl rfl)
theorem dX0_carry_6 : decode cX0_carry 6 = .ok (.bipush 10, 2) := dk_16 10 (dk_at dksX0_carry_0 6 rfl rfl)
theorem dX0_carry_8 : decode cX0_carry 8 = .ok (.irem, 1) := dk_112 (dk_at dksX0_carry_0 8 rfl rfl)
theorem dX0_carry_9 : decode cX0_carry 9 = .ok (.istore_n 3, 1) := dk_62 (dk_at dksX0_carry_0 9 rfl rfl)
theorem dX0_carry_10 : decode cX0_carry 10 = .ok (.iload_n 3, 1) := dk_29 (dk_at dksX0_carry_0 10 rfl rfl)
theorem dX0_carry_11 : decode cX0_carry 11 = .ok (.bipush 9, 2) := dk_16 9 (dk_at dksX0_carry_0 11 rfl rfl)
theorem dX0_carry_13 : decode cX0_carry 13 = .ok (.if_icmp .ne 32, 3) := dk_160 0 32 (dk_at dksX0_carry_0 13 rfl rfl)
theorem dX0_carry_16 : decode cX0_carry 16 = .ok (.aload_n 0, 1) := dk_42 (dk_at dksX0_carry_0 16 rfl rfl)
theorem dX0_carry_17 : decode cX0_carry 17 = .ok (.iload_n 2, 1) := dk_28 (dk_at dksX0_carry_0 17 rfl rfl)
theorem dX0_carry_18 : decode cX0_carry 18 = .ok (.invokevirtual 188, 3) := dk_182 0 188 (dk_at dksX0_carry_0 18 rfl rfl)
theorem dX0_carry_21 : decode cX0_carry 21 = .ok (.istore 4, 2) := dk_54 4 (dk_at dksX0_carry_0 21 rfl rfl)
theorem dX0_carry_23 : decode cX0_carry 23 = .ok (.aload_n 0, 1) := dk_42 (dk_at dksX0_carry_0 23 rfl rfl)
theorem dX0_carry_24 : decode cX0_carry 24 = .ok (.getfield 47, 3) := dk_180 0 47 (dk_at dksX0_carry_1 0 rfl rfl)
theorem dX0_carry_27 : decode cX0_carry 27 = .ok (.iload_n 2, 1) := dk_28 (dk_at dksX0_carry_1 3 rfl rfl)
theorem dX0_carry_28 : decode cX0_carry 28 = .ok (.aload_n 0, 1) := dk_42 (dk_at dksX0_carry_1 4 rfl rfl)
theorem dX0_carry_29 : decode cX0_carry 29 = .ok (.getfield 47, 3) := dk_180 0 47 (dk_at dksX0_carry_1 5 rfl rfl)
theorem dX0_carry_32 : decode cX0_carry 32 = .ok (.getfield 160, 3) := dk_180 0 160 (dk_at dksX0_carry_1 8 rfl rfl)
theorem dX0_carry_35 : decode cX0_carry 35 = .ok (.iload_n 2, 1) := dk_28 (dk_at dksX0_carry_1 11 rfl rfl)
theorem dX0_carry_36 : decode cX0_carry 36 = .ok (.iaload, 1) := dk_46 (dk_at dksX0_carry_1 12 rfl rfl)
theorem dX0_carry_37 : decode cX0_carry 37 = .ok (.iload 4, 2) := dk_21 4 (dk_at dksX0_carry_1 13 rfl rfl)
theorem dX0_carry_39 : decode cX0_carry 39 = .ok (.invokevirtual 379, 3) := dk_182 1 123 (dk_at dksX0_carry_1 15 rfl rfl)
theorem dX0_carry_42 : decode cX0_carry 42 = .ok (.iload 4, 2) := dk_21 4 (dk_at dksX0_carry_1 18 rfl rfl)
theorem dX0_carry_44 : decode cX0_carry 44 = .ok (.ireturn, 1) := dk_172 (dk_at dksX0_carry_1 20 rfl rfl)
theorem dX0_carry_45 : decode cX0_carry 45 = .ok (.aload_n 0, 1) := dk_42 (dk_at dksX0_carry_1 21 rfl rfl)
theorem dX0_carry_46 : decode cX0_carry 46 = .ok (.getfield 47, 3) := dk_180 0 47 (dk_at dksX0_carry_2 0 rfl rfl)
theorem dX0_carry_49 : decode cX0_carry 49 = .ok (.iload_n 2, 1) := dk_28 (dk_at dksX0_carry_2 3 rfl rfl)
theorem dX0_carry_50 : decode cX0_carry 50 = .ok (.iload_n 3, 1) := dk_29 (dk_at dksX0_carry_2 4 rfl rfl)
theorem dX0_carry_51 : decode cX0_carry 51 = .ok (.invokevirtual 383, 3) := dk_182 1 127 (dk_at dksX0_carry_2 5 rfl rfl)
theorem dX0_carry_54 : decode cX0_carry 54 = .ok (.iconst 0, 1) := dk_3 (dk_at dksX0_carry_2 8 rfl rfl)
theorem dX0_carry_55 : decode cX0_carry 55 = .ok (.ireturn, 1) := dk_172 (dk_at dksX0_carry_2 9 rfl rfl)
abbrev cX0_back : ByteArray := prog_1_method_54_code
def yX0_back : MethodName := ⟨RX0, "back", "()I"⟩
def dkwX0_back_3 : List UInt8 := [180, 0, 47, 180, 1, 145, 27, 46, 172]
abbrev dktX0_back_3 : List UInt8 := dkwX0_back_3 ++ []
def dkwX0_back_2 : List UInt8 := [180, 1, 151, 27, 46, 3, 182, 1, 157, 42, 180, 0, 47, 89, 180, 0, 217, 4, 100, 181, 0, 217, 42]
abbrev dktX0_back_2 : List UInt8 := dkwX0_back_2 ++ dktX0_back_3
def dkwX0_back_1 : List UInt8 := [27, 182, 1, 154, 154, 0, 6, 16, 252, 172, 42, 42, 180, 0, 47, 180, 1, 145, 27, 46, 42, 180, 0, 47]
abbrev dktX0_back_1 : List UInt8 := dkwX0_back_1 ++ dktX0_back_2
def dkwX0_back_0 : List UInt8 := [42, 180, 0, 47, 180, 0, 217, 154, 0, 6, 16, 253, 172, 42, 180, 0, 47, 180, 0, 217, 4, 100, 60, 42]
abbrev dktX0_back_0 : List UInt8 := dkwX0_back_0 ++ dktX0_back_1
theorem dksX0_back_0 : cX0_back.data.toList.drop 0 = dktX0_back_0 := by decide +kernel
theorem dksX0_back_1 : cX0_back.data.toList.drop 24 = dktX0_back_1 := dk_seg dksX0_back_0 24 rfl rfl
theorem dksX0_back_2 : cX0_back.data.toList.drop 48 = dktX0_back_2 := dk_seg dksX0_back_1 24 rfl rfl
theorem dksX0_back_3 : cX0_back.data.toList.drop 71 = dktX0_back_3 := dk_seg dksX0_back_2 23 rfl rfl
theorem dX0_back_0 : decode cX0_back 0 = .ok (.aload_n 0, 1) := dk_42 (dk_at dksX0_back_0 0 rfl rfl)
theorem dX0_back_1 : decode cX0_back 1 = .ok (.getfield 47, 3) := dk_180 0 47 (dk_at dksX0_back_0 1 rfl rfl)
theorem dX0_back_4 : decode cX0_back 4 = .ok (.getfield 217, 3) := dk_180 0 217 (dk_at dksX0_back_0 4 rfl rfl)
theorem dX0_back_7 : decode cX0_back 7 = .ok (.ifCond .ne 6, 3) := dk_154 0 6 (dk_at dksX0_back_0 7 rfl rfl)
theorem dX0_back_10 : decode cX0_back 10 = .ok (.bipush (-3), 2) := dk_16 253 (dk_at dksX0_back_0 10 rfl rfl)
theorem dX0_back_12 : decode cX0_back 12 = .ok (.ireturn, 1) := dk_172 (dk_at dksX0_back_0 12 rfl rfl)
theorem dX0_back_13 : decode cX0_back 13 = .ok (.aload_n 0, 1) := dk_42 (dk_at dksX0_back_0 13 rfl rfl)
theorem dX0_back_14 : decode cX0_back 14 = .ok (.getfield 47, 3) := dk_180 0 47 (dk_at dksX0_back_0 14 rfl rfl)
theorem dX0_back_17 : decode cX0_back 17 = .ok (.getfield 217, 3) := dk_180 0 217 (dk_at dksX0_back_0 17 rfl rfl)
theorem dX0_back_20 : decode cX0_back 20 = .ok (.iconst 1, 1) := dk_4 (dk_at dksX0_back_0 20 rfl rfl)
theorem dX0_back_21 : decode cX0_back 21 = .ok (.isub, 1) := dk_100 (dk_at dksX0_back_0 21 rfl rfl)
theorem dX0_back_22 : decode cX0_back 22 = .ok (.istore_n 1, 1) := dk_60 (dk_at dksX0_back_0 22 rfl rfl)
theorem dX0_back_23 : decode cX0_back 23 = .ok (.aload_n 0, 1) := dk_42 (dk_at dksX0_back_0 23 rfl rfl)
theorem dX0_back_24 : decode cX0_back 24 = .ok (.iload_n 1, 1) := dk_27 (dk_at dksX0_back_1 0 rfl rfl)
theorem dX0_back_25 : decode cX0_back 25 = .ok (.invokevirtual 410, 3) := dk_182 1 154 (dk_at dksX0_back_1 1 rfl rfl)
theorem dX0_back_28 : decode cX0_back 28 = .ok (.ifCond .ne 6, 3) := dk_154 0 6 (dk_at dksX0_back_1 4 rfl rfl)
theorem dX0_back_31 : decode cX0_back 31 = .ok (.bipush (-4), 2) := dk_16 252 (dk_at dksX0_back_1 7 rfl rfl)
theorem dX0_back_33 : decode cX0_back 33 = .ok (.ireturn, 1) := dk_172 (dk_at dksX0_back_1 9 rfl rfl)
theorem dX0_back_34 : decode cX0_back 34 = .ok (.aload_n 0, 1) := dk_42 (dk_at dksX0_back_1 10 rfl rfl)
theorem dX0_back_35 : decode cX0_back 35 = .ok (.aload_n 0, 1) := dk_42 (dk_at dksX0_back_1 11 rfl rfl)
theorem dX0_back_36 : decode cX0_back 36 = .ok (.getfield 47, 3) := dk_180 0 47 (dk_at dksX0_back_1 12 rfl rfl)
theorem dX0_back_39 : decode cX0_back 39 = .ok (.getfield 401, 3) := dk_180 1 145 (dk_at dksX0_back_1 15 rfl rfl)
theorem dX0_back_42 : decode cX0_back 42 = .ok (.iload_n 1, 1) := dk_27 (dk_at dksX0_back_1 18 rfl rfl)
theorem dX0_back_43 : decode cX0_back 43 = .ok (.iaload, 1) := dk_46 (dk_at dksX0_back_1 19 rfl rfl)
theorem dX0_back_44 : decode cX0_back 44 = .ok (.aload_n 0, 1) := dk_42 (dk_at dksX0_back_1 20 rfl rfl)
theorem dX0_back_45 : decode cX0_back 45 = .ok (.getfield 47, 3) := dk_180 0 47 (dk_at dksX0_back_1 21 rfl rfl)
theorem dX0_back_48 : decode cX0_back 48 = .ok (.getfield 407, 3) := dk_180 1 151 (dk_at dksX0_back_2 0 rfl rfl)
theorem dX0_back_51 : decode cX0_back 51 = .ok (.iload_n 1, 1) := dk_27 (dk_at dksX0_back_2 3 rfl rfl)
theorem dX0_back_52 : decode cX0_back 52 = .ok (.iaload, 1) := dk_46 (dk_at dksX0_back_2 4 rfl rfl)
theorem dX0_back_53 : decode cX0_back 53 = .ok (.iconst 0, 1) := dk_3 (dk_at dksX0_back_2 5 rfl rfl)
theorem dX0_back_54 : decode cX0_back 54 = .ok (.invokevirtual 413, 3) := dk_182 1 157 (dk_at dksX0_back_2 6 rfl rfl)
theorem dX0_back_57 : decode cX0_back 57 = .ok (.aload_n 0, 1) := dk_42 (dk_at dksX0_back_2 9 rfl rfl)
theorem dX0_back_58 : decode cX0_back 58 = .ok (.getfield 47, 3) := dk_180 0 47 (dk_at dksX0_back_2 10 rfl rfl)
theorem dX0_back_61 : decode cX0_back 61 = .ok (.dup, 1) := dk_89 (dk_at dksX0_back_2 13 rfl rfl)
theorem dX0_back_62 : decode cX0_back 62 = .ok (.getfield 217, 3) := dk_180 0 217 (dk_at dksX0_back_2 14 rfl rfl)
theorem dX0_back_65 : decode cX0_back 65 = .ok (.iconst 1, 1) := dk_4 (dk_at dksX0_back_2 17 rfl rfl)
theorem dX0_back_66 : decode cX0_back 66 = .ok (.isub, 1) := dk_100 (dk_at dksX0_back_2 18 rfl rfl)
theorem dX0_back_67 : decode cX0_back 67 = .ok (.putfield 217, 3) := dk_181 0 217 (dk_at dksX0_back_2 19 rfl rfl)
theorem dX0_back_70 : decode cX0_back 70 = .ok (.aload_n 0, 1) := dk_42 (dk_at dksX0_back_2 22 rfl rfl)
theorem dX0_back_71 : decode cX0_back 71 = .ok (.getfield 47, 3) := dk_180 0 47 (dk_at dksX0_back_3 0 rfl rfl)
theorem dX0_back_74 : decode cX0_back 74 = .ok (.getfield 401, 3) := dk_180 1 145 (dk_at dksX0_back_3 3 rfl rfl)
theorem dX0_back_77 : decode cX0_back 77 = .ok (.iload_n 1, 1) := dk_27 (dk_at dksX0_back_3 6 rfl rfl)
theorem dX0_back_78 : decode cX0_back 78 = .ok (.iaload, 1) := dk_46 (dk_at dksX0_back_3 7 rfl rfl)
theorem dX0_back_79 : decode cX0_back 79 = .ok (.ireturn, 1) := dk_172 (dk_at dksX0_back_3 8 rfl rfl)
abbrev cX0_canGoBack : ByteArray := prog_1_method_53_code
def yX0_canGoBack : MethodName := ⟨RX0, "canGoBack", "(I)Z"⟩
def dkwX0_canGoBack_5 : List UInt8 := [180, 1, 151, 27, 46, 160, 0, 7, 4, 167, 0, 4, 3, 172]
abbrev dktX0_canGoBack_5 : List UInt8 := dkwX0_canGoBack_5 ++ []
def dkwX0_canGoBack_4 : List UInt8 := [162, 0, 7, 4, 167, 0, 33, 3, 167, 0, 29, 42, 180, 0, 47, 180, 0, 174, 29, 46, 42, 180, 0, 47]
abbrev dktX0_canGoBack_4 : List UInt8 := dkwX0_canGoBack_4 ++ dktX0_canGoBack_5
def dkwX0_canGoBack_3 : List UInt8 := [158, 0, 29, 42, 180, 0, 47, 180, 0, 201, 42, 180, 0, 47, 180, 1, 148, 27, 46, 46, 16, 99]
abbrev dktX0_canGoBack_3 : List UInt8 := dkwX0_canGoBack_3 ++ dktX0_canGoBack_4
def dkwX0_canGoBack_2 : List UInt8 := [172, 29, 16, 9, 160, 0, 53, 42, 180, 0, 47, 180, 0, 201, 42, 180, 0, 47, 180, 1, 151, 27, 46, 46]
abbrev dktX0_canGoBack_2 : List UInt8 := dkwX0_canGoBack_2 ++ dktX0_canGoBack_3
def dkwX0_canGoBack_1 : List UInt8 := [112, 62, 42, 180, 0, 47, 180, 0, 174, 28, 46, 42, 180, 0, 47, 180, 1, 148, 27, 46, 159, 0, 5, 3]
abbrev dktX0_canGoBack_1 : List UInt8 := dkwX0_canGoBack_1 ++ dktX0_canGoBack_2
def dkwX0_canGoBack_0 : List UInt8 := [42, 180, 0, 47, 180, 1, 145, 27, 46, 16, 10, 108, 61, 42, 180, 0, 47, 180, 1, 145, 27, 46, 16, 10]
abbrev dktX0_canGoBack_0 : List UInt8 := dkwX0_canGoBack_0 ++ dktX0_canGoBack_1
theorem dksX0_canGoBack_0 : cX0_canGoBack.data.toList.drop 0 = dktX0_canGoBack_0 := by decide +kernel
theorem dksX0_canGoBack_1 : cX0_canGoBack.data.toList.drop 24 = dktX0_canGoBack_1 := dk_seg dksX0_canGoBack_0 24 rfl rfl
theorem dksX0_canGoBack_2 : cX0_canGoBack.data.toList.drop 48 = dktX0_canGoBack_2 := dk_seg dksX0_canGoBack_1 24 rfl rfl
theorem dksX0_canGoBack_3 : cX0_canGoBack.data.toList.drop 72 = dktX0_canGoBack_3 := dk_seg dksX0_canGoBack_2 24 rfl rfl
theorem dksX0_canGoBack_4 : cX0_canGoBack.data.toList.drop 94 = dktX0_canGoBack_4 := dk_seg dksX0_canGoBack_3 22 rfl rfl
theorem dksX0_canGoBack_5 : cX0_canGoBack.data.toList.drop 118 = dktX0_canGoBack_5 := dk_seg dksX0_canGoBack_4 24 rfl rfl
theorem dX0_canGoBack_0 : decode cX0_canGoBack 0 = .ok (.aload_n 0, 1) := dk_42 (dk_at dksX0_canGoBack_0 0 rfl rfl)
theorem dX0_canGoBack_1 : decode cX0_canGoBack 1 = .ok (.getfield 47, 3) := dk_180 0 47 (dk_at dksX0_canGoBack_0 1 rfl rfl)
theorem dX0_canGoBack_4 : decode cX0_canGoBack 4 = .ok (.getfield 401, 3) := dk_180 1 145 (dk_at dksX0_canGoBack_0 4 rfl rfl)
theorem dX0_canGoBack_7 : decode cX0_canGoBack 7 = .ok (.iload_n 1, 1) := dk_27 (dk_at dksX0_canGoBack_0 7 rfl rfl)
theorem dX0_canGoBack_8 : decode cX0_canGoBack 8 = .ok (.iaload, 1) := dk_46 (dk_at dksX0_canGoBack_0 8 rfl rfl)
theorem dX0_canGoBack_9 : decode cX0_canGoBack 9 = .ok (.bipush 10, 2) := dk_16 10 (dk_at dksX0_canGoBack_0 9 rfl rfl)
theorem dX0_canGoBack_11 : decode cX0_canGoBack 11 = .ok (.idiv, 1) := dk_108 (dk_at dksX0_canGoBack_0 11 rfl rfl)
theorem dX0_canGoBack_12 : decode cX0_canGoBack 12 = .ok (.istore_n 2, 1) := dk_61 (dk_at dksX0_canGoBack_0 12 rfl rfl)
theorem dX0_canGoBack_13 : decode cX0_canGoBack 13 = .ok (.aload_n 0, 1) := dk_42 (dk_at dksX0_canGoBack_0 13 rfl rfl)
theorem dX0_canGoBack_14 : decode cX0_canGoBack 14 = .ok (.getfield 47, 3) := dk_180 0 47 (dk_at dksX0_canGoBack_0 14 rfl rfl)
theorem dX0_canGoBack_17 : decode cX0_canGoBack 17 = .ok (.getfield 401, 3) := dk_180 1 145 (dk_at dksX0_canGoBack_0 17 rfl rfl)
theorem dX0_canGoBack_20 : decode cX0_canGoBack 20 = .ok (.iload_n 1, 1) := dk_27 (dk_at dksX0_canGoBack_0 20 rfl rfl)
theorem dX0_canGoBack_21 : decode cX0_canGoBack 21 = .ok (.iaload, 1) := dk_46 (dk_at dksX0_canGoBack_0 21 rfl rfl)
theorem dX0_canGoBack_22 : decode cX0_canGoBack 22 = .ok (.bipush 10, 2) := dk_16 10 (dk_at dksX0_canGoBack_0 22 rfl rfl)
theorem dX0_canGoBack_24 : decode cX0_canGoBack 24 = .ok (.irem, 1) := dk_112 (dk_at dksX0_canGoBack_1 0 rfl rfl)
theorem dX0_canGoBack_25 : decode cX0_canGoBack 25 = .ok (.istore_n 3, 1) := dk_62 (dk_at dksX0_canGoBack_1 1 rfl rfl)
theorem dX0_canGoBack_26 : decode cX0_canGoBack 26 = .ok (.aload_n 0, 1) := dk_42 (dk_at dksX0_canGoBack_1 2 rfl rfl)
theorem dX0_canGoBack_27 : decode cX0_canGoBack 27 = .ok (.getfield 47, 3) := dk_180 0 47 (dk_at dksX0_canGoBack_1 3 rfl rfl)
theorem dX0_canGoBack_30 : decode cX0_canGoBack 30 = .ok (.getfield 174, 3) := dk_180 0 174 (dk_at dksX0_canGoBack_1 6 rfl rfl)
theorem dX0_canGoBack_33 : decode cX0_canGoBack 33 = .ok (.iload_n 2, 1) := dk_28 (dk_at dksX0_canGoBack_1 9 rfl rfl)
theorem dX0_canGoBack_34 : decode cX0_canGoBack 34 = .ok (.iaload, 1) := dk_46 (dk_at dksX0_canGoBack_1 10 rfl rfl)
theorem dX0_canGoBack_35 : decode cX0_canGoBack 35 = .ok (.aload_n 0, 1) := dk_42 (dk_at dksX0_canGoBack_1 11 rfl rfl)
theorem dX0_canGoBack_36 : decode cX0_canGoBack 36 = .ok (.getfield 47, 3) := dk_180 0 47 (dk_at dksX0_canGoBack_1 12 rfl rfl)
theorem dX0_canGoBack_39 : decode cX0_canGoBack 39 = .ok (.getfield 404, 3) := dk_180 1 148 (dk_at dksX0_canGoBack_1 15 rfl rfl)
theorem dX0_canGoBack_42 : decode cX0_canGoBack 42 = .ok (.iload_n 1, 1) := dk_27 (dk_at dksX0_canGoBack_1 18 rfl rfl)
theorem dX0_canGoBack_43 : decode cX0_canGoBack 43 = .ok (.iaload, 1) := dk_46 (dk_at dksX0_canGoBack_1 19 rfl rfl)
theorem dX0_canGoBack_44 : decode cX0_canGoBack 44 = .ok (.if_icmp .eq 5, 3) := dk_159 0 5 (dk_at dksX0_canGoBack_1 20 rfl rfl)
theorem dX0_canGoBack_47 : decode cX0_canGoBack 47 = .ok (.iconst 0, 1) := dk_3 (dk_at dksX0_canGoBack_1 23 rfl rfl)
theorem dX0_canGoBack_48 : decode cX0_canGoBack 48 = .ok (.ireturn, 1) := dk_172 (dk_at dksX0_canGoBack_2 0 rfl rfl)
theorem dX0_canGoBack_49 : decode cX0_canGoBack 49 = .ok (.iload_n 3, 1) := dk_29 (dk_at dksX0_canGoBack_2 1 rfl rfl)
theorem dX0_canGoBack_50 : decode cX0_canGoBack 50 = .ok (.bipush 9, 2) := dk_16 9 (dk_at dksX0_canGoBack_2 2 rfl rfl)
theorem dX0_canGoBack_52 : decode cX0_canGoBack 52 = .ok (.if_icmp .ne 53, 3) := dk_160 0 53 (dk_at dksX0_canGoBack_2 4 rfl rfl)
theorem dX0_canGoBack_55 : decode cX0_canGoBack 55 = .ok (.aload_n 0, 1) := dk_42 (dk_at dksX0_canGoBack_2 7 rfl rfl)
theorem dX0_canGoBack_56 : decode cX0_canGoBack 56 = .ok (.getfield 47, 3) := dk_180 0 47 (dk_at dksX0_canGoBack_2 8 rfl rfl)
theorem dX0_canGoBack_59 : decode cX0_canGoBack 59 = .ok (.getfield 201, 3) := dk_180 0 201 (dk_at dksX0_canGoBack_2 11 rfl rfl)
theorem dX0_canGoBack_62 : decode cX0_canGoBack 62 = .ok (.aload_n 0, 1) := dk_42 (dk_at dksX0_canGoBack_2 14 rfl rfl)
theorem dX0_canGoBack_63 : decode cX0_canGoBack 63 = .ok (.getfield 47, 3) := dk_180 0 47 (dk_at dksX0_canGoBack_2 15 rfl rfl)
theorem dX0_canGoBack_66 : decode cX0_canGoBack 66 = .ok (.getfield 407, 3) := dk_180 1 151 (dk_at dksX0_canGoBack_2 18 rfl rfl)
theorem dX0_canGoBack_69 : decode cX0_canGoBack 69 = .ok (.iload_n 1, 1) := dk_27 (dk_at dksX0_canGoBack_2 21 rfl rfl)
theorem dX0_canGoBack_70 : decode cX0_canGoBack 70 = .ok (.iaload, 1) := dk_46 (dk_at dksX0_canGoBack_2 22 rfl rfl)
theorem dX0_canGoBack_71 : decode cX0_canGoBack 71 = .ok (.iaload, 1) := dk_46 (dk_at dksX0_canGoBack_2 23 rfl rfl)
theorem dX0_canGoBack_72 : decode cX0_canGoBack 72 = .ok (.ifCond .le 29, 3) := dk_158 0 29 (dk_at dksX0_canGoBack_3 0 rfl rfl)
theorem dX0_canGoBack_75 : decode cX0_canGoBack 75 = .ok (.aload_n 0, 1) := dk_42 (dk_at dksX0_canGoBack_3 3 rfl rfl)
theorem dX0_canGoBack_76 : decode cX0_canGoBack 76 = .ok (.getfield 47, 3) := dk_180 0 47 (dk_at dksX0_canGoBack_3 4 rfl rfl)
theorem dX0_canGoBack_79 : decode cX0_canGoBack 79 = .ok (.getfield 201, 3) := dk_180 0 201 (dk_at dksX0_canGoBack_3 7 rfl rfl)
theorem dX0_canGoBack_82 : decode cX0_canGoBack 82 = .ok (.aload_n 0, 1) := dk_42 (dk_at dksX0_canGoBack_3 10 rfl rfl)
theorem dX0_canGoBack_83 : decode cX0_canGoBack 83 = .ok (.getfield 47, 3) := dk_180 0 47 (dk_at dksX0_canGoBack_3 11 rfl rfl)
theorem dX0_canGoBack_86 : decode cX0_canGoBack 86 = .ok (.getfield 404, 3) := dk_180 1 148 (dk_at dksX0_canGoBack_3 14 rfl rfl)
theorem dX0_canGoBack_89 : decode cX0_canGoBack 89 = .ok (.iload_n 1, 1) := dk_27 (dk_at dksX0_canGoBack_3 17 rfl rfl)
theorem dX0_canGoBack_90 : decode cX0_canGoBack 90 = .ok (.iaload, 1) := dk_46 (dk_at dksX0_canGoBack_3 18 rfl rfl)
theorem dX0_canGoBack_91 : decode cX0_canGoBack 91 = .ok (.iaload, 1) := dk_46 (dk_at dksX0_canGoBack_3 19 rfl rfl)
theorem dX0_canGoBack_92 : decode cX0_canGoBack 92 = .ok (.bipush 99, 2) := dk_16 99 (dk_at dksX0_canGoBack_3 20 rfl rfl)
theorem dX0_canGoBack_94 : decode cX0_canGoBack 94 = .ok (.if_icmp .ge 7, 3) := dk_162 0 7 (dk_at dksX0_canGoBack_4 0 rfl rfl)
theorem dX0_canGoBack_97 : decode cX0_canGoBack 97 = .ok (.iconst 1, 1) := dk_4 (dk_at dksX0_canGoBack_4 3 rfl rfl)
theorem dX0_canGoBack_98 : decode cX0_canGoBack 98 = .ok (.goto 33, 3) := dk_167 0 33 (dk_at dksX0_canGoBack_4 4 rfl rfl)
theorem dX0_canGoBack_101 : decode cX0_canGoBack 101 = .ok (.iconst 0, 1) := dk_3 (dk_at dksX0_canGoBack_4 7 rfl rfl)
theorem dX0_canGoBack_102 : decode cX0_canGoBack 102 = .ok (.goto 29, 3) := dk_167 0 29 (dk_at dksX0_canGoBack_4 8 rfl rfl)
theorem dX0_canGoBack_105 : decode cX0_canGoBack 105 = .ok (.aload_n 0, 1) := dk_42 (dk_at dksX0_canGoBack_4 11 rfl rfl)
theorem dX0_canGoBack_106 : decode cX0_canGoBack 106 = .ok (.getfield 47, 3) := dk_180 0 47 (dk_at dksX0_canGoBack_4 12 rfl rfl)
theorem dX0_canGoBack_109 : decode cX0_canGoBack 109 = .ok (.getfield 174, 3) := dk_180 0 174 (dk_at dksX0_canGoBack_4 15 rfl rfl)
theorem dX0_canGoBack_112 : decode cX0_canGoBack 112 = .ok (.iload_n 3, 1) := dk_29 (dk_at dksX0_canGoBack_4 18 rfl rfl)
theorem dX0_canGoBack_113 : decode cX0_canGoBack 113 = .ok (.iaload, 1) := dk_46 (dk_at dksX0_canGoBack_4 19 rfl rfl)
theorem dX0_canGoBack_114 : decode cX0_canGoBack 114 = .ok (.aload_n 0, 1) := dk_42 (dk_at dksX0_canGoBack_4 20 rfl rfl)
theorem dX0_canGoBack_115 : decode cX0_canGoBack 115 = .ok (.getfield 47, 3) := dk_180 0 47 (dk_at dksX0_canGoBack_4 21 rfl rfl)
theorem dX0_canGoBack_118 : decode cX0_canGoBack 118 = .ok (.getfield 407, 3) := dk_180 1 151 (dk_at dksX0_canGoBack_5 0 rfl rfl)
theorem dX0_canGoBack_121 : decode cX0_canGoBack 121 = .ok (.iload_n 1, 1) := dk_27 (dk_at dksX0_canGoBack_5 3 rfl rfl)
theorem dX0_canGoBack_122 : decode cX0_canGoBack 122 = .ok (.iaload, 1) := dk_46 (dk_at dksX0_canGoBack_5 4 rfl rfl)
theorem dX0_canGoBack_123 : decode cX0_canGoBack 123 = .ok (.if_icmp .ne 7, 3) := dk_160 0 7 (dk_at dksX0_canGoBack_5 5 rfl rfl)
theorem dX0_canGoBack_126 : decode cX0_canGoBack 126 = .ok (.iconst 1, 1) := dk_4 (dk_at dksX0_canGoBack_5 8 rfl rfl)
theorem dX0_canGoBack_127 : decode cX0_canGoBack 127 = .ok (.goto 4, 3) := dk_167 0 4 (dk_at dksX0_canGoBack_5 9 rfl rfl)
theorem dX0_canGoBack_130 : decode cX0_canGoBack 130 = .ok (.iconst 0, 1) := dk_3 (dk_at dksX0_canGoBack_5 12 rfl rfl)
theorem dX0_canGoBack_131 : decode cX0_canGoBack 131 = .ok (.ireturn, 1) := dk_172 (dk_at dksX0_canGoBack_5 13 rfl rfl)
abbrev cX0_carryBack : ByteArray := prog_1_method_49_code
def yX0_carryBack : MethodName := ⟨RX0, "carryBack", "(III)V"⟩
def dkwX0_carryBack_1 : List UInt8 := [21, 4, 28, 29, 116, 182, 1, 123, 167, 0, 14, 42, 180, 0, 47, 21, 4, 21, 5, 182, 1, 127, 177]
abbrev dktX0_carryBack_1 : List UInt8 := dkwX0_carryBack_1 ++ []
def dkwX0_carryBack_0 : List UInt8 := [27, 16, 10, 108, 54, 4, 27, 16, 10, 112, 54, 5, 21, 5, 16, 9, 160, 0, 18, 42, 180, 0, 47]
abbrev dktX0_carryBack_0 : List UInt8 := dkwX0_carryBack_0 ++ dktX0_carryBack_1
theorem dksX0_carryBack_0 : cX0_carryBack.data.toList.drop 0 = dktX0_carryBack_0 := by decide +kernel
theorem dksX0_carryBack_1 : cX0_carryBack.data.toList.drop 23 = dktX0_carryBack_1 := dk_seg dksX0_carryBack_0 23 rfl rfl
theorem dX0_carryBack_0 : decode cX0_carryBack 0 = .ok (.iload_n 1, 1) := dk_27 (dk_at dksX0_carryBack_0 0 rfl rfl)
theorem dX0_carryBack_1 : decode cX0_carryBack 1 = .ok (.bipush 10, 2) := dk_16 10 (dk_at dksX0_carryBack_0 1 rfl rfl)
theorem dX0_carryBack_3 : decode cX0_carryBack 3 = .ok (.idiv, 1) := dk_108 (dk_at dksX0_carryBack_0 3 rfl rfl)
theorem dX0_carryBack_4 : decode cX0_carryBack 4 = .ok (.istore 4, 2) := dk_54 4 (dk_at dksX0_carryBack_0 4 rfl rfl)
theorem dX0_carryBack_6 : decode cX0_carryBack 6 = .ok (.iload_n 1, 1) := dk_27 (dk_at dksX0_carryBack_0 6 rfl rfl)
theorem dX0_carryBack_7 : decode cX0_carryBack 7 = .ok (.bipush 10, 2) := dk_16 10 (dk_at dksX0_carryBack_0 7 rfl rfl)
theorem dX0_carryBack_9 : decode cX0_carryBack 9 = .ok (.irem, 1) := dk_112 (dk_at dksX0_carryBack_0 9 rfl rfl)
theorem dX0_carryBack_10 : decode cX0_carryBack 10 = .ok (.istore 5, 2) := dk_54 5 (dk_at dksX0_carryBack_0 10 rfl rfl)
theorem dX0_carryBack_12 : decode cX0_carryBack 12 = .ok (.iload 5, 2) := dk_21 5 (dk_at dksX0_carryBack_0 12 rfl rfl)
theorem dX0_carryBack_14 : decode cX0_carryBack 14 = .ok (.bipush 9, 2) := dk_16 9 (dk_at dksX0_carryBack_0 14 rfl rfl)
theorem dX0_carryBack_16 : decode cX0_carryBack 16 = .ok (.if_icmp .ne 18, 3) := dk_160 0 18 (dk_at dksX0_carryBack_0 16 rfl rfl)
theorem dX0_carryBack_19 : decode cX0_carryBack 19 = .ok (.aload_n 0, 1) := dk_42 (dk_at dksX0_carryBack_0 19 rfl rfl)
theorem dX0_carryBack_20 : decode cX0_carryBack 20 = .ok (.getfield 47, 3) := dk_180 0 47 (dk_at dksX0_carryBack_0 20 rfl rfl)
theorem dX0_carryBack_23 : decode cX0_carryBack 23 = .ok (.iload 4, 2) := dk_21 4 (dk_at dksX0_carryBack_1 0 rfl rfl)
theorem dX0_carryBack_25 : decode cX0_carryBack 25 = .ok (.iload_n 2, 1) := dk_28 (dk_at dksX0_carryBack_1 2 rfl rfl)
theorem dX0_carryBack_26 : decode cX0_carryBack 26 = .ok (.iload_n 3, 1) := dk_29 (dk_at dksX0_carryBack_1 3 rfl rfl)
theorem dX0_carryBack_27 : decode cX0_carryBack 27 = .ok (.ineg, 1) := dk_116 (dk_at dksX0_carryBack_1 4 rfl rfl)
theorem dX0_carryBack_28 : decode cX0_carryBack 28 = .ok (.invokevirtual 379, 3) := dk_182 1 123 (dk_at dksX0_carryBack_1 5 rfl rfl)
theorem dX0_carryBack_31 : decode cX0_carryBack 31 = .ok (.goto 14, 3) := dk_167 0 14 (dk_at dksX0_carryBack_1 8 rfl rfl)
theorem dX0_carryBack_34 : decode cX0_carryBack 34 = .ok (.aload_n 0, 1) := dk_42 (dk_at dksX0_carryBack_1 11 rfl rfl)
theorem dX0_carryBack_35 : decode cX0_carryBack 35 = .ok (.getfield 47, 3) := dk_180 0 47 (dk_at dksX0_carryBack_1 12 rfl rfl)
theorem dX0_carryBack_38 : decode cX0_carryBack 38 = .ok (.iload 4, 2) := dk_21 4 (dk_at dksX0_carryBack_1 15 rfl rfl)
theorem dX0_carryBack_40 : decode cX0_carryBack 40 = .ok (.iload 5, 2) := dk_21 5 (dk_at dksX0_carryBack_1 17 rfl rfl)
theorem dX0_carryBack_42 : decode cX0_carryBack 42 = .ok (.invokevirtual 383, 3) := dk_182 1 127 (dk_at dksX0_carryBack_1 19 rfl rfl)
theorem dX0_carryBack_45 : decode cX0_carryBack 45 = .ok (.return_, 1) := dk_177 (dk_at dksX0_carryBack_1 22 rfl rfl)
abbrev cX0_fewest : ByteArray := prog_1_method_58_code
def yX0_fewest : MethodName := ⟨RX0, "fewest", "()I"⟩
def dkwX0_fewest_0 : List UInt8 := [42, 16, 6, 182, 1, 167, 172]
abbrev dktX0_fewest_0 : List UInt8 := dkwX0_fewest_0 ++ []
theorem dksX0_fewest_0 : cX0_fewest.data.toList.drop 0 = dktX0_fewest_0 := by decide +kernel
theorem dX0_fewest_0 : decode cX0_fewest 0 = .ok (.aload_n 0, 1) := dk_42 (dk_at dksX0_fewest_0 0 rfl rfl)
theorem dX0_fewest_1 : decode cX0_fewest 1 = .ok (.bipush 6, 2) := dk_16 6 (dk_at dksX0_fewest_0 1 rfl rfl)
theorem dX0_fewest_3 : decode cX0_fewest 3 = .ok (.invokevirtual 423, 3) := dk_182 1 167 (dk_at dksX0_fewest_0 3 rfl rfl)
theorem dX0_fewest_6 : decode cX0_fewest 6 = .ok (.ireturn, 1) := dk_172 (dk_at dksX0_fewest_0 6 rfl rfl)
abbrev cX0_fewestOf : ByteArray := prog_1_method_57_code
def yX0_fewestOf : MethodName := ⟨RX0, "fewestOf", "(I)I"⟩
def dkwX0_fewestOf_1 : List UInt8 := [163, 0, 7, 28, 167, 0, 5, 16, 253, 172]
abbrev dktX0_fewestOf_1 : List UInt8 := dkwX0_fewestOf_1 ++ []
def dkwX0_fewestOf_0 : List UInt8 := [3, 61, 28, 27, 163, 0, 18, 42, 28, 3, 182, 1, 164, 154, 0, 9, 132, 2, 1, 167, 255, 239, 28, 27]
abbrev dktX0_fewestOf_0 : List UInt8 := dkwX0_fewestOf_0 ++ dktX0_fewestOf_1
theorem dksX0_fewestOf_0 : cX0_fewestOf.data.toList.drop 0 = dktX0_fewestOf_0 := by decide +kernel
theorem dksX0_fewestOf_1 : cX0_fewestOf.data.toList.drop 24 = dktX0_fewestOf_1 := dk_seg dksX0_fewestOf_0 24 rfl rfl
theorem dX0_fewestOf_0 : decode cX0_fewestOf 0 = .ok (.iconst 0, 1) := dk_3 (dk_at dksX0_fewestOf_0 0 rfl rfl)
theorem dX0_fewestOf_1 : decode cX0_fewestOf 1 = .ok (.istore_n 2, 1) := dk_61 (dk_at dksX0_fewestOf_0 1 rfl rfl)
theorem dX0_fewestOf_2 : decode cX0_fewestOf 2 = .ok (.iload_n 2, 1) := dk_28 (dk_at dksX0_fewestOf_0 2 rfl rfl)
theorem dX0_fewestOf_3 : decode cX0_fewestOf 3 = .ok (.iload_n 1, 1) := dk_27 (dk_at dksX0_fewestOf_0 3 rfl rfl)
theorem dX0_fewestOf_4 : decode cX0_fewestOf 4 = .ok (.if_icmp .gt 18, 3) := dk_163 0 18 (dk_at dksX0_fewestOf_0 4 rfl rfl)
theorem dX0_fewestOf_7 : decode cX0_fewestOf 7 = .ok (.aload_n 0, 1) := dk_42 (dk_at dksX0_fewestOf_0 7 rfl rfl)
theorem dX0_fewestOf_8 : decode cX0_fewestOf 8 = .ok (.iload_n 2, 1) := dk_28 (dk_at dksX0_fewestOf_0 8 rfl rfl)
theorem dX0_fewestOf_9 : decode cX0_fewestOf 9 = .ok (.iconst 0, 1) := dk_3 (dk_at dksX0_fewestOf_0 9 rfl rfl)
theorem dX0_fewestOf_10 : decode cX0_fewestOf 10 = .ok (.invokevirtual 420, 3) := dk_182 1 164 (dk_at dksX0_fewestOf_0 10 rfl rfl)
theorem dX0_fewestOf_13 : decode cX0_fewestOf 13 = .ok (.ifCond .ne 9, 3) := dk_154 0 9 (dk_at dksX0_fewestOf_0 13 rfl rfl)
theorem dX0_fewestOf_16 : decode cX0_fewestOf 16 = .ok (.iinc 2 1, 3) := dk_132 2 1 (dk_at dksX0_fewestOf_0 16 rfl rfl)
theorem dX0_fewestOf_19 : decode cX0_fewestOf 19 = .ok (.goto (-17), 3) := dk_167 255 239 (dk_at dksX0_fewestOf_0 19 rfl rfl)
theorem dX0_fewestOf_22 : decode cX0_fewestOf 22 = .ok (.iload_n 2, 1) := dk_28 (dk_at dksX0_fewestOf_0 22 rfl rfl)
theorem dX0_fewestOf_23 : decode cX0_fewestOf 23 = .ok (.iload_n 1, 1) := dk_27 (dk_at dksX0_fewestOf_0 23 rfl rfl)
theorem dX0_fewestOf_24 : decode cX0_fewestOf 24 = .ok (.if_icmp .gt 7, 3) := dk_163 0 7 (dk_at dksX0_fewestOf_1 0 rfl rfl)
theorem dX0_fewestOf_27 : decode cX0_fewestOf 27 = .ok (.iload_n 2, 1) := dk_28 (dk_at dksX0_fewestOf_1 3 rfl rfl)
theorem dX0_fewestOf_28 : decode cX0_fewestOf 28 = .ok (.goto 5, 3) := dk_167 0 5 (dk_at dksX0_fewestOf_1 4 rfl rfl)
theorem dX0_fewestOf_31 : decode cX0_fewestOf 31 = .ok (.bipush (-3), 2) := dk_16 253 (dk_at dksX0_fewestOf_1 7 rfl rfl)
theorem dX0_fewestOf_33 : decode cX0_fewestOf 33 = .ok (.ireturn, 1) := dk_172 (dk_at dksX0_fewestOf_1 9 rfl rfl)
abbrev cX0_doneIn : ByteArray := prog_1_method_56_code
def yX0_doneIn : MethodName := ⟨RX0, "doneIn", "(II)Z"⟩
def dkwX0_doneIn_4 : List UInt8 := [153, 0, 5, 4, 172, 42, 29, 182, 1, 130, 62, 167, 255, 173, 3, 172]
abbrev dktX0_doneIn_4 : List UInt8 := dkwX0_doneIn_4 ++ []
def dkwX0_doneIn_3 : List UInt8 := [42, 27, 4, 100, 28, 4, 96, 182, 1, 164, 54, 6, 42, 29, 21, 4, 21, 5, 182, 1, 157, 21, 6]
abbrev dktX0_doneIn_3 : List UInt8 := dkwX0_doneIn_3 ++ dktX0_doneIn_4
def dkwX0_doneIn_2 : List UInt8 := [28, 29, 79, 42, 180, 0, 47, 180, 0, 174, 29, 16, 10, 108, 46, 54, 4, 42, 29, 182, 1, 136, 54, 5]
abbrev dktX0_doneIn_2 : List UInt8 := dkwX0_doneIn_2 ++ dktX0_doneIn_3
def dkwX0_doneIn_1 : List UInt8 := [16, 99, 162, 0, 83, 27, 158, 0, 79, 42, 29, 182, 1, 133, 154, 0, 6, 167, 0, 59, 42, 180, 0, 115]
abbrev dktX0_doneIn_1 : List UInt8 := dkwX0_doneIn_1 ++ dktX0_doneIn_2
def dkwX0_doneIn_0 : List UInt8 := [42, 182, 1, 160, 153, 0, 13, 27, 154, 0, 7, 4, 167, 0, 4, 3, 172, 42, 2, 182, 1, 130, 62, 29]
abbrev dktX0_doneIn_0 : List UInt8 := dkwX0_doneIn_0 ++ dktX0_doneIn_1
theorem dksX0_doneIn_0 : cX0_doneIn.data.toList.drop 0 = dktX0_doneIn_0 := by decide +kernel
theorem dksX0_doneIn_1 : cX0_doneIn.data.toList.drop 24 = dktX0_doneIn_1 := dk_seg dksX0_doneIn_0 24 rfl rfl
theorem dksX0_doneIn_2 : cX0_doneIn.data.toList.drop 48 = dktX0_doneIn_2 := dk_seg dksX0_doneIn_1 24 rfl rfl
theorem dksX0_doneIn_3 : cX0_doneIn.data.toList.drop 72 = dktX0_doneIn_3 := dk_seg dksX0_doneIn_2 24 rfl rfl
theorem dksX0_doneIn_4 : cX0_doneIn.data.toList.drop 95 = dktX0_doneIn_4 := dk_seg dksX0_doneIn_3 23 rfl rfl
theorem dX0_doneIn_0 : decode cX0_doneIn 0 = .ok (.aload_n 0, 1) := dk_42 (dk_at dksX0_doneIn_0 0 rfl rfl)
theorem dX0_doneIn_1 : decode cX0_doneIn 1 = .ok (.invokevirtual 416, 3) := dk_182 1 160 (dk_at dksX0_doneIn_0 1 rfl rfl)
theorem dX0_doneIn_4 : decode cX0_doneIn 4 = .ok (.ifCond .eq 13, 3) := dk_153 0 13 (dk_at dksX0_doneIn_0 4 rfl rfl)
theorem dX0_doneIn_7 : decode cX0_doneIn 7 = .ok (.iload_n 1, 1) := dk_27 (dk_at dksX0_doneIn_0 7 rfl rfl)
theorem dX0_doneIn_8 : decode cX0_doneIn 8 = .ok (.ifCond .ne 7, 3) := dk_154 0 7 (dk_at dksX0_doneIn_0 8 rfl rfl)
theorem dX0_doneIn_11 : decode cX0_doneIn 11 = .ok (.iconst 1, 1) := dk_4 (dk_at dksX0_doneIn_0 11 rfl rfl)
theorem dX0_doneIn_12 : decode cX0_doneIn 12 = .ok (.goto 4, 3) := dk_167 0 4 (dk_at dksX0_doneIn_0 12 rfl rfl)
theorem dX0_doneIn_15 : decode cX0_doneIn 15 = .ok (.iconst 0, 1) := dk_3 (dk_at dksX0_doneIn_0 15 rfl rfl)
theorem dX0_doneIn_16 : decode cX0_doneIn 16 = .ok (.ireturn, 1) := dk_172 (dk_at dksX0_doneIn_0 16 rfl rfl)
theorem dX0_doneIn_17 : decode cX0_doneIn 17 = .ok (.aload_n 0, 1) := dk_42 (dk_at dksX0_doneIn_0 17 rfl rfl)
theorem dX0_doneIn_18 : decode cX0_doneIn 18 = .ok (.iconst (-1), 1) := dk_2 (dk_at dksX0_doneIn_0 18 rfl rfl)
theorem dX0_doneIn_19 : decode cX0_doneIn 19 = .ok (.invokevirtual 386, 3) := dk_182 1 130 (dk_at dksX0_doneIn_0 19 rfl rfl)
theorem dX0_doneIn_22 : decode cX0_doneIn 22 = .ok (.istore_n 3, 1) := dk_62 (dk_at dksX0_doneIn_0 22 rfl rfl)
theorem dX0_doneIn_23 : decode cX0_doneIn 23 = .ok (.iload_n 3, 1) := dk_29 (dk_at dksX0_doneIn_0 23 rfl rfl)
theorem dX0_doneIn_24 : decode cX0_doneIn 24 = .ok (.bipush 99, 2) := dk_16 99 (dk_at dksX0_doneIn_1 0 rfl rfl)
theorem dX0_doneIn_26 : decode cX0_doneIn 26 = .ok (.if_icmp .ge 83, 3) := dk_162 0 83 (dk_at dksX0_doneIn_1 2 rfl rfl)
theorem dX0_doneIn_29 : decode cX0_doneIn 29 = .ok (.iload_n 1, 1) := dk_27 (dk_at dksX0_doneIn_1 5 rfl rfl)
theorem dX0_doneIn_30 : decode cX0_doneIn 30 = .ok (.ifCond .le 79, 3) := dk_158 0 79 (dk_at dksX0_doneIn_1 6 rfl rfl)
theorem dX0_doneIn_33 : decode cX0_doneIn 33 = .ok (.aload_n 0, 1) := dk_42 (dk_at dksX0_doneIn_1 9 rfl rfl)
theorem dX0_doneIn_34 : decode cX0_doneIn 34 = .ok (.iload_n 3, 1) := dk_29 (dk_at dksX0_doneIn_1 10 rfl rfl)
theorem dX0_doneIn_35 : decode cX0_doneIn 35 = .ok (.invokevirtual 389, 3) := dk_182 1 133 (dk_at dksX0_doneIn_1 11 rfl rfl)
theorem dX0_doneIn_38 : decode cX0_doneIn 38 = .ok (.ifCond .ne 6, 3) := dk_154 0 6 (dk_at dksX0_doneIn_1 14 rfl rfl)
theorem dX0_doneIn_41 : decode cX0_doneIn 41 = .ok (.goto 59, 3) := dk_167 0 59 (dk_at dksX0_doneIn_1 17 rfl rfl)
theorem dX0_doneIn_44 : decode cX0_doneIn 44 = .ok (.aload_n 0, 1) := dk_42 (dk_at dksX0_doneIn_1 20 rfl rfl)
theorem dX0_doneIn_45 : decode cX0_doneIn 45 = .ok (.getfield 115, 3) := dk_180 0 115 (dk_at dksX0_doneIn_1 21 rfl rfl)
theorem dX0_doneIn_48 : decode cX0_doneIn 48 = .ok (.iload_n 2, 1) := dk_28 (dk_at dksX0_doneIn_2 0 rfl rfl)
theorem dX0_doneIn_49 : decode cX0_doneIn 49 = .ok (.iload_n 3, 1) := dk_29 (dk_at dksX0_doneIn_2 1 rfl rfl)
theorem dX0_doneIn_50 : decode cX0_doneIn 50 = .ok (.iastore, 1) := dk_79 (dk_at dksX0_doneIn_2 2 rfl rfl)
theorem dX0_doneIn_51 : decode cX0_doneIn 51 = .ok (.aload_n 0, 1) := dk_42 (dk_at dksX0_doneIn_2 3 rfl rfl)
theorem dX0_doneIn_52 : decode cX0_doneIn 52 = .ok (.getfield 47, 3) := dk_180 0 47 (dk_at dksX0_doneIn_2 4 rfl rfl)
theorem dX0_doneIn_55 : decode cX0_doneIn 55 = .ok (.getfield 174, 3) := dk_180 0 174 (dk_at dksX0_doneIn_2 7 rfl rfl)
theorem dX0_doneIn_58 : decode cX0_doneIn 58 = .ok (.iload_n 3, 1) := dk_29 (dk_at dksX0_doneIn_2 10 rfl rfl)
theorem dX0_doneIn_59 : decode cX0_doneIn 59 = .ok (.bipush 10, 2) := dk_16 10 (dk_at dksX0_doneIn_2 11 rfl rfl)
theorem dX0_doneIn_61 : decode cX0_doneIn 61 = .ok (.idiv, 1) := dk_108 (dk_at dksX0_doneIn_2 13 rfl rfl)
theorem dX0_doneIn_62 : decode cX0_doneIn 62 = .ok (.iaload, 1) := dk_46 (dk_at dksX0_doneIn_2 14 rfl rfl)
theorem dX0_doneIn_63 : decode cX0_doneIn 63 = .ok (.istore 4, 2) := dk_54 4 (dk_at dksX0_doneIn_2 15 rfl rfl)
theorem dX0_doneIn_65 : decode cX0_doneIn 65 = .ok (.aload_n 0, 1) := dk_42 (dk_at dksX0_doneIn_2 17 rfl rfl)
theorem dX0_doneIn_66 : decode cX0_doneIn 66 = .ok (.iload_n 3, 1) := dk_29 (dk_at dksX0_doneIn_2 18 rfl rfl)
theorem dX0_doneIn_67 : decode cX0_doneIn 67 = .ok (.invokevirtual 392, 3) := dk_182 1 136 (dk_at dksX0_doneIn_2 19 rfl rfl)
theorem dX0_doneIn_70 : decode cX0_doneIn 70 = .ok (.istore 5, 2) := dk_54 5 (dk_at dksX0_doneIn_2 22 rfl rfl)
theorem dX0_doneIn_72 : decode cX0_doneIn 72 = .ok (.aload_n 0, 1) := dk_42 (dk_at dksX0_doneIn_3 0 rfl rfl)
theorem dX0_doneIn_73 : decode cX0_doneIn 73 = .ok (.iload_n 1, 1) := dk_27 (dk_at dksX0_doneIn_3 1 rfl rfl)
theorem dX0_doneIn_74 : decode cX0_doneIn 74 = .ok (.iconst 1, 1) := dk_4 (dk_at dksX0_doneIn_3 2 rfl rfl)
theorem dX0_doneIn_75 : decode cX0_doneIn 75 = .ok (.isub, 1) := dk_100 (dk_at dksX0_doneIn_3 3 rfl rfl)
theorem dX0_doneIn_76 : decode cX0_doneIn 76 = .ok (.iload_n 2, 1) := dk_28 (dk_at dksX0_doneIn_3 4 rfl rfl)
theorem dX0_doneIn_77 : decode cX0_doneIn 77 = .ok (.iconst 1, 1) := dk_4 (dk_at dksX0_doneIn_3 5 rfl rfl)
theorem dX0_doneIn_78 : decode cX0_doneIn 78 = .ok (.iadd, 1) := dk_96 (dk_at dksX0_doneIn_3 6 rfl rfl)
theorem dX0_doneIn_79 : decode cX0_doneIn 79 = .ok (.invokevirtual 420, 3) := dk_182 1 164 (dk_at dksX0_doneIn_3 7 rfl rfl)
theorem dX0_doneIn_82 : decode cX0_doneIn 82 = .ok (.istore 6, 2) := dk_54 6 (dk_at dksX0_doneIn_3 10 rfl rfl)
theorem dX0_doneIn_84 : decode cX0_doneIn 84 = .ok (.aload_n 0, 1) := dk_42 (dk_at dksX0_doneIn_3 12 rfl rfl)
theorem dX0_doneIn_85 : decode cX0_doneIn 85 = .ok (.iload_n 3, 1) := dk_29 (dk_at dksX0_doneIn_3 13 rfl rfl)
theorem dX0_doneIn_86 : decode cX0_doneIn 86 = .ok (.iload 4, 2) := dk_21 4 (dk_at dksX0_doneIn_3 14 rfl rfl)
theorem dX0_doneIn_88 : decode cX0_doneIn 88 = .ok (.iload 5, 2) := dk_21 5 (dk_at dksX0_doneIn_3 16 rfl rfl)
theorem dX0_doneIn_90 : decode cX0_doneIn 90 = .ok (.invokevirtual 413, 3) := dk_182 1 157 (dk_at dksX0_doneIn_3 18 rfl rfl)
theorem dX0_doneIn_93 : decode cX0_doneIn 93 = .ok (.iload 6, 2) := dk_21 6 (dk_at dksX0_doneIn_3 21 rfl rfl)
theorem dX0_doneIn_95 : decode cX0_doneIn 95 = .ok (.ifCond .eq 5, 3) := dk_153 0 5 (dk_at dksX0_doneIn_4 0 rfl rfl)
theorem dX0_doneIn_98 : decode cX0_doneIn 98 = .ok (.iconst 1, 1) := dk_4 (dk_at dksX0_doneIn_4 3 rfl rfl)
theorem dX0_doneIn_99 : decode cX0_doneIn 99 = .ok (.ireturn, 1) := dk_172 (dk_at dksX0_doneIn_4 4 rfl rfl)
theorem dX0_doneIn_100 : decode cX0_doneIn 100 = .ok (.aload_n 0, 1) := dk_42 (dk_at dksX0_doneIn_4 5 rfl rfl)
theorem dX0_doneIn_101 : decode cX0_doneIn 101 = .ok (.iload_n 3, 1) := dk_29 (dk_at dksX0_doneIn_4 6 rfl rfl)
theorem dX0_doneIn_102 : decode cX0_doneIn 102 = .ok (.invokevirtual 386, 3) := dk_182 1 130 (dk_at dksX0_doneIn_4 7 rfl rfl)
theorem dX0_doneIn_105 : decode cX0_doneIn 105 = .ok (.istore_n 3, 1) := dk_62 (dk_at dksX0_doneIn_4 10 rfl rfl)
theorem dX0_doneIn_106 : decode cX0_doneIn 106 = .ok (.goto (-83), 3) := dk_167 255 173 (dk_at dksX0_doneIn_4 11 rfl rfl)
theorem dX0_doneIn_109 : decode cX0_doneIn 109 = .ok (.iconst 0, 1) := dk_3 (dk_at dksX0_doneIn_4 14 rfl rfl)
theorem dX0_doneIn_110 : decode cX0_doneIn 110 = .ok (.ireturn, 1) := dk_172 (dk_at dksX0_doneIn_4 15 rfl rfl)
abbrev cX0_isDone : ByteArray := prog_1_method_55_code
def yX0_isDone : MethodName := ⟨RX0, "isDone", "()Z"⟩
def dkwX0_isDone_1 : List UInt8 := [100, 160, 0, 7, 4, 167, 0, 4, 3, 172]
abbrev dktX0_isDone_1 : List UInt8 := dkwX0_isDone_1 ++ []
def dkwX0_isDone_0 : List UInt8 := [42, 180, 0, 47, 182, 0, 211, 42, 182, 1, 89, 128, 60, 27, 4, 42, 180, 0, 47, 180, 0, 147, 120, 4]
abbrev dktX0_isDone_0 : List UInt8 := dkwX0_isDone_0 ++ dktX0_isDone_1
theorem dksX0_isDone_0 : cX0_isDone.data.toList.drop 0 = dktX0_isDone_0 := by decide +kernel
theorem dksX0_isDone_1 : cX0_isDone.data.toList.drop 24 = dktX0_isDone_1 := dk_seg dksX0_isDone_0 24 rfl rfl
theorem dX0_isDone_0 : decode cX0_isDone 0 = .ok (.aload_n 0, 1) := dk_42 (dk_at dksX0_isDone_0 0 rfl rfl)
theorem dX0_isDone_1 : decode cX0_isDone 1 = .ok (.getfield 47, 3) := dk_180 0 47 (dk_at dksX0_isDone_0 1 rfl rfl)
theorem dX0_isDone_4 : decode cX0_isDone 4 = .ok (.invokevirtual 211, 3) := dk_182 0 211 (dk_at dksX0_isDone_0 4 rfl rfl)
theorem dX0_isDone_7 : decode cX0_isDone 7 = .ok (.aload_n 0, 1) := dk_42 (dk_at dksX0_isDone_0 7 rfl rfl)
theorem dX0_isDone_8 : decode cX0_isDone 8 = .ok (.invokevirtual 345, 3) := dk_182 1 89 (dk_at dksX0_isDone_0 8 rfl rfl)
theorem dX0_isDone_11 : decode cX0_isDone 11 = .ok (.ior, 1) := dk_128 (dk_at dksX0_isDone_0 11 rfl rfl)
theorem dX0_isDone_12 : decode cX0_isDone 12 = .ok (.istore_n 1, 1) := dk_60 (dk_at dksX0_isDone_0 12 rfl rfl)
theorem dX0_isDone_13 : decode cX0_isDone 13 = .ok (.iload_n 1, 1) := dk_27 (dk_at dksX0_isDone_0 13 rfl rfl)
theorem dX0_isDone_14 : decode cX0_isDone 14 = .ok (.iconst 1, 1) := dk_4 (dk_at dksX0_isDone_0 14 rfl rfl)
theorem dX0_isDone_15 : decode cX0_isDone 15 = .ok (.aload_n 0, 1) := dk_42 (dk_at dksX0_isDone_0 15 rfl rfl)
theorem dX0_isDone_16 : decode cX0_isDone 16 = .ok (.getfield 47, 3) := dk_180 0 47 (dk_at dksX0_isDone_0 16 rfl rfl)
theorem dX0_isDone_19 : decode cX0_isDone 19 = .ok (.getfield 147, 3) := dk_180 0 147 (dk_at dksX0_isDone_0 19 rfl rfl)
theorem dX0_isDone_22 : decode cX0_isDone 22 = .ok (.ishl, 1) := dk_120 (dk_at dksX0_isDone_0 22 rfl rfl)
theorem dX0_isDone_23 : decode cX0_isDone 23 = .ok (.iconst 1, 1) := dk_4 (dk_at dksX0_isDone_0 23 rfl rfl)
theorem dX0_isDone_24 : decode cX0_isDone 24 = .ok (.isub, 1) := dk_100 (dk_at dksX0_isDone_1 0 rfl rfl)
theorem dX0_isDone_25 : decode cX0_isDone 25 = .ok (.if_icmp .ne 7, 3) := dk_160 0 7 (dk_at dksX0_isDone_1 1 rfl rfl)
theorem dX0_isDone_28 : decode cX0_isDone 28 = .ok (.iconst 1, 1) := dk_4 (dk_at dksX0_isDone_1 4 rfl rfl)
theorem dX0_isDone_29 : decode cX0_isDone 29 = .ok (.goto 4, 3) := dk_167 0 4 (dk_at dksX0_isDone_1 5 rfl rfl)
theorem dX0_isDone_32 : decode cX0_isDone 32 = .ok (.iconst 0, 1) := dk_3 (dk_at dksX0_isDone_1 8 rfl rfl)
theorem dX0_isDone_33 : decode cX0_isDone 33 = .ok (.ireturn, 1) := dk_172 (dk_at dksX0_isDone_1 9 rfl rfl)
abbrev cX0_ith : ByteArray := prog_1_method_59_code
def yX0_ith : MethodName := ⟨RX0, "ith", "(I)I"⟩
def dkwX0_ith_1 : List UInt8 := [180, 0, 115, 27, 46, 167, 0, 5, 16, 253, 172]
abbrev dktX0_ith_1 : List UInt8 := dkwX0_ith_1 ++ []
def dkwX0_ith_0 : List UInt8 := [27, 3, 8, 184, 0, 149, 154, 0, 5, 2, 172, 27, 42, 16, 6, 182, 1, 167, 162, 0, 12, 42]
abbrev dktX0_ith_0 : List UInt8 := dkwX0_ith_0 ++ dktX0_ith_1
theorem dksX0_ith_0 : cX0_ith.data.toList.drop 0 = dktX0_ith_0 := by decide +kernel
theorem dksX0_ith_1 : cX0_ith.data.toList.drop 22 = dktX0_ith_1 := dk_seg dksX0_ith_0 22 rfl rfl
theorem dX0_ith_0 : decode cX0_ith 0 = .ok (.iload_n 1, 1) := dk_27 (dk_at dksX0_ith_0 0 rfl rfl)
theorem dX0_ith_1 : decode cX0_ith 1 = .ok (.iconst 0, 1) := dk_3 (dk_at dksX0_ith_0 1 rfl rfl)
theorem dX0_ith_2 : decode cX0_ith 2 = .ok (.iconst 5, 1) := dk_8 (dk_at dksX0_ith_0 2 rfl rfl)
theorem dX0_ith_3 : decode cX0_ith 3 = .ok (.invokestatic 149, 3) := dk_184 0 149 (dk_at dksX0_ith_0 3 rfl rfl)
theorem dX0_ith_6 : decode cX0_ith 6 = .ok (.ifCond .ne 5, 3) := dk_154 0 5 (dk_at dksX0_ith_0 6 rfl rfl)
theorem dX0_ith_9 : decode cX0_ith 9 = .ok (.iconst (-1), 1) := dk_2 (dk_at dksX0_ith_0 9 rfl rfl)
theorem dX0_ith_10 : decode cX0_ith 10 = .ok (.ireturn, 1) := dk_172 (dk_at dksX0_ith_0 10 rfl rfl)
theorem dX0_ith_11 : decode cX0_ith 11 = .ok (.iload_n 1, 1) := dk_27 (dk_at dksX0_ith_0 11 rfl rfl)
theorem dX0_ith_12 : decode cX0_ith 12 = .ok (.aload_n 0, 1) := dk_42 (dk_at dksX0_ith_0 12 rfl rfl)
theorem dX0_ith_13 : decode cX0_ith 13 = .ok (.bipush 6, 2) := dk_16 6 (dk_at dksX0_ith_0 13 rfl rfl)
theorem dX0_ith_15 : decode cX0_ith 15 = .ok (.invokevirtual 423, 3) := dk_182 1 167 (dk_at dksX0_ith_0 15 rfl rfl)
theorem dX0_ith_18 : decode cX0_ith 18 = .ok (.if_icmp .ge 12, 3) := dk_162 0 12 (dk_at dksX0_ith_0 18 rfl rfl)
theorem dX0_ith_21 : decode cX0_ith 21 = .ok (.aload_n 0, 1) := dk_42 (dk_at dksX0_ith_0 21 rfl rfl)
theorem dX0_ith_22 : decode cX0_ith 22 = .ok (.getfield 115, 3) := dk_180 0 115 (dk_at dksX0_ith_1 0 rfl rfl)
theorem dX0_ith_25 : decode cX0_ith 25 = .ok (.iload_n 1, 1) := dk_27 (dk_at dksX0_ith_1 3 rfl rfl)
theorem dX0_ith_26 : decode cX0_ith 26 = .ok (.iaload, 1) := dk_46 (dk_at dksX0_ith_1 4 rfl rfl)
theorem dX0_ith_27 : decode cX0_ith 27 = .ok (.goto 5, 3) := dk_167 0 5 (dk_at dksX0_ith_1 5 rfl rfl)
theorem dX0_ith_30 : decode cX0_ith 30 = .ok (.bipush (-3), 2) := dk_16 253 (dk_at dksX0_ith_1 8 rfl rfl)
theorem dX0_ith_32 : decode cX0_ith 32 = .ok (.ireturn, 1) := dk_172 (dk_at dksX0_ith_1 10 rfl rfl)
abbrev cX0_ways : ByteArray := prog_1_method_62_code
def yX0_ways : MethodName := ⟨RX0, "ways", "(I)I"⟩
def dkwX0_ways_0 : List UInt8 := [27, 3, 16, 6, 184, 0, 149, 154, 0, 5, 2, 172, 42, 27, 182, 1, 185, 42, 180, 1, 173, 172]
abbrev dktX0_ways_0 : List UInt8 := dkwX0_ways_0 ++ []
theorem dksX0_ways_0 : cX0_ways.data.toList.drop 0 = dktX0_ways_0 := by decide +kernel
theorem dX0_ways_0 : decode cX0_ways 0 = .ok (.iload_n 1, 1) := dk_27 (dk_at dksX0_ways_0 0 rfl rfl)
theorem dX0_ways_1 : decode cX0_ways 1 = .ok (.iconst 0, 1) := dk_3 (dk_at dksX0_ways_0 1 rfl rfl)
theorem dX0_ways_2 : decode cX0_ways 2 = .ok (.bipush 6, 2) := dk_16 6 (dk_at dksX0_ways_0 2 rfl rfl)
theorem dX0_ways_4 : decode cX0_ways 4 = .ok (.invokestatic 149, 3) := dk_184 0 149 (dk_at dksX0_ways_0 4 rfl rfl)
theorem dX0_ways_7 : decode cX0_ways 7 = .ok (.ifCond .ne 5, 3) := dk_154 0 5 (dk_at dksX0_ways_0 7 rfl rfl)
theorem dX0_ways_10 : decode cX0_ways 10 = .ok (.iconst (-1), 1) := dk_2 (dk_at dksX0_ways_0 10 rfl rfl)
theorem dX0_ways_11 : decode cX0_ways 11 = .ok (.ireturn, 1) := dk_172 (dk_at dksX0_ways_0 11 rfl rfl)
theorem dX0_ways_12 : decode cX0_ways 12 = .ok (.aload_n 0, 1) := dk_42 (dk_at dksX0_ways_0 12 rfl rfl)
theorem dX0_ways_13 : decode cX0_ways 13 = .ok (.iload_n 1, 1) := dk_27 (dk_at dksX0_ways_0 13 rfl rfl)
theorem dX0_ways_14 : decode cX0_ways 14 = .ok (.invokevirtual 441, 3) := dk_182 1 185 (dk_at dksX0_ways_0 14 rfl rfl)
theorem dX0_ways_17 : decode cX0_ways 17 = .ok (.aload_n 0, 1) := dk_42 (dk_at dksX0_ways_0 17 rfl rfl)
theorem dX0_ways_18 : decode cX0_ways 18 = .ok (.getfield 429, 3) := dk_180 1 173 (dk_at dksX0_ways_0 18 rfl rfl)
theorem dX0_ways_21 : decode cX0_ways 21 = .ok (.ireturn, 1) := dk_172 (dk_at dksX0_ways_0 21 rfl rfl)
abbrev cX0_findRows : ByteArray := prog_1_method_61_code
def yX0_findRows : MethodName := ⟨RX0, "findRows", "(I)V"⟩
def dkwX0_findRows_1 : List UInt8 := [182, 1, 182, 177]
abbrev dktX0_findRows_1 : List UInt8 := dkwX0_findRows_1 ++ []
def dkwX0_findRows_0 : List UInt8 := [42, 3, 181, 1, 173, 42, 3, 181, 1, 170, 42, 2, 181, 1, 176, 42, 3, 181, 1, 179, 42, 27, 3, 3]
abbrev dktX0_findRows_0 : List UInt8 := dkwX0_findRows_0 ++ dktX0_findRows_1
theorem dksX0_findRows_0 : cX0_findRows.data.toList.drop 0 = dktX0_findRows_0 := by decide +kernel
theorem dksX0_findRows_1 : cX0_findRows.data.toList.drop 24 = dktX0_findRows_1 := dk_seg dksX0_findRows_0 24 rfl rfl
theorem dX0_findRows_0 : decode cX0_findRows 0 = .ok (.aload_n 0, 1) := dk_42 (dk_at dksX0_findRows_0 0 rfl rfl)
theorem dX0_findRows_1 : decode cX0_findRows 1 = .ok (.iconst 0, 1) := dk_3 (dk_at dksX0_findRows_0 1 rfl rfl)
theorem dX0_findRows_2 : decode cX0_findRows 2 = .ok (.putfield 429, 3) := dk_181 1 173 (dk_at dksX0_findRows_0 2 rfl rfl)
theorem dX0_findRows_5 : decode cX0_findRows 5 = .ok (.aload_n 0, 1) := dk_42 (dk_at dksX0_findRows_0 5 rfl rfl)
theorem dX0_findRows_6 : decode cX0_findRows 6 = .ok (.iconst 0, 1) := dk_3 (dk_at dksX0_findRows_0 6 rfl rfl)
theorem dX0_findRows_7 : decode cX0_findRows 7 = .ok (.putfield 426, 3) := dk_181 1 170 (dk_at dksX0_findRows_0 7 rfl rfl)
theorem dX0_findRows_10 : decode cX0_findRows 10 = .ok (.aload_n 0, 1) := dk_42 (dk_at dksX0_findRows_0 10 rfl rfl)
theorem dX0_findRows_11 : decode cX0_findRows 11 = .ok (.iconst (-1), 1) := dk_2 (dk_at dksX0_findRows_0 11 rfl rfl)
theorem dX0_findRows_12 : decode cX0_findRows 12 = .ok (.putfield 432, 3) := dk_181 1 176 (dk_at dksX0_findRows_0 12 rfl rfl)
theorem dX0_findRows_15 : decode cX0_findRows 15 = .ok (.aload_n 0, 1) := dk_42 (dk_at dksX0_findRows_0 15 rfl rfl)
theorem dX0_findRows_16 : decode cX0_findRows 16 = .ok (.iconst 0, 1) := dk_3 (dk_at dksX0_findRows_0 16 rfl rfl)
theorem dX0_findRows_17 : decode cX0_findRows 17 = .ok (.putfield 435, 3) := dk_181 1 179 (dk_at dksX0_findRows_0 17 rfl rfl)
theorem dX0_findRows_20 : decode cX0_findRows 20 = .ok (.aload_n 0, 1) := dk_42 (dk_at dksX0_findRows_0 20 rfl rfl)
theorem dX0_findRows_21 : decode cX0_findRows 21 = .ok (.iload_n 1, 1) := dk_27 (dk_at dksX0_findRows_0 21 rfl rfl)
theorem dX0_findRows_22 : decode cX0_findRows 22 = .ok (.iconst 0, 1) := dk_3 (dk_at dksX0_findRows_0 22 rfl rfl)
theorem dX0_findRows_23 : decode cX0_findRows 23 = .ok (.iconst 0, 1) := dk_3 (dk_at dksX0_findRows_0 23 rfl rfl)
theorem dX0_findRows_24 : decode cX0_findRows 24 = .ok (.invokevirtual 438, 3) := dk_182 1 182 (dk_at dksX0_findRows_1 0 rfl rfl)
theorem dX0_findRows_27 : decode cX0_findRows 27 = .ok (.return_, 1) := dk_177 (dk_at dksX0_findRows_1 3 rfl rfl)
abbrev cX0_rowsFrom : ByteArray := prog_1_method_60_code
def yX0_rowsFrom : MethodName := ⟨RX0, "rowsFrom", "(III)V"⟩
def dkwX0_rowsFrom_7 : List UInt8 := [21, 4, 182, 1, 130, 54, 4, 167, 255, 170, 177]
abbrev dktX0_rowsFrom_7 : List UInt8 := dkwX0_rowsFrom_7 ++ []
def dkwX0_rowsFrom_6 : List UInt8 := [4, 100, 28, 4, 96, 29, 21, 6, 96, 182, 1, 182, 42, 21, 4, 21, 5, 21, 6, 182, 1, 157, 42]
abbrev dktX0_rowsFrom_6 : List UInt8 := dkwX0_rowsFrom_6 ++ dktX0_rowsFrom_7
def dkwX0_rowsFrom_5 : List UInt8 := [180, 0, 47, 180, 0, 174, 21, 4, 16, 10, 108, 46, 54, 5, 42, 21, 4, 182, 1, 136, 54, 6, 42, 27]
abbrev dktX0_rowsFrom_5 : List UInt8 := dkwX0_rowsFrom_5 ++ dktX0_rowsFrom_6
def dkwX0_rowsFrom_4 : List UInt8 := [158, 0, 81, 42, 21, 4, 182, 1, 133, 154, 0, 6, 167, 0, 58, 42, 180, 0, 115, 28, 21, 4, 79, 42]
abbrev dktX0_rowsFrom_4 : List UInt8 := dkwX0_rowsFrom_4 ++ dktX0_rowsFrom_5
def dkwX0_rowsFrom_3 : List UInt8 := [180, 0, 118, 3, 28, 184, 1, 72, 177, 42, 2, 182, 1, 130, 54, 4, 21, 4, 16, 99, 162, 0, 85, 27]
abbrev dktX0_rowsFrom_3 : List UInt8 := dkwX0_rowsFrom_3 ++ dktX0_rowsFrom_4
def dkwX0_rowsFrom_2 : List UInt8 := [42, 180, 1, 176, 161, 0, 4, 177, 42, 29, 181, 1, 176, 42, 28, 181, 1, 179, 42, 180, 0, 115, 3, 42]
abbrev dktX0_rowsFrom_2 : List UInt8 := dkwX0_rowsFrom_2 ++ dktX0_rowsFrom_3
def dkwX0_rowsFrom_1 : List UInt8 := [182, 1, 160, 153, 0, 54, 42, 89, 180, 1, 173, 4, 96, 181, 1, 173, 42, 180, 1, 176, 155, 0, 12, 29]
abbrev dktX0_rowsFrom_1 : List UInt8 := dkwX0_rowsFrom_1 ++ dktX0_rowsFrom_2
def dkwX0_rowsFrom_0 : List UInt8 := [42, 42, 180, 1, 170, 42, 180, 0, 47, 182, 0, 211, 184, 1, 92, 184, 1, 97, 181, 1, 170, 42]
abbrev dktX0_rowsFrom_0 : List UInt8 := dkwX0_rowsFrom_0 ++ dktX0_rowsFrom_1
theorem dksX0_rowsFrom_0 : cX0_rowsFrom.data.toList.drop 0 = dktX0_rowsFrom_0 := by decide +kernel
theorem dksX0_rowsFrom_1 : cX0_rowsFrom.data.toList.drop 22 = dktX0_rowsFrom_1 := dk_seg dksX0_rowsFrom_0 22 rfl rfl
theorem dksX0_rowsFrom_2 : cX0_rowsFrom.data.toList.drop 46 = dktX0_rowsFrom_2 := dk_seg dksX0_rowsFrom_1 24 rfl rfl
theorem dksX0_rowsFrom_3 : cX0_rowsFrom.data.toList.drop 70 = dktX0_rowsFrom_3 := dk_seg dksX0_rowsFrom_2 24 rfl rfl
theorem dksX0_rowsFrom_4 : cX0_rowsFrom.data.toList.drop 94 = dktX0_rowsFrom_4 := dk_seg dksX0_rowsFrom_3 24 rfl rfl
theorem dksX0_rowsFrom_5 : cX0_rowsFrom.data.toList.drop 118 = dktX0_rowsFrom_5 := dk_seg dksX0_rowsFrom_4 24 rfl rfl
theorem dksX0_rowsFrom_6 : cX0_rowsFrom.data.toList.drop 142 = dktX0_rowsFrom_6 := dk_seg dksX0_rowsFrom_5 24 rfl rfl
theorem dksX0_rowsFrom_7 : cX0_rowsFrom.data.toList.drop 165 = dktX0_rowsFrom_7 := dk_seg dksX0_rowsFrom_6 23 rfl rfl
theorem dX0_rowsFrom_0 : decode cX0_rowsFrom 0 = .ok (.aload_n 0, 1) := dk_42 (dk_at dksX0_rowsFrom_0 0 rfl rfl)
theorem dX0_rowsFrom_1 : decode cX0_rowsFrom 1 = .ok (.aload_n 0, 1) := dk_42 (dk_at dksX0_rowsFrom_0 1 rfl rfl)
theorem dX0_rowsFrom_2 : decode cX0_rowsFrom 2 = .ok (.getfield 426, 3) := dk_180 1 170 (dk_at dksX0_rowsFrom_0 2 rfl rfl)
theorem dX0_rowsFrom_5 : decode cX0_rowsFrom 5 = .ok (.aload_n 0, 1) := dk_42 (dk_at dksX0_rowsFrom_0 5 rfl rfl)
theorem dX0_rowsFrom_6 : decode cX0_rowsFrom 6 = .ok (.getfield 47, 3) := dk_180 0 47 (dk_at dksX0_rowsFrom_0 6 rfl rfl)
theorem dX0_rowsFrom_9 : decode cX0_rowsFrom 9 = .ok (.invokevirtual 211, 3) := dk_182 0 211 (dk_at dksX0_rowsFrom_0 9 rfl rfl)
theorem dX0_rowsFrom_12 : decode cX0_rowsFrom 12 = .ok (.invokestatic 348, 3) := dk_184 1 92 (dk_at dksX0_rowsFrom_0 12 rfl rfl)
theorem dX0_rowsFrom_15 : decode cX0_rowsFrom 15 = .ok (.invokestatic 353, 3) := dk_184 1 97 (dk_at dksX0_rowsFrom_0 15 rfl rfl)
theorem dX0_rowsFrom_18 : decode cX0_rowsFrom 18 = .ok (.putfield 426, 3) := dk_181 1 170 (dk_at dksX0_rowsFrom_0 18 rfl rfl)
theorem dX0_rowsFrom_21 : decode cX0_rowsFrom 21 = .ok (.aload_n 0, 1) := dk_42 (dk_at dksX0_rowsFrom_0 21 rfl rfl)
theorem dX0_rowsFrom_22 : decode cX0_rowsFrom 22 = .ok (.invokevirtual 416, 3) := dk_182 1 160 (dk_at dksX0_rowsFrom_1 0 rfl rfl)
theorem dX0_rowsFrom_25 : decode cX0_rowsFrom 25 = .ok (.ifCond .eq 54, 3) := dk_153 0 54 (dk_at dksX0_rowsFrom_1 3 rfl rfl)
theorem dX0_rowsFrom_28 : decode cX0_rowsFrom 28 = .ok (.aload_n 0, 1) := dk_42 (dk_at dksX0_rowsFrom_1 6 rfl rfl)
theorem dX0_rowsFrom_29 : decode cX0_rowsFrom 29 = .ok (.dup, 1) := dk_89 (dk_at dksX0_rowsFrom_1 7 rfl rfl)
theorem dX0_rowsFrom_30 : decode cX0_rowsFrom 30 = .ok (.getfield 429, 3) := dk_180 1 173 (dk_at dksX0_rowsFrom_1 8 rfl rfl)
theorem dX0_rowsFrom_33 : decode cX0_rowsFrom 33 = .ok (.iconst 1, 1) := dk_4 (dk_at dksX0_rowsFrom_1 11 rfl rfl)
theorem dX0_rowsFrom_34 : decode cX0_rowsFrom 34 = .ok (.iadd, 1) := dk_96 (dk_at dksX0_rowsFrom_1 12 rfl rfl)
theorem dX0_rowsFrom_35 : decode cX0_rowsFrom 35 = .ok (.putfield 429, 3) := dk_181 1 173 (dk_at dksX0_rowsFrom_1 13 rfl rfl)
theorem dX0_rowsFrom_38 : decode cX0_rowsFrom 38 = .ok (.aload_n 0, 1) := dk_42 (dk_at dksX0_rowsFrom_1 16 rfl rfl)
theorem dX0_rowsFrom_39 : decode cX0_rowsFrom 39 = .ok (.getfield 432, 3) := dk_180 1 176 (dk_at dksX0_rowsFrom_1 17 rfl rfl)
theorem dX0_rowsFrom_42 : decode cX0_rowsFrom 42 = .ok (.ifCond .lt 12, 3) := dk_155 0 12 (dk_at dksX0_rowsFrom_1 20 rfl rfl)
theorem dX0_rowsFrom_45 : decode cX0_rowsFrom 45 = .ok (.iload_n 3, 1) := dk_29 (dk_at dksX0_rowsFrom_1 23 rfl rfl)
theorem dX0_rowsFrom_46 : decode cX0_rowsFrom 46 = .ok (.aload_n 0, 1) := dk_42 (dk_at dksX0_rowsFrom_2 0 rfl rfl)
theorem dX0_rowsFrom_47 : decode cX0_rowsFrom 47 = .ok (.getfield 432, 3) := dk_180 1 176 (dk_at dksX0_rowsFrom_2 1 rfl rfl)
theorem dX0_rowsFrom_50 : decode cX0_rowsFrom 50 = .ok (.if_icmp .lt 4, 3) := dk_161 0 4 (dk_at dksX0_rowsFrom_2 4 rfl rfl)
theorem dX0_rowsFrom_53 : decode cX0_rowsFrom 53 = .ok (.return_, 1) := dk_177 (dk_at dksX0_rowsFrom_2 7 rfl rfl)
theorem dX0_rowsFrom_54 : decode cX0_rowsFrom 54 = .ok (.aload_n 0, 1) := dk_42 (dk_at dksX0_rowsFrom_2 8 rfl rfl)
theorem dX0_rowsFrom_55 : decode cX0_rowsFrom 55 = .ok (.iload_n 3, 1) := dk_29 (dk_at dksX0_rowsFrom_2 9 rfl rfl)
theorem dX0_rowsFrom_56 : decode cX0_rowsFrom 56 = .ok (.putfield 432, 3) := dk_181 1 176 (dk_at dksX0_rowsFrom_2 10 rfl rfl)
theorem dX0_rowsFrom_59 : decode cX0_rowsFrom 59 = .ok (.aload_n 0, 1) := dk_42 (dk_at dksX0_rowsFrom_2 13 rfl rfl)
theorem dX0_rowsFrom_60 : decode cX0_rowsFrom 60 = .ok (.iload_n 2, 1) := dk_28 (dk_at dksX0_rowsFrom_2 14 rfl rfl)
theorem dX0_rowsFrom_61 : decode cX0_rowsFrom 61 = .ok (.putfield 435, 3) := dk_181 1 179 (dk_at dksX0_rowsFrom_2 15 rfl rfl)
theorem dX0_rowsFrom_64 : decode cX0_rowsFrom 64 = .ok (.aload_n 0, 1) := dk_42 (dk_at dksX0_rowsFrom_2 18 rfl rfl)
theorem dX0_rowsFrom_65 : decode cX0_rowsFrom 65 = .ok (.getfield 115, 3) := dk_180 0 115 (dk_at dksX0_rowsFrom_2 19 rfl rfl)
theorem dX0_rowsFrom_68 : decode cX0_rowsFrom 68 = .ok (.iconst 0, 1) := dk_3 (dk_at dksX0_rowsFrom_2 22 rfl rfl)
theorem dX0_rowsFrom_69 : decode cX0_rowsFrom 69 = .ok (.aload_n 0, 1) := dk_42 (dk_at dksX0_rowsFrom_2 23 rfl rfl)
theorem dX0_rowsFrom_70 : decode cX0_rowsFrom 70 = .ok (.getfield 118, 3) := dk_180 0 118 (dk_at dksX0_rowsFrom_3 0 rfl rfl)
theorem dX0_rowsFrom_73 : decode cX0_rowsFrom 73 = .ok (.iconst 0, 1) := dk_3 (dk_at dksX0_rowsFrom_3 3 rfl rfl)
theorem dX0_rowsFrom_74 : decode cX0_rowsFrom 74 = .ok (.iload_n 2, 1) := dk_28 (dk_at dksX0_rowsFrom_3 4 rfl rfl)
theorem dX0_rowsFrom_75 : decode cX0_rowsFrom 75 = .ok (.invokestatic 328, 3) := dk_184 1 72 (dk_at dksX0_rowsFrom_3 5 rfl rfl)
theorem dX0_rowsFrom_78 : decode cX0_rowsFrom 78 = .ok (.return_, 1) := dk_177 (dk_at dksX0_rowsFrom_3 8 rfl rfl)
theorem dX0_rowsFrom_79 : decode cX0_rowsFrom 79 = .ok (.aload_n 0, 1) := dk_42 (dk_at dksX0_rowsFrom_3 9 rfl rfl)
theorem dX0_rowsFrom_80 : decode cX0_rowsFrom 80 = .ok (.iconst (-1), 1) := dk_2 (dk_at dksX0_rowsFrom_3 10 rfl rfl)
theorem dX0_rowsFrom_81 : decode cX0_rowsFrom 81 = .ok (.invokevirtual 386, 3) := dk_182 1 130 (dk_at dksX0_rowsFrom_3 11 rfl rfl)
theorem dX0_rowsFrom_84 : decode cX0_rowsFrom 84 = .ok (.istore 4, 2) := dk_54 4 (dk_at dksX0_rowsFrom_3 14 rfl rfl)
theorem dX0_rowsFrom_86 : decode cX0_rowsFrom 86 = .ok (.iload 4, 2) := dk_21 4 (dk_at dksX0_rowsFrom_3 16 rfl rfl)
theorem dX0_rowsFrom_88 : decode cX0_rowsFrom 88 = .ok (.bipush 99, 2) := dk_16 99 (dk_at dksX0_rowsFrom_3 18 rfl rfl)
theorem dX0_rowsFrom_90 : decode cX0_rowsFrom 90 = .ok (.if_icmp .ge 85, 3) := dk_162 0 85 (dk_at dksX0_rowsFrom_3 20 rfl rfl)
theorem dX0_rowsFrom_93 : decode cX0_rowsFrom 93 = .ok (.iload_n 1, 1) := dk_27 (dk_at dksX0_rowsFrom_3 23 rfl rfl)
theorem dX0_rowsFrom_94 : decode cX0_rowsFrom 94 = .ok (.ifCond .le 81, 3) := dk_158 0 81 (dk_at dksX0_rowsFrom_4 0 rfl rfl)
theorem dX0_rowsFrom_97 : decode cX0_rowsFrom 97 = .ok (.aload_n 0, 1) := dk_42 (dk_at dksX0_rowsFrom_4 3 rfl rfl)
theorem dX0_rowsFrom_98 : decode cX0_rowsFrom 98 = .ok (.iload 4, 2) := dk_21 4 (dk_at dksX0_rowsFrom_4 4 rfl rfl)
theorem dX0_rowsFrom_100 : decode cX0_rowsFrom 100 = .ok (.invokevirtual 389, 3) := dk_182 1 133 (dk_at dksX0_rowsFrom_4 6 rfl rfl)
theorem dX0_rowsFrom_103 : decode cX0_rowsFrom 103 = .ok (.ifCond .ne 6, 3) := dk_154 0 6 (dk_at dksX0_rowsFrom_4 9 rfl rfl)
theorem dX0_rowsFrom_106 : decode cX0_rowsFrom 106 = .ok (.goto 58, 3) := dk_167 0 58 (dk_at dksX0_rowsFrom_4 12 rfl rfl)
theorem dX0_rowsFrom_109 : decode cX0_rowsFrom 109 = .ok (.aload_n 0, 1) := dk_42 (dk_at dksX0_rowsFrom_4 15 rfl rfl)
theorem dX0_rowsFrom_110 : decode cX0_rowsFrom 110 = .ok (.getfield 115, 3) := dk_180 0 115 (dk_at dksX0_rowsFrom_4 16 rfl rfl)
theorem dX0_rowsFrom_113 : decode cX0_rowsFrom 113 = .ok (.iload_n 2, 1) := dk_28 (dk_at dksX0_rowsFrom_4 19 rfl rfl)
theorem dX0_rowsFrom_114 : decode cX0_rowsFrom 114 = .ok (.iload 4, 2) := dk_21 4 (dk_at dksX0_rowsFrom_4 20 rfl rfl)
theorem dX0_rowsFrom_116 : decode cX0_rowsFrom 116 = .ok (.iastore, 1) := dk_79 (dk_at dksX0_rowsFrom_4 22 rfl rfl)
theorem dX0_rowsFrom_117 : decode cX0_rowsFrom 117 = .ok (.aload_n 0, 1) := dk_42 (dk_at dksX0_rowsFrom_4 23 rfl rfl)
theorem dX0_rowsFrom_118 : decode cX0_rowsFrom 118 = .ok (.getfield 47, 3) := dk_180 0 47 (dk_at dksX0_rowsFrom_5 0 rfl rfl)
theorem dX0_rowsFrom_121 : decode cX0_rowsFrom 121 = .ok (.getfield 174, 3) := dk_180 0 174 (dk_at dksX0_rowsFrom_5 3 rfl rfl)
theorem dX0_rowsFrom_124 : decode cX0_rowsFrom 124 = .ok (.iload 4, 2) := dk_21 4 (dk_at dksX0_rowsFrom_5 6 rfl rfl)
theorem dX0_rowsFrom_126 : decode cX0_rowsFrom 126 = .ok (.bipush 10, 2) := dk_16 10 (dk_at dksX0_rowsFrom_5 8 rfl rfl)
theorem dX0_rowsFrom_128 : decode cX0_rowsFrom 128 = .ok (.idiv, 1) := dk_108 (dk_at dksX0_rowsFrom_5 10 rfl rfl)
theorem dX0_rowsFrom_129 : decode cX0_rowsFrom 129 = .ok (.iaload, 1) := dk_46 (dk_at dksX0_rowsFrom_5 11 rfl rfl)
theorem dX0_rowsFrom_130 : decode cX0_rowsFrom 130 = .ok (.istore 5, 2) := dk_54 5 (dk_at dksX0_rowsFrom_5 12 rfl rfl)
theorem dX0_rowsFrom_132 : decode cX0_rowsFrom 132 = .ok (.aload_n 0, 1) := dk_42 (dk_at dksX0_rowsFrom_5 14 rfl rfl)
theorem dX0_rowsFrom_133 : decode cX0_rowsFrom 133 = .ok (.iload 4, 2) := dk_21 4 (dk_at dksX0_rowsFrom_5 15 rfl rfl)
theorem dX0_rowsFrom_135 : decode cX0_rowsFrom 135 = .ok (.invokevirtual 392, 3) := dk_182 1 136 (dk_at dksX0_rowsFrom_5 17 rfl rfl)
theorem dX0_rowsFrom_138 : decode cX0_rowsFrom 138 = .ok (.istore 6, 2) := dk_54 6 (dk_at dksX0_rowsFrom_5 20 rfl rfl)
theorem dX0_rowsFrom_140 : decode cX0_rowsFrom 140 = .ok (.aload_n 0, 1) := dk_42 (dk_at dksX0_rowsFrom_5 22 rfl rfl)
theorem dX0_rowsFrom_141 : decode cX0_rowsFrom 141 = .ok (.iload_n 1, 1) := dk_27 (dk_at dksX0_rowsFrom_5 23 rfl rfl)
theorem dX0_rowsFrom_142 : decode cX0_rowsFrom 142 = .ok (.iconst 1, 1) := dk_4 (dk_at dksX0_rowsFrom_6 0 rfl rfl)
theorem dX0_rowsFrom_143 : decode cX0_rowsFrom 143 = .ok (.isub, 1) := dk_100 (dk_at dksX0_rowsFrom_6 1 rfl rfl)
theorem dX0_rowsFrom_144 : decode cX0_rowsFrom 144 = .ok (.iload_n 2, 1) := dk_28 (dk_at dksX0_rowsFrom_6 2 rfl rfl)
theorem dX0_rowsFrom_145 : decode cX0_rowsFrom 145 = .ok (.iconst 1, 1) := dk_4 (dk_at dksX0_rowsFrom_6 3 rfl rfl)
theorem dX0_rowsFrom_146 : decode cX0_rowsFrom 146 = .ok (.iadd, 1) := dk_96 (dk_at dksX0_rowsFrom_6 4 rfl rfl)
theorem dX0_rowsFrom_147 : decode cX0_rowsFrom 147 = .ok (.iload_n 3, 1) := dk_29 (dk_at dksX0_rowsFrom_6 5 rfl rfl)
theorem dX0_rowsFrom_148 : decode cX0_rowsFrom 148 = .ok (.iload 6, 2) := dk_21 6 (dk_at dksX0_rowsFrom_6 6 rfl rfl)
theorem dX0_rowsFrom_150 : decode cX0_rowsFrom 150 = .ok (.iadd, 1) := dk_96 (dk_at dksX0_rowsFrom_6 8 rfl rfl)
theorem dX0_rowsFrom_151 : decode cX0_rowsFrom 151 = .ok (.invokevirtual 438, 3) := dk_182 1 182 (dk_at dksX0_rowsFrom_6 9 rfl rfl)
theorem dX0_rowsFrom_154 : decode cX0_rowsFrom 154 = .ok (.aload_n 0, 1) := dk_42 (dk_at dksX0_rowsFrom_6 12 rfl rfl)
theorem dX0_rowsFrom_155 : decode cX0_rowsFrom 155 = .ok (.iload 4, 2) := dk_21 4 (dk_at dksX0_rowsFrom_6 13 rfl rfl)
theorem dX0_rowsFrom_157 : decode cX0_rowsFrom 157 = .ok (.iload 5, 2) := dk_21 5 (dk_at dksX0_rowsFrom_6 15 rfl rfl)
theorem dX0_rowsFrom_159 : decode cX0_rowsFrom 159 = .ok (.iload 6, 2) := dk_21 6 (dk_at dksX0_rowsFrom_6 17 rfl rfl)
theorem dX0_rowsFrom_161 : decode cX0_rowsFrom 161 = .ok (.invokevirtual 413, 3) := dk_182 1 157 (dk_at dksX0_rowsFrom_6 19 rfl rfl)
theorem dX0_rowsFrom_164 : decode cX0_rowsFrom 164 = .ok (.aload_n 0, 1) := dk_42 (dk_at dksX0_rowsFrom_6 22 rfl rfl)
theorem dX0_rowsFrom_165 : decode cX0_rowsFrom 165 = .ok (.iload 4, 2) := dk_21 4 (dk_at dksX0_rowsFrom_7 0 rfl rfl)
theorem dX0_rowsFrom_167 : decode cX0_rowsFrom 167 = .ok (.invokevirtual 386, 3) := dk_182 1 130 (dk_at dksX0_rowsFrom_7 2 rfl rfl)
theorem dX0_rowsFrom_170 : decode cX0_rowsFrom 170 = .ok (.istore 4, 2) := dk_54 4 (dk_at dksX0_rowsFrom_7 5 rfl rfl)
theorem dX0_rowsFrom_172 : decode cX0_rowsFrom 172 = .ok (.goto (-86), 3) := dk_167 255 170 (dk_at dksX0_rowsFrom_7 7 rfl rfl)
theorem dX0_rowsFrom_175 : decode cX0_rowsFrom 175 = .ok (.return_, 1) := dk_177 (dk_at dksX0_rowsFrom_7 10 rfl rfl)
abbrev cX0_most : ByteArray := prog_1_method_63_code
def yX0_most : MethodName := ⟨RX0, "most", "(I)I"⟩
def dkwX0_most_0 : List UInt8 := [27, 3, 16, 6, 184, 0, 149, 154, 0, 5, 2, 172, 42, 27, 182, 1, 185, 42, 180, 1, 170, 172]
abbrev dktX0_most_0 : List UInt8 := dkwX0_most_0 ++ []
theorem dksX0_most_0 : cX0_most.data.toList.drop 0 = dktX0_most_0 := by decide +kernel
theorem dX0_most_0 : decode cX0_most 0 = .ok (.iload_n 1, 1) := dk_27 (dk_at dksX0_most_0 0 rfl rfl)
theorem dX0_most_1 : decode cX0_most 1 = .ok (.iconst 0, 1) := dk_3 (dk_at dksX0_most_0 1 rfl rfl)
theorem dX0_most_2 : decode cX0_most 2 = .ok (.bipush 6, 2) := dk_16 6 (dk_at dksX0_most_0 2 rfl rfl)
theorem dX0_most_4 : decode cX0_most 4 = .ok (.invokestatic 149, 3) := dk_184 0 149 (dk_at dksX0_most_0 4 rfl rfl)
theorem dX0_most_7 : decode cX0_most 7 = .ok (.ifCond .ne 5, 3) := dk_154 0 5 (dk_at dksX0_most_0 7 rfl rfl)
theorem dX0_most_10 : decode cX0_most 10 = .ok (.iconst (-1), 1) := dk_2 (dk_at dksX0_most_0 10 rfl rfl)
theorem dX0_most_11 : decode cX0_most 11 = .ok (.ireturn, 1) := dk_172 (dk_at dksX0_most_0 11 rfl rfl)
theorem dX0_most_12 : decode cX0_most 12 = .ok (.aload_n 0, 1) := dk_42 (dk_at dksX0_most_0 12 rfl rfl)
theorem dX0_most_13 : decode cX0_most 13 = .ok (.iload_n 1, 1) := dk_27 (dk_at dksX0_most_0 13 rfl rfl)
theorem dX0_most_14 : decode cX0_most 14 = .ok (.invokevirtual 441, 3) := dk_182 1 185 (dk_at dksX0_most_0 14 rfl rfl)
theorem dX0_most_17 : decode cX0_most 17 = .ok (.aload_n 0, 1) := dk_42 (dk_at dksX0_most_0 17 rfl rfl)
theorem dX0_most_18 : decode cX0_most 18 = .ok (.getfield 426, 3) := dk_180 1 170 (dk_at dksX0_most_0 18 rfl rfl)
theorem dX0_most_21 : decode cX0_most 21 = .ok (.ireturn, 1) := dk_172 (dk_at dksX0_most_0 21 rfl rfl)
abbrev cX0_cheapest : ByteArray := prog_1_method_64_code
def yX0_cheapest : MethodName := ⟨RX0, "cheapest", "(I)I"⟩
def dkwX0_cheapest_1 : List UInt8 := [16, 253, 167, 0, 7, 42, 180, 1, 176, 172]
abbrev dktX0_cheapest_1 : List UInt8 := dkwX0_cheapest_1 ++ []
def dkwX0_cheapest_0 : List UInt8 := [27, 3, 16, 6, 184, 0, 149, 154, 0, 5, 2, 172, 42, 27, 182, 1, 185, 42, 180, 1, 176, 156, 0, 8]
abbrev dktX0_cheapest_0 : List UInt8 := dkwX0_cheapest_0 ++ dktX0_cheapest_1
theorem dksX0_cheapest_0 : cX0_cheapest.data.toList.drop 0 = dktX0_cheapest_0 := by decide +kernel
theorem dksX0_cheapest_1 : cX0_cheapest.data.toList.drop 24 = dktX0_cheapest_1 := dk_seg dksX0_cheapest_0 24 rfl rfl
theorem dX0_cheapest_0 : decode cX0_cheapest 0 = .ok (.iload_n 1, 1) := dk_27 (dk_at dksX0_cheapest_0 0 rfl rfl)
theorem dX0_cheapest_1 : decode cX0_cheapest 1 = .ok (.iconst 0, 1) := dk_3 (dk_at dksX0_cheapest_0 1 rfl rfl)
theorem dX0_cheapest_2 : decode cX0_cheapest 2 = .ok (.bipush 6, 2) := dk_16 6 (dk_at dksX0_cheapest_0 2 rfl rfl)
theorem dX0_cheapest_4 : decode cX0_cheapest 4 = .ok (.invokestatic 149, 3) := dk_184 0 149 (dk_at dksX0_cheapest_0 4 rfl rfl)
theorem dX0_cheapest_7 : decode cX0_cheapest 7 = .ok (.ifCond .ne 5, 3) := dk_154 0 5 (dk_at dksX0_cheapest_0 7 rfl rfl)
theorem dX0_cheapest_10 : decode cX0_cheapest 10 = .ok (.iconst (-1), 1) := dk_2 (dk_at dksX0_cheapest_0 10 rfl rfl)
theorem dX0_cheapest_11 : decode cX0_cheapest 11 = .ok (.ireturn, 1) := dk_172 (dk_at dksX0_cheapest_0 11 rfl rfl)
theorem dX0_cheapest_12 : decode cX0_cheapest 12 = .ok (.aload_n 0, 1) := dk_42 (dk_at dksX0_cheapest_0 12 rfl rfl)
theorem dX0_cheapest_13 : decode cX0_cheapest 13 = .ok (.iload_n 1, 1) := dk_27 (dk_at dksX0_cheapest_0 13 rfl rfl)
theorem dX0_cheapest_14 : decode cX0_cheapest 14 = .ok (.invokevirtual 441, 3) := dk_182 1 185 (dk_at dksX0_cheapest_0 14 rfl rfl)
theorem dX0_cheapest_17 : decode cX0_cheapest 17 = .ok (.aload_n 0, 1) := dk_42 (dk_at dksX0_cheapest_0 17 rfl rfl)
theorem dX0_cheapest_18 : decode cX0_cheapest 18 = .ok (.getfield 432, 3) := dk_180 1 176 (dk_at dksX0_cheapest_0 18 rfl rfl)
theorem dX0_cheapest_21 : decode cX0_cheapest 21 = .ok (.ifCond .ge 8, 3) := dk_156 0 8 (dk_at dksX0_cheapest_0 21 rfl rfl)
theorem dX0_cheapest_24 : decode cX0_cheapest 24 = .ok (.bipush (-3), 2) := dk_16 253 (dk_at dksX0_cheapest_1 0 rfl rfl)
theorem dX0_cheapest_26 : decode cX0_cheapest 26 = .ok (.goto 7, 3) := dk_167 0 7 (dk_at dksX0_cheapest_1 2 rfl rfl)
theorem dX0_cheapest_29 : decode cX0_cheapest 29 = .ok (.aload_n 0, 1) := dk_42 (dk_at dksX0_cheapest_1 5 rfl rfl)
theorem dX0_cheapest_30 : decode cX0_cheapest 30 = .ok (.getfield 432, 3) := dk_180 1 176 (dk_at dksX0_cheapest_1 6 rfl rfl)
theorem dX0_cheapest_33 : decode cX0_cheapest 33 = .ok (.ireturn, 1) := dk_172 (dk_at dksX0_cheapest_1 9 rfl rfl)
abbrev cX0_cheaply : ByteArray := prog_1_method_65_code
def yX0_cheaply : MethodName := ⟨RX0, "cheaply", "(II)I"⟩
def dkwX0_cheaply_1 : List UInt8 := [182, 1, 185, 28, 42, 180, 1, 179, 162, 0, 12, 42, 180, 0, 118, 28, 46, 167, 0, 5, 16, 253, 172]
abbrev dktX0_cheaply_1 : List UInt8 := dkwX0_cheaply_1 ++ []
def dkwX0_cheaply_0 : List UInt8 := [27, 3, 16, 6, 184, 0, 149, 153, 0, 12, 28, 3, 8, 184, 0, 149, 154, 0, 5, 2, 172, 42, 27]
abbrev dktX0_cheaply_0 : List UInt8 := dkwX0_cheaply_0 ++ dktX0_cheaply_1
theorem dksX0_cheaply_0 : cX0_cheaply.data.toList.drop 0 = dktX0_cheaply_0 := by decide +kernel
theorem dksX0_cheaply_1 : cX0_cheaply.data.toList.drop 23 = dktX0_cheaply_1 := dk_seg dksX0_cheaply_0 23 rfl rfl
theorem dX0_cheaply_0 : decode cX0_cheaply 0 = .ok (.iload_n 1, 1) := dk_27 (dk_at dksX0_cheaply_0 0 rfl rfl)
theorem dX0_cheaply_1 : decode cX0_cheaply 1 = .ok (.iconst 0, 1) := dk_3 (dk_at dksX0_cheaply_0 1 rfl rfl)
theorem dX0_cheaply_2 : decode cX0_cheaply 2 = .ok (.bipush 6, 2) := dk_16 6 (dk_at dksX0_cheaply_0 2 rfl rfl)
theorem dX0_cheaply_4 : decode cX0_cheaply 4 = .ok (.invokestatic 149, 3) := dk_184 0 149 (dk_at dksX0_cheaply_0 4 rfl rfl)
theorem dX0_cheaply_7 : decode cX0_cheaply 7 = .ok (.ifCond .eq 12, 3) := dk_153 0 12 (dk_at dksX0_cheaply_0 7 rfl rfl)
theorem dX0_cheaply_10 : decode cX0_cheaply 10 = .ok (.iload_n 2, 1) := dk_28 (dk_at dksX0_cheaply_0 10 rfl rfl)
theorem dX0_cheaply_11 : decode cX0_cheaply 11 = .ok (.iconst 0, 1) := dk_3 (dk_at dksX0_cheaply_0 11 rfl rfl)
theorem dX0_cheaply_12 : decode cX0_cheaply 12 = .ok (.iconst 5, 1) := dk_8 (dk_at dksX0_cheaply_0 12 rfl rfl)
theorem dX0_cheaply_13 : decode cX0_cheaply 13 = .ok (.invokestatic 149, 3) := dk_184 0 149 (dk_at dksX0_cheaply_0 13 rfl rfl)
theorem dX0_cheaply_16 : decode cX0_cheaply 16 = .ok (.ifCond .ne 5, 3) := dk_154 0 5 (dk_at dksX0_cheaply_0 16 rfl rfl)
theorem dX0_cheaply_19 : decode cX0_cheaply 19 = .ok (.iconst (-1), 1) := dk_2 (dk_at dksX0_cheaply_0 19 rfl rfl)
theorem dX0_cheaply_20 : decode cX0_cheaply 20 = .ok (.ireturn, 1) := dk_172 (dk_at dksX0_cheaply_0 20 rfl rfl)
theorem dX0_cheaply_21 : decode cX0_cheaply 21 = .ok (.aload_n 0, 1) := dk_42 (dk_at dksX0_cheaply_0 21 rfl rfl)
theorem dX0_cheaply_22 : decode cX0_cheaply 22 = .ok (.iload_n 1, 1) := dk_27 (dk_at dksX0_cheaply_0 22 rfl rfl)
theorem dX0_cheaply_23 : decode cX0_cheaply 23 = .ok (.invokevirtual 441, 3) := dk_182 1 185 (dk_at dksX0_cheaply_1 0 rfl rfl)
theorem dX0_cheaply_26 : decode cX0_cheaply 26 = .ok (.iload_n 2, 1) := dk_28 (dk_at dksX0_cheaply_1 3 rfl rfl)
theorem dX0_cheaply_27 : decode cX0_cheaply 27 = .ok (.aload_n 0, 1) := dk_42 (dk_at dksX0_cheaply_1 4 rfl rfl)
theorem dX0_cheaply_28 : decode cX0_cheaply 28 = .ok (.getfield 435, 3) := dk_180 1 179 (dk_at dksX0_cheaply_1 5 rfl rfl)
theorem dX0_cheaply_31 : decode cX0_cheaply 31 = .ok (.if_icmp .ge 12, 3) := dk_162 0 12 (dk_at dksX0_cheaply_1 8 rfl rfl)
theorem dX0_cheaply_34 : decode cX0_cheaply 34 = .ok (.aload_n 0, 1) := dk_42 (dk_at dksX0_cheaply_1 11 rfl rfl)
theorem dX0_cheaply_35 : decode cX0_cheaply 35 = .ok (.getfield 118, 3) := dk_180 0 118 (dk_at dksX0_cheaply_1 12 rfl rfl)
theorem dX0_cheaply_38 : decode cX0_cheaply 38 = .ok (.iload_n 2, 1) := dk_28 (dk_at dksX0_cheaply_1 15 rfl rfl)
theorem dX0_cheaply_39 : decode cX0_cheaply 39 = .ok (.iaload, 1) := dk_46 (dk_at dksX0_cheaply_1 16 rfl rfl)
theorem dX0_cheaply_40 : decode cX0_cheaply 40 = .ok (.goto 5, 3) := dk_167 0 5 (dk_at dksX0_cheaply_1 17 rfl rfl)
theorem dX0_cheaply_43 : decode cX0_cheaply 43 = .ok (.bipush (-3), 2) := dk_16 253 (dk_at dksX0_cheaply_1 20 rfl rfl)
theorem dX0_cheaply_45 : decode cX0_cheaply 45 = .ok (.ireturn, 1) := dk_172 (dk_at dksX0_cheaply_1 22 rfl rfl)
abbrev cX0_bars : ByteArray := prog_1_method_66_code
def yX0_bars : MethodName := ⟨RX0, "bars", "()I"⟩
def dkwX0_bars_3 : List UInt8 := [181, 0, 111, 28, 172, 78, 42, 2, 181, 0, 111, 45, 191]
abbrev dktX0_bars_3 : List UInt8 := dkwX0_bars_3 ++ []
def dkwX0_bars_2 : List UInt8 := [120, 167, 0, 4, 3, 128, 60, 42, 89, 180, 0, 111, 4, 96, 181, 0, 111, 167, 255, 210, 27, 61, 42, 2]
abbrev dktX0_bars_2 : List UInt8 := dkwX0_bars_2 ++ dktX0_bars_3
def dkwX0_bars_1 : List UInt8 := [180, 0, 47, 180, 0, 147, 162, 0, 38, 27, 42, 16, 6, 182, 1, 167, 155, 0, 12, 4, 42, 180, 0, 111]
abbrev dktX0_bars_1 : List UInt8 := dkwX0_bars_1 ++ dktX0_bars_2
def dkwX0_bars_0 : List UInt8 := [42, 16, 6, 182, 1, 167, 155, 0, 5, 3, 172, 3, 60, 42, 3, 181, 0, 111, 42, 180, 0, 111, 42]
abbrev dktX0_bars_0 : List UInt8 := dkwX0_bars_0 ++ dktX0_bars_1
theorem dksX0_bars_0 : cX0_bars.data.toList.drop 0 = dktX0_bars_0 := by decide +kernel
theorem dksX0_bars_1 : cX0_bars.data.toList.drop 23 = dktX0_bars_1 := dk_seg dksX0_bars_0 23 rfl rfl
theorem dksX0_bars_2 : cX0_bars.data.toList.drop 47 = dktX0_bars_2 := dk_seg dksX0_bars_1 24 rfl rfl
theorem dksX0_bars_3 : cX0_bars.data.toList.drop 71 = dktX0_bars_3 := dk_seg dksX0_bars_2 24 rfl rfl
theorem dX0_bars_0 : decode cX0_bars 0 = .ok (.aload_n 0, 1) := dk_42 (dk_at dksX0_bars_0 0 rfl rfl)
theorem dX0_bars_1 : decode cX0_bars 1 = .ok (.bipush 6, 2) := dk_16 6 (dk_at dksX0_bars_0 1 rfl rfl)
theorem dX0_bars_3 : decode cX0_bars 3 = .ok (.invokevirtual 423, 3) := dk_182 1 167 (dk_at dksX0_bars_0 3 rfl rfl)
theorem dX0_bars_6 : decode cX0_bars 6 = .ok (.ifCond .lt 5, 3) := dk_155 0 5 (dk_at dksX0_bars_0 6 rfl rfl)
theorem dX0_bars_9 : decode cX0_bars 9 = .ok (.iconst 0, 1) := dk_3 (dk_at dksX0_bars_0 9 rfl rfl)
theorem dX0_bars_10 : decode cX0_bars 10 = .ok (.ireturn, 1) := dk_172 (dk_at dksX0_bars_0 10 rfl rfl)
theorem dX0_bars_11 : decode cX0_bars 11 = .ok (.iconst 0, 1) := dk_3 (dk_at dksX0_bars_0 11 rfl rfl)
theorem dX0_bars_12 : decode cX0_bars 12 = .ok (.istore_n 1, 1) := dk_60 (dk_at dksX0_bars_0 12 rfl rfl)
theorem dX0_bars_13 : decode cX0_bars 13 = .ok (.aload_n 0, 1) := dk_42 (dk_at dksX0_bars_0 13 rfl rfl)
theorem dX0_bars_14 : decode cX0_bars 14 = .ok (.iconst 0, 1) := dk_3 (dk_at dksX0_bars_0 14 rfl rfl)
theorem dX0_bars_15 : decode cX0_bars 15 = .ok (.putfield 111, 3) := dk_181 0 111 (dk_at dksX0_bars_0 15 rfl rfl)
theorem dX0_bars_18 : decode cX0_bars 18 = .ok (.aload_n 0, 1) := dk_42 (dk_at dksX0_bars_0 18 rfl rfl)
theorem dX0_bars_19 : decode cX0_bars 19 = .ok (.getfield 111, 3) := dk_180 0 111 (dk_at dksX0_bars_0 19 rfl rfl)
theorem dX0_bars_22 : decode cX0_bars 22 = .ok (.aload_n 0, 1) := dk_42 (dk_at dksX0_bars_0 22 rfl rfl)
theorem dX0_bars_23 : decode cX0_bars 23 = .ok (.getfield 47, 3) := dk_180 0 47 (dk_at dksX0_bars_1 0 rfl rfl)
theorem dX0_bars_26 : decode cX0_bars 26 = .ok (.getfield 147, 3) := dk_180 0 147 (dk_at dksX0_bars_1 3 rfl rfl)
theorem dX0_bars_29 : decode cX0_bars 29 = .ok (.if_icmp .ge 38, 3) := dk_162 0 38 (dk_at dksX0_bars_1 6 rfl rfl)
theorem dX0_bars_32 : decode cX0_bars 32 = .ok (.iload_n 1, 1) := dk_27 (dk_at dksX0_bars_1 9 rfl rfl)
theorem dX0_bars_33 : decode cX0_bars 33 = .ok (.aload_n 0, 1) := dk_42 (dk_at dksX0_bars_1 10 rfl rfl)
theorem dX0_bars_34 : decode cX0_bars 34 = .ok (.bipush 6, 2) := dk_16 6 (dk_at dksX0_bars_1 11 rfl rfl)
theorem dX0_bars_36 : decode cX0_bars 36 = .ok (.invokevirtual 423, 3) := dk_182 1 167 (dk_at dksX0_bars_1 13 rfl rfl)
theorem dX0_bars_39 : decode cX0_bars 39 = .ok (.ifCond .lt 12, 3) := dk_155 0 12 (dk_at dksX0_bars_1 16 rfl rfl)
theorem dX0_bars_42 : decode cX0_bars 42 = .ok (.iconst 1, 1) := dk_4 (dk_at dksX0_bars_1 19 rfl rfl)
theorem dX0_bars_43 : decode cX0_bars 43 = .ok (.aload_n 0, 1) := dk_42 (dk_at dksX0_bars_1 20 rfl rfl)
theorem dX0_bars_44 : decode cX0_bars 44 = .ok (.getfield 111, 3) := dk_180 0 111 (dk_at dksX0_bars_1 21 rfl rfl)
theorem dX0_bars_47 : decode cX0_bars 47 = .ok (.ishl, 1) := dk_120 (dk_at dksX0_bars_2 0 rfl rfl)
theorem dX0_bars_48 : decode cX0_bars 48 = .ok (.goto 4, 3) := dk_167 0 4 (dk_at dksX0_bars_2 1 rfl rfl)
theorem dX0_bars_51 : decode cX0_bars 51 = .ok (.iconst 0, 1) := dk_3 (dk_at dksX0_bars_2 4 rfl rfl)
theorem dX0_bars_52 : decode cX0_bars 52 = .ok (.ior, 1) := dk_128 (dk_at dksX0_bars_2 5 rfl rfl)
theorem dX0_bars_53 : decode cX0_bars 53 = .ok (.istore_n 1, 1) := dk_60 (dk_at dksX0_bars_2 6 rfl rfl)
theorem dX0_bars_54 : decode cX0_bars 54 = .ok (.aload_n 0, 1) := dk_42 (dk_at dksX0_bars_2 7 rfl rfl)
theorem dX0_bars_55 : decode cX0_bars 55 = .ok (.dup, 1) := dk_89 (dk_at dksX0_bars_2 8 rfl rfl)
theorem dX0_bars_56 : decode cX0_bars 56 = .ok (.getfield 111, 3) := dk_180 0 111 (dk_at dksX0_bars_2 9 rfl rfl)
theorem dX0_bars_59 : decode cX0_bars 59 = .ok (.iconst 1, 1) := dk_4 (dk_at dksX0_bars_2 12 rfl rfl)
theorem dX0_bars_60 : decode cX0_bars 60 = .ok (.iadd, 1) := dk_96 (dk_at dksX0_bars_2 13 rfl rfl)
theorem dX0_bars_61 : decode cX0_bars 61 = .ok (.putfield 111, 3) := dk_181 0 111 (dk_at dksX0_bars_2 14 rfl rfl)
theorem dX0_bars_64 : decode cX0_bars 64 = .ok (.goto (-46), 3) := dk_167 255 210 (dk_at dksX0_bars_2 17 rfl rfl)
theorem dX0_bars_67 : decode cX0_bars 67 = .ok (.iload_n 1, 1) := dk_27 (dk_at dksX0_bars_2 20 rfl rfl)
theorem dX0_bars_68 : decode cX0_bars 68 = .ok (.istore_n 2, 1) := dk_61 (dk_at dksX0_bars_2 21 rfl rfl)
theorem dX0_bars_69 : decode cX0_bars 69 = .ok (.aload_n 0, 1) := dk_42 (dk_at dksX0_bars_2 22 rfl rfl)
theorem dX0_bars_70 : decode cX0_bars 70 = .ok (.iconst (-1), 1) := dk_2 (dk_at dksX0_bars_2 23 rfl rfl)
theorem dX0_bars_71 : decode cX0_bars 71 = .ok (.putfield 111, 3) := dk_181 0 111 (dk_at dksX0_bars_3 0 rfl rfl)
theorem dX0_bars_74 : decode cX0_bars 74 = .ok (.iload_n 2, 1) := dk_28 (dk_at dksX0_bars_3 3 rfl rfl)
theorem dX0_bars_75 : decode cX0_bars 75 = .ok (.ireturn, 1) := dk_172 (dk_at dksX0_bars_3 4 rfl rfl)
theorem dX0_bars_76 : decode cX0_bars 76 = .ok (.astore_n 3, 1) := dk_78 (dk_at dksX0_bars_3 5 rfl rfl)
theorem dX0_bars_77 : decode cX0_bars 77 = .ok (.aload_n 0, 1) := dk_42 (dk_at dksX0_bars_3 6 rfl rfl)
theorem dX0_bars_78 : decode cX0_bars 78 = .ok (.iconst (-1), 1) := dk_2 (dk_at dksX0_bars_3 7 rfl rfl)
theorem dX0_bars_79 : decode cX0_bars 79 = .ok (.putfield 111, 3) := dk_181 0 111 (dk_at dksX0_bars_3 8 rfl rfl)
theorem dX0_bars_82 : decode cX0_bars 82 = .ok (.aload_n 3, 1) := dk_45 (dk_at dksX0_bars_3 11 rfl rfl)
theorem dX0_bars_83 : decode cX0_bars 83 = .ok (.athrow, 1) := dk_191 (dk_at dksX0_bars_3 12 rfl rfl)
abbrev cX0_jars : ByteArray := prog_1_method_67_code
def yX0_jars : MethodName := ⟨RX0, "jars", "()I"⟩
def dkwX0_jars_3 : List UInt8 := [60, 29, 61, 132, 3, 1, 167, 255, 197, 28, 172]
abbrev dktX0_jars_3 : List UInt8 := dkwX0_jars_3 ++ []
def dkwX0_jars_2 : List UInt8 := [180, 0, 201, 29, 92, 46, 4, 100, 79, 42, 180, 1, 170, 27, 163, 0, 6, 167, 0, 10, 42, 180, 1, 170]
abbrev dktX0_jars_2 : List UInt8 := dkwX0_jars_2 ++ dktX0_jars_3
def dkwX0_jars_1 : List UInt8 := [180, 0, 47, 180, 0, 201, 29, 92, 46, 4, 96, 79, 42, 16, 6, 182, 1, 185, 42, 180, 0, 47]
abbrev dktX0_jars_1 : List UInt8 := dkwX0_jars_1 ++ dktX0_jars_2
def dkwX0_jars_0 : List UInt8 := [42, 16, 6, 182, 1, 185, 42, 180, 1, 170, 60, 16, 253, 61, 3, 62, 29, 16, 8, 162, 0, 59, 42]
abbrev dktX0_jars_0 : List UInt8 := dkwX0_jars_0 ++ dktX0_jars_1
theorem dksX0_jars_0 : cX0_jars.data.toList.drop 0 = dktX0_jars_0 := by decide +kernel
theorem dksX0_jars_1 : cX0_jars.data.toList.drop 23 = dktX0_jars_1 := dk_seg dksX0_jars_0 23 rfl rfl
theorem dksX0_jars_2 : cX0_jars.data.toList.drop 45 = dktX0_jars_2 := dk_seg dksX0_jars_1 22 rfl rfl
theorem dksX0_jars_3 : cX0_jars.data.toList.drop 69 = dktX0_jars_3 := dk_seg dksX0_jars_2 24 rfl rfl
theorem dX0_jars_0 : decode cX0_jars 0 = .ok (.aload_n 0, 1) := dk_42 (dk_at dksX0_jars_0 0 rfl rfl)
theorem dX0_jars_1 : decode cX0_jars 1 = .ok (.bipush 6, 2) := dk_16 6 (dk_at dksX0_jars_0 1 rfl rfl)
theorem dX0_jars_3 : decode cX0_jars 3 = .ok (.invokevirtual 441, 3) := dk_182 1 185 (dk_at dksX0_jars_0 3 rfl rfl)
theorem dX0_jars_6 : decode cX0_jars 6 = .ok (.aload_n 0, 1) := dk_42 (dk_at dksX0_jars_0 6 rfl rfl)
theorem dX0_jars_7 : decode cX0_jars 7 = .ok (.getfield 426, 3) := dk_180 1 170 (dk_at dksX0_jars_0 7 rfl rfl)
theorem dX0_jars_10 : decode cX0_jars 10 = .ok (.istore_n 1, 1) := dk_60 (dk_at dksX0_jars_0 10 rfl rfl)
theorem dX0_jars_11 : decode cX0_jars 11 = .ok (.bipush (-3), 2) := dk_16 253 (dk_at dksX0_jars_0 11 rfl rfl)
theorem dX0_jars_13 : decode cX0_jars 13 = .ok (.istore_n 2, 1) := dk_61 (dk_at dksX0_jars_0 13 rfl rfl)
theorem dX0_jars_14 : decode cX0_jars 14 = .ok (.iconst 0, 1) := dk_3 (dk_at dksX0_jars_0 14 rfl rfl)
theorem dX0_jars_15 : decode cX0_jars 15 = .ok (.istore_n 3, 1) := dk_62 (dk_at dksX0_jars_0 15 rfl rfl)
theorem dX0_jars_16 : decode cX0_jars 16 = .ok (.iload_n 3, 1) := dk_29 (dk_at dksX0_jars_0 16 rfl rfl)
theorem dX0_jars_17 : decode cX0_jars 17 = .ok (.bipush 8, 2) := dk_16 8 (dk_at dksX0_jars_0 17 rfl rfl)
theorem dX0_jars_19 : decode cX0_jars 19 = .ok (.if_icmp .ge 59, 3) := dk_162 0 59 (dk_at dksX0_jars_0 19 rfl rfl)
theorem dX0_jars_22 : decode cX0_jars 22 = .ok (.aload_n 0, 1) := dk_42 (dk_at dksX0_jars_0 22 rfl rfl)
theorem dX0_jars_23 : decode cX0_jars 23 = .ok (.getfield 47, 3) := dk_180 0 47 (dk_at dksX0_jars_1 0 rfl rfl)
theorem dX0_jars_26 : decode cX0_jars 26 = .ok (.getfield 201, 3) := dk_180 0 201 (dk_at dksX0_jars_1 3 rfl rfl)
theorem dX0_jars_29 : decode cX0_jars 29 = .ok (.iload_n 3, 1) := dk_29 (dk_at dksX0_jars_1 6 rfl rfl)
theorem dX0_jars_30 : decode cX0_jars 30 = .ok (.dup2, 1) := dk_92 (dk_at dksX0_jars_1 7 rfl rfl)
theorem dX0_jars_31 : decode cX0_jars 31 = .ok (.iaload, 1) := dk_46 (dk_at dksX0_jars_1 8 rfl rfl)
theorem dX0_jars_32 : decode cX0_jars 32 = .ok (.iconst 1, 1) := dk_4 (dk_at dksX0_jars_1 9 rfl rfl)
theorem dX0_jars_33 : decode cX0_jars 33 = .ok (.iadd, 1) := dk_96 (dk_at dksX0_jars_1 10 rfl rfl)
theorem dX0_jars_34 : decode cX0_jars 34 = .ok (.iastore, 1) := dk_79 (dk_at dksX0_jars_1 11 rfl rfl)
theorem dX0_jars_35 : decode cX0_jars 35 = .ok (.aload_n 0, 1) := dk_42 (dk_at dksX0_jars_1 12 rfl rfl)
theorem dX0_jars_36 : decode cX0_jars 36 = .ok (.bipush 6, 2) := dk_16 6 (dk_at dksX0_jars_1 13 rfl rfl)
theorem dX0_jars_38 : decode cX0_jars 38 = .ok (.invokevirtual 441, 3) := dk_182 1 185 (dk_at dksX0_jars_1 15 rfl rfl)
theorem dX0_jars_41 : decode cX0_jars 41 = .ok (.aload_n 0, 1) := dk_42 (dk_at dksX0_jars_1 18 rfl rfl)
theorem dX0_jars_42 : decode cX0_jars 42 = .ok (.getfield 47, 3) := dk_180 0 47 (dk_at dksX0_jars_1 19 rfl rfl)
theorem dX0_jars_45 : decode cX0_jars 45 = .ok (.getfield 201, 3) := dk_180 0 201 (dk_at dksX0_jars_2 0 rfl rfl)
theorem dX0_jars_48 : decode cX0_jars 48 = .ok (.iload_n 3, 1) := dk_29 (dk_at dksX0_jars_2 3 rfl rfl)
theorem dX0_jars_49 : decode cX0_jars 49 = .ok (.dup2, 1) := dk_92 (dk_at dksX0_jars_2 4 rfl rfl)
theorem dX0_jars_50 : decode cX0_jars 50 = .ok (.iaload, 1) := dk_46 (dk_at dksX0_jars_2 5 rfl rfl)
theorem dX0_jars_51 : decode cX0_jars 51 = .ok (.iconst 1, 1) := dk_4 (dk_at dksX0_jars_2 6 rfl rfl)
theorem dX0_jars_52 : decode cX0_jars 52 = .ok (.isub, 1) := dk_100 (dk_at dksX0_jars_2 7 rfl rfl)
theorem dX0_jars_53 : decode cX0_jars 53 = .ok (.iastore, 1) := dk_79 (dk_at dksX0_jars_2 8 rfl rfl)
theorem dX0_jars_54 : decode cX0_jars 54 = .ok (.aload_n 0, 1) := dk_42 (dk_at dksX0_jars_2 9 rfl rfl)
theorem dX0_jars_55 : decode cX0_jars 55 = .ok (.getfield 426, 3) := dk_180 1 170 (dk_at dksX0_jars_2 10 rfl rfl)
theorem dX0_jars_58 : decode cX0_jars 58 = .ok (.iload_n 1, 1) := dk_27 (dk_at dksX0_jars_2 13 rfl rfl)
theorem dX0_jars_59 : decode cX0_jars 59 = .ok (.if_icmp .gt 6, 3) := dk_163 0 6 (dk_at dksX0_jars_2 14 rfl rfl)
theorem dX0_jars_62 : decode cX0_jars 62 = .ok (.goto 10, 3) := dk_167 0 10 (dk_at dksX0_jars_2 17 rfl rfl)
theorem dX0_jars_65 : decode cX0_jars 65 = .ok (.aload_n 0, 1) := dk_42 (dk_at dksX0_jars_2 20 rfl rfl)
theorem dX0_jars_66 : decode cX0_jars 66 = .ok (.getfield 426, 3) := dk_180 1 170 (dk_at dksX0_jars_2 21 rfl rfl)
theorem dX0_jars_69 : decode cX0_jars 69 = .ok (.istore_n 1, 1) := dk_60 (dk_at dksX0_jars_3 0 rfl rfl)
theorem dX0_jars_70 : decode cX0_jars 70 = .ok (.iload_n 3, 1) := dk_29 (dk_at dksX0_jars_3 1 rfl rfl)
theorem dX0_jars_71 : decode cX0_jars 71 = .ok (.istore_n 2, 1) := dk_61 (dk_at dksX0_jars_3 2 rfl rfl)
theorem dX0_jars_72 : decode cX0_jars 72 = .ok (.iinc 3 1, 3) := dk_132 3 1 (dk_at dksX0_jars_3 3 rfl rfl)
theorem dX0_jars_75 : decode cX0_jars 75 = .ok (.goto (-59), 3) := dk_167 255 197 (dk_at dksX0_jars_3 6 rfl rfl)
theorem dX0_jars_78 : decode cX0_jars 78 = .ok (.iload_n 2, 1) := dk_28 (dk_at dksX0_jars_3 9 rfl rfl)
theorem dX0_jars_79 : decode cX0_jars 79 = .ok (.ireturn, 1) := dk_172 (dk_at dksX0_jars_3 10 rfl rfl)
abbrev cX0_feeFor : ByteArray := prog_1_method_68_code
def yX0_feeFor : MethodName := ⟨RX0, "feeFor", "(I)I"⟩
def dkwX0_feeFor_4 : List UInt8 := [58, 4, 42, 180, 0, 47, 28, 181, 0, 204, 25, 4, 191]
abbrev dktX0_feeFor_4 : List UInt8 := dkwX0_feeFor_4 ++ []
def dkwX0_feeFor_3 : List UInt8 := [180, 0, 204, 4, 100, 181, 0, 204, 167, 255, 207, 16, 253, 62, 42, 180, 0, 47, 28, 181, 0, 204, 29, 172]
abbrev dktX0_feeFor_3 : List UInt8 := dkwX0_feeFor_3 ++ dktX0_feeFor_4
def dkwX0_feeFor_2 : List UInt8 := [180, 0, 47, 180, 0, 204, 62, 42, 180, 0, 47, 28, 181, 0, 204, 29, 172, 42, 180, 0, 47, 89]
abbrev dktX0_feeFor_2 : List UInt8 := dkwX0_feeFor_2 ++ dktX0_feeFor_3
def dkwX0_feeFor_1 : List UInt8 := [16, 50, 181, 0, 204, 42, 180, 0, 47, 180, 0, 204, 155, 0, 45, 42, 27, 182, 1, 167, 155, 0, 21, 42]
abbrev dktX0_feeFor_1 : List UInt8 := dkwX0_feeFor_1 ++ dktX0_feeFor_2
def dkwX0_feeFor_0 : List UInt8 := [27, 4, 16, 6, 184, 0, 149, 154, 0, 5, 2, 172, 42, 180, 0, 47, 180, 0, 204, 61, 42, 180, 0, 47]
abbrev dktX0_feeFor_0 : List UInt8 := dkwX0_feeFor_0 ++ dktX0_feeFor_1
theorem dksX0_feeFor_0 : cX0_feeFor.data.toList.drop 0 = dktX0_feeFor_0 := by decide +kernel
theorem dksX0_feeFor_1 : cX0_feeFor.data.toList.drop 24 = dktX0_feeFor_1 := dk_seg dksX0_feeFor_0 24 rfl rfl
theorem dksX0_feeFor_2 : cX0_feeFor.data.toList.drop 48 = dktX0_feeFor_2 := dk_seg dksX0_feeFor_1 24 rfl rfl
theorem dksX0_feeFor_3 : cX0_feeFor.data.toList.drop 70 = dktX0_feeFor_3 := dk_seg dksX0_feeFor_2 22 rfl rfl
theorem dksX0_feeFor_4 : cX0_feeFor.data.toList.drop 94 = dktX0_feeFor_4 := dk_seg dksX0_feeFor_3 24 rfl rfl
theorem dX0_feeFor_0 : decode cX0_feeFor 0 = .ok (.iload_n 1, 1) := dk_27 (dk_at dksX0_feeFor_0 0 rfl rfl)
theorem dX0_feeFor_1 : decode cX0_feeFor 1 = .ok (.iconst 1, 1) := dk_4 (dk_at dksX0_feeFor_0 1 rfl rfl)
theorem dX0_feeFor_2 : decode cX0_feeFor 2 = .ok (.bipush 6, 2) := dk_16 6 (dk_at dksX0_feeFor_0 2 rfl rfl)
theorem dX0_feeFor_4 : decode cX0_feeFor 4 = .ok (.invokestatic 149, 3) := dk_184 0 149 (dk_at dksX0_feeFor_0 4 rfl rfl)
theorem dX0_feeFor_7 : decode cX0_feeFor 7 = .ok (.ifCond .ne 5, 3) := dk_154 0 5 (dk_at dksX0_feeFor_0 7 rfl rfl)
theorem dX0_feeFor_10 : decode cX0_feeFor 10 = .ok (.iconst (-1), 1) := dk_2 (dk_at dksX0_feeFor_0 10 rfl rfl)
theorem dX0_feeFor_11 : decode cX0_feeFor 11 = .ok (.ireturn, 1) := dk_172 (dk_at dksX0_feeFor_0 11 rfl rfl)
theorem dX0_feeFor_12 : decode cX0_feeFor 12 = .ok (.aload_n 0, 1) := dk_42 (dk_at dksX0_feeFor_0 12 rfl rfl)
theorem dX0_feeFor_13 : decode cX0_feeFor 13 = .ok (.getfield 47, 3) := dk_180 0 47 (dk_at dksX0_feeFor_0 13 rfl rfl)
theorem dX0_feeFor_16 : decode cX0_feeFor 16 = .ok (.getfield 204, 3) := dk_180 0 204 (dk_at dksX0_feeFor_0 16 rfl rfl)
theorem dX0_feeFor_19 : decode cX0_feeFor 19 = .ok (.istore_n 2, 1) := dk_61 (dk_at dksX0_feeFor_0 19 rfl rfl)
theorem dX0_feeFor_20 : decode cX0_feeFor 20 = .ok (.aload_n 0, 1) := dk_42 (dk_at dksX0_feeFor_0 20 rfl rfl)
theorem dX0_feeFor_21 : decode cX0_feeFor 21 = .ok (.getfield 47, 3) := dk_180 0 47 (dk_at dksX0_feeFor_0 21 rfl rfl)
theorem dX0_feeFor_24 : decode cX0_feeFor 24 = .ok (.bipush 50, 2) := dk_16 50 (dk_at dksX0_feeFor_1 0 rfl rfl)
theorem dX0_feeFor_26 : decode cX0_feeFor 26 = .ok (.putfield 204, 3) := dk_181 0 204 (dk_at dksX0_feeFor_1 2 rfl rfl)
theorem dX0_feeFor_29 : decode cX0_feeFor 29 = .ok (.aload_n 0, 1) := dk_42 (dk_at dksX0_feeFor_1 5 rfl rfl)
theorem dX0_feeFor_30 : decode cX0_feeFor 30 = .ok (.getfield 47, 3) := dk_180 0 47 (dk_at dksX0_feeFor_1 6 rfl rfl)
theorem dX0_feeFor_33 : decode cX0_feeFor 33 = .ok (.getfield 204, 3) := dk_180 0 204 (dk_at dksX0_feeFor_1 9 rfl rfl)
theorem dX0_feeFor_36 : decode cX0_feeFor 36 = .ok (.ifCond .lt 45, 3) := dk_155 0 45 (dk_at dksX0_feeFor_1 12 rfl rfl)
theorem dX0_feeFor_39 : decode cX0_feeFor 39 = .ok (.aload_n 0, 1) := dk_42 (dk_at dksX0_feeFor_1 15 rfl rfl)
theorem dX0_feeFor_40 : decode cX0_feeFor 40 = .ok (.iload_n 1, 1) := dk_27 (dk_at dksX0_feeFor_1 16 rfl rfl)
theorem dX0_feeFor_41 : decode cX0_feeFor 41 = .ok (.invokevirtual 423, 3) := dk_182 1 167 (dk_at dksX0_feeFor_1 17 rfl rfl)
theorem dX0_feeFor_44 : decode cX0_feeFor 44 = .ok (.ifCond .lt 21, 3) := dk_155 0 21 (dk_at dksX0_feeFor_1 20 rfl rfl)
theorem dX0_feeFor_47 : decode cX0_feeFor 47 = .ok (.aload_n 0, 1) := dk_42 (dk_at dksX0_feeFor_1 23 rfl rfl)
theorem dX0_feeFor_48 : decode cX0_feeFor 48 = .ok (.getfield 47, 3) := dk_180 0 47 (dk_at dksX0_feeFor_2 0 rfl rfl)
theorem dX0_feeFor_51 : decode cX0_feeFor 51 = .ok (.getfield 204, 3) := dk_180 0 204 (dk_at dksX0_feeFor_2 3 rfl rfl)
theorem dX0_feeFor_54 : decode cX0_feeFor 54 = .ok (.istore_n 3, 1) := dk_62 (dk_at dksX0_feeFor_2 6 rfl rfl)
theorem dX0_feeFor_55 : decode cX0_feeFor 55 = .ok (.aload_n 0, 1) := dk_42 (dk_at dksX0_feeFor_2 7 rfl rfl)
theorem dX0_feeFor_56 : decode cX0_feeFor 56 = .ok (.getfield 47, 3) := dk_180 0 47 (dk_at dksX0_feeFor_2 8 rfl rfl)
theorem dX0_feeFor_59 : decode cX0_feeFor 59 = .ok (.iload_n 2, 1) := dk_28 (dk_at dksX0_feeFor_2 11 rfl rfl)
theorem dX0_feeFor_60 : decode cX0_feeFor 60 = .ok (.putfield 204, 3) := dk_181 0 204 (dk_at dksX0_feeFor_2 12 rfl rfl)
theorem dX0_feeFor_63 : decode cX0_feeFor 63 = .ok (.iload_n 3, 1) := dk_29 (dk_at dksX0_feeFor_2 15 rfl rfl)
theorem dX0_feeFor_64 : decode cX0_feeFor 64 = .ok (.ireturn, 1) := dk_172 (dk_at dksX0_feeFor_2 16 rfl rfl)
theorem dX0_feeFor_65 : decode cX0_feeFor 65 = .ok (.aload_n 0, 1) := dk_42 (dk_at dksX0_feeFor_2 17 rfl rfl)
theorem dX0_feeFor_66 : decode cX0_feeFor 66 = .ok (.getfield 47, 3) := dk_180 0 47 (dk_at dksX0_feeFor_2 18 rfl rfl)
theorem dX0_feeFor_69 : decode cX0_feeFor 69 = .ok (.dup, 1) := dk_89 (dk_at dksX0_feeFor_2 21 rfl rfl)
theorem dX0_feeFor_70 : decode cX0_feeFor 70 = .ok (.getfield 204, 3) := dk_180 0 204 (dk_at dksX0_feeFor_3 0 rfl rfl)
theorem dX0_feeFor_73 : decode cX0_feeFor 73 = .ok (.iconst 1, 1) := dk_4 (dk_at dksX0_feeFor_3 3 rfl rfl)
theorem dX0_feeFor_74 : decode cX0_feeFor 74 = .ok (.isub, 1) := dk_100 (dk_at dksX0_feeFor_3 4 rfl rfl)
theorem dX0_feeFor_75 : decode cX0_feeFor 75 = .ok (.putfield 204, 3) := dk_181 0 204 (dk_at dksX0_feeFor_3 5 rfl rfl)
theorem dX0_feeFor_78 : decode cX0_feeFor 78 = .ok (.goto (-49), 3) := dk_167 255 207 (dk_at dksX0_feeFor_3 8 rfl rfl)
theorem dX0_feeFor_81 : decode cX0_feeFor 81 = .ok (.bipush (-3), 2) := dk_16 253 (dk_at dksX0_feeFor_3 11 rfl rfl)
theorem dX0_feeFor_83 : decode cX0_feeFor 83 = .ok (.istore_n 3, 1) := dk_62 (dk_at dksX0_feeFor_3 13 rfl rfl)
theorem dX0_feeFor_84 : decode cX0_feeFor 84 = .ok (.aload_n 0, 1) := dk_42 (dk_at dksX0_feeFor_3 14 rfl rfl)
theorem dX0_feeFor_85 : decode cX0_feeFor 85 = .ok (.getfield 47, 3) := dk_180 0 47 (dk_at dksX0_feeFor_3 15 rfl rfl)
theorem dX0_feeFor_88 : decode cX0_feeFor 88 = .ok (.iload_n 2, 1) := dk_28 (dk_at dksX0_feeFor_3 18 rfl rfl)
theorem dX0_feeFor_89 : decode cX0_feeFor 89 = .ok (.putfield 204, 3) := dk_181 0 204 (dk_at dksX0_feeFor_3 19 rfl rfl)
theorem dX0_feeFor_92 : decode cX0_feeFor 92 = .ok (.iload_n 3, 1) := dk_29 (dk_at dksX0_feeFor_3 22 rfl rfl)
theorem dX0_feeFor_93 : decode cX0_feeFor 93 = .ok (.ireturn, 1) := dk_172 (dk_at dksX0_feeFor_3 23 rfl rfl)
theorem dX0_feeFor_94 : decode cX0_feeFor 94 = .ok (.astore 4, 2) := dk_58 4 (dk_at dksX0_feeFor_4 0 rfl rfl)
theorem dX0_feeFor_96 : decode cX0_feeFor 96 = .ok (.aload_n 0, 1) := dk_42 (dk_at dksX0_feeFor_4 2 rfl rfl)
theorem dX0_feeFor_97 : decode cX0_feeFor 97 = .ok (.getfield 47, 3) := dk_180 0 47 (dk_at dksX0_feeFor_4 3 rfl rfl)
theorem dX0_feeFor_100 : decode cX0_feeFor 100 = .ok (.iload_n 2, 1) := dk_28 (dk_at dksX0_feeFor_4 6 rfl rfl)
theorem dX0_feeFor_101 : decode cX0_feeFor 101 = .ok (.putfield 204, 3) := dk_181 0 204 (dk_at dksX0_feeFor_4 7 rfl rfl)
theorem dX0_feeFor_104 : decode cX0_feeFor 104 = .ok (.aload 4, 2) := dk_25 4 (dk_at dksX0_feeFor_4 10 rfl rfl)
theorem dX0_feeFor_106 : decode cX0_feeFor 106 = .ok (.athrow, 1) := dk_191 (dk_at dksX0_feeFor_4 12 rfl rfl)
abbrev cX0_rings : ByteArray := prog_1_method_71_code
def yX0_rings : MethodName := ⟨RX0, "rings", "(I)I"⟩
def dkwX0_rings_0 : List UInt8 := [27, 5, 16, 6, 184, 0, 149, 154, 0, 5, 2, 172, 42, 27, 182, 1, 194, 42, 180, 1, 188, 172]
abbrev dktX0_rings_0 : List UInt8 := dkwX0_rings_0 ++ []
theorem dksX0_rings_0 : cX0_rings.data.toList.drop 0 = dktX0_rings_0 := by decide +kernel
theorem dX0_rings_0 : decode cX0_rings 0 = .ok (.iload_n 1, 1) := dk_27 (dk_at dksX0_rings_0 0 rfl rfl)
theorem dX0_rings_1 : decode cX0_rings 1 = .ok (.iconst 2, 1) := dk_5 (dk_at dksX0_rings_0 1 rfl rfl)
theorem dX0_rings_2 : decode cX0_rings 2 = .ok (.bipush 6, 2) := dk_16 6 (dk_at dksX0_rings_0 2 rfl rfl)
theorem dX0_rings_4 : decode cX0_rings 4 = .ok (.invokestatic 149, 3) := dk_184 0 149 (dk_at dksX0_rings_0 4 rfl rfl)
theorem dX0_rings_7 : decode cX0_rings 7 = .ok (.ifCond .ne 5, 3) := dk_154 0 5 (dk_at dksX0_rings_0 7 rfl rfl)
theorem dX0_rings_10 : decode cX0_rings 10 = .ok (.iconst (-1), 1) := dk_2 (dk_at dksX0_rings_0 10 rfl rfl)
theorem dX0_rings_11 : decode cX0_rings 11 = .ok (.ireturn, 1) := dk_172 (dk_at dksX0_rings_0 11 rfl rfl)
theorem dX0_rings_12 : decode cX0_rings 12 = .ok (.aload_n 0, 1) := dk_42 (dk_at dksX0_rings_0 12 rfl rfl)
theorem dX0_rings_13 : decode cX0_rings 13 = .ok (.iload_n 1, 1) := dk_27 (dk_at dksX0_rings_0 13 rfl rfl)
theorem dX0_rings_14 : decode cX0_rings 14 = .ok (.invokevirtual 450, 3) := dk_182 1 194 (dk_at dksX0_rings_0 14 rfl rfl)
theorem dX0_rings_17 : decode cX0_rings 17 = .ok (.aload_n 0, 1) := dk_42 (dk_at dksX0_rings_0 17 rfl rfl)
theorem dX0_rings_18 : decode cX0_rings 18 = .ok (.getfield 444, 3) := dk_180 1 188 (dk_at dksX0_rings_0 18 rfl rfl)
theorem dX0_rings_21 : decode cX0_rings 21 = .ok (.ireturn, 1) := dk_172 (dk_at dksX0_rings_0 21 rfl rfl)
abbrev cX0_findRings : ByteArray := prog_1_method_70_code
def yX0_findRings : MethodName := ⟨RX0, "findRings", "(I)V"⟩
def dkwX0_findRings_2 : List UInt8 := [182, 1, 191, 132, 2, 1, 167, 255, 212, 177]
abbrev dktX0_findRings_2 : List UInt8 := dkwX0_findRings_2 ++ []
def dkwX0_findRings_1 : List UInt8 := [182, 0, 192, 153, 0, 6, 167, 0, 19, 42, 180, 0, 121, 3, 28, 79, 42, 4, 27, 4, 28, 120]
abbrev dktX0_findRings_1 : List UInt8 := dkwX0_findRings_1 ++ dktX0_findRings_2
def dkwX0_findRings_0 : List UInt8 := [42, 3, 181, 1, 188, 3, 61, 28, 42, 180, 0, 47, 180, 0, 147, 162, 0, 39, 42, 180, 0, 47, 28]
abbrev dktX0_findRings_0 : List UInt8 := dkwX0_findRings_0 ++ dktX0_findRings_1
theorem dksX0_findRings_0 : cX0_findRings.data.toList.drop 0 = dktX0_findRings_0 := by decide +kernel
theorem dksX0_findRings_1 : cX0_findRings.data.toList.drop 23 = dktX0_findRings_1 := dk_seg dksX0_findRings_0 23 rfl rfl
theorem dksX0_findRings_2 : cX0_findRings.data.toList.drop 45 = dktX0_findRings_2 := dk_seg dksX0_findRings_1 22 rfl rfl
theorem dX0_findRings_0 : decode cX0_findRings 0 = .ok (.aload_n 0, 1) := dk_42 (dk_at dksX0_findRings_0 0 rfl rfl)
theorem dX0_findRings_1 : decode cX0_findRings 1 = .ok (.iconst 0, 1) := dk_3 (dk_at dksX0_findRings_0 1 rfl rfl)
theorem dX0_findRings_2 : decode cX0_findRings 2 = .ok (.putfield 444, 3) := dk_181 1 188 (dk_at dksX0_findRings_0 2 rfl rfl)
theorem dX0_findRings_5 : decode cX0_findRings 5 = .ok (.iconst 0, 1) := dk_3 (dk_at dksX0_findRings_0 5 rfl rfl)
theorem dX0_findRings_6 : decode cX0_findRings 6 = .ok (.istore_n 2, 1) := dk_61 (dk_at dksX0_findRings_0 6 rfl rfl)
theorem dX0_findRings_7 : decode cX0_findRings 7 = .ok (.iload_n 2, 1) := dk_28 (dk_at dksX0_findRings_0 7 rfl rfl)
theorem dX0_findRings_8 : decode cX0_findRings 8 = .ok (.aload_n 0, 1) := dk_42 (dk_at dksX0_findRings_0 8 rfl rfl)
theorem dX0_findRings_9 : decode cX0_findRings 9 = .ok (.getfield 47, 3) := dk_180 0 47 (dk_at dksX0_findRings_0 9 rfl rfl)
theorem dX0_findRings_12 : decode cX0_findRings 12 = .ok (.getfield 147, 3) := dk_180 0 147 (dk_at dksX0_findRings_0 12 rfl rfl)
theorem dX0_findRings_15 : decode cX0_findRings 15 = .ok (.if_icmp .ge 39, 3) := dk_162 0 39 (dk_at dksX0_findRings_0 15 rfl rfl)
theorem dX0_findRings_18 : decode cX0_findRings 18 = .ok (.aload_n 0, 1) := dk_42 (dk_at dksX0_findRings_0 18 rfl rfl)
theorem dX0_findRings_19 : decode cX0_findRings 19 = .ok (.getfield 47, 3) := dk_180 0 47 (dk_at dksX0_findRings_0 19 rfl rfl)
theorem dX0_findRings_22 : decode cX0_findRings 22 = .ok (.iload_n 2, 1) := dk_28 (dk_at dksX0_findRings_0 22 rfl rfl)
theorem dX0_findRings_23 : decode cX0_findRings 23 = .ok (.invokevirtual 192, 3) := dk_182 0 192 (dk_at dksX0_findRings_1 0 rfl rfl)
theorem dX0_findRings_26 : decode cX0_findRings 26 = .ok (.ifCond .eq 6, 3) := dk_153 0 6 (dk_at dksX0_findRings_1 3 rfl rfl)
theorem dX0_findRings_29 : decode cX0_findRings 29 = .ok (.goto 19, 3) := dk_167 0 19 (dk_at dksX0_findRings_1 6 rfl rfl)
theorem dX0_findRings_32 : decode cX0_findRings 32 = .ok (.aload_n 0, 1) := dk_42 (dk_at dksX0_findRings_1 9 rfl rfl)
theorem dX0_findRings_33 : decode cX0_findRings 33 = .ok (.getfield 121, 3) := dk_180 0 121 (dk_at dksX0_findRings_1 10 rfl rfl)
theorem dX0_findRings_36 : decode cX0_findRings 36 = .ok (.iconst 0, 1) := dk_3 (dk_at dksX0_findRings_1 13 rfl rfl)
theorem dX0_findRings_37 : decode cX0_findRings 37 = .ok (.iload_n 2, 1) := dk_28 (dk_at dksX0_findRings_1 14 rfl rfl)
theorem dX0_findRings_38 : decode cX0_findRings 38 = .ok (.iastore, 1) := dk_79 (dk_at dksX0_findRings_1 15 rfl rfl)
theorem dX0_findRings_39 : decode cX0_findRings 39 = .ok (.aload_n 0, 1) := dk_42 (dk_at dksX0_findRings_1 16 rfl rfl)
theorem dX0_findRings_40 : decode cX0_findRings 40 = .ok (.iconst 1, 1) := dk_4 (dk_at dksX0_findRings_1 17 rfl rfl)
theorem dX0_findRings_41 : decode cX0_findRings 41 = .ok (.iload_n 1, 1) := dk_27 (dk_at dksX0_findRings_1 18 rfl rfl)
theorem dX0_findRings_42 : decode cX0_findRings 42 = .ok (.iconst 1, 1) := dk_4 (dk_at dksX0_findRings_1 19 rfl rfl)
theorem dX0_findRings_43 : decode cX0_findRings 43 = .ok (.iload_n 2, 1) := dk_28 (dk_at dksX0_findRings_1 20 rfl rfl)
theorem dX0_findRings_44 : decode cX0_findRings 44 = .ok (.ishl, 1) := dk_120 (dk_at dksX0_findRings_1 21 rfl rfl)
theorem dX0_findRings_45 : decode cX0_findRings 45 = .ok (.invokevirtual 447, 3) := dk_182 1 191 (dk_at dksX0_findRings_2 0 rfl rfl)
theorem dX0_findRings_48 : decode cX0_findRings 48 = .ok (.iinc 2 1, 3) := dk_132 2 1 (dk_at dksX0_findRings_2 3 rfl rfl)
theorem dX0_findRings_51 : decode cX0_findRings 51 = .ok (.goto (-44), 3) := dk_167 255 212 (dk_at dksX0_findRings_2 6 rfl rfl)
theorem dX0_findRings_54 : decode cX0_findRings 54 = .ok (.return_, 1) := dk_177 (dk_at dksX0_findRings_2 9 rfl rfl)
abbrev cX0_ringsFrom : ByteArray := prog_1_method_69_code
def yX0_ringsFrom : MethodName := ⟨RX0, "ringsFrom", "(III)V"⟩
def dkwX0_ringsFrom_8 : List UInt8 := [128, 182, 1, 191, 132, 5, 1, 167, 255, 160, 177]
abbrev dktX0_ringsFrom_8 : List UInt8 := dkwX0_ringsFrom_8 ++ []
def dkwX0_ringsFrom_7 : List UInt8 := [153, 0, 6, 167, 0, 25, 42, 180, 0, 121, 27, 21, 5, 79, 42, 27, 4, 96, 28, 29, 4, 21, 5, 120]
abbrev dktX0_ringsFrom_7 : List UInt8 := dkwX0_ringsFrom_7 ++ dktX0_ringsFrom_8
def dkwX0_ringsFrom_6 : List UInt8 := [160, 0, 51, 42, 21, 4, 21, 5, 182, 0, 195, 153, 0, 40, 42, 180, 0, 47, 21, 5, 182, 0, 192]
abbrev dktX0_ringsFrom_6 : List UInt8 := dkwX0_ringsFrom_6 ++ dktX0_ringsFrom_7
def dkwX0_ringsFrom_5 : List UInt8 := [4, 159, 0, 74, 42, 180, 0, 47, 180, 0, 174, 21, 5, 46, 42, 180, 0, 47, 180, 0, 160, 21, 4, 46]
abbrev dktX0_ringsFrom_5 : List UInt8 := dkwX0_ringsFrom_5 ++ dktX0_ringsFrom_6
def dkwX0_ringsFrom_4 : List UInt8 := [3, 46, 4, 96, 54, 5, 21, 5, 42, 180, 0, 47, 180, 0, 147, 162, 0, 90, 29, 21, 5, 122, 4, 126]
abbrev dktX0_ringsFrom_4 : List UInt8 := dkwX0_ringsFrom_4 ++ dktX0_ringsFrom_5
def dkwX0_ringsFrom_3 : List UInt8 := [42, 180, 0, 124, 3, 28, 184, 1, 72, 42, 89, 180, 1, 188, 4, 96, 181, 1, 188, 177, 42, 180, 0, 121]
abbrev dktX0_ringsFrom_3 : List UInt8 := dkwX0_ringsFrom_3 ++ dktX0_ringsFrom_4
def dkwX0_ringsFrom_2 : List UInt8 := [180, 0, 121, 3, 46, 182, 0, 195, 154, 0, 4, 177, 42, 180, 1, 188, 154, 0, 17, 42, 180, 0, 121, 3]
abbrev dktX0_ringsFrom_2 : List UInt8 := dkwX0_ringsFrom_2 ++ dktX0_ringsFrom_3
def dkwX0_ringsFrom_1 : List UInt8 := [180, 0, 121, 3, 46, 46, 42, 180, 0, 47, 180, 0, 160, 21, 4, 46, 160, 0, 18, 42, 21, 4, 42]
abbrev dktX0_ringsFrom_1 : List UInt8 := dkwX0_ringsFrom_1 ++ dktX0_ringsFrom_2
def dkwX0_ringsFrom_0 : List UInt8 := [42, 180, 0, 121, 27, 4, 100, 46, 54, 4, 27, 28, 160, 0, 78, 42, 180, 0, 47, 180, 0, 174, 42]
abbrev dktX0_ringsFrom_0 : List UInt8 := dkwX0_ringsFrom_0 ++ dktX0_ringsFrom_1
theorem dksX0_ringsFrom_0 : cX0_ringsFrom.data.toList.drop 0 = dktX0_ringsFrom_0 := by decide +kernel
theorem dksX0_ringsFrom_1 : cX0_ringsFrom.data.toList.drop 23 = dktX0_ringsFrom_1 := dk_seg dksX0_ringsFrom_0 23 rfl rfl
theorem dksX0_ringsFrom_2 : cX0_ringsFrom.data.toList.drop 46 = dktX0_ringsFrom_2 := dk_seg dksX0_ringsFrom_1 23 rfl rfl
theorem dksX0_ringsFrom_3 : cX0_ringsFrom.data.toList.drop 70 = dktX0_ringsFrom_3 := dk_seg dksX0_ringsFrom_2 24 rfl rfl
theorem dksX0_ringsFrom_4 : cX0_ringsFrom.data.toList.drop 94 = dktX0_ringsFrom_4 := dk_seg dksX0_ringsFrom_3 24 rfl rfl
theorem dksX0_ringsFrom_5 : cX0_ringsFrom.data.toList.drop 118 = dktX0_ringsFrom_5 := dk_seg dksX0_ringsFrom_4 24 rfl rfl
theorem dksX0_ringsFrom_6 : cX0_ringsFrom.data.toList.drop 142 = dktX0_ringsFrom_6 := dk_seg dksX0_ringsFrom_5 24 rfl rfl
theorem dksX0_ringsFrom_7 : cX0_ringsFrom.data.toList.drop 165 = dktX0_ringsFrom_7 := dk_seg dksX0_ringsFrom_6 23 rfl rfl
theorem dksX0_ringsFrom_8 : cX0_ringsFrom.data.toList.drop 189 = dktX0_ringsFrom_8 := dk_seg dksX0_ringsFrom_7 24 rfl rfl
theorem dX0_ringsFrom_0 : decode cX0_ringsFrom 0 = .ok (.aload_n 0, 1) := dk_42 (dk_at dksX0_ringsFrom_0 0 rfl rfl)
theorem dX0_ringsFrom_1 : decode cX0_ringsFrom 1 = .ok (.getfield 121, 3) := dk_180 0 121 (dk_at dksX0_ringsFrom_0 1 rfl rfl)
theorem dX0_ringsFrom_4 : decode cX0_ringsFrom 4 = .ok (.iload_n 1, 1) := dk_27 (dk_at dksX0_ringsFrom_0 4 rfl rfl)
theorem dX0_ringsFrom_5 : decode cX0_ringsFrom 5 = .ok (.iconst 1, 1) := dk_4 (dk_at dksX0_ringsFrom_0 5 rfl rfl)
theorem dX0_ringsFrom_6 : decode cX0_ringsFrom 6 = .ok (.isub, 1) := dk_100 (dk_at dksX0_ringsFrom_0 6 rfl rfl)
theorem dX0_ringsFrom_7 : decode cX0_ringsFrom 7 = .ok (.iaload, 1) := dk_46 (dk_at dksX0_ringsFrom_0 7 rfl rfl)
theorem dX0_ringsFrom_8 : decode cX0_ringsFrom 8 = .ok (.istore 4, 2) := dk_54 4 (dk_at dksX0_ringsFrom_0 8 rfl rfl)
theorem dX0_ringsFrom_10 : decode cX0_ringsFrom 10 = .ok (.iload_n 1, 1) := dk_27 (dk_at dksX0_ringsFrom_0 10 rfl rfl)
theorem dX0_ringsFrom_11 : decode cX0_ringsFrom 11 = .ok (.iload_n 2, 1) := dk_28 (dk_at dksX0_ringsFrom_0 11 rfl rfl)
theorem dX0_ringsFrom_12 : decode cX0_ringsFrom 12 = .ok (.if_icmp .ne 78, 3) := dk_160 0 78 (dk_at dksX0_ringsFrom_0 12 rfl rfl)
theorem dX0_ringsFrom_15 : decode cX0_ringsFrom 15 = .ok (.aload_n 0, 1) := dk_42 (dk_at dksX0_ringsFrom_0 15 rfl rfl)
theorem dX0_ringsFrom_16 : decode cX0_ringsFrom 16 = .ok (.getfield 47, 3) := dk_180 0 47 (dk_at dksX0_ringsFrom_0 16 rfl rfl)
theorem dX0_ringsFrom_19 : decode cX0_ringsFrom 19 = .ok (.getfield 174, 3) := dk_180 0 174 (dk_at dksX0_ringsFrom_0 19 rfl rfl)
theorem dX0_ringsFrom_22 : decode cX0_ringsFrom 22 = .ok (.aload_n 0, 1) := dk_42 (dk_at dksX0_ringsFrom_0 22 rfl rfl)
theorem dX0_ringsFrom_23 : decode cX0_ringsFrom 23 = .ok (.getfield 121, 3) := dk_180 0 121 (dk_at dksX0_ringsFrom_1 0 rfl rfl)
theorem dX0_ringsFrom_26 : decode cX0_ringsFrom 26 = .ok (.iconst 0, 1) := dk_3 (dk_at dksX0_ringsFrom_1 3 rfl rfl)
theorem dX0_ringsFrom_27 : decode cX0_ringsFrom 27 = .ok (.iaload, 1) := dk_46 (dk_at dksX0_ringsFrom_1 4 rfl rfl)
theorem dX0_ringsFrom_28 : decode cX0_ringsFrom 28 = .ok (.iaload, 1) := dk_46 (dk_at dksX0_ringsFrom_1 5 rfl rfl)
theorem dX0_ringsFrom_29 : decode cX0_ringsFrom 29 = .ok (.aload_n 0, 1) := dk_42 (dk_at dksX0_ringsFrom_1 6 rfl rfl)
theorem dX0_ringsFrom_30 : decode cX0_ringsFrom 30 = .ok (.getfield 47, 3) := dk_180 0 47 (dk_at dksX0_ringsFrom_1 7 rfl rfl)
theorem dX0_ringsFrom_33 : decode cX0_ringsFrom 33 = .ok (.getfield 160, 3) := dk_180 0 160 (dk_at dksX0_ringsFrom_1 10 rfl rfl)
theorem dX0_ringsFrom_36 : decode cX0_ringsFrom 36 = .ok (.iload 4, 2) := dk_21 4 (dk_at dksX0_ringsFrom_1 13 rfl rfl)
theorem dX0_ringsFrom_38 : decode cX0_ringsFrom 38 = .ok (.iaload, 1) := dk_46 (dk_at dksX0_ringsFrom_1 15 rfl rfl)
theorem dX0_ringsFrom_39 : decode cX0_ringsFrom 39 = .ok (.if_icmp .ne 18, 3) := dk_160 0 18 (dk_at dksX0_ringsFrom_1 16 rfl rfl)
theorem dX0_ringsFrom_42 : decode cX0_ringsFrom 42 = .ok (.aload_n 0, 1) := dk_42 (dk_at dksX0_ringsFrom_1 19 rfl rfl)
theorem dX0_ringsFrom_43 : decode cX0_ringsFrom 43 = .ok (.iload 4, 2) := dk_21 4 (dk_at dksX0_ringsFrom_1 20 rfl rfl)
theorem dX0_ringsFrom_45 : decode cX0_ringsFrom 45 = .ok (.aload_n 0, 1) := dk_42 (dk_at dksX0_ringsFrom_1 22 rfl rfl)
theorem dX0_ringsFrom_46 : decode cX0_ringsFrom 46 = .ok (.getfield 121, 3) := dk_180 0 121 (dk_at dksX0_ringsFrom_2 0 rfl rfl)
theorem dX0_ringsFrom_49 : decode cX0_ringsFrom 49 = .ok (.iconst 0, 1) := dk_3 (dk_at dksX0_ringsFrom_2 3 rfl rfl)
theorem dX0_ringsFrom_50 : decode cX0_ringsFrom 50 = .ok (.iaload, 1) := dk_46 (dk_at dksX0_ringsFrom_2 4 rfl rfl)
theorem dX0_ringsFrom_51 : decode cX0_ringsFrom 51 = .ok (.invokevirtual 195, 3) := dk_182 0 195 (dk_at dksX0_ringsFrom_2 5 rfl rfl)
theorem dX0_ringsFrom_54 : decode cX0_ringsFrom 54 = .ok (.ifCond .ne 4, 3) := dk_154 0 4 (dk_at dksX0_ringsFrom_2 8 rfl rfl)
theorem dX0_ringsFrom_57 : decode cX0_ringsFrom 57 = .ok (.return_, 1) := dk_177 (dk_at dksX0_ringsFrom_2 11 rfl rfl)
theorem dX0_ringsFrom_58 : decode cX0_ringsFrom 58 = .ok (.aload_n 0, 1) := dk_42 (dk_at dksX0_ringsFrom_2 12 rfl rfl)
theorem dX0_ringsFrom_59 : decode cX0_ringsFrom 59 = .ok (.getfield 444, 3) := dk_180 1 188 (dk_at dksX0_ringsFrom_2 13 rfl rfl)
theorem dX0_ringsFrom_62 : decode cX0_ringsFrom 62 = .ok (.ifCond .ne 17, 3) := dk_154 0 17 (dk_at dksX0_ringsFrom_2 16 rfl rfl)
theorem dX0_ringsFrom_65 : decode cX0_ringsFrom 65 = .ok (.aload_n 0, 1) := dk_42 (dk_at dksX0_ringsFrom_2 19 rfl rfl)
theorem dX0_ringsFrom_66 : decode cX0_ringsFrom 66 = .ok (.getfield 121, 3) := dk_180 0 121 (dk_at dksX0_ringsFrom_2 20 rfl rfl)
theorem dX0_ringsFrom_69 : decode cX0_ringsFrom 69 = .ok (.iconst 0, 1) := dk_3 (dk_at dksX0_ringsFrom_2 23 rfl rfl)
theorem dX0_ringsFrom_70 : decode cX0_ringsFrom 70 = .ok (.aload_n 0, 1) := dk_42 (dk_at dksX0_ringsFrom_3 0 rfl rfl)
theorem dX0_ringsFrom_71 : decode cX0_ringsFrom 71 = .ok (.getfield 124, 3) := dk_180 0 124 (dk_at dksX0_ringsFrom_3 1 rfl rfl)
theorem dX0_ringsFrom_74 : decode cX0_ringsFrom 74 = .ok (.iconst 0, 1) := dk_3 (dk_at dksX0_ringsFrom_3 4 rfl rfl)
theorem dX0_ringsFrom_75 : decode cX0_ringsFrom 75 = .ok (.iload_n 2, 1) := dk_28 (dk_at dksX0_ringsFrom_3 5 rfl rfl)
theorem dX0_ringsFrom_76 : decode cX0_ringsFrom 76 = .ok (.invokestatic 328, 3) := dk_184 1 72 (dk_at dksX0_ringsFrom_3 6 rfl rfl)
theorem dX0_ringsFrom_79 : decode cX0_ringsFrom 79 = .ok (.aload_n 0, 1) := dk_42 (dk_at dksX0_ringsFrom_3 9 rfl rfl)
theorem dX0_ringsFrom_80 : decode cX0_ringsFrom 80 = .ok (.dup, 1) := dk_89 (dk_at dksX0_ringsFrom_3 10 rfl rfl)
theorem dX0_ringsFrom_81 : decode cX0_ringsFrom 81 = .ok (.getfield 444, 3) := dk_180 1 188 (dk_at dksX0_ringsFrom_3 11 rfl rfl)
theorem dX0_ringsFrom_84 : decode cX0_ringsFrom 84 = .ok (.iconst 1, 1) := dk_4 (dk_at dksX0_ringsFrom_3 14 rfl rfl)
theorem dX0_ringsFrom_85 : decode cX0_ringsFrom 85 = .ok (.iadd, 1) := dk_96 (dk_at dksX0_ringsFrom_3 15 rfl rfl)
theorem dX0_ringsFrom_86 : decode cX0_ringsFrom 86 = .ok (.putfield 444, 3) := dk_181 1 188 (dk_at dksX0_ringsFrom_3 16 rfl rfl)
theorem dX0_ringsFrom_89 : decode cX0_ringsFrom 89 = .ok (.return_, 1) := dk_177 (dk_at dksX0_ringsFrom_3 19 rfl rfl)
theorem dX0_ringsFrom_90 : decode cX0_ringsFrom 90 = .ok (.aload_n 0, 1) := dk_42 (dk_at dksX0_ringsFrom_3 20 rfl rfl)
theorem dX0_ringsFrom_91 : decode cX0_ringsFrom 91 = .ok (.getfield 121, 3) := dk_180 0 121 (dk_at dksX0_ringsFrom_3 21 rfl rfl)
theorem dX0_ringsFrom_94 : decode cX0_ringsFrom 94 = .ok (.iconst 0, 1) := dk_3 (dk_at dksX0_ringsFrom_4 0 rfl rfl)
theorem dX0_ringsFrom_95 : decode cX0_ringsFrom 95 = .ok (.iaload, 1) := dk_46 (dk_at dksX0_ringsFrom_4 1 rfl rfl)
theorem dX0_ringsFrom_96 : decode cX0_ringsFrom 96 = .ok (.iconst 1, 1) := dk_4 (dk_at dksX0_ringsFrom_4 2 rfl rfl)
theorem dX0_ringsFrom_97 : decode cX0_ringsFrom 97 = .ok (.iadd, 1) := dk_96 (dk_at dksX0_ringsFrom_4 3 rfl rfl)
theorem dX0_ringsFrom_98 : decode cX0_ringsFrom 98 = .ok (.istore 5, 2) := dk_54 5 (dk_at dksX0_ringsFrom_4 4 rfl rfl)
theorem dX0_ringsFrom_100 : decode cX0_ringsFrom 100 = .ok (.iload 5, 2) := dk_21 5 (dk_at dksX0_ringsFrom_4 6 rfl rfl)
theorem dX0_ringsFrom_102 : decode cX0_ringsFrom 102 = .ok (.aload_n 0, 1) := dk_42 (dk_at dksX0_ringsFrom_4 8 rfl rfl)
theorem dX0_ringsFrom_103 : decode cX0_ringsFrom 103 = .ok (.getfield 47, 3) := dk_180 0 47 (dk_at dksX0_ringsFrom_4 9 rfl rfl)
theorem dX0_ringsFrom_106 : decode cX0_ringsFrom 106 = .ok (.getfield 147, 3) := dk_180 0 147 (dk_at dksX0_ringsFrom_4 12 rfl rfl)
theorem dX0_ringsFrom_109 : decode cX0_ringsFrom 109 = .ok (.if_icmp .ge 90, 3) := dk_162 0 90 (dk_at dksX0_ringsFrom_4 15 rfl rfl)
theorem dX0_ringsFrom_112 : decode cX0_ringsFrom 112 = .ok (.iload_n 3, 1) := dk_29 (dk_at dksX0_ringsFrom_4 18 rfl rfl)
theorem dX0_ringsFrom_113 : decode cX0_ringsFrom 113 = .ok (.iload 5, 2) := dk_21 5 (dk_at dksX0_ringsFrom_4 19 rfl rfl)
theorem dX0_ringsFrom_115 : decode cX0_ringsFrom 115 = .ok (.ishr, 1) := dk_122 (dk_at dksX0_ringsFrom_4 21 rfl rfl)
theorem dX0_ringsFrom_116 : decode cX0_ringsFrom 116 = .ok (.iconst 1, 1) := dk_4 (dk_at dksX0_ringsFrom_4 22 rfl rfl)
theorem dX0_ringsFrom_117 : decode cX0_ringsFrom 117 = .ok (.iand, 1) := dk_126 (dk_at dksX0_ringsFrom_4 23 rfl rfl)
theorem dX0_ringsFrom_118 : decode cX0_ringsFrom 118 = .ok (.iconst 1, 1) := dk_4 (dk_at dksX0_ringsFrom_5 0 rfl rfl)
theorem dX0_ringsFrom_119 : decode cX0_ringsFrom 119 = .ok (.if_icmp .eq 74, 3) := dk_159 0 74 (dk_at dksX0_ringsFrom_5 1 rfl rfl)
theorem dX0_ringsFrom_122 : decode cX0_ringsFrom 122 = .ok (.aload_n 0, 1) := dk_42 (dk_at dksX0_ringsFrom_5 4 rfl rfl)
theorem dX0_ringsFrom_123 : decode cX0_ringsFrom 123 = .ok (.getfield 47, 3) := dk_180 0 47 (dk_at dksX0_ringsFrom_5 5 rfl rfl)
theorem dX0_ringsFrom_126 : decode cX0_ringsFrom 126 = .ok (.getfield 174, 3) := dk_180 0 174 (dk_at dksX0_ringsFrom_5 8 rfl rfl)
theorem dX0_ringsFrom_129 : decode cX0_ringsFrom 129 = .ok (.iload 5, 2) := dk_21 5 (dk_at dksX0_ringsFrom_5 11 rfl rfl)
theorem dX0_ringsFrom_131 : decode cX0_ringsFrom 131 = .ok (.iaload, 1) := dk_46 (dk_at dksX0_ringsFrom_5 13 rfl rfl)
theorem dX0_ringsFrom_132 : decode cX0_ringsFrom 132 = .ok (.aload_n 0, 1) := dk_42 (dk_at dksX0_ringsFrom_5 14 rfl rfl)
theorem dX0_ringsFrom_133 : decode cX0_ringsFrom 133 = .ok (.getfield 47, 3) := dk_180 0 47 (dk_at dksX0_ringsFrom_5 15 rfl rfl)
theorem dX0_ringsFrom_136 : decode cX0_ringsFrom 136 = .ok (.getfield 160, 3) := dk_180 0 160 (dk_at dksX0_ringsFrom_5 18 rfl rfl)
theorem dX0_ringsFrom_139 : decode cX0_ringsFrom 139 = .ok (.iload 4, 2) := dk_21 4 (dk_at dksX0_ringsFrom_5 21 rfl rfl)
theorem dX0_ringsFrom_141 : decode cX0_ringsFrom 141 = .ok (.iaload, 1) := dk_46 (dk_at dksX0_ringsFrom_5 23 rfl rfl)
theorem dX0_ringsFrom_142 : decode cX0_ringsFrom 142 = .ok (.if_icmp .ne 51, 3) := dk_160 0 51 (dk_at dksX0_ringsFrom_6 0 rfl rfl)
theorem dX0_ringsFrom_145 : decode cX0_ringsFrom 145 = .ok (.aload_n 0, 1) := dk_42 (dk_at dksX0_ringsFrom_6 3 rfl rfl)
theorem dX0_ringsFrom_146 : decode cX0_ringsFrom 146 = .ok (.iload 4, 2) := dk_21 4 (dk_at dksX0_ringsFrom_6 4 rfl rfl)
theorem dX0_ringsFrom_148 : decode cX0_ringsFrom 148 = .ok (.iload 5, 2) := dk_21 5 (dk_at dksX0_ringsFrom_6 6 rfl rfl)
theorem dX0_ringsFrom_150 : decode cX0_ringsFrom 150 = .ok (.invokevirtual 195, 3) := dk_182 0 195 (dk_at dksX0_ringsFrom_6 8 rfl rfl)
theorem dX0_ringsFrom_153 : decode cX0_ringsFrom 153 = .ok (.ifCond .eq 40, 3) := dk_153 0 40 (dk_at dksX0_ringsFrom_6 11 rfl rfl)
theorem dX0_ringsFrom_156 : decode cX0_ringsFrom 156 = .ok (.aload_n 0, 1) := dk_42 (dk_at dksX0_ringsFrom_6 14 rfl rfl)
theorem dX0_ringsFrom_157 : decode cX0_ringsFrom 157 = .ok (.getfield 47, 3) := dk_180 0 47 (dk_at dksX0_ringsFrom_6 15 rfl rfl)
theorem dX0_ringsFrom_160 : decode cX0_ringsFrom 160 = .ok (.iload 5, 2) := dk_21 5 (dk_at dksX0_ringsFrom_6 18 rfl rfl)
theorem dX0_ringsFrom_162 : decode cX0_ringsFrom 162 = .ok (.invokevirtual 192, 3) := dk_182 0 192 (dk_at dksX0_ringsFrom_6 20 rfl rfl)
theorem dX0_ringsFrom_165 : decode cX0_ringsFrom 165 = .ok (.ifCond .eq 6, 3) := dk_153 0 6 (dk_at dksX0_ringsFrom_7 0 rfl rfl)
theorem dX0_ringsFrom_168 : decode cX0_ringsFrom 168 = .ok (.goto 25, 3) := dk_167 0 25 (dk_at dksX0_ringsFrom_7 3 rfl rfl)
theorem dX0_ringsFrom_171 : decode cX0_ringsFrom 171 = .ok (.aload_n 0, 1) := dk_42 (dk_at dksX0_ringsFrom_7 6 rfl rfl)
theorem dX0_ringsFrom_172 : decode cX0_ringsFrom 172 = .ok (.getfield 121, 3) := dk_180 0 121 (dk_at dksX0_ringsFrom_7 7 rfl rfl)
theorem dX0_ringsFrom_175 : decode cX0_ringsFrom 175 = .ok (.iload_n 1, 1) := dk_27 (dk_at dksX0_ringsFrom_7 10 rfl rfl)
theorem dX0_ringsFrom_176 : decode cX0_ringsFrom 176 = .ok (.iload 5, 2) := dk_21 5 (dk_at dksX0_ringsFrom_7 11 rfl rfl)
theorem dX0_ringsFrom_178 : decode cX0_ringsFrom 178 = .ok (.iastore, 1) := dk_79 (dk_at dksX0_ringsFrom_7 13 rfl rfl)
theorem dX0_ringsFrom_179 : decode cX0_ringsFrom 179 = .ok (.aload_n 0, 1) := dk_42 (dk_at dksX0_ringsFrom_7 14 rfl rfl)
theorem dX0_ringsFrom_180 : decode cX0_ringsFrom 180 = .ok (.iload_n 1, 1) := dk_27 (dk_at dksX0_ringsFrom_7 15 rfl rfl)
theorem dX0_ringsFrom_181 : decode cX0_ringsFrom 181 = .ok (.iconst 1, 1) := dk_4 (dk_at dksX0_ringsFrom_7 16 rfl rfl)
theorem dX0_ringsFrom_182 : decode cX0_ringsFrom 182 = .ok (.iadd, 1) := dk_96 (dk_at dksX0_ringsFrom_7 17 rfl rfl)
theorem dX0_ringsFrom_183 : decode cX0_ringsFrom 183 = .ok (.iload_n 2, 1) := dk_28 (dk_at dksX0_ringsFrom_7 18 rfl rfl)
theorem dX0_ringsFrom_184 : decode cX0_ringsFrom 184 = .ok (.iload_n 3, 1) := dk_29 (dk_at dksX0_ringsFrom_7 19 rfl rfl)
theorem dX0_ringsFrom_185 : decode cX0_ringsFrom 185 = .ok (.iconst 1, 1) := dk_4 (dk_at dksX0_ringsFrom_7 20 rfl rfl)
theorem dX0_ringsFrom_186 : decode cX0_ringsFrom 186 = .ok (.iload 5, 2) := dk_21 5 (dk_at dksX0_ringsFrom_7 21 rfl rfl)
theorem dX0_ringsFrom_188 : decode cX0_ringsFrom 188 = .ok (.ishl, 1) := dk_120 (dk_at dksX0_ringsFrom_7 23 rfl rfl)
theorem dX0_ringsFrom_189 : decode cX0_ringsFrom 189 = .ok (.ior, 1) := dk_128 (dk_at dksX0_ringsFrom_8 0 rfl rfl)
theorem dX0_ringsFrom_190 : decode cX0_ringsFrom 190 = .ok (.invokevirtual 447, 3) := dk_182 1 191 (dk_at dksX0_ringsFrom_8 1 rfl rfl)
theorem dX0_ringsFrom_193 : decode cX0_ringsFrom 193 = .ok (.iinc 5 1, 3) := dk_132 5 1 (dk_at dksX0_ringsFrom_8 4 rfl rfl)
theorem dX0_ringsFrom_196 : decode cX0_ringsFrom 196 = .ok (.goto (-96), 3) := dk_167 255 160 (dk_at dksX0_ringsFrom_8 7 rfl rfl)
theorem dX0_ringsFrom_199 : decode cX0_ringsFrom 199 = .ok (.return_, 1) := dk_177 (dk_at dksX0_ringsFrom_8 10 rfl rfl)
abbrev cX0_ring : ByteArray := prog_1_method_72_code
def yX0_ring : MethodName := ⟨RX0, "ring", "(II)I"⟩
def dkwX0_ring_1 : List UInt8 := [27, 182, 1, 194, 42, 180, 1, 188, 158, 0, 12, 42, 180, 0, 124, 28, 46, 167, 0, 5, 16, 253, 172]
abbrev dktX0_ring_1 : List UInt8 := dkwX0_ring_1 ++ []
def dkwX0_ring_0 : List UInt8 := [27, 5, 16, 6, 184, 0, 149, 153, 0, 14, 28, 3, 27, 4, 100, 184, 0, 149, 154, 0, 5, 2, 172, 42]
abbrev dktX0_ring_0 : List UInt8 := dkwX0_ring_0 ++ dktX0_ring_1
theorem dksX0_ring_0 : cX0_ring.data.toList.drop 0 = dktX0_ring_0 := by decide +kernel
theorem dksX0_ring_1 : cX0_ring.data.toList.drop 24 = dktX0_ring_1 := dk_seg dksX0_ring_0 24 rfl rfl
theorem dX0_ring_0 : decode cX0_ring 0 = .ok (.iload_n 1, 1) := dk_27 (dk_at dksX0_ring_0 0 rfl rfl)
theorem dX0_ring_1 : decode cX0_ring 1 = .ok (.iconst 2, 1) := dk_5 (dk_at dksX0_ring_0 1 rfl rfl)
theorem dX0_ring_2 : decode cX0_ring 2 = .ok (.bipush 6, 2) := dk_16 6 (dk_at dksX0_ring_0 2 rfl rfl)
theorem dX0_ring_4 : decode cX0_ring 4 = .ok (.invokestatic 149, 3) := dk_184 0 149 (dk_at dksX0_ring_0 4 rfl rfl)
theorem dX0_ring_7 : decode cX0_ring 7 = .ok (.ifCond .eq 14, 3) := dk_153 0 14 (dk_at dksX0_ring_0 7 rfl rfl)
theorem dX0_ring_10 : decode cX0_ring 10 = .ok (.iload_n 2, 1) := dk_28 (dk_at dksX0_ring_0 10 rfl rfl)
theorem dX0_ring_11 : decode cX0_ring 11 = .ok (.iconst 0, 1) := dk_3 (dk_at dksX0_ring_0 11 rfl rfl)
theorem dX0_ring_12 : decode cX0_ring 12 = .ok (.iload_n 1, 1) := dk_27 (dk_at dksX0_ring_0 12 rfl rfl)
theorem dX0_ring_13 : decode cX0_ring 13 = .ok (.iconst 1, 1) := dk_4 (dk_at dksX0_ring_0 13 rfl rfl)
theorem dX0_ring_14 : decode cX0_ring 14 = .ok (.isub, 1) := dk_100 (dk_at dksX0_ring_0 14 rfl rfl)
theorem dX0_ring_15 : decode cX0_ring 15 = .ok (.invokestatic 149, 3) := dk_184 0 149 (dk_at dksX0_ring_0 15 rfl rfl)
theorem dX0_ring_18 : decode cX0_ring 18 = .ok (.ifCond .ne 5, 3) := dk_154 0 5 (dk_at dksX0_ring_0 18 rfl rfl)
theorem dX0_ring_21 : decode cX0_ring 21 = .ok (.iconst (-1), 1) := dk_2 (dk_at dksX0_ring_0 21 rfl rfl)
theorem dX0_ring_22 : decode cX0_ring 22 = .ok (.ireturn, 1) := dk_172 (dk_at dksX0_ring_0 22 rfl rfl)
theorem dX0_ring_23 : decode cX0_ring 23 = .ok (.aload_n 0, 1) := dk_42 (dk_at dksX0_ring_0 23 rfl rfl)
theorem dX0_ring_24 : decode cX0_ring 24 = .ok (.iload_n 1, 1) := dk_27 (dk_at dksX0_ring_1 0 rfl rfl)
theorem dX0_ring_25 : decode cX0_ring 25 = .ok (.invokevirtual 450, 3) := dk_182 1 194 (dk_at dksX0_ring_1 1 rfl rfl)
theorem dX0_ring_28 : decode cX0_ring 28 = .ok (.aload_n 0, 1) := dk_42 (dk_at dksX0_ring_1 4 rfl rfl)
theorem dX0_ring_29 : decode cX0_ring 29 = .ok (.getfield 444, 3) := dk_180 1 188 (dk_at dksX0_ring_1 5 rfl rfl)
theorem dX0_ring_32 : decode cX0_ring 32 = .ok (.ifCond .le 12, 3) := dk_158 0 12 (dk_at dksX0_ring_1 8 rfl rfl)
theorem dX0_ring_35 : decode cX0_ring 35 = .ok (.aload_n 0, 1) := dk_42 (dk_at dksX0_ring_1 11 rfl rfl)
theorem dX0_ring_36 : decode cX0_ring 36 = .ok (.getfield 124, 3) := dk_180 0 124 (dk_at dksX0_ring_1 12 rfl rfl)
theorem dX0_ring_39 : decode cX0_ring 39 = .ok (.iload_n 2, 1) := dk_28 (dk_at dksX0_ring_1 15 rfl rfl)
theorem dX0_ring_40 : decode cX0_ring 40 = .ok (.iaload, 1) := dk_46 (dk_at dksX0_ring_1 16 rfl rfl)
theorem dX0_ring_41 : decode cX0_ring 41 = .ok (.goto 5, 3) := dk_167 0 5 (dk_at dksX0_ring_1 17 rfl rfl)
theorem dX0_ring_44 : decode cX0_ring 44 = .ok (.bipush (-3), 2) := dk_16 253 (dk_at dksX0_ring_1 20 rfl rfl)
theorem dX0_ring_46 : decode cX0_ring 46 = .ok (.ireturn, 1) := dk_172 (dk_at dksX0_ring_1 22 rfl rfl)
abbrev cX0_comes : ByteArray := prog_1_method_75_code
def yX0_comes : MethodName := ⟨RX0, "comes", "(II)I"⟩
def dkwX0_comes_1 : List UInt8 := [167, 0, 4, 2, 172]
abbrev dktX0_comes_1 : List UInt8 := dkwX0_comes_1 ++ []
def dkwX0_comes_0 : List UInt8 := [42, 27, 182, 0, 185, 153, 0, 21, 28, 3, 7, 184, 0, 149, 153, 0, 12, 42, 27, 28, 182, 1, 203]
abbrev dktX0_comes_0 : List UInt8 := dkwX0_comes_0 ++ dktX0_comes_1
theorem dksX0_comes_0 : cX0_comes.data.toList.drop 0 = dktX0_comes_0 := by decide +kernel
theorem dksX0_comes_1 : cX0_comes.data.toList.drop 23 = dktX0_comes_1 := dk_seg dksX0_comes_0 23 rfl rfl
theorem dX0_comes_0 : decode cX0_comes 0 = .ok (.aload_n 0, 1) := dk_42 (dk_at dksX0_comes_0 0 rfl rfl)
theorem dX0_comes_1 : decode cX0_comes 1 = .ok (.iload_n 1, 1) := dk_27 (dk_at dksX0_comes_0 1 rfl rfl)
theorem dX0_comes_2 : decode cX0_comes 2 = .ok (.invokevirtual 185, 3) := dk_182 0 185 (dk_at dksX0_comes_0 2 rfl rfl)
theorem dX0_comes_5 : decode cX0_comes 5 = .ok (.ifCond .eq 21, 3) := dk_153 0 21 (dk_at dksX0_comes_0 5 rfl rfl)
theorem dX0_comes_8 : decode cX0_comes 8 = .ok (.iload_n 2, 1) := dk_28 (dk_at dksX0_comes_0 8 rfl rfl)
theorem dX0_comes_9 : decode cX0_comes 9 = .ok (.iconst 0, 1) := dk_3 (dk_at dksX0_comes_0 9 rfl rfl)
theorem dX0_comes_10 : decode cX0_comes 10 = .ok (.iconst 4, 1) := dk_7 (dk_at dksX0_comes_0 10 rfl rfl)
theorem dX0_comes_11 : decode cX0_comes 11 = .ok (.invokestatic 149, 3) := dk_184 0 149 (dk_at dksX0_comes_0 11 rfl rfl)
theorem dX0_comes_14 : decode cX0_comes 14 = .ok (.ifCond .eq 12, 3) := dk_153 0 12 (dk_at dksX0_comes_0 14 rfl rfl)
theorem dX0_comes_17 : decode cX0_comes 17 = .ok (.aload_n 0, 1) := dk_42 (dk_at dksX0_comes_0 17 rfl rfl)
theorem dX0_comes_18 : decode cX0_comes 18 = .ok (.iload_n 1, 1) := dk_27 (dk_at dksX0_comes_0 18 rfl rfl)
theorem dX0_comes_19 : decode cX0_comes 19 = .ok (.iload_n 2, 1) := dk_28 (dk_at dksX0_comes_0 19 rfl rfl)
theorem dX0_comes_20 : decode cX0_comes 20 = .ok (.invokevirtual 459, 3) := dk_182 1 203 (dk_at dksX0_comes_0 20 rfl rfl)
theorem dX0_comes_23 : decode cX0_comes 23 = .ok (.goto 4, 3) := dk_167 0 4 (dk_at dksX0_comes_1 0 rfl rfl)
theorem dX0_comes_26 : decode cX0_comes 26 = .ok (.iconst (-1), 1) := dk_2 (dk_at dksX0_comes_1 3 rfl rfl)
theorem dX0_comes_27 : decode cX0_comes 27 = .ok (.ireturn, 1) := dk_172 (dk_at dksX0_comes_1 4 rfl rfl)
abbrev cX0_reachOf : ByteArray := prog_1_method_74_code
def yX0_reachOf : MethodName := ⟨RX0, "reachOf", "(II)I"⟩
def dkwX0_reachOf_0 : List UInt8 := [42, 3, 181, 1, 197, 42, 27, 28, 182, 1, 200, 42, 180, 1, 197, 172]
abbrev dktX0_reachOf_0 : List UInt8 := dkwX0_reachOf_0 ++ []
theorem dksX0_reachOf_0 : cX0_reachOf.data.toList.drop 0 = dktX0_reachOf_0 := by decide +kernel
theorem dX0_reachOf_0 : decode cX0_reachOf 0 = .ok (.aload_n 0, 1) := dk_42 (dk_at dksX0_reachOf_0 0 rfl rfl)
theorem dX0_reachOf_1 : decode cX0_reachOf 1 = .ok (.iconst 0, 1) := dk_3 (dk_at dksX0_reachOf_0 1 rfl rfl)
theorem dX0_reachOf_2 : decode cX0_reachOf 2 = .ok (.putfield 453, 3) := dk_181 1 197 (dk_at dksX0_reachOf_0 2 rfl rfl)
theorem dX0_reachOf_5 : decode cX0_reachOf 5 = .ok (.aload_n 0, 1) := dk_42 (dk_at dksX0_reachOf_0 5 rfl rfl)
theorem dX0_reachOf_6 : decode cX0_reachOf 6 = .ok (.iload_n 1, 1) := dk_27 (dk_at dksX0_reachOf_0 6 rfl rfl)
theorem dX0_reachOf_7 : decode cX0_reachOf 7 = .ok (.iload_n 2, 1) := dk_28 (dk_at dksX0_reachOf_0 7 rfl rfl)
theorem dX0_reachOf_8 : decode cX0_reachOf 8 = .ok (.invokevirtual 456, 3) := dk_182 1 200 (dk_at dksX0_reachOf_0 8 rfl rfl)
theorem dX0_reachOf_11 : decode cX0_reachOf 11 = .ok (.aload_n 0, 1) := dk_42 (dk_at dksX0_reachOf_0 11 rfl rfl)
theorem dX0_reachOf_12 : decode cX0_reachOf 12 = .ok (.getfield 453, 3) := dk_180 1 197 (dk_at dksX0_reachOf_0 12 rfl rfl)
theorem dX0_reachOf_15 : decode cX0_reachOf 15 = .ok (.ireturn, 1) := dk_172 (dk_at dksX0_reachOf_0 15 rfl rfl)
abbrev cX0_reaches : ByteArray := prog_1_method_73_code
def yX0_reaches : MethodName := ⟨RX0, "reaches", "(II)V"⟩
def dkwX0_reaches_5 : List UInt8 := [4, 100, 182, 1, 200, 42, 180, 0, 47, 27, 29, 182, 1, 127, 132, 3, 1, 167, 255, 142, 177]
abbrev dktX0_reaches_5 : List UInt8 := dkwX0_reaches_5 ++ []
def dkwX0_reaches_4 : List UInt8 := [180, 0, 174, 29, 46, 46, 162, 0, 6, 167, 0, 29, 42, 180, 0, 47, 27, 29, 182, 1, 127, 42, 27, 28]
abbrev dktX0_reaches_4 : List UInt8 := dkwX0_reaches_4 ++ dktX0_reaches_5
def dkwX0_reaches_3 : List UInt8 := [180, 0, 198, 42, 180, 0, 47, 180, 0, 174, 27, 46, 46, 42, 180, 0, 47, 180, 0, 198, 42, 180, 0, 47]
abbrev dktX0_reaches_3 : List UInt8 := dkwX0_reaches_3 ++ dktX0_reaches_4
def dkwX0_reaches_2 : List UInt8 := [180, 0, 47, 180, 0, 174, 27, 46, 42, 180, 0, 47, 180, 0, 174, 29, 46, 159, 0, 69, 42, 180, 0, 47]
abbrev dktX0_reaches_2 : List UInt8 := dkwX0_reaches_2 ++ dktX0_reaches_3
def dkwX0_reaches_1 : List UInt8 := [180, 0, 47, 180, 0, 147, 162, 0, 109, 28, 158, 0, 105, 42, 27, 29, 182, 0, 195, 153, 0, 90, 42]
abbrev dktX0_reaches_1 : List UInt8 := dkwX0_reaches_1 ++ dktX0_reaches_2
def dkwX0_reaches_0 : List UInt8 := [42, 89, 180, 1, 197, 4, 42, 180, 0, 47, 180, 0, 174, 27, 46, 120, 128, 181, 1, 197, 3, 62, 29, 42]
abbrev dktX0_reaches_0 : List UInt8 := dkwX0_reaches_0 ++ dktX0_reaches_1
theorem dksX0_reaches_0 : cX0_reaches.data.toList.drop 0 = dktX0_reaches_0 := by decide +kernel
theorem dksX0_reaches_1 : cX0_reaches.data.toList.drop 24 = dktX0_reaches_1 := dk_seg dksX0_reaches_0 24 rfl rfl
theorem dksX0_reaches_2 : cX0_reaches.data.toList.drop 47 = dktX0_reaches_2 := dk_seg dksX0_reaches_1 23 rfl rfl
theorem dksX0_reaches_3 : cX0_reaches.data.toList.drop 71 = dktX0_reaches_3 := dk_seg dksX0_reaches_2 24 rfl rfl
theorem dksX0_reaches_4 : cX0_reaches.data.toList.drop 95 = dktX0_reaches_4 := dk_seg dksX0_reaches_3 24 rfl rfl
theorem dksX0_reaches_5 : cX0_reaches.data.toList.drop 119 = dktX0_reaches_5 := dk_seg dksX0_reaches_4 24 rfl rfl
theorem dX0_reaches_0 : decode cX0_reaches 0 = .ok (.aload_n 0, 1) := dk_42 (dk_at dksX0_reaches_0 0 rfl rfl)
theorem dX0_reaches_1 : decode cX0_reaches 1 = .ok (.dup, 1) := dk_89 (dk_at dksX0_reaches_0 1 rfl rfl)
theorem dX0_reaches_2 : decode cX0_reaches 2 = .ok (.getfield 453, 3) := dk_180 1 197 (dk_at dksX0_reaches_0 2 rfl rfl)
theorem dX0_reaches_5 : decode cX0_reaches 5 = .ok (.iconst 1, 1) := dk_4 (dk_at dksX0_reaches_0 5 rfl rfl)
theorem dX0_reaches_6 : decode cX0_reaches 6 = .ok (.aload_n 0, 1) := dk_42 (dk_at dksX0_reaches_0 6 rfl rfl)
theorem dX0_reaches_7 : decode cX0_reaches 7 = .ok (.getfield 47, 3) := dk_180 0 47 (dk_at dksX0_reaches_0 7 rfl rfl)
theorem dX0_reaches_10 : decode cX0_reaches 10 = .ok (.getfield 174, 3) := dk_180 0 174 (dk_at dksX0_reaches_0 10 rfl rfl)
theorem dX0_reaches_13 : decode cX0_reaches 13 = .ok (.iload_n 1, 1) := dk_27 (dk_at dksX0_reaches_0 13 rfl rfl)
theorem dX0_reaches_14 : decode cX0_reaches 14 = .ok (.iaload, 1) := dk_46 (dk_at dksX0_reaches_0 14 rfl rfl)
theorem dX0_reaches_15 : decode cX0_reaches 15 = .ok (.ishl, 1) := dk_120 (dk_at dksX0_reaches_0 15 rfl rfl)
theorem dX0_reaches_16 : decode cX0_reaches 16 = .ok (.ior, 1) := dk_128 (dk_at dksX0_reaches_0 16 rfl rfl)
theorem dX0_reaches_17 : decode cX0_reaches 17 = .ok (.putfield 453, 3) := dk_181 1 197 (dk_at dksX0_reaches_0 17 rfl rfl)
theorem dX0_reaches_20 : decode cX0_reaches 20 = .ok (.iconst 0, 1) := dk_3 (dk_at dksX0_reaches_0 20 rfl rfl)
theorem dX0_reaches_21 : decode cX0_reaches 21 = .ok (.istore_n 3, 1) := dk_62 (dk_at dksX0_reaches_0 21 rfl rfl)
theorem dX0_reaches_22 : decode cX0_reaches 22 = .ok (.iload_n 3, 1) := dk_29 (dk_at dksX0_reaches_0 22 rfl rfl)
theorem dX0_reaches_23 : decode cX0_reaches 23 = .ok (.aload_n 0, 1) := dk_42 (dk_at dksX0_reaches_0 23 rfl rfl)
theorem dX0_reaches_24 : decode cX0_reaches 24 = .ok (.getfield 47, 3) := dk_180 0 47 (dk_at dksX0_reaches_1 0 rfl rfl)
theorem dX0_reaches_27 : decode cX0_reaches 27 = .ok (.getfield 147, 3) := dk_180 0 147 (dk_at dksX0_reaches_1 3 rfl rfl)
theorem dX0_reaches_30 : decode cX0_reaches 30 = .ok (.if_icmp .ge 109, 3) := dk_162 0 109 (dk_at dksX0_reaches_1 6 rfl rfl)
theorem dX0_reaches_33 : decode cX0_reaches 33 = .ok (.iload_n 2, 1) := dk_28 (dk_at dksX0_reaches_1 9 rfl rfl)
theorem dX0_reaches_34 : decode cX0_reaches 34 = .ok (.ifCond .le 105, 3) := dk_158 0 105 (dk_at dksX0_reaches_1 10 rfl rfl)
theorem dX0_reaches_37 : decode cX0_reaches 37 = .ok (.aload_n 0, 1) := dk_42 (dk_at dksX0_reaches_1 13 rfl rfl)
theorem dX0_reaches_38 : decode cX0_reaches 38 = .ok (.iload_n 1, 1) := dk_27 (dk_at dksX0_reaches_1 14 rfl rfl)
theorem dX0_reaches_39 : decode cX0_reaches 39 = .ok (.iload_n 3, 1) := dk_29 (dk_at dksX0_reaches_1 15 rfl rfl)
theorem dX0_reaches_40 : decode cX0_reaches 40 = .ok (.invokevirtual 195, 3) := dk_182 0 195 (dk_at dksX0_reaches_1 16 rfl rfl)
theorem dX0_reaches_43 : decode cX0_reaches 43 = .ok (.ifCond .eq 90, 3) := dk_153 0 90 (dk_at dksX0_reaches_1 19 rfl rfl)
theorem dX0_reaches_46 : decode cX0_reaches 46 = .ok (.aload_n 0, 1) := dk_42 (dk_at dksX0_reaches_1 22 rfl rfl)
theorem dX0_reaches_47 : decode cX0_reaches 47 = .ok (.getfield 47, 3) := dk_180 0 47 (dk_at dksX0_reaches_2 0 rfl rfl)
theorem dX0_reaches_50 : decode cX0_reaches 50 = .ok (.getfield 174, 3) := dk_180 0 174 (dk_at dksX0_reaches_2 3 rfl rfl)
theorem dX0_reaches_53 : decode cX0_reaches 53 = .ok (.iload_n 1, 1) := dk_27 (dk_at dksX0_reaches_2 6 rfl rfl)
theorem dX0_reaches_54 : decode cX0_reaches 54 = .ok (.iaload, 1) := dk_46 (dk_at dksX0_reaches_2 7 rfl rfl)
theorem dX0_reaches_55 : decode cX0_reaches 55 = .ok (.aload_n 0, 1) := dk_42 (dk_at dksX0_reaches_2 8 rfl rfl)
theorem dX0_reaches_56 : decode cX0_reaches 56 = .ok (.getfield 47, 3) := dk_180 0 47 (dk_at dksX0_reaches_2 9 rfl rfl)
theorem dX0_reaches_59 : decode cX0_reaches 59 = .ok (.getfield 174, 3) := dk_180 0 174 (dk_at dksX0_reaches_2 12 rfl rfl)
theorem dX0_reaches_62 : decode cX0_reaches 62 = .ok (.iload_n 3, 1) := dk_29 (dk_at dksX0_reaches_2 15 rfl rfl)
theorem dX0_reaches_63 : decode cX0_reaches 63 = .ok (.iaload, 1) := dk_46 (dk_at dksX0_reaches_2 16 rfl rfl)
theorem dX0_reaches_64 : decode cX0_reaches 64 = .ok (.if_icmp .eq 69, 3) := dk_159 0 69 (dk_at dksX0_reaches_2 17 rfl rfl)
theorem dX0_reaches_67 : decode cX0_reaches 67 = .ok (.aload_n 0, 1) := dk_42 (dk_at dksX0_reaches_2 20 rfl rfl)
theorem dX0_reaches_68 : decode cX0_reaches 68 = .ok (.getfield 47, 3) := dk_180 0 47 (dk_at dksX0_reaches_2 21 rfl rfl)
theorem dX0_reaches_71 : decode cX0_reaches 71 = .ok (.getfield 198, 3) := dk_180 0 198 (dk_at dksX0_reaches_3 0 rfl rfl)
theorem dX0_reaches_74 : decode cX0_reaches 74 = .ok (.aload_n 0, 1) := dk_42 (dk_at dksX0_reaches_3 3 rfl rfl)
theorem dX0_reaches_75 : decode cX0_reaches 75 = .ok (.getfield 47, 3) := dk_180 0 47 (dk_at dksX0_reaches_3 4 rfl rfl)
theorem dX0_reaches_78 : decode cX0_reaches 78 = .ok (.getfield 174, 3) := dk_180 0 174 (dk_at dksX0_reaches_3 7 rfl rfl)
theorem dX0_reaches_81 : decode cX0_reaches 81 = .ok (.iload_n 1, 1) := dk_27 (dk_at dksX0_reaches_3 10 rfl rfl)
theorem dX0_reaches_82 : decode cX0_reaches 82 = .ok (.iaload, 1) := dk_46 (dk_at dksX0_reaches_3 11 rfl rfl)
theorem dX0_reaches_83 : decode cX0_reaches 83 = .ok (.iaload, 1) := dk_46 (dk_at dksX0_reaches_3 12 rfl rfl)
theorem dX0_reaches_84 : decode cX0_reaches 84 = .ok (.aload_n 0, 1) := dk_42 (dk_at dksX0_reaches_3 13 rfl rfl)
theorem dX0_reaches_85 : decode cX0_reaches 85 = .ok (.getfield 47, 3) := dk_180 0 47 (dk_at dksX0_reaches_3 14 rfl rfl)
theorem dX0_reaches_88 : decode cX0_reaches 88 = .ok (.getfield 198, 3) := dk_180 0 198 (dk_at dksX0_reaches_3 17 rfl rfl)
theorem dX0_reaches_91 : decode cX0_reaches 91 = .ok (.aload_n 0, 1) := dk_42 (dk_at dksX0_reaches_3 20 rfl rfl)
theorem dX0_reaches_92 : decode cX0_reaches 92 = .ok (.getfield 47, 3) := dk_180 0 47 (dk_at dksX0_reaches_3 21 rfl rfl)
theorem dX0_reaches_95 : decode cX0_reaches 95 = .ok (.getfield 174, 3) := dk_180 0 174 (dk_at dksX0_reaches_4 0 rfl rfl)
theorem dX0_reaches_98 : decode cX0_reaches 98 = .ok (.iload_n 3, 1) := dk_29 (dk_at dksX0_reaches_4 3 rfl rfl)
theorem dX0_reaches_99 : decode cX0_reaches 99 = .ok (.iaload, 1) := dk_46 (dk_at dksX0_reaches_4 4 rfl rfl)
theorem dX0_reaches_100 : decode cX0_reaches 100 = .ok (.iaload, 1) := dk_46 (dk_at dksX0_reaches_4 5 rfl rfl)
theorem dX0_reaches_101 : decode cX0_reaches 101 = .ok (.if_icmp .ge 6, 3) := dk_162 0 6 (dk_at dksX0_reaches_4 6 rfl rfl)
theorem dX0_reaches_104 : decode cX0_reaches 104 = .ok (.goto 29, 3) := dk_167 0 29 (dk_at dksX0_reaches_4 9 rfl rfl)
theorem dX0_reaches_107 : decode cX0_reaches 107 = .ok (.aload_n 0, 1) := dk_42 (dk_at dksX0_reaches_4 12 rfl rfl)
theorem dX0_reaches_108 : decode cX0_reaches 108 = .ok (.getfield 47, 3) := dk_180 0 47 (dk_at dksX0_reaches_4 13 rfl rfl)
theorem dX0_reaches_111 : decode cX0_reaches 111 = .ok (.iload_n 1, 1) := dk_27 (dk_at dksX0_reaches_4 16 rfl rfl)
theorem dX0_reaches_112 : decode cX0_reaches 112 = .ok (.iload_n 3, 1) := dk_29 (dk_at dksX0_reaches_4 17 rfl rfl)
theorem dX0_reaches_113 : decode cX0_reaches 113 = .ok (.invokevirtual 383, 3) := dk_182 1 127 (dk_at dksX0_reaches_4 18 rfl rfl)
theorem dX0_reaches_116 : decode cX0_reaches 116 = .ok (.aload_n 0, 1) := dk_42 (dk_at dksX0_reaches_4 21 rfl rfl)
theorem dX0_reaches_117 : decode cX0_reaches 117 = .ok (.iload_n 1, 1) := dk_27 (dk_at dksX0_reaches_4 22 rfl rfl)
theorem dX0_reaches_118 : decode cX0_reaches 118 = .ok (.iload_n 2, 1) := dk_28 (dk_at dksX0_reaches_4 23 rfl rfl)
theorem dX0_reaches_119 : decode cX0_reaches 119 = .ok (.iconst 1, 1) := dk_4 (dk_at dksX0_reaches_5 0 rfl rfl)
theorem dX0_reaches_120 : decode cX0_reaches 120 = .ok (.isub, 1) := dk_100 (dk_at dksX0_reaches_5 1 rfl rfl)
theorem dX0_reaches_121 : decode cX0_reaches 121 = .ok (.invokevirtual 456, 3) := dk_182 1 200 (dk_at dksX0_reaches_5 2 rfl rfl)
theorem dX0_reaches_124 : decode cX0_reaches 124 = .ok (.aload_n 0, 1) := dk_42 (dk_at dksX0_reaches_5 5 rfl rfl)
theorem dX0_reaches_125 : decode cX0_reaches 125 = .ok (.getfield 47, 3) := dk_180 0 47 (dk_at dksX0_reaches_5 6 rfl rfl)
theorem dX0_reaches_128 : decode cX0_reaches 128 = .ok (.iload_n 1, 1) := dk_27 (dk_at dksX0_reaches_5 9 rfl rfl)
theorem dX0_reaches_129 : decode cX0_reaches 129 = .ok (.iload_n 3, 1) := dk_29 (dk_at dksX0_reaches_5 10 rfl rfl)
theorem dX0_reaches_130 : decode cX0_reaches 130 = .ok (.invokevirtual 383, 3) := dk_182 1 127 (dk_at dksX0_reaches_5 11 rfl rfl)
theorem dX0_reaches_133 : decode cX0_reaches 133 = .ok (.iinc 3 1, 3) := dk_132 3 1 (dk_at dksX0_reaches_5 14 rfl rfl)
theorem dX0_reaches_136 : decode cX0_reaches 136 = .ok (.goto (-114), 3) := dk_167 255 142 (dk_at dksX0_reaches_5 17 rfl rfl)
theorem dX0_reaches_139 : decode cX0_reaches 139 = .ok (.return_, 1) := dk_177 (dk_at dksX0_reaches_5 20 rfl rfl)
abbrev cX0_dearest : ByteArray := prog_1_method_76_code
def yX0_dearest : MethodName := ⟨RX0, "dearest", "(II)I"⟩
def dkwX0_dearest_4 : List UInt8 := [21, 4, 54, 4, 132, 5, 1, 167, 255, 187, 21, 4, 172]
abbrev dktX0_dearest_4 : List UInt8 := dkwX0_dearest_4 ++ []
def dkwX0_dearest_3 : List UInt8 := [180, 0, 198, 21, 5, 46, 42, 180, 0, 47, 180, 0, 198, 21, 4, 46, 164, 0, 8, 21, 5, 167, 0, 5]
abbrev dktX0_dearest_3 : List UInt8 := dkwX0_dearest_3 ++ dktX0_dearest_4
def dkwX0_dearest_2 : List UInt8 := [160, 0, 7, 4, 167, 0, 4, 3, 54, 6, 21, 6, 153, 0, 36, 21, 4, 155, 0, 26, 42, 180, 0, 47]
abbrev dktX0_dearest_2 : List UInt8 := dkwX0_dearest_2 ++ dktX0_dearest_3
def dkwX0_dearest_1 : List UInt8 := [182, 1, 203, 62, 2, 54, 4, 3, 54, 5, 21, 5, 16, 8, 162, 0, 68, 29, 21, 5, 122, 4, 126, 4]
abbrev dktX0_dearest_1 : List UInt8 := dkwX0_dearest_1 ++ dktX0_dearest_2
def dkwX0_dearest_0 : List UInt8 := [42, 27, 182, 0, 185, 153, 0, 12, 28, 3, 7, 184, 0, 149, 154, 0, 5, 2, 172, 42, 27, 28]
abbrev dktX0_dearest_0 : List UInt8 := dkwX0_dearest_0 ++ dktX0_dearest_1
theorem dksX0_dearest_0 : cX0_dearest.data.toList.drop 0 = dktX0_dearest_0 := by decide +kernel
theorem dksX0_dearest_1 : cX0_dearest.data.toList.drop 22 = dktX0_dearest_1 := dk_seg dksX0_dearest_0 22 rfl rfl
theorem dksX0_dearest_2 : cX0_dearest.data.toList.drop 46 = dktX0_dearest_2 := dk_seg dksX0_dearest_1 24 rfl rfl
theorem dksX0_dearest_3 : cX0_dearest.data.toList.drop 70 = dktX0_dearest_3 := dk_seg dksX0_dearest_2 24 rfl rfl
theorem dksX0_dearest_4 : cX0_dearest.data.toList.drop 94 = dktX0_dearest_4 := dk_seg dksX0_dearest_3 24 rfl rfl
theorem dX0_dearest_0 : decode cX0_dearest 0 = .ok (.aload_n 0, 1) := dk_42 (dk_at dksX0_dearest_0 0 rfl rfl)
theorem dX0_dearest_1 : decode cX0_dearest 1 = .ok (.iload_n 1, 1) := dk_27 (dk_at dksX0_dearest_0 1 rfl rfl)
theorem dX0_dearest_2 : decode cX0_dearest 2 = .ok (.invokevirtual 185, 3) := dk_182 0 185 (dk_at dksX0_dearest_0 2 rfl rfl)
theorem dX0_dearest_5 : decode cX0_dearest 5 = .ok (.ifCond .eq 12, 3) := dk_153 0 12 (dk_at dksX0_dearest_0 5 rfl rfl)
theorem dX0_dearest_8 : decode cX0_dearest 8 = .ok (.iload_n 2, 1) := dk_28 (dk_at dksX0_dearest_0 8 rfl rfl)
theorem dX0_dearest_9 : decode cX0_dearest 9 = .ok (.iconst 0, 1) := dk_3 (dk_at dksX0_dearest_0 9 rfl rfl)
theorem dX0_dearest_10 : decode cX0_dearest 10 = .ok (.iconst 4, 1) := dk_7 (dk_at dksX0_dearest_0 10 rfl rfl)
theorem dX0_dearest_11 : decode cX0_dearest 11 = .ok (.invokestatic 149, 3) := dk_184 0 149 (dk_at dksX0_dearest_0 11 rfl rfl)
theorem dX0_dearest_14 : decode cX0_dearest 14 = .ok (.ifCond .ne 5, 3) := dk_154 0 5 (dk_at dksX0_dearest_0 14 rfl rfl)
theorem dX0_dearest_17 : decode cX0_dearest 17 = .ok (.iconst (-1), 1) := dk_2 (dk_at dksX0_dearest_0 17 rfl rfl)
theorem dX0_dearest_18 : decode cX0_dearest 18 = .ok (.ireturn, 1) := dk_172 (dk_at dksX0_dearest_0 18 rfl rfl)
theorem dX0_dearest_19 : decode cX0_dearest 19 = .ok (.aload_n 0, 1) := dk_42 (dk_at dksX0_dearest_0 19 rfl rfl)
theorem dX0_dearest_20 : decode cX0_dearest 20 = .ok (.iload_n 1, 1) := dk_27 (dk_at dksX0_dearest_0 20 rfl rfl)
theorem dX0_dearest_21 : decode cX0_dearest 21 = .ok (.iload_n 2, 1) := dk_28 (dk_at dksX0_dearest_0 21 rfl rfl)
theorem dX0_dearest_22 : decode cX0_dearest 22 = .ok (.invokevirtual 459, 3) := dk_182 1 203 (dk_at dksX0_dearest_1 0 rfl rfl)
theorem dX0_dearest_25 : decode cX0_dearest 25 = .ok (.istore_n 3, 1) := dk_62 (dk_at dksX0_dearest_1 3 rfl rfl)
theorem dX0_dearest_26 : decode cX0_dearest 26 = .ok (.iconst (-1), 1) := dk_2 (dk_at dksX0_dearest_1 4 rfl rfl)
theorem dX0_dearest_27 : decode cX0_dearest 27 = .ok (.istore 4, 2) := dk_54 4 (dk_at dksX0_dearest_1 5 rfl rfl)
theorem dX0_dearest_29 : decode cX0_dearest 29 = .ok (.iconst 0, 1) := dk_3 (dk_at dksX0_dearest_1 7 rfl rfl)
theorem dX0_dearest_30 : decode cX0_dearest 30 = .ok (.istore 5, 2) := dk_54 5 (dk_at dksX0_dearest_1 8 rfl rfl)
theorem dX0_dearest_32 : decode cX0_dearest 32 = .ok (.iload 5, 2) := dk_21 5 (dk_at dksX0_dearest_1 10 rfl rfl)
theorem dX0_dearest_34 : decode cX0_dearest 34 = .ok (.bipush 8, 2) := dk_16 8 (dk_at dksX0_dearest_1 12 rfl rfl)
theorem dX0_dearest_36 : decode cX0_dearest 36 = .ok (.if_icmp .ge 68, 3) := dk_162 0 68 (dk_at dksX0_dearest_1 14 rfl rfl)
theorem dX0_dearest_39 : decode cX0_dearest 39 = .ok (.iload_n 3, 1) := dk_29 (dk_at dksX0_dearest_1 17 rfl rfl)
theorem dX0_dearest_40 : decode cX0_dearest 40 = .ok (.iload 5, 2) := dk_21 5 (dk_at dksX0_dearest_1 18 rfl rfl)
theorem dX0_dearest_42 : decode cX0_dearest 42 = .ok (.ishr, 1) := dk_122 (dk_at dksX0_dearest_1 20 rfl rfl)
theorem dX0_dearest_43 : decode cX0_dearest 43 = .ok (.iconst 1, 1) := dk_4 (dk_at dksX0_dearest_1 21 rfl rfl)
theorem dX0_dearest_44 : decode cX0_dearest 44 = .ok (.iand, 1) := dk_126 (dk_at dksX0_dearest_1 22 rfl rfl)
theorem dX0_dearest_45 : decode cX0_dearest 45 = .ok (.iconst 1, 1) := dk_4 (dk_at dksX0_dearest_1 23 rfl rfl)
theorem dX0_dearest_46 : decode cX0_dearest 46 = .ok (.if_icmp .ne 7, 3) := dk_160 0 7 (dk_at dksX0_dearest_2 0 rfl rfl)
theorem dX0_dearest_49 : decode cX0_dearest 49 = .ok (.iconst 1, 1) := dk_4 (dk_at dksX0_dearest_2 3 rfl rfl)
theorem dX0_dearest_50 : decode cX0_dearest 50 = .ok (.goto 4, 3) := dk_167 0 4 (dk_at dksX0_dearest_2 4 rfl rfl)
theorem dX0_dearest_53 : decode cX0_dearest 53 = .ok (.iconst 0, 1) := dk_3 (dk_at dksX0_dearest_2 7 rfl rfl)
theorem dX0_dearest_54 : decode cX0_dearest 54 = .ok (.istore 6, 2) := dk_54 6 (dk_at dksX0_dearest_2 8 rfl rfl)
theorem dX0_dearest_56 : decode cX0_dearest 56 = .ok (.iload 6, 2) := dk_21 6 (dk_at dksX0_dearest_2 10 rfl rfl)
theorem dX0_dearest_58 : decode cX0_dearest 58 = .ok (.ifCond .eq 36, 3) := dk_153 0 36 (dk_at dksX0_dearest_2 12 rfl rfl)
theorem dX0_dearest_61 : decode cX0_dearest 61 = .ok (.iload 4, 2) := dk_21 4 (dk_at dksX0_dearest_2 15 rfl rfl)
theorem dX0_dearest_63 : decode cX0_dearest 63 = .ok (.ifCond .lt 26, 3) := dk_155 0 26 (dk_at dksX0_dearest_2 17 rfl rfl)
theorem dX0_dearest_66 : decode cX0_dearest 66 = .ok (.aload_n 0, 1) := dk_42 (dk_at dksX0_dearest_2 20 rfl rfl)
theorem dX0_dearest_67 : decode cX0_dearest 67 = .ok (.getfield 47, 3) := dk_180 0 47 (dk_at dksX0_dearest_2 21 rfl rfl)
theorem dX0_dearest_70 : decode cX0_dearest 70 = .ok (.getfield 198, 3) := dk_180 0 198 (dk_at dksX0_dearest_3 0 rfl rfl)
theorem dX0_dearest_73 : decode cX0_dearest 73 = .ok (.iload 5, 2) := dk_21 5 (dk_at dksX0_dearest_3 3 rfl rfl)
theorem dX0_dearest_75 : decode cX0_dearest 75 = .ok (.iaload, 1) := dk_46 (dk_at dksX0_dearest_3 5 rfl rfl)
theorem dX0_dearest_76 : decode cX0_dearest 76 = .ok (.aload_n 0, 1) := dk_42 (dk_at dksX0_dearest_3 6 rfl rfl)
theorem dX0_dearest_77 : decode cX0_dearest 77 = .ok (.getfield 47, 3) := dk_180 0 47 (dk_at dksX0_dearest_3 7 rfl rfl)
theorem dX0_dearest_80 : decode cX0_dearest 80 = .ok (.getfield 198, 3) := dk_180 0 198 (dk_at dksX0_dearest_3 10 rfl rfl)
theorem dX0_dearest_83 : decode cX0_dearest 83 = .ok (.iload 4, 2) := dk_21 4 (dk_at dksX0_dearest_3 13 rfl rfl)
theorem dX0_dearest_85 : decode cX0_dearest 85 = .ok (.iaload, 1) := dk_46 (dk_at dksX0_dearest_3 15 rfl rfl)
theorem dX0_dearest_86 : decode cX0_dearest 86 = .ok (.if_icmp .le 8, 3) := dk_164 0 8 (dk_at dksX0_dearest_3 16 rfl rfl)
theorem dX0_dearest_89 : decode cX0_dearest 89 = .ok (.iload 5, 2) := dk_21 5 (dk_at dksX0_dearest_3 19 rfl rfl)
theorem dX0_dearest_91 : decode cX0_dearest 91 = .ok (.goto 5, 3) := dk_167 0 5 (dk_at dksX0_dearest_3 21 rfl rfl)
theorem dX0_dearest_94 : decode cX0_dearest 94 = .ok (.iload 4, 2) := dk_21 4 (dk_at dksX0_dearest_4 0 rfl rfl)
theorem dX0_dearest_96 : decode cX0_dearest 96 = .ok (.istore 4, 2) := dk_54 4 (dk_at dksX0_dearest_4 2 rfl rfl)
theorem dX0_dearest_98 : decode cX0_dearest 98 = .ok (.iinc 5 1, 3) := dk_132 5 1 (dk_at dksX0_dearest_4 4 rfl rfl)
theorem dX0_dearest_101 : decode cX0_dearest 101 = .ok (.goto (-69), 3) := dk_167 255 187 (dk_at dksX0_dearest_4 7 rfl rfl)
theorem dX0_dearest_104 : decode cX0_dearest 104 = .ok (.iload 4, 2) := dk_21 4 (dk_at dksX0_dearest_4 10 rfl rfl)
theorem dX0_dearest_106 : decode cX0_dearest 106 = .ok (.ireturn, 1) := dk_172 (dk_at dksX0_dearest_4 12 rfl rfl)
abbrev cX0_game : ByteArray := prog_1_method_79_code
def yX0_game : MethodName := ⟨RX0, "game", "(I)I"⟩
def dkwX0_game_0 : List UInt8 := [27, 4, 16, 6, 184, 0, 149, 153, 0, 12, 42, 3, 27, 182, 1, 209, 167, 0, 4, 2, 172]
abbrev dktX0_game_0 : List UInt8 := dkwX0_game_0 ++ []
theorem dksX0_game_0 : cX0_game.data.toList.drop 0 = dktX0_game_0 := by decide +kernel
theorem dX0_game_0 : decode cX0_game 0 = .ok (.iload_n 1, 1) := dk_27 (dk_at dksX0_game_0 0 rfl rfl)
theorem dX0_game_1 : decode cX0_game 1 = .ok (.iconst 1, 1) := dk_4 (dk_at dksX0_game_0 1 rfl rfl)
theorem dX0_game_2 : decode cX0_game 2 = .ok (.bipush 6, 2) := dk_16 6 (dk_at dksX0_game_0 2 rfl rfl)
theorem dX0_game_4 : decode cX0_game 4 = .ok (.invokestatic 149, 3) := dk_184 0 149 (dk_at dksX0_game_0 4 rfl rfl)
theorem dX0_game_7 : decode cX0_game 7 = .ok (.ifCond .eq 12, 3) := dk_153 0 12 (dk_at dksX0_game_0 7 rfl rfl)
theorem dX0_game_10 : decode cX0_game 10 = .ok (.aload_n 0, 1) := dk_42 (dk_at dksX0_game_0 10 rfl rfl)
theorem dX0_game_11 : decode cX0_game 11 = .ok (.iconst 0, 1) := dk_3 (dk_at dksX0_game_0 11 rfl rfl)
theorem dX0_game_12 : decode cX0_game 12 = .ok (.iload_n 1, 1) := dk_27 (dk_at dksX0_game_0 12 rfl rfl)
theorem dX0_game_13 : decode cX0_game 13 = .ok (.invokevirtual 465, 3) := dk_182 1 209 (dk_at dksX0_game_0 13 rfl rfl)
theorem dX0_game_16 : decode cX0_game 16 = .ok (.goto 4, 3) := dk_167 0 4 (dk_at dksX0_game_0 16 rfl rfl)
theorem dX0_game_19 : decode cX0_game 19 = .ok (.iconst (-1), 1) := dk_2 (dk_at dksX0_game_0 19 rfl rfl)
theorem dX0_game_20 : decode cX0_game 20 = .ok (.ireturn, 1) := dk_172 (dk_at dksX0_game_0 20 rfl rfl)
abbrev cX0_worthOf : ByteArray := prog_1_method_77_code
def yX0_worthOf : MethodName := ⟨RX0, "worthOf", "(II)I"⟩
def dkwX0_worthOf_3 : List UInt8 := [42, 21, 4, 182, 1, 130, 54, 4, 167, 255, 195, 29, 172]
abbrev dktX0_worthOf_3 : List UInt8 := dkwX0_worthOf_3 ++ []
def dkwX0_worthOf_2 : List UInt8 := [182, 1, 206, 54, 5, 21, 5, 27, 159, 0, 9, 21, 5, 5, 160, 0, 8, 21, 5, 167, 0, 4, 29, 62]
abbrev dktX0_worthOf_2 : List UInt8 := dkwX0_worthOf_2 ++ dktX0_worthOf_3
def dkwX0_worthOf_1 : List UInt8 := [29, 27, 159, 0, 55, 42, 21, 4, 182, 1, 133, 154, 0, 6, 167, 0, 32, 42, 27, 21, 4, 28]
abbrev dktX0_worthOf_1 : List UInt8 := dkwX0_worthOf_1 ++ dktX0_worthOf_2
def dkwX0_worthOf_0 : List UInt8 := [28, 154, 0, 5, 5, 172, 4, 27, 100, 62, 42, 2, 182, 1, 130, 54, 4, 21, 4, 16, 99, 162, 0, 60]
abbrev dktX0_worthOf_0 : List UInt8 := dkwX0_worthOf_0 ++ dktX0_worthOf_1
theorem dksX0_worthOf_0 : cX0_worthOf.data.toList.drop 0 = dktX0_worthOf_0 := by decide +kernel
theorem dksX0_worthOf_1 : cX0_worthOf.data.toList.drop 24 = dktX0_worthOf_1 := dk_seg dksX0_worthOf_0 24 rfl rfl
theorem dksX0_worthOf_2 : cX0_worthOf.data.toList.drop 46 = dktX0_worthOf_2 := dk_seg dksX0_worthOf_1 22 rfl rfl
theorem dksX0_worthOf_3 : cX0_worthOf.data.toList.drop 70 = dktX0_worthOf_3 := dk_seg dksX0_worthOf_2 24 rfl rfl
theorem dX0_worthOf_0 : decode cX0_worthOf 0 = .ok (.iload_n 2, 1) := dk_28 (dk_at dksX0_worthOf_0 0 rfl rfl)
theorem dX0_worthOf_1 : decode cX0_worthOf 1 = .ok (.ifCond .ne 5, 3) := dk_154 0 5 (dk_at dksX0_worthOf_0 1 rfl rfl)
theorem dX0_worthOf_4 : decode cX0_worthOf 4 = .ok (.iconst 2, 1) := dk_5 (dk_at dksX0_worthOf_0 4 rfl rfl)
theorem dX0_worthOf_5 : decode cX0_worthOf 5 = .ok (.ireturn, 1) := dk_172 (dk_at dksX0_worthOf_0 5 rfl rfl)
theorem dX0_worthOf_6 : decode cX0_worthOf 6 = .ok (.iconst 1, 1) := dk_4 (dk_at dksX0_worthOf_0 6 rfl rfl)
theorem dX0_worthOf_7 : decode cX0_worthOf 7 = .ok (.iload_n 1, 1) := dk_27 (dk_at dksX0_worthOf_0 7 rfl rfl)
theorem dX0_worthOf_8 : decode cX0_worthOf 8 = .ok (.isub, 1) := dk_100 (dk_at dksX0_worthOf_0 8 rfl rfl)
theorem dX0_worthOf_9 : decode cX0_worthOf 9 = .ok (.istore_n 3, 1) := dk_62 (dk_at dksX0_worthOf_0 9 rfl rfl)
theorem dX0_worthOf_10 : decode cX0_worthOf 10 = .ok (.aload_n 0, 1) := dk_42 (dk_at dksX0_worthOf_0 10 rfl rfl)
theorem dX0_worthOf_11 : decode cX0_worthOf 11 = .ok (.iconst (-1), 1) := dk_2 (dk_at dksX0_worthOf_0 11 rfl rfl)
theorem dX0_worthOf_12 : decode cX0_worthOf 12 = .ok (.invokevirtual 386, 3) := dk_182 1 130 (dk_at dksX0_worthOf_0 12 rfl rfl)
theorem dX0_worthOf_15 : decode cX0_worthOf 15 = .ok (.istore 4, 2) := dk_54 4 (dk_at dksX0_worthOf_0 15 rfl rfl)
theorem dX0_worthOf_17 : decode cX0_worthOf 17 = .ok (.iload 4, 2) := dk_21 4 (dk_at dksX0_worthOf_0 17 rfl rfl)
theorem dX0_worthOf_19 : decode cX0_worthOf 19 = .ok (.bipush 99, 2) := dk_16 99 (dk_at dksX0_worthOf_0 19 rfl rfl)
theorem dX0_worthOf_21 : decode cX0_worthOf 21 = .ok (.if_icmp .ge 60, 3) := dk_162 0 60 (dk_at dksX0_worthOf_0 21 rfl rfl)
theorem dX0_worthOf_24 : decode cX0_worthOf 24 = .ok (.iload_n 3, 1) := dk_29 (dk_at dksX0_worthOf_1 0 rfl rfl)
theorem dX0_worthOf_25 : decode cX0_worthOf 25 = .ok (.iload_n 1, 1) := dk_27 (dk_at dksX0_worthOf_1 1 rfl rfl)
theorem dX0_worthOf_26 : decode cX0_worthOf 26 = .ok (.if_icmp .eq 55, 3) := dk_159 0 55 (dk_at dksX0_worthOf_1 2 rfl rfl)
theorem dX0_worthOf_29 : decode cX0_worthOf 29 = .ok (.aload_n 0, 1) := dk_42 (dk_at dksX0_worthOf_1 5 rfl rfl)
theorem dX0_worthOf_30 : decode cX0_worthOf 30 = .ok (.iload 4, 2) := dk_21 4 (dk_at dksX0_worthOf_1 6 rfl rfl)
theorem dX0_worthOf_32 : decode cX0_worthOf 32 = .ok (.invokevirtual 389, 3) := dk_182 1 133 (dk_at dksX0_worthOf_1 8 rfl rfl)
theorem dX0_worthOf_35 : decode cX0_worthOf 35 = .ok (.ifCond .ne 6, 3) := dk_154 0 6 (dk_at dksX0_worthOf_1 11 rfl rfl)
theorem dX0_worthOf_38 : decode cX0_worthOf 38 = .ok (.goto 32, 3) := dk_167 0 32 (dk_at dksX0_worthOf_1 14 rfl rfl)
theorem dX0_worthOf_41 : decode cX0_worthOf 41 = .ok (.aload_n 0, 1) := dk_42 (dk_at dksX0_worthOf_1 17 rfl rfl)
theorem dX0_worthOf_42 : decode cX0_worthOf 42 = .ok (.iload_n 1, 1) := dk_27 (dk_at dksX0_worthOf_1 18 rfl rfl)
theorem dX0_worthOf_43 : decode cX0_worthOf 43 = .ok (.iload 4, 2) := dk_21 4 (dk_at dksX0_worthOf_1 19 rfl rfl)
theorem dX0_worthOf_45 : decode cX0_worthOf 45 = .ok (.iload_n 2, 1) := dk_28 (dk_at dksX0_worthOf_1 21 rfl rfl)
theorem dX0_worthOf_46 : decode cX0_worthOf 46 = .ok (.invokevirtual 462, 3) := dk_182 1 206 (dk_at dksX0_worthOf_2 0 rfl rfl)
theorem dX0_worthOf_49 : decode cX0_worthOf 49 = .ok (.istore 5, 2) := dk_54 5 (dk_at dksX0_worthOf_2 3 rfl rfl)
theorem dX0_worthOf_51 : decode cX0_worthOf 51 = .ok (.iload 5, 2) := dk_21 5 (dk_at dksX0_worthOf_2 5 rfl rfl)
theorem dX0_worthOf_53 : decode cX0_worthOf 53 = .ok (.iload_n 1, 1) := dk_27 (dk_at dksX0_worthOf_2 7 rfl rfl)
theorem dX0_worthOf_54 : decode cX0_worthOf 54 = .ok (.if_icmp .eq 9, 3) := dk_159 0 9 (dk_at dksX0_worthOf_2 8 rfl rfl)
theorem dX0_worthOf_57 : decode cX0_worthOf 57 = .ok (.iload 5, 2) := dk_21 5 (dk_at dksX0_worthOf_2 11 rfl rfl)
theorem dX0_worthOf_59 : decode cX0_worthOf 59 = .ok (.iconst 2, 1) := dk_5 (dk_at dksX0_worthOf_2 13 rfl rfl)
theorem dX0_worthOf_60 : decode cX0_worthOf 60 = .ok (.if_icmp .ne 8, 3) := dk_160 0 8 (dk_at dksX0_worthOf_2 14 rfl rfl)
theorem dX0_worthOf_63 : decode cX0_worthOf 63 = .ok (.iload 5, 2) := dk_21 5 (dk_at dksX0_worthOf_2 17 rfl rfl)
theorem dX0_worthOf_65 : decode cX0_worthOf 65 = .ok (.goto 4, 3) := dk_167 0 4 (dk_at dksX0_worthOf_2 19 rfl rfl)
theorem dX0_worthOf_68 : decode cX0_worthOf 68 = .ok (.iload_n 3, 1) := dk_29 (dk_at dksX0_worthOf_2 22 rfl rfl)
theorem dX0_worthOf_69 : decode cX0_worthOf 69 = .ok (.istore_n 3, 1) := dk_62 (dk_at dksX0_worthOf_2 23 rfl rfl)
theorem dX0_worthOf_70 : decode cX0_worthOf 70 = .ok (.aload_n 0, 1) := dk_42 (dk_at dksX0_worthOf_3 0 rfl rfl)
theorem dX0_worthOf_71 : decode cX0_worthOf 71 = .ok (.iload 4, 2) := dk_21 4 (dk_at dksX0_worthOf_3 1 rfl rfl)
theorem dX0_worthOf_73 : decode cX0_worthOf 73 = .ok (.invokevirtual 386, 3) := dk_182 1 130 (dk_at dksX0_worthOf_3 3 rfl rfl)
theorem dX0_worthOf_76 : decode cX0_worthOf 76 = .ok (.istore 4, 2) := dk_54 4 (dk_at dksX0_worthOf_3 6 rfl rfl)
theorem dX0_worthOf_78 : decode cX0_worthOf 78 = .ok (.goto (-61), 3) := dk_167 255 195 (dk_at dksX0_worthOf_3 8 rfl rfl)
theorem dX0_worthOf_81 : decode cX0_worthOf 81 = .ok (.iload_n 3, 1) := dk_29 (dk_at dksX0_worthOf_3 11 rfl rfl)
theorem dX0_worthOf_82 : decode cX0_worthOf 82 = .ok (.ireturn, 1) := dk_172 (dk_at dksX0_worthOf_3 12 rfl rfl)
abbrev cX0_valueOf : ByteArray := prog_1_method_78_code
def yX0_valueOf : MethodName := ⟨RX0, "valueOf", "(III)I"⟩
def dkwX0_valueOf_1 : List UInt8 := [100, 29, 4, 100, 182, 1, 209, 54, 6, 42, 28, 21, 4, 21, 5, 182, 1, 157, 21, 6, 172]
abbrev dktX0_valueOf_1 : List UInt8 := dkwX0_valueOf_1 ++ []
def dkwX0_valueOf_0 : List UInt8 := [42, 180, 0, 47, 180, 0, 174, 28, 16, 10, 108, 46, 54, 4, 42, 28, 182, 1, 136, 54, 5, 42, 4, 27]
abbrev dktX0_valueOf_0 : List UInt8 := dkwX0_valueOf_0 ++ dktX0_valueOf_1
theorem dksX0_valueOf_0 : cX0_valueOf.data.toList.drop 0 = dktX0_valueOf_0 := by decide +kernel
theorem dksX0_valueOf_1 : cX0_valueOf.data.toList.drop 24 = dktX0_valueOf_1 := dk_seg dksX0_valueOf_0 24 rfl rfl
theorem dX0_valueOf_0 : decode cX0_valueOf 0 = .ok (.aload_n 0, 1) := dk_42 (dk_at dksX0_valueOf_0 0 rfl rfl)
theorem dX0_valueOf_1 : decode cX0_valueOf 1 = .ok (.getfield 47, 3) := dk_180 0 47 (dk_at dksX0_valueOf_0 1 rfl rfl)
theorem dX0_valueOf_4 : decode cX0_valueOf 4 = .ok (.getfield 174, 3) := dk_180 0 174 (dk_at dksX0_valueOf_0 4 rfl rfl)
theorem dX0_valueOf_7 : decode cX0_valueOf 7 = .ok (.iload_n 2, 1) := dk_28 (dk_at dksX0_valueOf_0 7 rfl rfl)
theorem dX0_valueOf_8 : decode cX0_valueOf 8 = .ok (.bipush 10, 2) := dk_16 10 (dk_at dksX0_valueOf_0 8 rfl rfl)
theorem dX0_valueOf_10 : decode cX0_valueOf 10 = .ok (.idiv, 1) := dk_108 (dk_at dksX0_valueOf_0 10 rfl rfl)
theorem dX0_valueOf_11 : decode cX0_valueOf 11 = .ok (.iaload, 1) := dk_46 (dk_at dksX0_valueOf_0 11 rfl rfl)
theorem dX0_valueOf_12 : decode cX0_valueOf 12 = .ok (.istore 4, 2) := dk_54 4 (dk_at dksX0_valueOf_0 12 rfl rfl)
theorem dX0_valueOf_14 : decode cX0_valueOf 14 = .ok (.aload_n 0, 1) := dk_42 (dk_at dksX0_valueOf_0 14 rfl rfl)
theorem dX0_valueOf_15 : decode cX0_valueOf 15 = .ok (.iload_n 2, 1) := dk_28 (dk_at dksX0_valueOf_0 15 rfl rfl)
theorem dX0_valueOf_16 : decode cX0_valueOf 16 = .ok (.invokevirtual 392, 3) := dk_182 1 136 (dk_at dksX0_valueOf_0 16 rfl rfl)
theorem dX0_valueOf_19 : decode cX0_valueOf 19 = .ok (.istore 5, 2) := dk_54 5 (dk_at dksX0_valueOf_0 19 rfl rfl)
theorem dX0_valueOf_21 : decode cX0_valueOf 21 = .ok (.aload_n 0, 1) := dk_42 (dk_at dksX0_valueOf_0 21 rfl rfl)
theorem dX0_valueOf_22 : decode cX0_valueOf 22 = .ok (.iconst 1, 1) := dk_4 (dk_at dksX0_valueOf_0 22 rfl rfl)
theorem dX0_valueOf_23 : decode cX0_valueOf 23 = .ok (.iload_n 1, 1) := dk_27 (dk_at dksX0_valueOf_0 23 rfl rfl)
theorem dX0_valueOf_24 : decode cX0_valueOf 24 = .ok (.isub, 1) := dk_100 (dk_at dksX0_valueOf_1 0 rfl rfl)
theorem dX0_valueOf_25 : decode cX0_valueOf 25 = .ok (.iload_n 3, 1) := dk_29 (dk_at dksX0_valueOf_1 1 rfl rfl)
theorem dX0_valueOf_26 : decode cX0_valueOf 26 = .ok (.iconst 1, 1) := dk_4 (dk_at dksX0_valueOf_1 2 rfl rfl)
theorem dX0_valueOf_27 : decode cX0_valueOf 27 = .ok (.isub, 1) := dk_100 (dk_at dksX0_valueOf_1 3 rfl rfl)
theorem dX0_valueOf_28 : decode cX0_valueOf 28 = .ok (.invokevirtual 465, 3) := dk_182 1 209 (dk_at dksX0_valueOf_1 4 rfl rfl)
theorem dX0_valueOf_31 : decode cX0_valueOf 31 = .ok (.istore 6, 2) := dk_54 6 (dk_at dksX0_valueOf_1 7 rfl rfl)
theorem dX0_valueOf_33 : decode cX0_valueOf 33 = .ok (.aload_n 0, 1) := dk_42 (dk_at dksX0_valueOf_1 9 rfl rfl)
theorem dX0_valueOf_34 : decode cX0_valueOf 34 = .ok (.iload_n 2, 1) := dk_28 (dk_at dksX0_valueOf_1 10 rfl rfl)
theorem dX0_valueOf_35 : decode cX0_valueOf 35 = .ok (.iload 4, 2) := dk_21 4 (dk_at dksX0_valueOf_1 11 rfl rfl)
theorem dX0_valueOf_37 : decode cX0_valueOf 37 = .ok (.iload 5, 2) := dk_21 5 (dk_at dksX0_valueOf_1 13 rfl rfl)
theorem dX0_valueOf_39 : decode cX0_valueOf 39 = .ok (.invokevirtual 413, 3) := dk_182 1 157 (dk_at dksX0_valueOf_1 15 rfl rfl)
theorem dX0_valueOf_42 : decode cX0_valueOf 42 = .ok (.iload 6, 2) := dk_21 6 (dk_at dksX0_valueOf_1 18 rfl rfl)
theorem dX0_valueOf_44 : decode cX0_valueOf 44 = .ok (.ireturn, 1) := dk_172 (dk_at dksX0_valueOf_1 20 rfl rfl)
abbrev cX0_play : ByteArray := prog_1_method_80_code
def yX0_play : MethodName := ⟨RX0, "play", "(I)I"⟩
def dkwX0_play_2 : List UInt8 := [29, 182, 1, 212, 62, 167, 255, 239, 29, 172]
abbrev dktX0_play_2 : List UInt8 := dkwX0_play_2 ++ []
def dkwX0_play_1 : List UInt8 := [3, 27, 182, 1, 209, 61, 42, 2, 182, 1, 212, 62, 42, 3, 29, 27, 182, 1, 206, 28, 159, 0, 12, 42]
abbrev dktX0_play_1 : List UInt8 := dkwX0_play_1 ++ dktX0_play_2
def dkwX0_play_0 : List UInt8 := [27, 4, 16, 6, 184, 0, 149, 154, 0, 5, 2, 172, 42, 2, 182, 1, 212, 156, 0, 6, 16, 253, 172, 42]
abbrev dktX0_play_0 : List UInt8 := dkwX0_play_0 ++ dktX0_play_1
theorem dksX0_play_0 : cX0_play.data.toList.drop 0 = dktX0_play_0 := by decide +kernel
theorem dksX0_play_1 : cX0_play.data.toList.drop 24 = dktX0_play_1 := dk_seg dksX0_play_0 24 rfl rfl
theorem dksX0_play_2 : cX0_play.data.toList.drop 48 = dktX0_play_2 := dk_seg dksX0_play_1 24 rfl rfl
theorem dX0_play_0 : decode cX0_play 0 = .ok (.iload_n 1, 1) := dk_27 (dk_at dksX0_play_0 0 rfl rfl)
theorem dX0_play_1 : decode cX0_play 1 = .ok (.iconst 1, 1) := dk_4 (dk_at dksX0_play_0 1 rfl rfl)
theorem dX0_play_2 : decode cX0_play 2 = .ok (.bipush 6, 2) := dk_16 6 (dk_at dksX0_play_0 2 rfl rfl)
theorem dX0_play_4 : decode cX0_play 4 = .ok (.invokestatic 149, 3) := dk_184 0 149 (dk_at dksX0_play_0 4 rfl rfl)
theorem dX0_play_7 : decode cX0_play 7 = .ok (.ifCond .ne 5, 3) := dk_154 0 5 (dk_at dksX0_play_0 7 rfl rfl)
theorem dX0_play_10 : decode cX0_play 10 = .ok (.iconst (-1), 1) := dk_2 (dk_at dksX0_play_0 10 rfl rfl)
theorem dX0_play_11 : decode cX0_play 11 = .ok (.ireturn, 1) := dk_172 (dk_at dksX0_play_0 11 rfl rfl)
theorem dX0_play_12 : decode cX0_play 12 = .ok (.aload_n 0, 1) := dk_42 (dk_at dksX0_play_0 12 rfl rfl)
theorem dX0_play_13 : decode cX0_play 13 = .ok (.iconst (-1), 1) := dk_2 (dk_at dksX0_play_0 13 rfl rfl)
theorem dX0_play_14 : decode cX0_play 14 = .ok (.invokevirtual 468, 3) := dk_182 1 212 (dk_at dksX0_play_0 14 rfl rfl)
theorem dX0_play_17 : decode cX0_play 17 = .ok (.ifCond .ge 6, 3) := dk_156 0 6 (dk_at dksX0_play_0 17 rfl rfl)
theorem dX0_play_20 : decode cX0_play 20 = .ok (.bipush (-3), 2) := dk_16 253 (dk_at dksX0_play_0 20 rfl rfl)
theorem dX0_play_22 : decode cX0_play 22 = .ok (.ireturn, 1) := dk_172 (dk_at dksX0_play_0 22 rfl rfl)
theorem dX0_play_23 : decode cX0_play 23 = .ok (.aload_n 0, 1) := dk_42 (dk_at dksX0_play_0 23 rfl rfl)
theorem dX0_play_24 : decode cX0_play 24 = .ok (.iconst 0, 1) := dk_3 (dk_at dksX0_play_1 0 rfl rfl)
theorem dX0_play_25 : decode cX0_play 25 = .ok (.iload_n 1, 1) := dk_27 (dk_at dksX0_play_1 1 rfl rfl)
theorem dX0_play_26 : decode cX0_play 26 = .ok (.invokevirtual 465, 3) := dk_182 1 209 (dk_at dksX0_play_1 2 rfl rfl)
theorem dX0_play_29 : decode cX0_play 29 = .ok (.istore_n 2, 1) := dk_61 (dk_at dksX0_play_1 5 rfl rfl)
theorem dX0_play_30 : decode cX0_play 30 = .ok (.aload_n 0, 1) := dk_42 (dk_at dksX0_play_1 6 rfl rfl)
theorem dX0_play_31 : decode cX0_play 31 = .ok (.iconst (-1), 1) := dk_2 (dk_at dksX0_play_1 7 rfl rfl)
theorem dX0_play_32 : decode cX0_play 32 = .ok (.invokevirtual 468, 3) := dk_182 1 212 (dk_at dksX0_play_1 8 rfl rfl)
theorem dX0_play_35 : decode cX0_play 35 = .ok (.istore_n 3, 1) := dk_62 (dk_at dksX0_play_1 11 rfl rfl)
theorem dX0_play_36 : decode cX0_play 36 = .ok (.aload_n 0, 1) := dk_42 (dk_at dksX0_play_1 12 rfl rfl)
theorem dX0_play_37 : decode cX0_play 37 = .ok (.iconst 0, 1) := dk_3 (dk_at dksX0_play_1 13 rfl rfl)
theorem dX0_play_38 : decode cX0_play 38 = .ok (.iload_n 3, 1) := dk_29 (dk_at dksX0_play_1 14 rfl rfl)
theorem dX0_play_39 : decode cX0_play 39 = .ok (.iload_n 1, 1) := dk_27 (dk_at dksX0_play_1 15 rfl rfl)
theorem dX0_play_40 : decode cX0_play 40 = .ok (.invokevirtual 462, 3) := dk_182 1 206 (dk_at dksX0_play_1 16 rfl rfl)
theorem dX0_play_43 : decode cX0_play 43 = .ok (.iload_n 2, 1) := dk_28 (dk_at dksX0_play_1 19 rfl rfl)
theorem dX0_play_44 : decode cX0_play 44 = .ok (.if_icmp .eq 12, 3) := dk_159 0 12 (dk_at dksX0_play_1 20 rfl rfl)
theorem dX0_play_47 : decode cX0_play 47 = .ok (.aload_n 0, 1) := dk_42 (dk_at dksX0_play_1 23 rfl rfl)
theorem dX0_play_48 : decode cX0_play 48 = .ok (.iload_n 3, 1) := dk_29 (dk_at dksX0_play_2 0 rfl rfl)
theorem dX0_play_49 : decode cX0_play 49 = .ok (.invokevirtual 468, 3) := dk_182 1 212 (dk_at dksX0_play_2 1 rfl rfl)
theorem dX0_play_52 : decode cX0_play 52 = .ok (.istore_n 3, 1) := dk_62 (dk_at dksX0_play_2 4 rfl rfl)
theorem dX0_play_53 : decode cX0_play 53 = .ok (.goto (-17), 3) := dk_167 255 239 (dk_at dksX0_play_2 5 rfl rfl)
theorem dX0_play_56 : decode cX0_play 56 = .ok (.iload_n 3, 1) := dk_29 (dk_at dksX0_play_2 8 rfl rfl)
theorem dX0_play_57 : decode cX0_play 57 = .ok (.ireturn, 1) := dk_172 (dk_at dksX0_play_2 9 rfl rfl)
abbrev cX0_report : ByteArray := prog_1_method_81_code
def yX0_report : MethodName := ⟨RX0, "report", "(III)I"⟩
def dkwX0_report_5 : List UInt8 := [180, 1, 215, 4, 100, 172]
abbrev dktX0_report_5 : List UInt8 := dkwX0_report_5 ++ []
def dkwX0_report_4 : List UInt8 := [180, 1, 215, 29, 79, 42, 180, 0, 47, 89, 180, 1, 215, 4, 96, 181, 1, 215, 42, 180, 0, 47]
abbrev dktX0_report_4 : List UInt8 := dkwX0_report_4 ++ dktX0_report_5
def dkwX0_report_3 : List UInt8 := [180, 1, 221, 42, 180, 0, 47, 180, 1, 215, 28, 79, 42, 180, 0, 47, 180, 1, 224, 42, 180, 0, 47]
abbrev dktX0_report_3 : List UInt8 := dkwX0_report_3 ++ dktX0_report_4
def dkwX0_report_2 : List UInt8 := [16, 254, 172, 42, 180, 0, 47, 180, 1, 218, 42, 180, 0, 47, 180, 1, 215, 27, 79, 42, 180, 0, 47]
abbrev dktX0_report_2 : List UInt8 := dkwX0_report_2 ++ dktX0_report_3
def dkwX0_report_1 : List UInt8 := [17, 3, 231, 184, 0, 149, 154, 0, 5, 2, 172, 42, 180, 0, 47, 180, 1, 215, 16, 6, 160, 0, 6]
abbrev dktX0_report_1 : List UInt8 := dkwX0_report_1 ++ dktX0_report_2
def dkwX0_report_0 : List UInt8 := [27, 3, 16, 99, 184, 0, 149, 153, 0, 24, 28, 3, 16, 99, 184, 0, 149, 153, 0, 14, 29, 3]
abbrev dktX0_report_0 : List UInt8 := dkwX0_report_0 ++ dktX0_report_1
theorem dksX0_report_0 : cX0_report.data.toList.drop 0 = dktX0_report_0 := by decide +kernel
theorem dksX0_report_1 : cX0_report.data.toList.drop 22 = dktX0_report_1 := dk_seg dksX0_report_0 22 rfl rfl
theorem dksX0_report_2 : cX0_report.data.toList.drop 45 = dktX0_report_2 := dk_seg dksX0_report_1 23 rfl rfl
theorem dksX0_report_3 : cX0_report.data.toList.drop 68 = dktX0_report_3 := dk_seg dksX0_report_2 23 rfl rfl
theorem dksX0_report_4 : cX0_report.data.toList.drop 91 = dktX0_report_4 := dk_seg dksX0_report_3 23 rfl rfl
theorem dksX0_report_5 : cX0_report.data.toList.drop 113 = dktX0_report_5 := dk_seg dksX0_report_4 22 rfl rfl
theorem dX0_report_0 : decode cX0_report 0 = .ok (.iload_n 1, 1) := dk_27 (dk_at dksX0_report_0 0 rfl rfl)
theorem dX0_report_1 : decode cX0_report 1 = .ok (.iconst 0, 1) := dk_3 (dk_at dksX0_report_0 1 rfl rfl)
theorem dX0_report_2 : decode cX0_report 2 = .ok (.bipush 99, 2) := dk_16 99 (dk_at dksX0_report_0 2 rfl rfl)
theorem dX0_report_4 : decode cX0_report 4 = .ok (.invokestatic 149, 3) := dk_184 0 149 (dk_at dksX0_report_0 4 rfl rfl)
theorem dX0_report_7 : decode cX0_report 7 = .ok (.ifCond .eq 24, 3) := dk_153 0 24 (dk_at dksX0_report_0 7 rfl rfl)
theorem dX0_report_10 : decode cX0_report 10 = .ok (.iload_n 2, 1) := dk_28 (dk_at dksX0_report_0 10 rfl rfl)
theorem dX0_report_11 : decode cX0_report 11 = .ok (.iconst 0, 1) := dk_3 (dk_at dksX0_report_0 11 rfl rfl)
theorem dX0_report_12 : decode cX0_report 12 = .ok (.bipush 99, 2) := dk_16 99 (dk_at dksX0_report_0 12 rfl rfl)
theorem dX0_report_14 : decode cX0_report 14 = .ok (.invokestatic 149, 3) := dk_184 0 149 (dk_at dksX0_report_0 14 rfl rfl)
theorem dX0_report_17 : decode cX0_report 17 = .ok (.ifCond .eq 14, 3) := dk_153 0 14 (dk_at dksX0_report_0 17 rfl rfl)
theorem dX0_report_20 : decode cX0_report 20 = .ok (.iload_n 3, 1) := dk_29 (dk_at dksX0_report_0 20 rfl rfl)
theorem dX0_report_21 : decode cX0_report 21 = .ok (.iconst 0, 1) := dk_3 (dk_at dksX0_report_0 21 rfl rfl)
theorem dX0_report_22 : decode cX0_report 22 = .ok (.sipush 999, 3) := dk_17 3 231 (dk_at dksX0_report_1 0 rfl rfl)
theorem dX0_report_25 : decode cX0_report 25 = .ok (.invokestatic 149, 3) := dk_184 0 149 (dk_at dksX0_report_1 3 rfl rfl)
theorem dX0_report_28 : decode cX0_report 28 = .ok (.ifCond .ne 5, 3) := dk_154 0 5 (dk_at dksX0_report_1 6 rfl rfl)
theorem dX0_report_31 : decode cX0_report 31 = .ok (.iconst (-1), 1) := dk_2 (dk_at dksX0_report_1 9 rfl rfl)
theorem dX0_report_32 : decode cX0_report 32 = .ok (.ireturn, 1) := dk_172 (dk_at dksX0_report_1 10 rfl rfl)
theorem dX0_report_33 : decode cX0_report 33 = .ok (.aload_n 0, 1) := dk_42 (dk_at dksX0_report_1 11 rfl rfl)
theorem dX0_report_34 : decode cX0_report 34 = .ok (.getfield 47, 3) := dk_180 0 47 (dk_at dksX0_report_1 12 rfl rfl)
theorem dX0_report_37 : decode cX0_report 37 = .ok (.getfield 471, 3) := dk_180 1 215 (dk_at dksX0_report_1 15 rfl rfl)
theorem dX0_report_40 : decode cX0_report 40 = .ok (.bipush 6, 2) := dk_16 6 (dk_at dksX0_report_1 18 rfl rfl)
theorem dX0_report_42 : decode cX0_report 42 = .ok (.if_icmp .ne 6, 3) := dk_160 0 6 (dk_at dksX0_report_1 20 rfl rfl)
theorem dX0_report_45 : decode cX0_report 45 = .ok (.bipush (-2), 2) := dk_16 254 (dk_at dksX0_report_2 0 rfl rfl)
theorem dX0_report_47 : decode cX0_report 47 = .ok (.ireturn, 1) := dk_172 (dk_at dksX0_report_2 2 rfl rfl)
theorem dX0_report_48 : decode cX0_report 48 = .ok (.aload_n 0, 1) := dk_42 (dk_at dksX0_report_2 3 rfl rfl)
theorem dX0_report_49 : decode cX0_report 49 = .ok (.getfield 47, 3) := dk_180 0 47 (dk_at dksX0_report_2 4 rfl rfl)
theorem dX0_report_52 : decode cX0_report 52 = .ok (.getfield 474, 3) := dk_180 1 218 (dk_at dksX0_report_2 7 rfl rfl)
theorem dX0_report_55 : decode cX0_report 55 = .ok (.aload_n 0, 1) := dk_42 (dk_at dksX0_report_2 10 rfl rfl)
theorem dX0_report_56 : decode cX0_report 56 = .ok (.getfield 47, 3) := dk_180 0 47 (dk_at dksX0_report_2 11 rfl rfl)
theorem dX0_report_59 : decode cX0_report 59 = .ok (.getfield 471, 3) := dk_180 1 215 (dk_at dksX0_report_2 14 rfl rfl)
theorem dX0_report_62 : decode cX0_report 62 = .ok (.iload_n 1, 1) := dk_27 (dk_at dksX0_report_2 17 rfl rfl)
theorem dX0_report_63 : decode cX0_report 63 = .ok (.iastore, 1) := dk_79 (dk_at dksX0_report_2 18 rfl rfl)
theorem dX0_report_64 : decode cX0_report 64 = .ok (.aload_n 0, 1) := dk_42 (dk_at dksX0_report_2 19 rfl rfl)
theorem dX0_report_65 : decode cX0_report 65 = .ok (.getfield 47, 3) := dk_180 0 47 (dk_at dksX0_report_2 20 rfl rfl)
theorem dX0_report_68 : decode cX0_report 68 = .ok (.getfield 477, 3) := dk_180 1 221 (dk_at dksX0_report_3 0 rfl rfl)
theorem dX0_report_71 : decode cX0_report 71 = .ok (.aload_n 0, 1) := dk_42 (dk_at dksX0_report_3 3 rfl rfl)
theorem dX0_report_72 : decode cX0_report 72 = .ok (.getfield 47, 3) := dk_180 0 47 (dk_at dksX0_report_3 4 rfl rfl)
theorem dX0_report_75 : decode cX0_report 75 = .ok (.getfield 471, 3) := dk_180 1 215 (dk_at dksX0_report_3 7 rfl rfl)
theorem dX0_report_78 : decode cX0_report 78 = .ok (.iload_n 2, 1) := dk_28 (dk_at dksX0_report_3 10 rfl rfl)
theorem dX0_report_79 : decode cX0_report 79 = .ok (.iastore, 1) := dk_79 (dk_at dksX0_report_3 11 rfl rfl)
theorem dX0_report_80 : decode cX0_report 80 = .ok (.aload_n 0, 1) := dk_42 (dk_at dksX0_report_3 12 rfl rfl)
theorem dX0_report_81 : decode cX0_report 81 = .ok (.getfield 47, 3) := dk_180 0 47 (dk_at dksX0_report_3 13 rfl rfl)
theorem dX0_report_84 : decode cX0_report 84 = .ok (.getfield 480, 3) := dk_180 1 224 (dk_at dksX0_report_3 16 rfl rfl)
theorem dX0_report_87 : decode cX0_report 87 = .ok (.aload_n 0, 1) := dk_42 (dk_at dksX0_report_3 19 rfl rfl)
theorem dX0_report_88 : decode cX0_report 88 = .ok (.getfield 47, 3) := dk_180 0 47 (dk_at dksX0_report_3 20 rfl rfl)
theorem dX0_report_91 : decode cX0_report 91 = .ok (.getfield 471, 3) := dk_180 1 215 (dk_at dksX0_report_4 0 rfl rfl)
theorem dX0_report_94 : decode cX0_report 94 = .ok (.iload_n 3, 1) := dk_29 (dk_at dksX0_report_4 3 rfl rfl)
theorem dX0_report_95 : decode cX0_report 95 = .ok (.iastore, 1) := dk_79 (dk_at dksX0_report_4 4 rfl rfl)
theorem dX0_report_96 : decode cX0_report 96 = .ok (.aload_n 0, 1) := dk_42 (dk_at dksX0_report_4 5 rfl rfl)
theorem dX0_report_97 : decode cX0_report 97 = .ok (.getfield 47, 3) := dk_180 0 47 (dk_at dksX0_report_4 6 rfl rfl)
theorem dX0_report_100 : decode cX0_report 100 = .ok (.dup, 1) := dk_89 (dk_at dksX0_report_4 9 rfl rfl)
theorem dX0_report_101 : decode cX0_report 101 = .ok (.getfield 471, 3) := dk_180 1 215 (dk_at dksX0_report_4 10 rfl rfl)
theorem dX0_report_104 : decode cX0_report 104 = .ok (.iconst 1, 1) := dk_4 (dk_at dksX0_report_4 13 rfl rfl)
theorem dX0_report_105 : decode cX0_report 105 = .ok (.iadd, 1) := dk_96 (dk_at dksX0_report_4 14 rfl rfl)
theorem dX0_report_106 : decode cX0_report 106 = .ok (.putfield 471, 3) := dk_181 1 215 (dk_at dksX0_report_4 15 rfl rfl)
theorem dX0_report_109 : decode cX0_report 109 = .ok (.aload_n 0, 1) := dk_42 (dk_at dksX0_report_4 18 rfl rfl)
theorem dX0_report_110 : decode cX0_report 110 = .ok (.getfield 47, 3) := dk_180 0 47 (dk_at dksX0_report_4 19 rfl rfl)
theorem dX0_report_113 : decode cX0_report 113 = .ok (.getfield 471, 3) := dk_180 1 215 (dk_at dksX0_report_5 0 rfl rfl)
theorem dX0_report_116 : decode cX0_report 116 = .ok (.iconst 1, 1) := dk_4 (dk_at dksX0_report_5 3 rfl rfl)
theorem dX0_report_117 : decode cX0_report 117 = .ok (.isub, 1) := dk_100 (dk_at dksX0_report_5 4 rfl rfl)
theorem dX0_report_118 : decode cX0_report 118 = .ok (.ireturn, 1) := dk_172 (dk_at dksX0_report_5 5 rfl rfl)
abbrev cX0_forget : ByteArray := prog_1_method_82_code
def yX0_forget : MethodName := ⟨RX0, "forget", "()I"⟩
def dkwX0_forget_0 : List UInt8 := [42, 180, 0, 47, 180, 1, 215, 60, 42, 180, 0, 47, 3, 181, 1, 215, 27, 172]
abbrev dktX0_forget_0 : List UInt8 := dkwX0_forget_0 ++ []
theorem dksX0_forget_0 : cX0_forget.data.toList.drop 0 = dktX0_forget_0 := by decide +kernel
theorem dX0_forget_0 : decode cX0_forget 0 = .ok (.aload_n 0, 1) := dk_42 (dk_at dksX0_forget_0 0 rfl rfl)
theorem dX0_forget_1 : decode cX0_forget 1 = .ok (.getfield 47, 3) := dk_180 0 47 (dk_at dksX0_forget_0 1 rfl rfl)
theorem dX0_forget_4 : decode cX0_forget 4 = .ok (.getfield 471, 3) := dk_180 1 215 (dk_at dksX0_forget_0 4 rfl rfl)
theorem dX0_forget_7 : decode cX0_forget 7 = .ok (.istore_n 1, 1) := dk_60 (dk_at dksX0_forget_0 7 rfl rfl)
theorem dX0_forget_8 : decode cX0_forget 8 = .ok (.aload_n 0, 1) := dk_42 (dk_at dksX0_forget_0 8 rfl rfl)
theorem dX0_forget_9 : decode cX0_forget 9 = .ok (.getfield 47, 3) := dk_180 0 47 (dk_at dksX0_forget_0 9 rfl rfl)
theorem dX0_forget_12 : decode cX0_forget 12 = .ok (.iconst 0, 1) := dk_3 (dk_at dksX0_forget_0 12 rfl rfl)
theorem dX0_forget_13 : decode cX0_forget 13 = .ok (.putfield 471, 3) := dk_181 1 215 (dk_at dksX0_forget_0 13 rfl rfl)
theorem dX0_forget_16 : decode cX0_forget 16 = .ok (.iload_n 1, 1) := dk_27 (dk_at dksX0_forget_0 16 rfl rfl)
theorem dX0_forget_17 : decode cX0_forget 17 = .ok (.ireturn, 1) := dk_172 (dk_at dksX0_forget_0 17 rfl rfl)
abbrev cX0_span : ByteArray := prog_1_method_85_code
def yX0_span : MethodName := ⟨RX0, "span", "(I)I"⟩
def dkwX0_span_2 : List UInt8 := [180, 1, 230, 16, 51, 112, 172]
abbrev dktX0_span_2 : List UInt8 := dkwX0_span_2 ++ []
def dkwX0_span_1 : List UInt8 := [154, 0, 8, 16, 253, 167, 0, 25, 27, 4, 160, 0, 13, 42, 180, 1, 230, 16, 51, 108, 167, 0, 10, 42]
abbrev dktX0_span_1 : List UInt8 := dkwX0_span_1 ++ dktX0_span_2
def dkwX0_span_0 : List UInt8 := [27, 3, 5, 184, 0, 149, 154, 0, 5, 2, 172, 42, 2, 182, 1, 233, 61, 27, 154, 0, 5, 28, 172, 28]
abbrev dktX0_span_0 : List UInt8 := dkwX0_span_0 ++ dktX0_span_1
theorem dksX0_span_0 : cX0_span.data.toList.drop 0 = dktX0_span_0 := by decide +kernel
theorem dksX0_span_1 : cX0_span.data.toList.drop 24 = dktX0_span_1 := dk_seg dksX0_span_0 24 rfl rfl
theorem dksX0_span_2 : cX0_span.data.toList.drop 48 = dktX0_span_2 := dk_seg dksX0_span_1 24 rfl rfl
theorem dX0_span_0 : decode cX0_span 0 = .ok (.iload_n 1, 1) := dk_27 (dk_at dksX0_span_0 0 rfl rfl)
theorem dX0_span_1 : decode cX0_span 1 = .ok (.iconst 0, 1) := dk_3 (dk_at dksX0_span_0 1 rfl rfl)
theorem dX0_span_2 : decode cX0_span 2 = .ok (.iconst 2, 1) := dk_5 (dk_at dksX0_span_0 2 rfl rfl)
theorem dX0_span_3 : decode cX0_span 3 = .ok (.invokestatic 149, 3) := dk_184 0 149 (dk_at dksX0_span_0 3 rfl rfl)
theorem dX0_span_6 : decode cX0_span 6 = .ok (.ifCond .ne 5, 3) := dk_154 0 5 (dk_at dksX0_span_0 6 rfl rfl)
theorem dX0_span_9 : decode cX0_span 9 = .ok (.iconst (-1), 1) := dk_2 (dk_at dksX0_span_0 9 rfl rfl)
theorem dX0_span_10 : decode cX0_span 10 = .ok (.ireturn, 1) := dk_172 (dk_at dksX0_span_0 10 rfl rfl)
theorem dX0_span_11 : decode cX0_span 11 = .ok (.aload_n 0, 1) := dk_42 (dk_at dksX0_span_0 11 rfl rfl)
theorem dX0_span_12 : decode cX0_span 12 = .ok (.iconst (-1), 1) := dk_2 (dk_at dksX0_span_0 12 rfl rfl)
theorem dX0_span_13 : decode cX0_span 13 = .ok (.invokevirtual 489, 3) := dk_182 1 233 (dk_at dksX0_span_0 13 rfl rfl)
theorem dX0_span_16 : decode cX0_span 16 = .ok (.istore_n 2, 1) := dk_61 (dk_at dksX0_span_0 16 rfl rfl)
theorem dX0_span_17 : decode cX0_span 17 = .ok (.iload_n 1, 1) := dk_27 (dk_at dksX0_span_0 17 rfl rfl)
theorem dX0_span_18 : decode cX0_span 18 = .ok (.ifCond .ne 5, 3) := dk_154 0 5 (dk_at dksX0_span_0 18 rfl rfl)
theorem dX0_span_21 : decode cX0_span 21 = .ok (.iload_n 2, 1) := dk_28 (dk_at dksX0_span_0 21 rfl rfl)
theorem dX0_span_22 : decode cX0_span 22 = .ok (.ireturn, 1) := dk_172 (dk_at dksX0_span_0 22 rfl rfl)
theorem dX0_span_23 : decode cX0_span 23 = .ok (.iload_n 2, 1) := dk_28 (dk_at dksX0_span_0 23 rfl rfl)
theorem dX0_span_24 : decode cX0_span 24 = .ok (.ifCond .ne 8, 3) := dk_154 0 8 (dk_at dksX0_span_1 0 rfl rfl)
theorem dX0_span_27 : decode cX0_span 27 = .ok (.bipush (-3), 2) := dk_16 253 (dk_at dksX0_span_1 3 rfl rfl)
theorem dX0_span_29 : decode cX0_span 29 = .ok (.goto 25, 3) := dk_167 0 25 (dk_at dksX0_span_1 5 rfl rfl)
theorem dX0_span_32 : decode cX0_span 32 = .ok (.iload_n 1, 1) := dk_27 (dk_at dksX0_span_1 8 rfl rfl)
theorem dX0_span_33 : decode cX0_span 33 = .ok (.iconst 1, 1) := dk_4 (dk_at dksX0_span_1 9 rfl rfl)
theorem dX0_span_34 : decode cX0_span 34 = .ok (.if_icmp .ne 13, 3) := dk_160 0 13 (dk_at dksX0_span_1 10 rfl rfl)
theorem dX0_span_37 : decode cX0_span 37 = .ok (.aload_n 0, 1) := dk_42 (dk_at dksX0_span_1 13 rfl rfl)
theorem dX0_span_38 : decode cX0_span 38 = .ok (.getfield 486, 3) := dk_180 1 230 (dk_at dksX0_span_1 14 rfl rfl)
theorem dX0_span_41 : decode cX0_span 41 = .ok (.bipush 51, 2) := dk_16 51 (dk_at dksX0_span_1 17 rfl rfl)
theorem dX0_span_43 : decode cX0_span 43 = .ok (.idiv, 1) := dk_108 (dk_at dksX0_span_1 19 rfl rfl)
theorem dX0_span_44 : decode cX0_span 44 = .ok (.goto 10, 3) := dk_167 0 10 (dk_at dksX0_span_1 20 rfl rfl)
theorem dX0_span_47 : decode cX0_span 47 = .ok (.aload_n 0, 1) := dk_42 (dk_at dksX0_span_1 23 rfl rfl)
theorem dX0_span_48 : decode cX0_span 48 = .ok (.getfield 486, 3) := dk_180 1 230 (dk_at dksX0_span_2 0 rfl rfl)
theorem dX0_span_51 : decode cX0_span 51 = .ok (.bipush 51, 2) := dk_16 51 (dk_at dksX0_span_2 3 rfl rfl)
theorem dX0_span_53 : decode cX0_span 53 = .ok (.irem, 1) := dk_112 (dk_at dksX0_span_2 5 rfl rfl)
theorem dX0_span_54 : decode cX0_span 54 = .ok (.ireturn, 1) := dk_172 (dk_at dksX0_span_2 6 rfl rfl)
abbrev cX0_fitsBut : ByteArray := prog_1_method_84_code
def yX0_fitsBut : MethodName := ⟨RX0, "fitsBut", "(I)I"⟩
def dkwX0_fitsBut_3 : List UInt8 := [167, 255, 194, 28, 172]
abbrev dktX0_fitsBut_3 : List UInt8 := dkwX0_fitsBut_3 ++ []
def dkwX0_fitsBut_2 : List UInt8 := [154, 0, 6, 167, 0, 17, 132, 4, 1, 167, 255, 215, 42, 29, 181, 1, 230, 132, 2, 1, 132, 3, 255]
abbrev dktX0_fitsBut_2 : List UInt8 := dkwX0_fitsBut_2 ++ dktX0_fitsBut_3
def dkwX0_fitsBut_1 : List UInt8 := [162, 0, 35, 21, 4, 27, 159, 0, 23, 42, 21, 4, 29, 16, 51, 108, 29, 16, 51, 112, 182, 1, 227]
abbrev dktX0_fitsBut_1 : List UInt8 := dkwX0_fitsBut_1 ++ dktX0_fitsBut_2
def dkwX0_fitsBut_0 : List UInt8 := [3, 61, 17, 0, 203, 62, 29, 155, 0, 64, 3, 54, 4, 21, 4, 42, 180, 0, 47, 180, 1, 215]
abbrev dktX0_fitsBut_0 : List UInt8 := dkwX0_fitsBut_0 ++ dktX0_fitsBut_1
theorem dksX0_fitsBut_0 : cX0_fitsBut.data.toList.drop 0 = dktX0_fitsBut_0 := by decide +kernel
theorem dksX0_fitsBut_1 : cX0_fitsBut.data.toList.drop 22 = dktX0_fitsBut_1 := dk_seg dksX0_fitsBut_0 22 rfl rfl
theorem dksX0_fitsBut_2 : cX0_fitsBut.data.toList.drop 45 = dktX0_fitsBut_2 := dk_seg dksX0_fitsBut_1 23 rfl rfl
theorem dksX0_fitsBut_3 : cX0_fitsBut.data.toList.drop 68 = dktX0_fitsBut_3 := dk_seg dksX0_fitsBut_2 23 rfl rfl
theorem dX0_fitsBut_0 : decode cX0_fitsBut 0 = .ok (.iconst 0, 1) := dk_3 (dk_at dksX0_fitsBut_0 0 rfl rfl)
theorem dX0_fitsBut_1 : decode cX0_fitsBut 1 = .ok (.istore_n 2, 1) := dk_61 (dk_at dksX0_fitsBut_0 1 rfl rfl)
theorem dX0_fitsBut_2 : decode cX0_fitsBut 2 = .ok (.sipush 203, 3) := dk_17 0 203 (dk_at dksX0_fitsBut_0 2 rfl rfl)
theorem dX0_fitsBut_5 : decode cX0_fitsBut 5 = .ok (.istore_n 3, 1) := dk_62 (dk_at dksX0_fitsBut_0 5 rfl rfl)
theorem dX0_fitsBut_6 : decode cX0_fitsBut 6 = .ok (.iload_n 3, 1) := dk_29 (dk_at dksX0_fitsBut_0 6 rfl rfl)
theorem dX0_fitsBut_7 : decode cX0_fitsBut 7 = .ok (.ifCond .lt 64, 3) := dk_155 0 64 (dk_at dksX0_fitsBut_0 7 rfl rfl)
theorem dX0_fitsBut_10 : decode cX0_fitsBut 10 = .ok (.iconst 0, 1) := dk_3 (dk_at dksX0_fitsBut_0 10 rfl rfl)
theorem dX0_fitsBut_11 : decode cX0_fitsBut 11 = .ok (.istore 4, 2) := dk_54 4 (dk_at dksX0_fitsBut_0 11 rfl rfl)
theorem dX0_fitsBut_13 : decode cX0_fitsBut 13 = .ok (.iload 4, 2) := dk_21 4 (dk_at dksX0_fitsBut_0 13 rfl rfl)
theorem dX0_fitsBut_15 : decode cX0_fitsBut 15 = .ok (.aload_n 0, 1) := dk_42 (dk_at dksX0_fitsBut_0 15 rfl rfl)
theorem dX0_fitsBut_16 : decode cX0_fitsBut 16 = .ok (.getfield 47, 3) := dk_180 0 47 (dk_at dksX0_fitsBut_0 16 rfl rfl)
theorem dX0_fitsBut_19 : decode cX0_fitsBut 19 = .ok (.getfield 471, 3) := dk_180 1 215 (dk_at dksX0_fitsBut_0 19 rfl rfl)
theorem dX0_fitsBut_22 : decode cX0_fitsBut 22 = .ok (.if_icmp .ge 35, 3) := dk_162 0 35 (dk_at dksX0_fitsBut_1 0 rfl rfl)
theorem dX0_fitsBut_25 : decode cX0_fitsBut 25 = .ok (.iload 4, 2) := dk_21 4 (dk_at dksX0_fitsBut_1 3 rfl rfl)
theorem dX0_fitsBut_27 : decode cX0_fitsBut 27 = .ok (.iload_n 1, 1) := dk_27 (dk_at dksX0_fitsBut_1 5 rfl rfl)
theorem dX0_fitsBut_28 : decode cX0_fitsBut 28 = .ok (.if_icmp .eq 23, 3) := dk_159 0 23 (dk_at dksX0_fitsBut_1 6 rfl rfl)
theorem dX0_fitsBut_31 : decode cX0_fitsBut 31 = .ok (.aload_n 0, 1) := dk_42 (dk_at dksX0_fitsBut_1 9 rfl rfl)
theorem dX0_fitsBut_32 : decode cX0_fitsBut 32 = .ok (.iload 4, 2) := dk_21 4 (dk_at dksX0_fitsBut_1 10 rfl rfl)
theorem dX0_fitsBut_34 : decode cX0_fitsBut 34 = .ok (.iload_n 3, 1) := dk_29 (dk_at dksX0_fitsBut_1 12 rfl rfl)
theorem dX0_fitsBut_35 : decode cX0_fitsBut 35 = .ok (.bipush 51, 2) := dk_16 51 (dk_at dksX0_fitsBut_1 13 rfl rfl)
theorem dX0_fitsBut_37 : decode cX0_fitsBut 37 = .ok (.idiv, 1) := dk_108 (dk_at dksX0_fitsBut_1 15 rfl rfl)
theorem dX0_fitsBut_38 : decode cX0_fitsBut 38 = .ok (.iload_n 3, 1) := dk_29 (dk_at dksX0_fitsBut_1 16 rfl rfl)
theorem dX0_fitsBut_39 : decode cX0_fitsBut 39 = .ok (.bipush 51, 2) := dk_16 51 (dk_at dksX0_fitsBut_1 17 rfl rfl)
theorem dX0_fitsBut_41 : decode cX0_fitsBut 41 = .ok (.irem, 1) := dk_112 (dk_at dksX0_fitsBut_1 19 rfl rfl)
theorem dX0_fitsBut_42 : decode cX0_fitsBut 42 = .ok (.invokevirtual 483, 3) := dk_182 1 227 (dk_at dksX0_fitsBut_1 20 rfl rfl)
theorem dX0_fitsBut_45 : decode cX0_fitsBut 45 = .ok (.ifCond .ne 6, 3) := dk_154 0 6 (dk_at dksX0_fitsBut_2 0 rfl rfl)
theorem dX0_fitsBut_48 : decode cX0_fitsBut 48 = .ok (.goto 17, 3) := dk_167 0 17 (dk_at dksX0_fitsBut_2 3 rfl rfl)
theorem dX0_fitsBut_51 : decode cX0_fitsBut 51 = .ok (.iinc 4 1, 3) := dk_132 4 1 (dk_at dksX0_fitsBut_2 6 rfl rfl)
theorem dX0_fitsBut_54 : decode cX0_fitsBut 54 = .ok (.goto (-41), 3) := dk_167 255 215 (dk_at dksX0_fitsBut_2 9 rfl rfl)
theorem dX0_fitsBut_57 : decode cX0_fitsBut 57 = .ok (.aload_n 0, 1) := dk_42 (dk_at dksX0_fitsBut_2 12 rfl rfl)
theorem dX0_fitsBut_58 : decode cX0_fitsBut 58 = .ok (.iload_n 3, 1) := dk_29 (dk_at dksX0_fitsBut_2 13 rfl rfl)
theorem dX0_fitsBut_59 : decode cX0_fitsBut 59 = .ok (.putfield 486, 3) := dk_181 1 230 (dk_at dksX0_fitsBut_2 14 rfl rfl)
theorem dX0_fitsBut_62 : decode cX0_fitsBut 62 = .ok (.iinc 2 1, 3) := dk_132 2 1 (dk_at dksX0_fitsBut_2 17 rfl rfl)
theorem dX0_fitsBut_65 : decode cX0_fitsBut 65 = .ok (.iinc 3 (-1), 3) := dk_132 3 255 (dk_at dksX0_fitsBut_2 20 rfl rfl)
theorem dX0_fitsBut_68 : decode cX0_fitsBut 68 = .ok (.goto (-62), 3) := dk_167 255 194 (dk_at dksX0_fitsBut_3 0 rfl rfl)
theorem dX0_fitsBut_71 : decode cX0_fitsBut 71 = .ok (.iload_n 2, 1) := dk_28 (dk_at dksX0_fitsBut_3 3 rfl rfl)
theorem dX0_fitsBut_72 : decode cX0_fitsBut 72 = .ok (.ireturn, 1) := dk_172 (dk_at dksX0_fitsBut_3 4 rfl rfl)
abbrev cX0_isSo : ByteArray := prog_1_method_83_code
def yX0_isSo : MethodName := ⟨RX0, "isSo", "(III)Z"⟩
def dkwX0_isSo_1 : List UInt8 := [104, 29, 96, 42, 180, 0, 47, 180, 1, 224, 27, 46, 160, 0, 7, 4, 167, 0, 4, 3, 172]
abbrev dktX0_isSo_1 : List UInt8 := dkwX0_isSo_1 ++ []
def dkwX0_isSo_0 : List UInt8 := [28, 3, 42, 180, 0, 47, 180, 1, 221, 27, 46, 42, 180, 0, 47, 180, 1, 218, 27, 46, 100, 184, 1, 97]
abbrev dktX0_isSo_0 : List UInt8 := dkwX0_isSo_0 ++ dktX0_isSo_1
theorem dksX0_isSo_0 : cX0_isSo.data.toList.drop 0 = dktX0_isSo_0 := by decide +kernel
theorem dksX0_isSo_1 : cX0_isSo.data.toList.drop 24 = dktX0_isSo_1 := dk_seg dksX0_isSo_0 24 rfl rfl
theorem dX0_isSo_0 : decode cX0_isSo 0 = .ok (.iload_n 2, 1) := dk_28 (dk_at dksX0_isSo_0 0 rfl rfl)
theorem dX0_isSo_1 : decode cX0_isSo 1 = .ok (.iconst 0, 1) := dk_3 (dk_at dksX0_isSo_0 1 rfl rfl)
theorem dX0_isSo_2 : decode cX0_isSo 2 = .ok (.aload_n 0, 1) := dk_42 (dk_at dksX0_isSo_0 2 rfl rfl)
theorem dX0_isSo_3 : decode cX0_isSo 3 = .ok (.getfield 47, 3) := dk_180 0 47 (dk_at dksX0_isSo_0 3 rfl rfl)
theorem dX0_isSo_6 : decode cX0_isSo 6 = .ok (.getfield 477, 3) := dk_180 1 221 (dk_at dksX0_isSo_0 6 rfl rfl)
theorem dX0_isSo_9 : decode cX0_isSo 9 = .ok (.iload_n 1, 1) := dk_27 (dk_at dksX0_isSo_0 9 rfl rfl)
theorem dX0_isSo_10 : decode cX0_isSo 10 = .ok (.iaload, 1) := dk_46 (dk_at dksX0_isSo_0 10 rfl rfl)
theorem dX0_isSo_11 : decode cX0_isSo 11 = .ok (.aload_n 0, 1) := dk_42 (dk_at dksX0_isSo_0 11 rfl rfl)
theorem dX0_isSo_12 : decode cX0_isSo 12 = .ok (.getfield 47, 3) := dk_180 0 47 (dk_at dksX0_isSo_0 12 rfl rfl)
theorem dX0_isSo_15 : decode cX0_isSo 15 = .ok (.getfield 474, 3) := dk_180 1 218 (dk_at dksX0_isSo_0 15 rfl rfl)
theorem dX0_isSo_18 : decode cX0_isSo 18 = .ok (.iload_n 1, 1) := dk_27 (dk_at dksX0_isSo_0 18 rfl rfl)
theorem dX0_isSo_19 : decode cX0_isSo 19 = .ok (.iaload, 1) := dk_46 (dk_at dksX0_isSo_0 19 rfl rfl)
theorem dX0_isSo_20 : decode cX0_isSo 20 = .ok (.isub, 1) := dk_100 (dk_at dksX0_isSo_0 20 rfl rfl)
theorem dX0_isSo_21 : decode cX0_isSo 21 = .ok (.invokestatic 353, 3) := dk_184 1 97 (dk_at dksX0_isSo_0 21 rfl rfl)
theorem dX0_isSo_24 : decode cX0_isSo 24 = .ok (.imul, 1) := dk_104 (dk_at dksX0_isSo_1 0 rfl rfl)
theorem dX0_isSo_25 : decode cX0_isSo 25 = .ok (.iload_n 3, 1) := dk_29 (dk_at dksX0_isSo_1 1 rfl rfl)
theorem dX0_isSo_26 : decode cX0_isSo 26 = .ok (.iadd, 1) := dk_96 (dk_at dksX0_isSo_1 2 rfl rfl)
theorem dX0_isSo_27 : decode cX0_isSo 27 = .ok (.aload_n 0, 1) := dk_42 (dk_at dksX0_isSo_1 3 rfl rfl)
theorem dX0_isSo_28 : decode cX0_isSo 28 = .ok (.getfield 47, 3) := dk_180 0 47 (dk_at dksX0_isSo_1 4 rfl rfl)
theorem dX0_isSo_31 : decode cX0_isSo 31 = .ok (.getfield 480, 3) := dk_180 1 224 (dk_at dksX0_isSo_1 7 rfl rfl)
theorem dX0_isSo_34 : decode cX0_isSo 34 = .ok (.iload_n 1, 1) := dk_27 (dk_at dksX0_isSo_1 10 rfl rfl)
theorem dX0_isSo_35 : decode cX0_isSo 35 = .ok (.iaload, 1) := dk_46 (dk_at dksX0_isSo_1 11 rfl rfl)
theorem dX0_isSo_36 : decode cX0_isSo 36 = .ok (.if_icmp .ne 7, 3) := dk_160 0 7 (dk_at dksX0_isSo_1 12 rfl rfl)
theorem dX0_isSo_39 : decode cX0_isSo 39 = .ok (.iconst 1, 1) := dk_4 (dk_at dksX0_isSo_1 15 rfl rfl)
theorem dX0_isSo_40 : decode cX0_isSo 40 = .ok (.goto 4, 3) := dk_167 0 4 (dk_at dksX0_isSo_1 16 rfl rfl)
theorem dX0_isSo_43 : decode cX0_isSo 43 = .ok (.iconst 0, 1) := dk_3 (dk_at dksX0_isSo_1 19 rfl rfl)
theorem dX0_isSo_44 : decode cX0_isSo 44 = .ok (.ireturn, 1) := dk_172 (dk_at dksX0_isSo_1 20 rfl rfl)
abbrev cX0_liar : ByteArray := prog_1_method_86_code
def yX0_liar : MethodName := ⟨RX0, "liar", "()I"⟩
def dkwX0_liar_2 : List UInt8 := [162, 0, 7, 27, 167, 0, 5, 16, 253, 172]
abbrev dktX0_liar_2 : List UInt8 := dkwX0_liar_2 ++ []
def dkwX0_liar_1 : List UInt8 := [42, 27, 182, 1, 233, 154, 0, 9, 132, 1, 1, 167, 255, 234, 27, 42, 180, 0, 47, 180, 1, 215]
abbrev dktX0_liar_1 : List UInt8 := dkwX0_liar_1 ++ dktX0_liar_2
def dkwX0_liar_0 : List UInt8 := [42, 2, 182, 1, 233, 158, 0, 6, 16, 253, 172, 3, 60, 27, 42, 180, 0, 47, 180, 1, 215, 162, 0, 17]
abbrev dktX0_liar_0 : List UInt8 := dkwX0_liar_0 ++ dktX0_liar_1
theorem dksX0_liar_0 : cX0_liar.data.toList.drop 0 = dktX0_liar_0 := by decide +kernel
theorem dksX0_liar_1 : cX0_liar.data.toList.drop 24 = dktX0_liar_1 := dk_seg dksX0_liar_0 24 rfl rfl
theorem dksX0_liar_2 : cX0_liar.data.toList.drop 46 = dktX0_liar_2 := dk_seg dksX0_liar_1 22 rfl rfl
theorem dX0_liar_0 : decode cX0_liar 0 = .ok (.aload_n 0, 1) := dk_42 (dk_at dksX0_liar_0 0 rfl rfl)
theorem dX0_liar_1 : decode cX0_liar 1 = .ok (.iconst (-1), 1) := dk_2 (dk_at dksX0_liar_0 1 rfl rfl)
theorem dX0_liar_2 : decode cX0_liar 2 = .ok (.invokevirtual 489, 3) := dk_182 1 233 (dk_at dksX0_liar_0 2 rfl rfl)
theorem dX0_liar_5 : decode cX0_liar 5 = .ok (.ifCond .le 6, 3) := dk_158 0 6 (dk_at dksX0_liar_0 5 rfl rfl)
theorem dX0_liar_8 : decode cX0_liar 8 = .ok (.bipush (-3), 2) := dk_16 253 (dk_at dksX0_liar_0 8 rfl rfl)
theorem dX0_liar_10 : decode cX0_liar 10 = .ok (.ireturn, 1) := dk_172 (dk_at dksX0_liar_0 10 rfl rfl)
theorem dX0_liar_11 : decode cX0_liar 11 = .ok (.iconst 0, 1) := dk_3 (dk_at dksX0_liar_0 11 rfl rfl)
theorem dX0_liar_12 : decode cX0_liar 12 = .ok (.istore_n 1, 1) := dk_60 (dk_at dksX0_liar_0 12 rfl rfl)
theorem dX0_liar_13 : decode cX0_liar 13 = .ok (.iload_n 1, 1) := dk_27 (dk_at dksX0_liar_0 13 rfl rfl)
theorem dX0_liar_14 : decode cX0_liar 14 = .ok (.aload_n 0, 1) := dk_42 (dk_at dksX0_liar_0 14 rfl rfl)
theorem dX0_liar_15 : decode cX0_liar 15 = .ok (.getfield 47, 3) := dk_180 0 47 (dk_at dksX0_liar_0 15 rfl rfl)
theorem dX0_liar_18 : decode cX0_liar 18 = .ok (.getfield 471, 3) := dk_180 1 215 (dk_at dksX0_liar_0 18 rfl rfl)
theorem dX0_liar_21 : decode cX0_liar 21 = .ok (.if_icmp .ge 17, 3) := dk_162 0 17 (dk_at dksX0_liar_0 21 rfl rfl)
theorem dX0_liar_24 : decode cX0_liar 24 = .ok (.aload_n 0, 1) := dk_42 (dk_at dksX0_liar_1 0 rfl rfl)
theorem dX0_liar_25 : decode cX0_liar 25 = .ok (.iload_n 1, 1) := dk_27 (dk_at dksX0_liar_1 1 rfl rfl)
theorem dX0_liar_26 : decode cX0_liar 26 = .ok (.invokevirtual 489, 3) := dk_182 1 233 (dk_at dksX0_liar_1 2 rfl rfl)
theorem dX0_liar_29 : decode cX0_liar 29 = .ok (.ifCond .ne 9, 3) := dk_154 0 9 (dk_at dksX0_liar_1 5 rfl rfl)
theorem dX0_liar_32 : decode cX0_liar 32 = .ok (.iinc 1 1, 3) := dk_132 1 1 (dk_at dksX0_liar_1 8 rfl rfl)
theorem dX0_liar_35 : decode cX0_liar 35 = .ok (.goto (-22), 3) := dk_167 255 234 (dk_at dksX0_liar_1 11 rfl rfl)
theorem dX0_liar_38 : decode cX0_liar 38 = .ok (.iload_n 1, 1) := dk_27 (dk_at dksX0_liar_1 14 rfl rfl)
theorem dX0_liar_39 : decode cX0_liar 39 = .ok (.aload_n 0, 1) := dk_42 (dk_at dksX0_liar_1 15 rfl rfl)
theorem dX0_liar_40 : decode cX0_liar 40 = .ok (.getfield 47, 3) := dk_180 0 47 (dk_at dksX0_liar_1 16 rfl rfl)
theorem dX0_liar_43 : decode cX0_liar 43 = .ok (.getfield 471, 3) := dk_180 1 215 (dk_at dksX0_liar_1 19 rfl rfl)
theorem dX0_liar_46 : decode cX0_liar 46 = .ok (.if_icmp .ge 7, 3) := dk_162 0 7 (dk_at dksX0_liar_2 0 rfl rfl)
theorem dX0_liar_49 : decode cX0_liar 49 = .ok (.iload_n 1, 1) := dk_27 (dk_at dksX0_liar_2 3 rfl rfl)
theorem dX0_liar_50 : decode cX0_liar 50 = .ok (.goto 5, 3) := dk_167 0 5 (dk_at dksX0_liar_2 4 rfl rfl)
theorem dX0_liar_53 : decode cX0_liar 53 = .ok (.bipush (-3), 2) := dk_16 253 (dk_at dksX0_liar_2 7 rfl rfl)
theorem dX0_liar_55 : decode cX0_liar 55 = .ok (.ireturn, 1) := dk_172 (dk_at dksX0_liar_2 9 rfl rfl)
abbrev cX0_seed : ByteArray := prog_1_method_87_code
def yX0_seed : MethodName := ⟨RX0, "seed", "(I)I"⟩
def dkwX0_seed_0 : List UInt8 := [42, 180, 0, 47, 180, 1, 236, 61, 42, 180, 0, 47, 27, 181, 1, 236, 28, 172]
abbrev dktX0_seed_0 : List UInt8 := dkwX0_seed_0 ++ []
theorem dksX0_seed_0 : cX0_seed.data.toList.drop 0 = dktX0_seed_0 := by decide +kernel
theorem dX0_seed_0 : decode cX0_seed 0 = .ok (.aload_n 0, 1) := dk_42 (dk_at dksX0_seed_0 0 rfl rfl)
theorem dX0_seed_1 : decode cX0_seed 1 = .ok (.getfield 47, 3) := dk_180 0 47 (dk_at dksX0_seed_0 1 rfl rfl)
theorem dX0_seed_4 : decode cX0_seed 4 = .ok (.getfield 492, 3) := dk_180 1 236 (dk_at dksX0_seed_0 4 rfl rfl)
theorem dX0_seed_7 : decode cX0_seed 7 = .ok (.istore_n 2, 1) := dk_61 (dk_at dksX0_seed_0 7 rfl rfl)
theorem dX0_seed_8 : decode cX0_seed 8 = .ok (.aload_n 0, 1) := dk_42 (dk_at dksX0_seed_0 8 rfl rfl)
theorem dX0_seed_9 : decode cX0_seed 9 = .ok (.getfield 47, 3) := dk_180 0 47 (dk_at dksX0_seed_0 9 rfl rfl)
theorem dX0_seed_12 : decode cX0_seed 12 = .ok (.iload_n 1, 1) := dk_27 (dk_at dksX0_seed_0 12 rfl rfl)
theorem dX0_seed_13 : decode cX0_seed 13 = .ok (.putfield 492, 3) := dk_181 1 236 (dk_at dksX0_seed_0 13 rfl rfl)
theorem dX0_seed_16 : decode cX0_seed 16 = .ok (.iload_n 2, 1) := dk_28 (dk_at dksX0_seed_0 16 rfl rfl)
theorem dX0_seed_17 : decode cX0_seed 17 = .ok (.ireturn, 1) := dk_172 (dk_at dksX0_seed_0 17 rfl rfl)
abbrev cX0_draw : ByteArray := prog_1_method_90_code
def yX0_draw : MethodName := ⟨RX0, "draw", "()I"⟩
theorem dX0_draw_0 : decode cX0_draw 0 = .ok (.aload_n 0, 1) := by decide +kernel
theorem dX0_draw_1 : decode cX0_draw 1 = .ok (.invokevirtual 499, 3) := by decide +kernel
theorem dX0_draw_4 : decode cX0_draw 4 = .ok (.ireturn, 1) := by decide +kernel
abbrev cX0_drawn : ByteArray := prog_1_method_89_code
def yX0_drawn : MethodName := ⟨RX0, "drawn", "()I"⟩
def dkwX0_drawn_3 : List UInt8 := [182, 1, 142, 62, 29, 156, 0, 8, 16, 253, 167, 0, 4, 28, 172]
abbrev dktX0_drawn_3 : List UInt8 := dkwX0_drawn_3 ++ []
def dkwX0_drawn_2 : List UInt8 := [16, 16, 124, 27, 112, 62, 29, 158, 0, 15, 42, 28, 182, 1, 212, 61, 132, 3, 255, 167, 255, 243, 42, 28]
abbrev dktX0_drawn_2 : List UInt8 := dkwX0_drawn_2 ++ dktX0_drawn_3
def dkwX0_drawn_1 : List UInt8 := [19, 1, 242, 104, 17, 48, 57, 96, 181, 1, 236, 42, 2, 182, 1, 212, 61, 42, 180, 0, 47, 180, 1, 236]
abbrev dktX0_drawn_1 : List UInt8 := dkwX0_drawn_1 ++ dktX0_drawn_2
def dkwX0_drawn_0 : List UInt8 := [42, 182, 1, 239, 60, 27, 154, 0, 6, 16, 253, 172, 42, 180, 0, 47, 42, 180, 0, 47, 180, 1, 236]
abbrev dktX0_drawn_0 : List UInt8 := dkwX0_drawn_0 ++ dktX0_drawn_1
theorem dksX0_drawn_0 : cX0_drawn.data.toList.drop 0 = dktX0_drawn_0 := by decide +kernel
theorem dksX0_drawn_1 : cX0_drawn.data.toList.drop 23 = dktX0_drawn_1 := dk_seg dksX0_drawn_0 23 rfl rfl
theorem dksX0_drawn_2 : cX0_drawn.data.toList.drop 47 = dktX0_drawn_2 := dk_seg dksX0_drawn_1 24 rfl rfl
theorem dksX0_drawn_3 : cX0_drawn.data.toList.drop 71 = dktX0_drawn_3 := dk_seg dksX0_drawn_2 24 rfl rfl
theorem dX0_drawn_0 : decode cX0_drawn 0 = .ok (.aload_n 0, 1) := dk_42 (dk_at dksX0_drawn_0 0 rfl rfl)
theorem dX0_drawn_1 : decode cX0_drawn 1 = .ok (.invokevirtual 495, 3) := dk_182 1 239 (dk_at dksX0_drawn_0 1 rfl rfl)
theorem dX0_drawn_4 : decode cX0_drawn 4 = .ok (.istore_n 1, 1) := dk_60 (dk_at dksX0_drawn_0 4 rfl rfl)
theorem dX0_drawn_5 : decode cX0_drawn 5 = .ok (.iload_n 1, 1) := dk_27 (dk_at dksX0_drawn_0 5 rfl rfl)
theorem dX0_drawn_6 : decode cX0_drawn 6 = .ok (.ifCond .ne 6, 3) := dk_154 0 6 (dk_at dksX0_drawn_0 6 rfl rfl)
theorem dX0_drawn_9 : decode cX0_drawn 9 = .ok (.bipush (-3), 2) := dk_16 253 (dk_at dksX0_drawn_0 9 rfl rfl)
theorem dX0_drawn_11 : decode cX0_drawn 11 = .ok (.ireturn, 1) := dk_172 (dk_at dksX0_drawn_0 11 rfl rfl)
theorem dX0_drawn_12 : decode cX0_drawn 12 = .ok (.aload_n 0, 1) := dk_42 (dk_at dksX0_drawn_0 12 rfl rfl)
theorem dX0_drawn_13 : decode cX0_drawn 13 = .ok (.getfield 47, 3) := dk_180 0 47 (dk_at dksX0_drawn_0 13 rfl rfl)
theorem dX0_drawn_16 : decode cX0_drawn 16 = .ok (.aload_n 0, 1) := dk_42 (dk_at dksX0_drawn_0 16 rfl rfl)
theorem dX0_drawn_17 : decode cX0_drawn 17 = .ok (.getfield 47, 3) := dk_180 0 47 (dk_at dksX0_drawn_0 17 rfl rfl)
theorem dX0_drawn_20 : decode cX0_drawn 20 = .ok (.getfield 492, 3) := dk_180 1 236 (dk_at dksX0_drawn_0 20 rfl rfl)
theorem dX0_drawn_23 : decode cX0_drawn 23 = .ok (.ldc_w 498, 3) := dk_19 1 242 (dk_at dksX0_drawn_1 0 rfl rfl)
theorem dX0_drawn_26 : decode cX0_drawn 26 = .ok (.imul, 1) := dk_104 (dk_at dksX0_drawn_1 3 rfl rfl)
theorem dX0_drawn_27 : decode cX0_drawn 27 = .ok (.sipush 12345, 3) := dk_17 48 57 (dk_at dksX0_drawn_1 4 rfl rfl)
theorem dX0_drawn_30 : decode cX0_drawn 30 = .ok (.iadd, 1) := dk_96 (dk_at dksX0_drawn_1 7 rfl rfl)
theorem dX0_drawn_31 : decode cX0_drawn 31 = .ok (.putfield 492, 3) := dk_181 1 236 (dk_at dksX0_drawn_1 8 rfl rfl)
theorem dX0_drawn_34 : decode cX0_drawn 34 = .ok (.aload_n 0, 1) := dk_42 (dk_at dksX0_drawn_1 11 rfl rfl)
theorem dX0_drawn_35 : decode cX0_drawn 35 = .ok (.iconst (-1), 1) := dk_2 (dk_at dksX0_drawn_1 12 rfl rfl)
theorem dX0_drawn_36 : decode cX0_drawn 36 = .ok (.invokevirtual 468, 3) := dk_182 1 212 (dk_at dksX0_drawn_1 13 rfl rfl)
theorem dX0_drawn_39 : decode cX0_drawn 39 = .ok (.istore_n 2, 1) := dk_61 (dk_at dksX0_drawn_1 16 rfl rfl)
theorem dX0_drawn_40 : decode cX0_drawn 40 = .ok (.aload_n 0, 1) := dk_42 (dk_at dksX0_drawn_1 17 rfl rfl)
theorem dX0_drawn_41 : decode cX0_drawn 41 = .ok (.getfield 47, 3) := dk_180 0 47 (dk_at dksX0_drawn_1 18 rfl rfl)
theorem dX0_drawn_44 : decode cX0_drawn 44 = .ok (.getfield 492, 3) := dk_180 1 236 (dk_at dksX0_drawn_1 21 rfl rfl)
theorem dX0_drawn_47 : decode cX0_drawn 47 = .ok (.bipush 16, 2) := dk_16 16 (dk_at dksX0_drawn_2 0 rfl rfl)
theorem dX0_drawn_49 : decode cX0_drawn 49 = .ok (.iushr, 1) := dk_124 (dk_at dksX0_drawn_2 2 rfl rfl)
theorem dX0_drawn_50 : decode cX0_drawn 50 = .ok (.iload_n 1, 1) := dk_27 (dk_at dksX0_drawn_2 3 rfl rfl)
theorem dX0_drawn_51 : decode cX0_drawn 51 = .ok (.irem, 1) := dk_112 (dk_at dksX0_drawn_2 4 rfl rfl)
theorem dX0_drawn_52 : decode cX0_drawn 52 = .ok (.istore_n 3, 1) := dk_62 (dk_at dksX0_drawn_2 5 rfl rfl)
theorem dX0_drawn_53 : decode cX0_drawn 53 = .ok (.iload_n 3, 1) := dk_29 (dk_at dksX0_drawn_2 6 rfl rfl)
theorem dX0_drawn_54 : decode cX0_drawn 54 = .ok (.ifCond .le 15, 3) := dk_158 0 15 (dk_at dksX0_drawn_2 7 rfl rfl)
theorem dX0_drawn_57 : decode cX0_drawn 57 = .ok (.aload_n 0, 1) := dk_42 (dk_at dksX0_drawn_2 10 rfl rfl)
theorem dX0_drawn_58 : decode cX0_drawn 58 = .ok (.iload_n 2, 1) := dk_28 (dk_at dksX0_drawn_2 11 rfl rfl)
theorem dX0_drawn_59 : decode cX0_drawn 59 = .ok (.invokevirtual 468, 3) := dk_182 1 212 (dk_at dksX0_drawn_2 12 rfl rfl)
theorem dX0_drawn_62 : decode cX0_drawn 62 = .ok (.istore_n 2, 1) := dk_61 (dk_at dksX0_drawn_2 15 rfl rfl)
theorem dX0_drawn_63 : decode cX0_drawn 63 = .ok (.iinc 3 (-1), 3) := dk_132 3 255 (dk_at dksX0_drawn_2 16 rfl rfl)
theorem dX0_drawn_66 : decode cX0_drawn 66 = .ok (.goto (-13), 3) := dk_167 255 243 (dk_at dksX0_drawn_2 19 rfl rfl)
theorem dX0_drawn_69 : decode cX0_drawn 69 = .ok (.aload_n 0, 1) := dk_42 (dk_at dksX0_drawn_2 22 rfl rfl)
theorem dX0_drawn_70 : decode cX0_drawn 70 = .ok (.iload_n 2, 1) := dk_28 (dk_at dksX0_drawn_2 23 rfl rfl)
theorem dX0_drawn_71 : decode cX0_drawn 71 = .ok (.invokevirtual 398, 3) := dk_182 1 142 (dk_at dksX0_drawn_3 0 rfl rfl)
theorem dX0_drawn_74 : decode cX0_drawn 74 = .ok (.istore_n 3, 1) := dk_62 (dk_at dksX0_drawn_3 3 rfl rfl)
theorem dX0_drawn_75 : decode cX0_drawn 75 = .ok (.iload_n 3, 1) := dk_29 (dk_at dksX0_drawn_3 4 rfl rfl)
theorem dX0_drawn_76 : decode cX0_drawn 76 = .ok (.ifCond .ge 8, 3) := dk_156 0 8 (dk_at dksX0_drawn_3 5 rfl rfl)
theorem dX0_drawn_79 : decode cX0_drawn 79 = .ok (.bipush (-3), 2) := dk_16 253 (dk_at dksX0_drawn_3 8 rfl rfl)
theorem dX0_drawn_81 : decode cX0_drawn 81 = .ok (.goto 4, 3) := dk_167 0 4 (dk_at dksX0_drawn_3 10 rfl rfl)
theorem dX0_drawn_84 : decode cX0_drawn 84 = .ok (.iload_n 2, 1) := dk_28 (dk_at dksX0_drawn_3 13 rfl rfl)
theorem dX0_drawn_85 : decode cX0_drawn 85 = .ok (.ireturn, 1) := dk_172 (dk_at dksX0_drawn_3 14 rfl rfl)
abbrev cX0_manyCan : ByteArray := prog_1_method_88_code
def yX0_manyCan : MethodName := ⟨RX0, "manyCan", "()I"⟩
def dkwX0_manyCan_1 : List UInt8 := [27, 172]
abbrev dktX0_manyCan_1 : List UInt8 := dkwX0_manyCan_1 ++ []
def dkwX0_manyCan_0 : List UInt8 := [3, 60, 42, 2, 182, 1, 212, 61, 28, 155, 0, 15, 132, 1, 1, 42, 28, 182, 1, 212, 61, 167, 255, 243]
abbrev dktX0_manyCan_0 : List UInt8 := dkwX0_manyCan_0 ++ dktX0_manyCan_1
theorem dksX0_manyCan_0 : cX0_manyCan.data.toList.drop 0 = dktX0_manyCan_0 := by decide +kernel
theorem dksX0_manyCan_1 : cX0_manyCan.data.toList.drop 24 = dktX0_manyCan_1 := dk_seg dksX0_manyCan_0 24 rfl rfl
theorem dX0_manyCan_0 : decode cX0_manyCan 0 = .ok (.iconst 0, 1) := dk_3 (dk_at dksX0_manyCan_0 0 rfl rfl)
theorem dX0_manyCan_1 : decode cX0_manyCan 1 = .ok (.istore_n 1, 1) := dk_60 (dk_at dksX0_manyCan_0 1 rfl rfl)
theorem dX0_manyCan_2 : decode cX0_manyCan 2 = .ok (.aload_n 0, 1) := dk_42 (dk_at dksX0_manyCan_0 2 rfl rfl)
theorem dX0_manyCan_3 : decode cX0_manyCan 3 = .ok (.iconst (-1), 1) := dk_2 (dk_at dksX0_manyCan_0 3 rfl rfl)
theorem dX0_manyCan_4 : decode cX0_manyCan 4 = .ok (.invokevirtual 468, 3) := dk_182 1 212 (dk_at dksX0_manyCan_0 4 rfl rfl)
theorem dX0_manyCan_7 : decode cX0_manyCan 7 = .ok (.istore_n 2, 1) := dk_61 (dk_at dksX0_manyCan_0 7 rfl rfl)
theorem dX0_manyCan_8 : decode cX0_manyCan 8 = .ok (.iload_n 2, 1) := dk_28 (dk_at dksX0_manyCan_0 8 rfl rfl)
theorem dX0_manyCan_9 : decode cX0_manyCan 9 = .ok (.ifCond .lt 15, 3) := dk_155 0 15 (dk_at dksX0_manyCan_0 9 rfl rfl)
theorem dX0_manyCan_12 : decode cX0_manyCan 12 = .ok (.iinc 1 1, 3) := dk_132 1 1 (dk_at dksX0_manyCan_0 12 rfl rfl)
theorem dX0_manyCan_15 : decode cX0_manyCan 15 = .ok (.aload_n 0, 1) := dk_42 (dk_at dksX0_manyCan_0 15 rfl rfl)
theorem dX0_manyCan_16 : decode cX0_manyCan 16 = .ok (.iload_n 2, 1) := dk_28 (dk_at dksX0_manyCan_0 16 rfl rfl)
theorem dX0_manyCan_17 : decode cX0_manyCan 17 = .ok (.invokevirtual 468, 3) := dk_182 1 212 (dk_at dksX0_manyCan_0 17 rfl rfl)
theorem dX0_manyCan_20 : decode cX0_manyCan 20 = .ok (.istore_n 2, 1) := dk_61 (dk_at dksX0_manyCan_0 20 rfl rfl)
theorem dX0_manyCan_21 : decode cX0_manyCan 21 = .ok (.goto (-13), 3) := dk_167 255 243 (dk_at dksX0_manyCan_0 21 rfl rfl)
theorem dX0_manyCan_24 : decode cX0_manyCan 24 = .ok (.iload_n 1, 1) := dk_27 (dk_at dksX0_manyCan_1 0 rfl rfl)
theorem dX0_manyCan_25 : decode cX0_manyCan 25 = .ok (.ireturn, 1) := dk_172 (dk_at dksX0_manyCan_1 1 rfl rfl)
abbrev cX0_often : ByteArray := prog_1_method_92_code
def yX0_often : MethodName := ⟨RX0, "often", "(I)I"⟩
def dkwX0_often_5 : List UInt8 := [182, 1, 246, 25, 5, 191]
abbrev dktX0_often_5 : List UInt8 := dkwX0_often_5 ++ []
def dkwX0_often_4 : List UInt8 := [180, 0, 47, 42, 180, 0, 54, 182, 1, 246, 21, 4, 172, 58, 5, 42, 180, 0, 47, 42, 180, 0, 54]
abbrev dktX0_often_4 : List UInt8 := dkwX0_often_4 ++ dktX0_often_5
def dkwX0_often_3 : List UInt8 := [167, 0, 4, 3, 96, 61, 42, 180, 0, 47, 180, 1, 236, 62, 132, 4, 1, 167, 255, 205, 28, 54, 4, 42]
abbrev dktX0_often_3 : List UInt8 := dkwX0_often_3 ++ dktX0_often_4
def dkwX0_often_2 : List UInt8 := [180, 0, 54, 182, 1, 246, 42, 180, 0, 47, 29, 181, 1, 236, 28, 42, 182, 1, 250, 153, 0, 7, 4]
abbrev dktX0_often_2 : List UInt8 := dkwX0_often_2 ++ dktX0_often_3
def dkwX0_often_1 : List UInt8 := [61, 42, 180, 0, 47, 180, 1, 236, 62, 3, 54, 4, 21, 4, 27, 162, 0, 51, 42, 180, 0, 47, 42]
abbrev dktX0_often_1 : List UInt8 := dkwX0_often_1 ++ dktX0_often_2
def dkwX0_often_0 : List UInt8 := [27, 4, 16, 60, 184, 0, 149, 154, 0, 5, 2, 172, 42, 180, 0, 54, 42, 180, 0, 47, 182, 1, 246, 3]
abbrev dktX0_often_0 : List UInt8 := dkwX0_often_0 ++ dktX0_often_1
theorem dksX0_often_0 : cX0_often.data.toList.drop 0 = dktX0_often_0 := by decide +kernel
theorem dksX0_often_1 : cX0_often.data.toList.drop 24 = dktX0_often_1 := dk_seg dksX0_often_0 24 rfl rfl
theorem dksX0_often_2 : cX0_often.data.toList.drop 47 = dktX0_often_2 := dk_seg dksX0_often_1 23 rfl rfl
theorem dksX0_often_3 : cX0_often.data.toList.drop 70 = dktX0_often_3 := dk_seg dksX0_often_2 23 rfl rfl
theorem dksX0_often_4 : cX0_often.data.toList.drop 94 = dktX0_often_4 := dk_seg dksX0_often_3 24 rfl rfl
theorem dksX0_often_5 : cX0_often.data.toList.drop 117 = dktX0_often_5 := dk_seg dksX0_often_4 23 rfl rfl
theorem dX0_often_0 : decode cX0_often 0 = .ok (.iload_n 1, 1) := dk_27 (dk_at dksX0_often_0 0 rfl rfl)
theorem dX0_often_1 : decode cX0_often 1 = .ok (.iconst 1, 1) := dk_4 (dk_at dksX0_often_0 1 rfl rfl)
theorem dX0_often_2 : decode cX0_often 2 = .ok (.bipush 60, 2) := dk_16 60 (dk_at dksX0_often_0 2 rfl rfl)
theorem dX0_often_4 : decode cX0_often 4 = .ok (.invokestatic 149, 3) := dk_184 0 149 (dk_at dksX0_often_0 4 rfl rfl)
theorem dX0_often_7 : decode cX0_often 7 = .ok (.ifCond .ne 5, 3) := dk_154 0 5 (dk_at dksX0_often_0 7 rfl rfl)
theorem dX0_often_10 : decode cX0_often 10 = .ok (.iconst (-1), 1) := dk_2 (dk_at dksX0_often_0 10 rfl rfl)
theorem dX0_often_11 : decode cX0_often 11 = .ok (.ireturn, 1) := dk_172 (dk_at dksX0_often_0 11 rfl rfl)
theorem dX0_often_12 : decode cX0_often 12 = .ok (.aload_n 0, 1) := dk_42 (dk_at dksX0_often_0 12 rfl rfl)
theorem dX0_often_13 : decode cX0_often 13 = .ok (.getfield 54, 3) := dk_180 0 54 (dk_at dksX0_often_0 13 rfl rfl)
theorem dX0_often_16 : decode cX0_often 16 = .ok (.aload_n 0, 1) := dk_42 (dk_at dksX0_often_0 16 rfl rfl)
theorem dX0_often_17 : decode cX0_often 17 = .ok (.getfield 47, 3) := dk_180 0 47 (dk_at dksX0_often_0 17 rfl rfl)
theorem dX0_often_20 : decode cX0_often 20 = .ok (.invokevirtual 502, 3) := dk_182 1 246 (dk_at dksX0_often_0 20 rfl rfl)
theorem dX0_often_23 : decode cX0_often 23 = .ok (.iconst 0, 1) := dk_3 (dk_at dksX0_often_0 23 rfl rfl)
theorem dX0_often_24 : decode cX0_often 24 = .ok (.istore_n 2, 1) := dk_61 (dk_at dksX0_often_1 0 rfl rfl)
theorem dX0_often_25 : decode cX0_often 25 = .ok (.aload_n 0, 1) := dk_42 (dk_at dksX0_often_1 1 rfl rfl)
theorem dX0_often_26 : decode cX0_often 26 = .ok (.getfield 47, 3) := dk_180 0 47 (dk_at dksX0_often_1 2 rfl rfl)
theorem dX0_often_29 : decode cX0_often 29 = .ok (.getfield 492, 3) := dk_180 1 236 (dk_at dksX0_often_1 5 rfl rfl)
theorem dX0_often_32 : decode cX0_often 32 = .ok (.istore_n 3, 1) := dk_62 (dk_at dksX0_often_1 8 rfl rfl)
theorem dX0_often_33 : decode cX0_often 33 = .ok (.iconst 0, 1) := dk_3 (dk_at dksX0_often_1 9 rfl rfl)
theorem dX0_often_34 : decode cX0_often 34 = .ok (.istore 4, 2) := dk_54 4 (dk_at dksX0_often_1 10 rfl rfl)
theorem dX0_often_36 : decode cX0_often 36 = .ok (.iload 4, 2) := dk_21 4 (dk_at dksX0_often_1 12 rfl rfl)
theorem dX0_often_38 : decode cX0_often 38 = .ok (.iload_n 1, 1) := dk_27 (dk_at dksX0_often_1 14 rfl rfl)
theorem dX0_often_39 : decode cX0_often 39 = .ok (.if_icmp .ge 51, 3) := dk_162 0 51 (dk_at dksX0_often_1 15 rfl rfl)
theorem dX0_often_42 : decode cX0_often 42 = .ok (.aload_n 0, 1) := dk_42 (dk_at dksX0_often_1 18 rfl rfl)
theorem dX0_often_43 : decode cX0_often 43 = .ok (.getfield 47, 3) := dk_180 0 47 (dk_at dksX0_often_1 19 rfl rfl)
theorem dX0_often_46 : decode cX0_often 46 = .ok (.aload_n 0, 1) := dk_42 (dk_at dksX0_often_1 22 rfl rfl)
theorem dX0_often_47 : decode cX0_often 47 = .ok (.getfield 54, 3) := dk_180 0 54 (dk_at dksX0_often_2 0 rfl rfl)
theorem dX0_often_50 : decode cX0_often 50 = .ok (.invokevirtual 502, 3) := dk_182 1 246 (dk_at dksX0_often_2 3 rfl rfl)
theorem dX0_often_53 : decode cX0_often 53 = .ok (.aload_n 0, 1) := dk_42 (dk_at dksX0_often_2 6 rfl rfl)
theorem dX0_often_54 : decode cX0_often 54 = .ok (.getfield 47, 3) := dk_180 0 47 (dk_at dksX0_often_2 7 rfl rfl)
theorem dX0_often_57 : decode cX0_often 57 = .ok (.iload_n 3, 1) := dk_29 (dk_at dksX0_often_2 10 rfl rfl)
theorem dX0_often_58 : decode cX0_often 58 = .ok (.putfield 492, 3) := dk_181 1 236 (dk_at dksX0_often_2 11 rfl rfl)
theorem dX0_often_61 : decode cX0_often 61 = .ok (.iload_n 2, 1) := dk_28 (dk_at dksX0_often_2 14 rfl rfl)
theorem dX0_often_62 : decode cX0_often 62 = .ok (.aload_n 0, 1) := dk_42 (dk_at dksX0_often_2 15 rfl rfl)
theorem dX0_often_63 : decode cX0_often 63 = .ok (.invokevirtual 506, 3) := dk_182 1 250 (dk_at dksX0_often_2 16 rfl rfl)
theorem dX0_often_66 : decode cX0_often 66 = .ok (.ifCond .eq 7, 3) := dk_153 0 7 (dk_at dksX0_often_2 19 rfl rfl)
theorem dX0_often_69 : decode cX0_often 69 = .ok (.iconst 1, 1) := dk_4 (dk_at dksX0_often_2 22 rfl rfl)
theorem dX0_often_70 : decode cX0_often 70 = .ok (.goto 4, 3) := dk_167 0 4 (dk_at dksX0_often_3 0 rfl rfl)
theorem dX0_often_73 : decode cX0_often 73 = .ok (.iconst 0, 1) := dk_3 (dk_at dksX0_often_3 3 rfl rfl)
theorem dX0_often_74 : decode cX0_often 74 = .ok (.iadd, 1) := dk_96 (dk_at dksX0_often_3 4 rfl rfl)
theorem dX0_often_75 : decode cX0_often 75 = .ok (.istore_n 2, 1) := dk_61 (dk_at dksX0_often_3 5 rfl rfl)
theorem dX0_often_76 : decode cX0_often 76 = .ok (.aload_n 0, 1) := dk_42 (dk_at dksX0_often_3 6 rfl rfl)
theorem dX0_often_77 : decode cX0_often 77 = .ok (.getfield 47, 3) := dk_180 0 47 (dk_at dksX0_often_3 7 rfl rfl)
theorem dX0_often_80 : decode cX0_often 80 = .ok (.getfield 492, 3) := dk_180 1 236 (dk_at dksX0_often_3 10 rfl rfl)
theorem dX0_often_83 : decode cX0_often 83 = .ok (.istore_n 3, 1) := dk_62 (dk_at dksX0_often_3 13 rfl rfl)
theorem dX0_often_84 : decode cX0_often 84 = .ok (.iinc 4 1, 3) := dk_132 4 1 (dk_at dksX0_often_3 14 rfl rfl)
theorem dX0_often_87 : decode cX0_often 87 = .ok (.goto (-51), 3) := dk_167 255 205 (dk_at dksX0_often_3 17 rfl rfl)
theorem dX0_often_90 : decode cX0_often 90 = .ok (.iload_n 2, 1) := dk_28 (dk_at dksX0_often_3 20 rfl rfl)
theorem dX0_often_91 : decode cX0_often 91 = .ok (.istore 4, 2) := dk_54 4 (dk_at dksX0_often_3 21 rfl rfl)
theorem dX0_often_93 : decode cX0_often 93 = .ok (.aload_n 0, 1) := dk_42 (dk_at dksX0_often_3 23 rfl rfl)
theorem dX0_often_94 : decode cX0_often 94 = .ok (.getfield 47, 3) := dk_180 0 47 (dk_at dksX0_often_4 0 rfl rfl)
theorem dX0_often_97 : decode cX0_often 97 = .ok (.aload_n 0, 1) := dk_42 (dk_at dksX0_often_4 3 rfl rfl)
theorem dX0_often_98 : decode cX0_often 98 = .ok (.getfield 54, 3) := dk_180 0 54 (dk_at dksX0_often_4 4 rfl rfl)
theorem dX0_often_101 : decode cX0_often 101 = .ok (.invokevirtual 502, 3) := dk_182 1 246 (dk_at dksX0_often_4 7 rfl rfl)
theorem dX0_often_104 : decode cX0_often 104 = .ok (.iload 4, 2) := dk_21 4 (dk_at dksX0_often_4 10 rfl rfl)
theorem dX0_often_106 : decode cX0_often 106 = .ok (.ireturn, 1) := dk_172 (dk_at dksX0_often_4 12 rfl rfl)
theorem dX0_often_107 : decode cX0_often 107 = .ok (.astore 5, 2) := dk_58 5 (dk_at dksX0_often_4 13 rfl rfl)
theorem dX0_often_109 : decode cX0_often 109 = .ok (.aload_n 0, 1) := dk_42 (dk_at dksX0_often_4 15 rfl rfl)
theorem dX0_often_110 : decode cX0_often 110 = .ok (.getfield 47, 3) := dk_180 0 47 (dk_at dksX0_often_4 16 rfl rfl)
theorem dX0_often_113 : decode cX0_often 113 = .ok (.aload_n 0, 1) := dk_42 (dk_at dksX0_often_4 19 rfl rfl)
theorem dX0_often_114 : decode cX0_often 114 = .ok (.getfield 54, 3) := dk_180 0 54 (dk_at dksX0_often_4 20 rfl rfl)
theorem dX0_often_117 : decode cX0_often 117 = .ok (.invokevirtual 502, 3) := dk_182 1 246 (dk_at dksX0_often_5 0 rfl rfl)
theorem dX0_often_120 : decode cX0_often 120 = .ok (.aload 5, 2) := dk_25 5 (dk_at dksX0_often_5 3 rfl rfl)
theorem dX0_often_122 : decode cX0_often 122 = .ok (.athrow, 1) := dk_191 (dk_at dksX0_often_5 5 rfl rfl)
abbrev cX0_runs : ByteArray := prog_1_method_91_code
def yX0_runs : MethodName := ⟨RX0, "runs", "()Z"⟩
def dkwX0_runs_1 : List UInt8 := [182, 1, 160, 172]
abbrev dktX0_runs_1 : List UInt8 := dkwX0_runs_1 ++ []
def dkwX0_runs_0 : List UInt8 := [3, 60, 27, 16, 30, 162, 0, 16, 42, 182, 1, 243, 155, 0, 9, 132, 1, 1, 167, 255, 240, 42]
abbrev dktX0_runs_0 : List UInt8 := dkwX0_runs_0 ++ dktX0_runs_1
theorem dksX0_runs_0 : cX0_runs.data.toList.drop 0 = dktX0_runs_0 := by decide +kernel
theorem dksX0_runs_1 : cX0_runs.data.toList.drop 22 = dktX0_runs_1 := dk_seg dksX0_runs_0 22 rfl rfl
theorem dX0_runs_0 : decode cX0_runs 0 = .ok (.iconst 0, 1) := dk_3 (dk_at dksX0_runs_0 0 rfl rfl)
theorem dX0_runs_1 : decode cX0_runs 1 = .ok (.istore_n 1, 1) := dk_60 (dk_at dksX0_runs_0 1 rfl rfl)
theorem dX0_runs_2 : decode cX0_runs 2 = .ok (.iload_n 1, 1) := dk_27 (dk_at dksX0_runs_0 2 rfl rfl)
theorem dX0_runs_3 : decode cX0_runs 3 = .ok (.bipush 30, 2) := dk_16 30 (dk_at dksX0_runs_0 3 rfl rfl)
theorem dX0_runs_5 : decode cX0_runs 5 = .ok (.if_icmp .ge 16, 3) := dk_162 0 16 (dk_at dksX0_runs_0 5 rfl rfl)
theorem dX0_runs_8 : decode cX0_runs 8 = .ok (.aload_n 0, 1) := dk_42 (dk_at dksX0_runs_0 8 rfl rfl)
theorem dX0_runs_9 : decode cX0_runs 9 = .ok (.invokevirtual 499, 3) := dk_182 1 243 (dk_at dksX0_runs_0 9 rfl rfl)
theorem dX0_runs_12 : decode cX0_runs 12 = .ok (.ifCond .lt 9, 3) := dk_155 0 9 (dk_at dksX0_runs_0 12 rfl rfl)
theorem dX0_runs_15 : decode cX0_runs 15 = .ok (.iinc 1 1, 3) := dk_132 1 1 (dk_at dksX0_runs_0 15 rfl rfl)
theorem dX0_runs_18 : decode cX0_runs 18 = .ok (.goto (-16), 3) := dk_167 255 240 (dk_at dksX0_runs_0 18 rfl rfl)
theorem dX0_runs_21 : decode cX0_runs 21 = .ok (.aload_n 0, 1) := dk_42 (dk_at dksX0_runs_0 21 rfl rfl)
theorem dX0_runs_22 : decode cX0_runs 22 = .ok (.invokevirtual 416, 3) := dk_182 1 160 (dk_at dksX0_runs_1 0 rfl rfl)
theorem dX0_runs_25 : decode cX0_runs 25 = .ok (.ireturn, 1) := dk_172 (dk_at dksX0_runs_1 3 rfl rfl)
abbrev cX0_prove : ByteArray := prog_1_method_93_code
def yX0_prove : MethodName := ⟨RX0, "prove", "()I"⟩
def dkwX0_prove_5 : List UInt8 := [180, 0, 54, 182, 1, 246, 27, 172]
abbrev dktX0_prove_5 : List UInt8 := dkwX0_prove_5 ++ []
def dkwX0_prove_4 : List UInt8 := [104, 5, 96, 42, 180, 0, 47, 182, 0, 211, 79, 132, 2, 1, 167, 255, 181, 42, 180, 0, 47, 42]
abbrev dktX0_prove_4 : List UInt8 := dkwX0_prove_4 ++ dktX0_prove_5
def dkwX0_prove_3 : List UInt8 := [4, 96, 29, 156, 0, 7, 3, 167, 0, 10, 42, 180, 0, 47, 182, 0, 214, 79, 42, 180, 0, 127, 6, 28]
abbrev dktX0_prove_3 : List UInt8 := dkwX0_prove_3 ++ dktX0_prove_4
def dkwX0_prove_2 : List UInt8 := [180, 0, 115, 28, 46, 79, 42, 42, 180, 0, 115, 28, 46, 182, 1, 136, 62, 42, 180, 0, 127, 6, 28, 104]
abbrev dktX0_prove_2 : List UInt8 := dkwX0_prove_2 ++ dktX0_prove_3
def dkwX0_prove_1 : List UInt8 := [182, 1, 246, 42, 27, 181, 1, 253, 3, 61, 28, 27, 162, 0, 76, 42, 180, 0, 127, 6, 28, 104, 42]
abbrev dktX0_prove_1 : List UInt8 := dkwX0_prove_1 ++ dktX0_prove_2
def dkwX0_prove_0 : List UInt8 := [42, 16, 6, 182, 1, 167, 60, 27, 156, 0, 6, 16, 253, 172, 42, 180, 0, 54, 42, 180, 0, 47]
abbrev dktX0_prove_0 : List UInt8 := dkwX0_prove_0 ++ dktX0_prove_1
theorem dksX0_prove_0 : cX0_prove.data.toList.drop 0 = dktX0_prove_0 := by decide +kernel
theorem dksX0_prove_1 : cX0_prove.data.toList.drop 22 = dktX0_prove_1 := dk_seg dksX0_prove_0 22 rfl rfl
theorem dksX0_prove_2 : cX0_prove.data.toList.drop 45 = dktX0_prove_2 := dk_seg dksX0_prove_1 23 rfl rfl
theorem dksX0_prove_3 : cX0_prove.data.toList.drop 69 = dktX0_prove_3 := dk_seg dksX0_prove_2 24 rfl rfl
theorem dksX0_prove_4 : cX0_prove.data.toList.drop 93 = dktX0_prove_4 := dk_seg dksX0_prove_3 24 rfl rfl
theorem dksX0_prove_5 : cX0_prove.data.toList.drop 115 = dktX0_prove_5 := dk_seg dksX0_prove_4 22 rfl rfl
theorem dX0_prove_0 : decode cX0_prove 0 = .ok (.aload_n 0, 1) := dk_42 (dk_at dksX0_prove_0 0 rfl rfl)
theorem dX0_prove_1 : decode cX0_prove 1 = .ok (.bipush 6, 2) := dk_16 6 (dk_at dksX0_prove_0 1 rfl rfl)
theorem dX0_prove_3 : decode cX0_prove 3 = .ok (.invokevirtual 423, 3) := dk_182 1 167 (dk_at dksX0_prove_0 3 rfl rfl)
theorem dX0_prove_6 : decode cX0_prove 6 = .ok (.istore_n 1, 1) := dk_60 (dk_at dksX0_prove_0 6 rfl rfl)
theorem dX0_prove_7 : decode cX0_prove 7 = .ok (.iload_n 1, 1) := dk_27 (dk_at dksX0_prove_0 7 rfl rfl)
theorem dX0_prove_8 : decode cX0_prove 8 = .ok (.ifCond .ge 6, 3) := dk_156 0 6 (dk_at dksX0_prove_0 8 rfl rfl)
theorem dX0_prove_11 : decode cX0_prove 11 = .ok (.bipush (-3), 2) := dk_16 253 (dk_at dksX0_prove_0 11 rfl rfl)
theorem dX0_prove_13 : decode cX0_prove 13 = .ok (.ireturn, 1) := dk_172 (dk_at dksX0_prove_0 13 rfl rfl)
theorem dX0_prove_14 : decode cX0_prove 14 = .ok (.aload_n 0, 1) := dk_42 (dk_at dksX0_prove_0 14 rfl rfl)
theorem dX0_prove_15 : decode cX0_prove 15 = .ok (.getfield 54, 3) := dk_180 0 54 (dk_at dksX0_prove_0 15 rfl rfl)
theorem dX0_prove_18 : decode cX0_prove 18 = .ok (.aload_n 0, 1) := dk_42 (dk_at dksX0_prove_0 18 rfl rfl)
theorem dX0_prove_19 : decode cX0_prove 19 = .ok (.getfield 47, 3) := dk_180 0 47 (dk_at dksX0_prove_0 19 rfl rfl)
theorem dX0_prove_22 : decode cX0_prove 22 = .ok (.invokevirtual 502, 3) := dk_182 1 246 (dk_at dksX0_prove_1 0 rfl rfl)
theorem dX0_prove_25 : decode cX0_prove 25 = .ok (.aload_n 0, 1) := dk_42 (dk_at dksX0_prove_1 3 rfl rfl)
theorem dX0_prove_26 : decode cX0_prove 26 = .ok (.iload_n 1, 1) := dk_27 (dk_at dksX0_prove_1 4 rfl rfl)
theorem dX0_prove_27 : decode cX0_prove 27 = .ok (.putfield 509, 3) := dk_181 1 253 (dk_at dksX0_prove_1 5 rfl rfl)
theorem dX0_prove_30 : decode cX0_prove 30 = .ok (.iconst 0, 1) := dk_3 (dk_at dksX0_prove_1 8 rfl rfl)
theorem dX0_prove_31 : decode cX0_prove 31 = .ok (.istore_n 2, 1) := dk_61 (dk_at dksX0_prove_1 9 rfl rfl)
theorem dX0_prove_32 : decode cX0_prove 32 = .ok (.iload_n 2, 1) := dk_28 (dk_at dksX0_prove_1 10 rfl rfl)
theorem dX0_prove_33 : decode cX0_prove 33 = .ok (.iload_n 1, 1) := dk_27 (dk_at dksX0_prove_1 11 rfl rfl)
theorem dX0_prove_34 : decode cX0_prove 34 = .ok (.if_icmp .ge 76, 3) := dk_162 0 76 (dk_at dksX0_prove_1 12 rfl rfl)
theorem dX0_prove_37 : decode cX0_prove 37 = .ok (.aload_n 0, 1) := dk_42 (dk_at dksX0_prove_1 15 rfl rfl)
theorem dX0_prove_38 : decode cX0_prove 38 = .ok (.getfield 127, 3) := dk_180 0 127 (dk_at dksX0_prove_1 16 rfl rfl)
theorem dX0_prove_41 : decode cX0_prove 41 = .ok (.iconst 3, 1) := dk_6 (dk_at dksX0_prove_1 19 rfl rfl)
theorem dX0_prove_42 : decode cX0_prove 42 = .ok (.iload_n 2, 1) := dk_28 (dk_at dksX0_prove_1 20 rfl rfl)
theorem dX0_prove_43 : decode cX0_prove 43 = .ok (.imul, 1) := dk_104 (dk_at dksX0_prove_1 21 rfl rfl)
theorem dX0_prove_44 : decode cX0_prove 44 = .ok (.aload_n 0, 1) := dk_42 (dk_at dksX0_prove_1 22 rfl rfl)
theorem dX0_prove_45 : decode cX0_prove 45 = .ok (.getfield 115, 3) := dk_180 0 115 (dk_at dksX0_prove_2 0 rfl rfl)
theorem dX0_prove_48 : decode cX0_prove 48 = .ok (.iload_n 2, 1) := dk_28 (dk_at dksX0_prove_2 3 rfl rfl)
theorem dX0_prove_49 : decode cX0_prove 49 = .ok (.iaload, 1) := dk_46 (dk_at dksX0_prove_2 4 rfl rfl)
theorem dX0_prove_50 : decode cX0_prove 50 = .ok (.iastore, 1) := dk_79 (dk_at dksX0_prove_2 5 rfl rfl)
theorem dX0_prove_51 : decode cX0_prove 51 = .ok (.aload_n 0, 1) := dk_42 (dk_at dksX0_prove_2 6 rfl rfl)
theorem dX0_prove_52 : decode cX0_prove 52 = .ok (.aload_n 0, 1) := dk_42 (dk_at dksX0_prove_2 7 rfl rfl)
theorem dX0_prove_53 : decode cX0_prove 53 = .ok (.getfield 115, 3) := dk_180 0 115 (dk_at dksX0_prove_2 8 rfl rfl)
theorem dX0_prove_56 : decode cX0_prove 56 = .ok (.iload_n 2, 1) := dk_28 (dk_at dksX0_prove_2 11 rfl rfl)
theorem dX0_prove_57 : decode cX0_prove 57 = .ok (.iaload, 1) := dk_46 (dk_at dksX0_prove_2 12 rfl rfl)
theorem dX0_prove_58 : decode cX0_prove 58 = .ok (.invokevirtual 392, 3) := dk_182 1 136 (dk_at dksX0_prove_2 13 rfl rfl)
theorem dX0_prove_61 : decode cX0_prove 61 = .ok (.istore_n 3, 1) := dk_62 (dk_at dksX0_prove_2 16 rfl rfl)
theorem dX0_prove_62 : decode cX0_prove 62 = .ok (.aload_n 0, 1) := dk_42 (dk_at dksX0_prove_2 17 rfl rfl)
theorem dX0_prove_63 : decode cX0_prove 63 = .ok (.getfield 127, 3) := dk_180 0 127 (dk_at dksX0_prove_2 18 rfl rfl)
theorem dX0_prove_66 : decode cX0_prove 66 = .ok (.iconst 3, 1) := dk_6 (dk_at dksX0_prove_2 21 rfl rfl)
theorem dX0_prove_67 : decode cX0_prove 67 = .ok (.iload_n 2, 1) := dk_28 (dk_at dksX0_prove_2 22 rfl rfl)
theorem dX0_prove_68 : decode cX0_prove 68 = .ok (.imul, 1) := dk_104 (dk_at dksX0_prove_2 23 rfl rfl)
theorem dX0_prove_69 : decode cX0_prove 69 = .ok (.iconst 1, 1) := dk_4 (dk_at dksX0_prove_3 0 rfl rfl)
theorem dX0_prove_70 : decode cX0_prove 70 = .ok (.iadd, 1) := dk_96 (dk_at dksX0_prove_3 1 rfl rfl)
theorem dX0_prove_71 : decode cX0_prove 71 = .ok (.iload_n 3, 1) := dk_29 (dk_at dksX0_prove_3 2 rfl rfl)
theorem dX0_prove_72 : decode cX0_prove 72 = .ok (.ifCond .ge 7, 3) := dk_156 0 7 (dk_at dksX0_prove_3 3 rfl rfl)
theorem dX0_prove_75 : decode cX0_prove 75 = .ok (.iconst 0, 1) := dk_3 (dk_at dksX0_prove_3 6 rfl rfl)
theorem dX0_prove_76 : decode cX0_prove 76 = .ok (.goto 10, 3) := dk_167 0 10 (dk_at dksX0_prove_3 7 rfl rfl)
theorem dX0_prove_79 : decode cX0_prove 79 = .ok (.aload_n 0, 1) := dk_42 (dk_at dksX0_prove_3 10 rfl rfl)
theorem dX0_prove_80 : decode cX0_prove 80 = .ok (.getfield 47, 3) := dk_180 0 47 (dk_at dksX0_prove_3 11 rfl rfl)
theorem dX0_prove_83 : decode cX0_prove 83 = .ok (.invokevirtual 214, 3) := dk_182 0 214 (dk_at dksX0_prove_3 14 rfl rfl)
theorem dX0_prove_86 : decode cX0_prove 86 = .ok (.iastore, 1) := dk_79 (dk_at dksX0_prove_3 17 rfl rfl)
theorem dX0_prove_87 : decode cX0_prove 87 = .ok (.aload_n 0, 1) := dk_42 (dk_at dksX0_prove_3 18 rfl rfl)
theorem dX0_prove_88 : decode cX0_prove 88 = .ok (.getfield 127, 3) := dk_180 0 127 (dk_at dksX0_prove_3 19 rfl rfl)
theorem dX0_prove_91 : decode cX0_prove 91 = .ok (.iconst 3, 1) := dk_6 (dk_at dksX0_prove_3 22 rfl rfl)
theorem dX0_prove_92 : decode cX0_prove 92 = .ok (.iload_n 2, 1) := dk_28 (dk_at dksX0_prove_3 23 rfl rfl)
theorem dX0_prove_93 : decode cX0_prove 93 = .ok (.imul, 1) := dk_104 (dk_at dksX0_prove_4 0 rfl rfl)
theorem dX0_prove_94 : decode cX0_prove 94 = .ok (.iconst 2, 1) := dk_5 (dk_at dksX0_prove_4 1 rfl rfl)
theorem dX0_prove_95 : decode cX0_prove 95 = .ok (.iadd, 1) := dk_96 (dk_at dksX0_prove_4 2 rfl rfl)
theorem dX0_prove_96 : decode cX0_prove 96 = .ok (.aload_n 0, 1) := dk_42 (dk_at dksX0_prove_4 3 rfl rfl)
theorem dX0_prove_97 : decode cX0_prove 97 = .ok (.getfield 47, 3) := dk_180 0 47 (dk_at dksX0_prove_4 4 rfl rfl)
theorem dX0_prove_100 : decode cX0_prove 100 = .ok (.invokevirtual 211, 3) := dk_182 0 211 (dk_at dksX0_prove_4 7 rfl rfl)
theorem dX0_prove_103 : decode cX0_prove 103 = .ok (.iastore, 1) := dk_79 (dk_at dksX0_prove_4 10 rfl rfl)
theorem dX0_prove_104 : decode cX0_prove 104 = .ok (.iinc 2 1, 3) := dk_132 2 1 (dk_at dksX0_prove_4 11 rfl rfl)
theorem dX0_prove_107 : decode cX0_prove 107 = .ok (.goto (-75), 3) := dk_167 255 181 (dk_at dksX0_prove_4 14 rfl rfl)
theorem dX0_prove_110 : decode cX0_prove 110 = .ok (.aload_n 0, 1) := dk_42 (dk_at dksX0_prove_4 17 rfl rfl)
theorem dX0_prove_111 : decode cX0_prove 111 = .ok (.getfield 47, 3) := dk_180 0 47 (dk_at dksX0_prove_4 18 rfl rfl)
theorem dX0_prove_114 : decode cX0_prove 114 = .ok (.aload_n 0, 1) := dk_42 (dk_at dksX0_prove_4 21 rfl rfl)
theorem dX0_prove_115 : decode cX0_prove 115 = .ok (.getfield 54, 3) := dk_180 0 54 (dk_at dksX0_prove_5 0 rfl rfl)
theorem dX0_prove_118 : decode cX0_prove 118 = .ok (.invokevirtual 502, 3) := dk_182 1 246 (dk_at dksX0_prove_5 3 rfl rfl)
theorem dX0_prove_121 : decode cX0_prove 121 = .ok (.iload_n 1, 1) := dk_27 (dk_at dksX0_prove_5 6 rfl rfl)
theorem dX0_prove_122 : decode cX0_prove 122 = .ok (.ireturn, 1) := dk_172 (dk_at dksX0_prove_5 7 rfl rfl)
abbrev cX0_row : ByteArray := prog_1_method_95_code
def yX0_row : MethodName := ⟨RX0, "row", "(II)I"⟩
def dkwX0_row_1 : List UInt8 := [172]
abbrev dktX0_row_1 : List UInt8 := dkwX0_row_1 ++ []
def dkwX0_row_0 : List UInt8 := [42, 27, 28, 182, 2, 0, 153, 0, 16, 42, 180, 0, 127, 6, 27, 104, 28, 96, 46, 167, 0, 5, 16, 247]
abbrev dktX0_row_0 : List UInt8 := dkwX0_row_0 ++ dktX0_row_1
theorem dksX0_row_0 : cX0_row.data.toList.drop 0 = dktX0_row_0 := by decide +kernel
theorem dksX0_row_1 : cX0_row.data.toList.drop 24 = dktX0_row_1 := dk_seg dksX0_row_0 24 rfl rfl
theorem dX0_row_0 : decode cX0_row 0 = .ok (.aload_n 0, 1) := dk_42 (dk_at dksX0_row_0 0 rfl rfl)
theorem dX0_row_1 : decode cX0_row 1 = .ok (.iload_n 1, 1) := dk_27 (dk_at dksX0_row_0 1 rfl rfl)
theorem dX0_row_2 : decode cX0_row 2 = .ok (.iload_n 2, 1) := dk_28 (dk_at dksX0_row_0 2 rfl rfl)
theorem dX0_row_3 : decode cX0_row 3 = .ok (.invokevirtual 512, 3) := dk_182 2 0 (dk_at dksX0_row_0 3 rfl rfl)
theorem dX0_row_6 : decode cX0_row 6 = .ok (.ifCond .eq 16, 3) := dk_153 0 16 (dk_at dksX0_row_0 6 rfl rfl)
theorem dX0_row_9 : decode cX0_row 9 = .ok (.aload_n 0, 1) := dk_42 (dk_at dksX0_row_0 9 rfl rfl)
theorem dX0_row_10 : decode cX0_row 10 = .ok (.getfield 127, 3) := dk_180 0 127 (dk_at dksX0_row_0 10 rfl rfl)
theorem dX0_row_13 : decode cX0_row 13 = .ok (.iconst 3, 1) := dk_6 (dk_at dksX0_row_0 13 rfl rfl)
theorem dX0_row_14 : decode cX0_row 14 = .ok (.iload_n 1, 1) := dk_27 (dk_at dksX0_row_0 14 rfl rfl)
theorem dX0_row_15 : decode cX0_row 15 = .ok (.imul, 1) := dk_104 (dk_at dksX0_row_0 15 rfl rfl)
theorem dX0_row_16 : decode cX0_row 16 = .ok (.iload_n 2, 1) := dk_28 (dk_at dksX0_row_0 16 rfl rfl)
theorem dX0_row_17 : decode cX0_row 17 = .ok (.iadd, 1) := dk_96 (dk_at dksX0_row_0 17 rfl rfl)
theorem dX0_row_18 : decode cX0_row 18 = .ok (.iaload, 1) := dk_46 (dk_at dksX0_row_0 18 rfl rfl)
theorem dX0_row_19 : decode cX0_row 19 = .ok (.goto 5, 3) := dk_167 0 5 (dk_at dksX0_row_0 19 rfl rfl)
theorem dX0_row_22 : decode cX0_row 22 = .ok (.bipush (-9), 2) := dk_16 247 (dk_at dksX0_row_0 22 rfl rfl)
theorem dX0_row_24 : decode cX0_row 24 = .ok (.ireturn, 1) := dk_172 (dk_at dksX0_row_1 0 rfl rfl)
abbrev cX0_isRow : ByteArray := prog_1_method_94_code
def yX0_isRow : MethodName := ⟨RX0, "isRow", "(II)Z"⟩
def dkwX0_isRow_1 : List UInt8 := [167, 0, 4, 3, 172]
abbrev dktX0_isRow_1 : List UInt8 := dkwX0_isRow_1 ++ []
def dkwX0_isRow_0 : List UInt8 := [27, 3, 42, 180, 1, 253, 4, 100, 184, 0, 149, 153, 0, 16, 28, 3, 5, 184, 0, 149, 153, 0, 7, 4]
abbrev dktX0_isRow_0 : List UInt8 := dkwX0_isRow_0 ++ dktX0_isRow_1
theorem dksX0_isRow_0 : cX0_isRow.data.toList.drop 0 = dktX0_isRow_0 := by decide +kernel
theorem dksX0_isRow_1 : cX0_isRow.data.toList.drop 24 = dktX0_isRow_1 := dk_seg dksX0_isRow_0 24 rfl rfl
theorem dX0_isRow_0 : decode cX0_isRow 0 = .ok (.iload_n 1, 1) := dk_27 (dk_at dksX0_isRow_0 0 rfl rfl)
theorem dX0_isRow_1 : decode cX0_isRow 1 = .ok (.iconst 0, 1) := dk_3 (dk_at dksX0_isRow_0 1 rfl rfl)
theorem dX0_isRow_2 : decode cX0_isRow 2 = .ok (.aload_n 0, 1) := dk_42 (dk_at dksX0_isRow_0 2 rfl rfl)
theorem dX0_isRow_3 : decode cX0_isRow 3 = .ok (.getfield 509, 3) := dk_180 1 253 (dk_at dksX0_isRow_0 3 rfl rfl)
theorem dX0_isRow_6 : decode cX0_isRow 6 = .ok (.iconst 1, 1) := dk_4 (dk_at dksX0_isRow_0 6 rfl rfl)
theorem dX0_isRow_7 : decode cX0_isRow 7 = .ok (.isub, 1) := dk_100 (dk_at dksX0_isRow_0 7 rfl rfl)
theorem dX0_isRow_8 : decode cX0_isRow 8 = .ok (.invokestatic 149, 3) := dk_184 0 149 (dk_at dksX0_isRow_0 8 rfl rfl)
theorem dX0_isRow_11 : decode cX0_isRow 11 = .ok (.ifCond .eq 16, 3) := dk_153 0 16 (dk_at dksX0_isRow_0 11 rfl rfl)
theorem dX0_isRow_14 : decode cX0_isRow 14 = .ok (.iload_n 2, 1) := dk_28 (dk_at dksX0_isRow_0 14 rfl rfl)
theorem dX0_isRow_15 : decode cX0_isRow 15 = .ok (.iconst 0, 1) := dk_3 (dk_at dksX0_isRow_0 15 rfl rfl)
theorem dX0_isRow_16 : decode cX0_isRow 16 = .ok (.iconst 2, 1) := dk_5 (dk_at dksX0_isRow_0 16 rfl rfl)
theorem dX0_isRow_17 : decode cX0_isRow 17 = .ok (.invokestatic 149, 3) := dk_184 0 149 (dk_at dksX0_isRow_0 17 rfl rfl)
theorem dX0_isRow_20 : decode cX0_isRow 20 = .ok (.ifCond .eq 7, 3) := dk_153 0 7 (dk_at dksX0_isRow_0 20 rfl rfl)
theorem dX0_isRow_23 : decode cX0_isRow 23 = .ok (.iconst 1, 1) := dk_4 (dk_at dksX0_isRow_0 23 rfl rfl)
theorem dX0_isRow_24 : decode cX0_isRow 24 = .ok (.goto 4, 3) := dk_167 0 4 (dk_at dksX0_isRow_1 0 rfl rfl)
theorem dX0_isRow_27 : decode cX0_isRow 27 = .ok (.iconst 0, 1) := dk_3 (dk_at dksX0_isRow_1 3 rfl rfl)
theorem dX0_isRow_28 : decode cX0_isRow 28 = .ok (.ireturn, 1) := dk_172 (dk_at dksX0_isRow_1 4 rfl rfl)
abbrev cX0_alterRow : ByteArray := prog_1_method_96_code
def yX0_alterRow : MethodName := ⟨RX0, "alterRow", "(III)I"⟩
def dkwX0_alterRow_1 : List UInt8 := [42, 180, 0, 127, 6, 27, 104, 28, 96, 29, 79, 21, 4, 172]
abbrev dktX0_alterRow_1 : List UInt8 := dkwX0_alterRow_1 ++ []
def dkwX0_alterRow_0 : List UInt8 := [42, 27, 28, 182, 2, 0, 154, 0, 6, 16, 247, 172, 42, 180, 0, 127, 6, 27, 104, 28, 96, 46, 54, 4]
abbrev dktX0_alterRow_0 : List UInt8 := dkwX0_alterRow_0 ++ dktX0_alterRow_1
theorem dksX0_alterRow_0 : cX0_alterRow.data.toList.drop 0 = dktX0_alterRow_0 := by decide +kernel
theorem dksX0_alterRow_1 : cX0_alterRow.data.toList.drop 24 = dktX0_alterRow_1 := dk_seg dksX0_alterRow_0 24 rfl rfl
theorem dX0_alterRow_0 : decode cX0_alterRow 0 = .ok (.aload_n 0, 1) := dk_42 (dk_at dksX0_alterRow_0 0 rfl rfl)
theorem dX0_alterRow_1 : decode cX0_alterRow 1 = .ok (.iload_n 1, 1) := dk_27 (dk_at dksX0_alterRow_0 1 rfl rfl)
theorem dX0_alterRow_2 : decode cX0_alterRow 2 = .ok (.iload_n 2, 1) := dk_28 (dk_at dksX0_alterRow_0 2 rfl rfl)
theorem dX0_alterRow_3 : decode cX0_alterRow 3 = .ok (.invokevirtual 512, 3) := dk_182 2 0 (dk_at dksX0_alterRow_0 3 rfl rfl)
theorem dX0_alterRow_6 : decode cX0_alterRow 6 = .ok (.ifCond .ne 6, 3) := dk_154 0 6 (dk_at dksX0_alterRow_0 6 rfl rfl)
theorem dX0_alterRow_9 : decode cX0_alterRow 9 = .ok (.bipush (-9), 2) := dk_16 247 (dk_at dksX0_alterRow_0 9 rfl rfl)
theorem dX0_alterRow_11 : decode cX0_alterRow 11 = .ok (.ireturn, 1) := dk_172 (dk_at dksX0_alterRow_0 11 rfl rfl)
theorem dX0_alterRow_12 : decode cX0_alterRow 12 = .ok (.aload_n 0, 1) := dk_42 (dk_at dksX0_alterRow_0 12 rfl rfl)
theorem dX0_alterRow_13 : decode cX0_alterRow 13 = .ok (.getfield 127, 3) := dk_180 0 127 (dk_at dksX0_alterRow_0 13 rfl rfl)
theorem dX0_alterRow_16 : decode cX0_alterRow 16 = .ok (.iconst 3, 1) := dk_6 (dk_at dksX0_alterRow_0 16 rfl rfl)
theorem dX0_alterRow_17 : decode cX0_alterRow 17 = .ok (.iload_n 1, 1) := dk_27 (dk_at dksX0_alterRow_0 17 rfl rfl)
theorem dX0_alterRow_18 : decode cX0_alterRow 18 = .ok (.imul, 1) := dk_104 (dk_at dksX0_alterRow_0 18 rfl rfl)
theorem dX0_alterRow_19 : decode cX0_alterRow 19 = .ok (.iload_n 2, 1) := dk_28 (dk_at dksX0_alterRow_0 19 rfl rfl)
theorem dX0_alterRow_20 : decode cX0_alterRow 20 = .ok (.iadd, 1) := dk_96 (dk_at dksX0_alterRow_0 20 rfl rfl)
theorem dX0_alterRow_21 : decode cX0_alterRow 21 = .ok (.iaload, 1) := dk_46 (dk_at dksX0_alterRow_0 21 rfl rfl)
theorem dX0_alterRow_22 : decode cX0_alterRow 22 = .ok (.istore 4, 2) := dk_54 4 (dk_at dksX0_alterRow_0 22 rfl rfl)
theorem dX0_alterRow_24 : decode cX0_alterRow 24 = .ok (.aload_n 0, 1) := dk_42 (dk_at dksX0_alterRow_1 0 rfl rfl)
theorem dX0_alterRow_25 : decode cX0_alterRow 25 = .ok (.getfield 127, 3) := dk_180 0 127 (dk_at dksX0_alterRow_1 1 rfl rfl)
theorem dX0_alterRow_28 : decode cX0_alterRow 28 = .ok (.iconst 3, 1) := dk_6 (dk_at dksX0_alterRow_1 4 rfl rfl)
theorem dX0_alterRow_29 : decode cX0_alterRow 29 = .ok (.iload_n 1, 1) := dk_27 (dk_at dksX0_alterRow_1 5 rfl rfl)
theorem dX0_alterRow_30 : decode cX0_alterRow 30 = .ok (.imul, 1) := dk_104 (dk_at dksX0_alterRow_1 6 rfl rfl)
theorem dX0_alterRow_31 : decode cX0_alterRow 31 = .ok (.iload_n 2, 1) := dk_28 (dk_at dksX0_alterRow_1 7 rfl rfl)
theorem dX0_alterRow_32 : decode cX0_alterRow 32 = .ok (.iadd, 1) := dk_96 (dk_at dksX0_alterRow_1 8 rfl rfl)
theorem dX0_alterRow_33 : decode cX0_alterRow 33 = .ok (.iload_n 3, 1) := dk_29 (dk_at dksX0_alterRow_1 9 rfl rfl)
theorem dX0_alterRow_34 : decode cX0_alterRow 34 = .ok (.iastore, 1) := dk_79 (dk_at dksX0_alterRow_1 10 rfl rfl)
theorem dX0_alterRow_35 : decode cX0_alterRow 35 = .ok (.iload 4, 2) := dk_21 4 (dk_at dksX0_alterRow_1 11 rfl rfl)
theorem dX0_alterRow_37 : decode cX0_alterRow 37 = .ok (.ireturn, 1) := dk_172 (dk_at dksX0_alterRow_1 13 rfl rfl)
abbrev cX0_judge : ByteArray := prog_1_method_97_code
def yX0_judge : MethodName := ⟨RX0, "judge", "()I"⟩
def dkwX0_judge_7 : List UInt8 := [182, 1, 246, 25, 5, 191]
abbrev dktX0_judge_7 : List UInt8 := dkwX0_judge_7 ++ []
def dkwX0_judge_6 : List UInt8 := [180, 0, 47, 42, 180, 0, 54, 182, 1, 246, 28, 172, 58, 5, 42, 180, 0, 47, 42, 180, 0, 54]
abbrev dktX0_judge_6 : List UInt8 := dkwX0_judge_6 ++ dktX0_judge_7
def dkwX0_judge_5 : List UInt8 := [180, 1, 253, 161, 0, 10, 42, 182, 1, 160, 153, 0, 5, 3, 60, 132, 2, 1, 167, 255, 139, 27, 61, 42]
abbrev dktX0_judge_5 : List UInt8 := dkwX0_judge_5 ++ dktX0_judge_6
def dkwX0_judge_4 : List UInt8 := [28, 104, 5, 96, 46, 42, 180, 0, 47, 182, 0, 211, 159, 0, 6, 167, 0, 28, 28, 4, 96, 42]
abbrev dktX0_judge_4 : List UInt8 := dkwX0_judge_4 ++ dktX0_judge_5
def dkwX0_judge_3 : List UInt8 := [180, 0, 127, 6, 28, 104, 4, 96, 46, 42, 180, 0, 47, 182, 0, 214, 160, 0, 51, 42, 180, 0, 127, 6]
abbrev dktX0_judge_3 : List UInt8 := dkwX0_judge_3 ++ dktX0_judge_4
def dkwX0_judge_2 : List UInt8 := [182, 1, 133, 154, 0, 6, 167, 0, 83, 42, 29, 182, 1, 136, 54, 4, 21, 4, 155, 0, 71, 42]
abbrev dktX0_judge_2 : List UInt8 := dkwX0_judge_2 ++ dktX0_judge_3
def dkwX0_judge_1 : List UInt8 := [4, 96, 60, 42, 180, 0, 127, 6, 28, 104, 46, 62, 42, 29, 182, 1, 120, 153, 0, 94, 42, 29]
abbrev dktX0_judge_1 : List UInt8 := dkwX0_judge_1 ++ dktX0_judge_2
def dkwX0_judge_0 : List UInt8 := [42, 180, 0, 54, 42, 180, 0, 47, 182, 1, 246, 3, 60, 3, 61, 28, 42, 180, 1, 253, 162, 0, 115, 28]
abbrev dktX0_judge_0 : List UInt8 := dkwX0_judge_0 ++ dktX0_judge_1
theorem dksX0_judge_0 : cX0_judge.data.toList.drop 0 = dktX0_judge_0 := by decide +kernel
theorem dksX0_judge_1 : cX0_judge.data.toList.drop 24 = dktX0_judge_1 := dk_seg dksX0_judge_0 24 rfl rfl
theorem dksX0_judge_2 : cX0_judge.data.toList.drop 46 = dktX0_judge_2 := dk_seg dksX0_judge_1 22 rfl rfl
theorem dksX0_judge_3 : cX0_judge.data.toList.drop 68 = dktX0_judge_3 := dk_seg dksX0_judge_2 22 rfl rfl
theorem dksX0_judge_4 : cX0_judge.data.toList.drop 92 = dktX0_judge_4 := dk_seg dksX0_judge_3 24 rfl rfl
theorem dksX0_judge_5 : cX0_judge.data.toList.drop 114 = dktX0_judge_5 := dk_seg dksX0_judge_4 22 rfl rfl
theorem dksX0_judge_6 : cX0_judge.data.toList.drop 138 = dktX0_judge_6 := dk_seg dksX0_judge_5 24 rfl rfl
theorem dksX0_judge_7 : cX0_judge.data.toList.drop 160 = dktX0_judge_7 := dk_seg dksX0_judge_6 22 rfl rfl
theorem dX0_judge_0 : decode cX0_judge 0 = .ok (.aload_n 0, 1) := dk_42 (dk_at dksX0_judge_0 0 rfl rfl)
theorem dX0_judge_1 : decode cX0_judge 1 = .ok (.getfield 54, 3) := dk_180 0 54 (dk_at dksX0_judge_0 1 rfl rfl)
theorem dX0_judge_4 : decode cX0_judge 4 = .ok (.aload_n 0, 1) := dk_42 (dk_at dksX0_judge_0 4 rfl rfl)
theorem dX0_judge_5 : decode cX0_judge 5 = .ok (.getfield 47, 3) := dk_180 0 47 (dk_at dksX0_judge_0 5 rfl rfl)
theorem dX0_judge_8 : decode cX0_judge 8 = .ok (.invokevirtual 502, 3) := dk_182 1 246 (dk_at dksX0_judge_0 8 rfl rfl)
theorem dX0_judge_11 : decode cX0_judge 11 = .ok (.iconst 0, 1) := dk_3 (dk_at dksX0_judge_0 11 rfl rfl)
theorem dX0_judge_12 : decode cX0_judge 12 = .ok (.istore_n 1, 1) := dk_60 (dk_at dksX0_judge_0 12 rfl rfl)
theorem dX0_judge_13 : decode cX0_judge 13 = .ok (.iconst 0, 1) := dk_3 (dk_at dksX0_judge_0 13 rfl rfl)
theorem dX0_judge_14 : decode cX0_judge 14 = .ok (.istore_n 2, 1) := dk_61 (dk_at dksX0_judge_0 14 rfl rfl)
theorem dX0_judge_15 : decode cX0_judge 15 = .ok (.iload_n 2, 1) := dk_28 (dk_at dksX0_judge_0 15 rfl rfl)
theorem dX0_judge_16 : decode cX0_judge 16 = .ok (.aload_n 0, 1) := dk_42 (dk_at dksX0_judge_0 16 rfl rfl)
theorem dX0_judge_17 : decode cX0_judge 17 = .ok (.getfield 509, 3) := dk_180 1 253 (dk_at dksX0_judge_0 17 rfl rfl)
theorem dX0_judge_20 : decode cX0_judge 20 = .ok (.if_icmp .ge 115, 3) := dk_162 0 115 (dk_at dksX0_judge_0 20 rfl rfl)
theorem dX0_judge_23 : decode cX0_judge 23 = .ok (.iload_n 2, 1) := dk_28 (dk_at dksX0_judge_0 23 rfl rfl)
theorem dX0_judge_24 : decode cX0_judge 24 = .ok (.iconst 1, 1) := dk_4 (dk_at dksX0_judge_1 0 rfl rfl)
theorem dX0_judge_25 : decode cX0_judge 25 = .ok (.iadd, 1) := dk_96 (dk_at dksX0_judge_1 1 rfl rfl)
theorem dX0_judge_26 : decode cX0_judge 26 = .ok (.istore_n 1, 1) := dk_60 (dk_at dksX0_judge_1 2 rfl rfl)
theorem dX0_judge_27 : decode cX0_judge 27 = .ok (.aload_n 0, 1) := dk_42 (dk_at dksX0_judge_1 3 rfl rfl)
theorem dX0_judge_28 : decode cX0_judge 28 = .ok (.getfield 127, 3) := dk_180 0 127 (dk_at dksX0_judge_1 4 rfl rfl)
theorem dX0_judge_31 : decode cX0_judge 31 = .ok (.iconst 3, 1) := dk_6 (dk_at dksX0_judge_1 7 rfl rfl)
theorem dX0_judge_32 : decode cX0_judge 32 = .ok (.iload_n 2, 1) := dk_28 (dk_at dksX0_judge_1 8 rfl rfl)
theorem dX0_judge_33 : decode cX0_judge 33 = .ok (.imul, 1) := dk_104 (dk_at dksX0_judge_1 9 rfl rfl)
theorem dX0_judge_34 : decode cX0_judge 34 = .ok (.iaload, 1) := dk_46 (dk_at dksX0_judge_1 10 rfl rfl)
theorem dX0_judge_35 : decode cX0_judge 35 = .ok (.istore_n 3, 1) := dk_62 (dk_at dksX0_judge_1 11 rfl rfl)
theorem dX0_judge_36 : decode cX0_judge 36 = .ok (.aload_n 0, 1) := dk_42 (dk_at dksX0_judge_1 12 rfl rfl)
theorem dX0_judge_37 : decode cX0_judge 37 = .ok (.iload_n 3, 1) := dk_29 (dk_at dksX0_judge_1 13 rfl rfl)
theorem dX0_judge_38 : decode cX0_judge 38 = .ok (.invokevirtual 376, 3) := dk_182 1 120 (dk_at dksX0_judge_1 14 rfl rfl)
theorem dX0_judge_41 : decode cX0_judge 41 = .ok (.ifCond .eq 94, 3) := dk_153 0 94 (dk_at dksX0_judge_1 17 rfl rfl)
theorem dX0_judge_44 : decode cX0_judge 44 = .ok (.aload_n 0, 1) := dk_42 (dk_at dksX0_judge_1 20 rfl rfl)
theorem dX0_judge_45 : decode cX0_judge 45 = .ok (.iload_n 3, 1) := dk_29 (dk_at dksX0_judge_1 21 rfl rfl)
theorem dX0_judge_46 : decode cX0_judge 46 = .ok (.invokevirtual 389, 3) := dk_182 1 133 (dk_at dksX0_judge_2 0 rfl rfl)
theorem dX0_judge_49 : decode cX0_judge 49 = .ok (.ifCond .ne 6, 3) := dk_154 0 6 (dk_at dksX0_judge_2 3 rfl rfl)
theorem dX0_judge_52 : decode cX0_judge 52 = .ok (.goto 83, 3) := dk_167 0 83 (dk_at dksX0_judge_2 6 rfl rfl)
theorem dX0_judge_55 : decode cX0_judge 55 = .ok (.aload_n 0, 1) := dk_42 (dk_at dksX0_judge_2 9 rfl rfl)
theorem dX0_judge_56 : decode cX0_judge 56 = .ok (.iload_n 3, 1) := dk_29 (dk_at dksX0_judge_2 10 rfl rfl)
theorem dX0_judge_57 : decode cX0_judge 57 = .ok (.invokevirtual 392, 3) := dk_182 1 136 (dk_at dksX0_judge_2 11 rfl rfl)
theorem dX0_judge_60 : decode cX0_judge 60 = .ok (.istore 4, 2) := dk_54 4 (dk_at dksX0_judge_2 14 rfl rfl)
theorem dX0_judge_62 : decode cX0_judge 62 = .ok (.iload 4, 2) := dk_21 4 (dk_at dksX0_judge_2 16 rfl rfl)
theorem dX0_judge_64 : decode cX0_judge 64 = .ok (.ifCond .lt 71, 3) := dk_155 0 71 (dk_at dksX0_judge_2 18 rfl rfl)
theorem dX0_judge_67 : decode cX0_judge 67 = .ok (.aload_n 0, 1) := dk_42 (dk_at dksX0_judge_2 21 rfl rfl)
theorem dX0_judge_68 : decode cX0_judge 68 = .ok (.getfield 127, 3) := dk_180 0 127 (dk_at dksX0_judge_3 0 rfl rfl)
theorem dX0_judge_71 : decode cX0_judge 71 = .ok (.iconst 3, 1) := dk_6 (dk_at dksX0_judge_3 3 rfl rfl)
theorem dX0_judge_72 : decode cX0_judge 72 = .ok (.iload_n 2, 1) := dk_28 (dk_at dksX0_judge_3 4 rfl rfl)
theorem dX0_judge_73 : decode cX0_judge 73 = .ok (.imul, 1) := dk_104 (dk_at dksX0_judge_3 5 rfl rfl)
theorem dX0_judge_74 : decode cX0_judge 74 = .ok (.iconst 1, 1) := dk_4 (dk_at dksX0_judge_3 6 rfl rfl)
theorem dX0_judge_75 : decode cX0_judge 75 = .ok (.iadd, 1) := dk_96 (dk_at dksX0_judge_3 7 rfl rfl)
theorem dX0_judge_76 : decode cX0_judge 76 = .ok (.iaload, 1) := dk_46 (dk_at dksX0_judge_3 8 rfl rfl)
theorem dX0_judge_77 : decode cX0_judge 77 = .ok (.aload_n 0, 1) := dk_42 (dk_at dksX0_judge_3 9 rfl rfl)
theorem dX0_judge_78 : decode cX0_judge 78 = .ok (.getfield 47, 3) := dk_180 0 47 (dk_at dksX0_judge_3 10 rfl rfl)
theorem dX0_judge_81 : decode cX0_judge 81 = .ok (.invokevirtual 214, 3) := dk_182 0 214 (dk_at dksX0_judge_3 13 rfl rfl)
theorem dX0_judge_84 : decode cX0_judge 84 = .ok (.if_icmp .ne 51, 3) := dk_160 0 51 (dk_at dksX0_judge_3 16 rfl rfl)
theorem dX0_judge_87 : decode cX0_judge 87 = .ok (.aload_n 0, 1) := dk_42 (dk_at dksX0_judge_3 19 rfl rfl)
theorem dX0_judge_88 : decode cX0_judge 88 = .ok (.getfield 127, 3) := dk_180 0 127 (dk_at dksX0_judge_3 20 rfl rfl)
theorem dX0_judge_91 : decode cX0_judge 91 = .ok (.iconst 3, 1) := dk_6 (dk_at dksX0_judge_3 23 rfl rfl)
theorem dX0_judge_92 : decode cX0_judge 92 = .ok (.iload_n 2, 1) := dk_28 (dk_at dksX0_judge_4 0 rfl rfl)
theorem dX0_judge_93 : decode cX0_judge 93 = .ok (.imul, 1) := dk_104 (dk_at dksX0_judge_4 1 rfl rfl)
theorem dX0_judge_94 : decode cX0_judge 94 = .ok (.iconst 2, 1) := dk_5 (dk_at dksX0_judge_4 2 rfl rfl)
theorem dX0_judge_95 : decode cX0_judge 95 = .ok (.iadd, 1) := dk_96 (dk_at dksX0_judge_4 3 rfl rfl)
theorem dX0_judge_96 : decode cX0_judge 96 = .ok (.iaload, 1) := dk_46 (dk_at dksX0_judge_4 4 rfl rfl)
theorem dX0_judge_97 : decode cX0_judge 97 = .ok (.aload_n 0, 1) := dk_42 (dk_at dksX0_judge_4 5 rfl rfl)
theorem dX0_judge_98 : decode cX0_judge 98 = .ok (.getfield 47, 3) := dk_180 0 47 (dk_at dksX0_judge_4 6 rfl rfl)
theorem dX0_judge_101 : decode cX0_judge 101 = .ok (.invokevirtual 211, 3) := dk_182 0 211 (dk_at dksX0_judge_4 9 rfl rfl)
theorem dX0_judge_104 : decode cX0_judge 104 = .ok (.if_icmp .eq 6, 3) := dk_159 0 6 (dk_at dksX0_judge_4 12 rfl rfl)
theorem dX0_judge_107 : decode cX0_judge 107 = .ok (.goto 28, 3) := dk_167 0 28 (dk_at dksX0_judge_4 15 rfl rfl)
theorem dX0_judge_110 : decode cX0_judge 110 = .ok (.iload_n 2, 1) := dk_28 (dk_at dksX0_judge_4 18 rfl rfl)
theorem dX0_judge_111 : decode cX0_judge 111 = .ok (.iconst 1, 1) := dk_4 (dk_at dksX0_judge_4 19 rfl rfl)
theorem dX0_judge_112 : decode cX0_judge 112 = .ok (.iadd, 1) := dk_96 (dk_at dksX0_judge_4 20 rfl rfl)
theorem dX0_judge_113 : decode cX0_judge 113 = .ok (.aload_n 0, 1) := dk_42 (dk_at dksX0_judge_4 21 rfl rfl)
theorem dX0_judge_114 : decode cX0_judge 114 = .ok (.getfield 509, 3) := dk_180 1 253 (dk_at dksX0_judge_5 0 rfl rfl)
theorem dX0_judge_117 : decode cX0_judge 117 = .ok (.if_icmp .lt 10, 3) := dk_161 0 10 (dk_at dksX0_judge_5 3 rfl rfl)
theorem dX0_judge_120 : decode cX0_judge 120 = .ok (.aload_n 0, 1) := dk_42 (dk_at dksX0_judge_5 6 rfl rfl)
theorem dX0_judge_121 : decode cX0_judge 121 = .ok (.invokevirtual 416, 3) := dk_182 1 160 (dk_at dksX0_judge_5 7 rfl rfl)
theorem dX0_judge_124 : decode cX0_judge 124 = .ok (.ifCond .eq 5, 3) := dk_153 0 5 (dk_at dksX0_judge_5 10 rfl rfl)
theorem dX0_judge_127 : decode cX0_judge 127 = .ok (.iconst 0, 1) := dk_3 (dk_at dksX0_judge_5 13 rfl rfl)
theorem dX0_judge_128 : decode cX0_judge 128 = .ok (.istore_n 1, 1) := dk_60 (dk_at dksX0_judge_5 14 rfl rfl)
theorem dX0_judge_129 : decode cX0_judge 129 = .ok (.iinc 2 1, 3) := dk_132 2 1 (dk_at dksX0_judge_5 15 rfl rfl)
theorem dX0_judge_132 : decode cX0_judge 132 = .ok (.goto (-117), 3) := dk_167 255 139 (dk_at dksX0_judge_5 18 rfl rfl)
theorem dX0_judge_135 : decode cX0_judge 135 = .ok (.iload_n 1, 1) := dk_27 (dk_at dksX0_judge_5 21 rfl rfl)
theorem dX0_judge_136 : decode cX0_judge 136 = .ok (.istore_n 2, 1) := dk_61 (dk_at dksX0_judge_5 22 rfl rfl)
theorem dX0_judge_137 : decode cX0_judge 137 = .ok (.aload_n 0, 1) := dk_42 (dk_at dksX0_judge_5 23 rfl rfl)
theorem dX0_judge_138 : decode cX0_judge 138 = .ok (.getfield 47, 3) := dk_180 0 47 (dk_at dksX0_judge_6 0 rfl rfl)
theorem dX0_judge_141 : decode cX0_judge 141 = .ok (.aload_n 0, 1) := dk_42 (dk_at dksX0_judge_6 3 rfl rfl)
theorem dX0_judge_142 : decode cX0_judge 142 = .ok (.getfield 54, 3) := dk_180 0 54 (dk_at dksX0_judge_6 4 rfl rfl)
theorem dX0_judge_145 : decode cX0_judge 145 = .ok (.invokevirtual 502, 3) := dk_182 1 246 (dk_at dksX0_judge_6 7 rfl rfl)
theorem dX0_judge_148 : decode cX0_judge 148 = .ok (.iload_n 2, 1) := dk_28 (dk_at dksX0_judge_6 10 rfl rfl)
theorem dX0_judge_149 : decode cX0_judge 149 = .ok (.ireturn, 1) := dk_172 (dk_at dksX0_judge_6 11 rfl rfl)
theorem dX0_judge_150 : decode cX0_judge 150 = .ok (.astore 5, 2) := dk_58 5 (dk_at dksX0_judge_6 12 rfl rfl)
theorem dX0_judge_152 : decode cX0_judge 152 = .ok (.aload_n 0, 1) := dk_42 (dk_at dksX0_judge_6 14 rfl rfl)
theorem dX0_judge_153 : decode cX0_judge 153 = .ok (.getfield 47, 3) := dk_180 0 47 (dk_at dksX0_judge_6 15 rfl rfl)
theorem dX0_judge_156 : decode cX0_judge 156 = .ok (.aload_n 0, 1) := dk_42 (dk_at dksX0_judge_6 18 rfl rfl)
theorem dX0_judge_157 : decode cX0_judge 157 = .ok (.getfield 54, 3) := dk_180 0 54 (dk_at dksX0_judge_6 19 rfl rfl)
theorem dX0_judge_160 : decode cX0_judge 160 = .ok (.invokevirtual 502, 3) := dk_182 1 246 (dk_at dksX0_judge_7 0 rfl rfl)
theorem dX0_judge_163 : decode cX0_judge 163 = .ok (.aload 5, 2) := dk_25 5 (dk_at dksX0_judge_7 3 rfl rfl)
theorem dX0_judge_165 : decode cX0_judge 165 = .ok (.athrow, 1) := dk_191 (dk_at dksX0_judge_7 5 rfl rfl)
abbrev cX0_sheet : ByteArray := prog_1_method_100_code
def yX0_sheet : MethodName := ⟨RX0, "sheet", "(III)I"⟩
def dkwX0_sheet_2 : List UInt8 := [181, 2, 10, 4, 172, 58, 4, 16, 242, 172]
abbrev dktX0_sheet_2 : List UInt8 := dkwX0_sheet_2 ++ []
def dkwX0_sheet_1 : List UInt8 := [164, 0, 5, 2, 172, 42, 180, 0, 136, 27, 50, 28, 156, 0, 7, 1, 167, 0, 8, 28, 29, 184, 2, 6]
abbrev dktX0_sheet_1 : List UInt8 := dkwX0_sheet_1 ++ dktX0_sheet_2
def dkwX0_sheet_0 : List UInt8 := [27, 184, 2, 3, 153, 0, 22, 28, 2, 7, 184, 0, 149, 153, 0, 13, 28, 155, 0, 11, 29, 16, 40]
abbrev dktX0_sheet_0 : List UInt8 := dkwX0_sheet_0 ++ dktX0_sheet_1
theorem dksX0_sheet_0 : cX0_sheet.data.toList.drop 0 = dktX0_sheet_0 := by decide +kernel
theorem dksX0_sheet_1 : cX0_sheet.data.toList.drop 23 = dktX0_sheet_1 := dk_seg dksX0_sheet_0 23 rfl rfl
theorem dksX0_sheet_2 : cX0_sheet.data.toList.drop 47 = dktX0_sheet_2 := dk_seg dksX0_sheet_1 24 rfl rfl
theorem dX0_sheet_0 : decode cX0_sheet 0 = .ok (.iload_n 1, 1) := dk_27 (dk_at dksX0_sheet_0 0 rfl rfl)
theorem dX0_sheet_1 : decode cX0_sheet 1 = .ok (.invokestatic 515, 3) := dk_184 2 3 (dk_at dksX0_sheet_0 1 rfl rfl)
theorem dX0_sheet_4 : decode cX0_sheet 4 = .ok (.ifCond .eq 22, 3) := dk_153 0 22 (dk_at dksX0_sheet_0 4 rfl rfl)
theorem dX0_sheet_7 : decode cX0_sheet 7 = .ok (.iload_n 2, 1) := dk_28 (dk_at dksX0_sheet_0 7 rfl rfl)
theorem dX0_sheet_8 : decode cX0_sheet 8 = .ok (.iconst (-1), 1) := dk_2 (dk_at dksX0_sheet_0 8 rfl rfl)
theorem dX0_sheet_9 : decode cX0_sheet 9 = .ok (.iconst 4, 1) := dk_7 (dk_at dksX0_sheet_0 9 rfl rfl)
theorem dX0_sheet_10 : decode cX0_sheet 10 = .ok (.invokestatic 149, 3) := dk_184 0 149 (dk_at dksX0_sheet_0 10 rfl rfl)
theorem dX0_sheet_13 : decode cX0_sheet 13 = .ok (.ifCond .eq 13, 3) := dk_153 0 13 (dk_at dksX0_sheet_0 13 rfl rfl)
theorem dX0_sheet_16 : decode cX0_sheet 16 = .ok (.iload_n 2, 1) := dk_28 (dk_at dksX0_sheet_0 16 rfl rfl)
theorem dX0_sheet_17 : decode cX0_sheet 17 = .ok (.ifCond .lt 11, 3) := dk_155 0 11 (dk_at dksX0_sheet_0 17 rfl rfl)
theorem dX0_sheet_20 : decode cX0_sheet 20 = .ok (.iload_n 3, 1) := dk_29 (dk_at dksX0_sheet_0 20 rfl rfl)
theorem dX0_sheet_21 : decode cX0_sheet 21 = .ok (.bipush 40, 2) := dk_16 40 (dk_at dksX0_sheet_0 21 rfl rfl)
theorem dX0_sheet_23 : decode cX0_sheet 23 = .ok (.if_icmp .le 5, 3) := dk_164 0 5 (dk_at dksX0_sheet_1 0 rfl rfl)
theorem dX0_sheet_26 : decode cX0_sheet 26 = .ok (.iconst (-1), 1) := dk_2 (dk_at dksX0_sheet_1 3 rfl rfl)
theorem dX0_sheet_27 : decode cX0_sheet 27 = .ok (.ireturn, 1) := dk_172 (dk_at dksX0_sheet_1 4 rfl rfl)
theorem dX0_sheet_28 : decode cX0_sheet 28 = .ok (.aload_n 0, 1) := dk_42 (dk_at dksX0_sheet_1 5 rfl rfl)
theorem dX0_sheet_29 : decode cX0_sheet 29 = .ok (.getfield 136, 3) := dk_180 0 136 (dk_at dksX0_sheet_1 6 rfl rfl)
theorem dX0_sheet_32 : decode cX0_sheet 32 = .ok (.iload_n 1, 1) := dk_27 (dk_at dksX0_sheet_1 9 rfl rfl)
theorem dX0_sheet_33 : decode cX0_sheet 33 = .ok (.aaload, 1) := dk_50 (dk_at dksX0_sheet_1 10 rfl rfl)
theorem dX0_sheet_34 : decode cX0_sheet 34 = .ok (.iload_n 2, 1) := dk_28 (dk_at dksX0_sheet_1 11 rfl rfl)
theorem dX0_sheet_35 : decode cX0_sheet 35 = .ok (.ifCond .ge 7, 3) := dk_156 0 7 (dk_at dksX0_sheet_1 12 rfl rfl)
theorem dX0_sheet_38 : decode cX0_sheet 38 = .ok (.aconst_null, 1) := dk_1 (dk_at dksX0_sheet_1 15 rfl rfl)
theorem dX0_sheet_39 : decode cX0_sheet 39 = .ok (.goto 8, 3) := dk_167 0 8 (dk_at dksX0_sheet_1 16 rfl rfl)
theorem dX0_sheet_42 : decode cX0_sheet 42 = .ok (.iload_n 2, 1) := dk_28 (dk_at dksX0_sheet_1 19 rfl rfl)
theorem dX0_sheet_43 : decode cX0_sheet 43 = .ok (.iload_n 3, 1) := dk_29 (dk_at dksX0_sheet_1 20 rfl rfl)
theorem dX0_sheet_44 : decode cX0_sheet 44 = .ok (.invokestatic 518, 3) := dk_184 2 6 (dk_at dksX0_sheet_1 21 rfl rfl)
theorem dX0_sheet_47 : decode cX0_sheet 47 = .ok (.putfield 522, 3) := dk_181 2 10 (dk_at dksX0_sheet_2 0 rfl rfl)
theorem dX0_sheet_50 : decode cX0_sheet 50 = .ok (.iconst 1, 1) := dk_4 (dk_at dksX0_sheet_2 3 rfl rfl)
theorem dX0_sheet_51 : decode cX0_sheet 51 = .ok (.ireturn, 1) := dk_172 (dk_at dksX0_sheet_2 4 rfl rfl)
theorem dX0_sheet_52 : decode cX0_sheet 52 = .ok (.astore 4, 2) := dk_58 4 (dk_at dksX0_sheet_2 5 rfl rfl)
theorem dX0_sheet_54 : decode cX0_sheet 54 = .ok (.bipush (-14), 2) := dk_16 242 (dk_at dksX0_sheet_2 7 rfl rfl)
theorem dX0_sheet_56 : decode cX0_sheet 56 = .ok (.ireturn, 1) := dk_172 (dk_at dksX0_sheet_2 9 rfl rfl)
abbrev cX0_isShelf : ByteArray := prog_1_method_98_code
def yX0_isShelf : MethodName := ⟨RX0, "isShelf", "(I)Z"⟩
def dkwX0_isShelf_0 : List UInt8 := [26, 3, 6, 184, 0, 149, 172]
abbrev dktX0_isShelf_0 : List UInt8 := dkwX0_isShelf_0 ++ []
theorem dksX0_isShelf_0 : cX0_isShelf.data.toList.drop 0 = dktX0_isShelf_0 := by decide +kernel
theorem dX0_isShelf_0 : decode cX0_isShelf 0 = .ok (.iload_n 0, 1) := dk_26 (dk_at dksX0_isShelf_0 0 rfl rfl)
theorem dX0_isShelf_1 : decode cX0_isShelf 1 = .ok (.iconst 0, 1) := dk_3 (dk_at dksX0_isShelf_0 1 rfl rfl)
theorem dX0_isShelf_2 : decode cX0_isShelf 2 = .ok (.iconst 3, 1) := dk_6 (dk_at dksX0_isShelf_0 2 rfl rfl)
theorem dX0_isShelf_3 : decode cX0_isShelf 3 = .ok (.invokestatic 149, 3) := dk_184 0 149 (dk_at dksX0_isShelf_0 3 rfl rfl)
theorem dX0_isShelf_6 : decode cX0_isShelf 6 = .ok (.ireturn, 1) := dk_172 (dk_at dksX0_isShelf_0 6 rfl rfl)
abbrev cX0_rowOf : ByteArray := prog_1_method_99_code
def yX0_rowOf : MethodName := ⟨RX0, "rowOf", "(II)Ljava/lang/Object;"⟩
def dkwX0_rowOf_2 : List UInt8 := [27, 188, 8, 176, 27, 188, 9, 176, 27, 188, 10, 176, 27, 188, 11, 176, 27, 188, 4, 176]
abbrev dktX0_rowOf_2 : List UInt8 := dkwX0_rowOf_2 ++ []
def dkwX0_rowOf_1 : List UInt8 := [170, 0, 0, 0, 0, 0, 47, 0, 0, 0, 0, 0, 0, 0, 3, 0, 0, 0, 31, 0, 0, 0, 35, 0, 0, 0, 39, 0, 0, 0, 43]
abbrev dktX0_rowOf_1 : List UInt8 := dkwX0_rowOf_1 ++ dktX0_rowOf_2
def dkwX0_rowOf_0 : List UInt8 := [26]
abbrev dktX0_rowOf_0 : List UInt8 := dkwX0_rowOf_0 ++ dktX0_rowOf_1
theorem dksX0_rowOf_0 : cX0_rowOf.data.toList.drop 0 = dktX0_rowOf_0 := by decide +kernel
theorem dksX0_rowOf_1 : cX0_rowOf.data.toList.drop 1 = dktX0_rowOf_1 := dk_seg dksX0_rowOf_0 1 rfl rfl
theorem dksX0_rowOf_2 : cX0_rowOf.data.toList.drop 32 = dktX0_rowOf_2 := dk_seg dksX0_rowOf_1 31 rfl rfl
theorem dX0_rowOf_0 : decode cX0_rowOf 0 = .ok (.iload_n 0, 1) := dk_26 (dk_at dksX0_rowOf_0 0 rfl rfl)
theorem dX0_rowOf_1 : decode cX0_rowOf 1 = .ok (.tableswitch 47 0 3 #[31, 35, 39, 43], 31) := by decide +kernel
theorem dX0_rowOf_32 : decode cX0_rowOf 32 = .ok (.iload_n 1, 1) := dk_27 (dk_at dksX0_rowOf_2 0 rfl rfl)
theorem dX0_rowOf_33 : decode cX0_rowOf 33 = .ok (.newarray .byte, 2) := dk_188_8 (dk_at dksX0_rowOf_2 1 rfl rfl)
theorem dX0_rowOf_35 : decode cX0_rowOf 35 = .ok (.areturn, 1) := dk_176 (dk_at dksX0_rowOf_2 3 rfl rfl)
theorem dX0_rowOf_36 : decode cX0_rowOf 36 = .ok (.iload_n 1, 1) := dk_27 (dk_at dksX0_rowOf_2 4 rfl rfl)
theorem dX0_rowOf_37 : decode cX0_rowOf 37 = .ok (.newarray .short, 2) := dk_188_9 (dk_at dksX0_rowOf_2 5 rfl rfl)
theorem dX0_rowOf_39 : decode cX0_rowOf 39 = .ok (.areturn, 1) := dk_176 (dk_at dksX0_rowOf_2 7 rfl rfl)
theorem dX0_rowOf_40 : decode cX0_rowOf 40 = .ok (.iload_n 1, 1) := dk_27 (dk_at dksX0_rowOf_2 8 rfl rfl)
theorem dX0_rowOf_41 : decode cX0_rowOf 41 = .ok (.newarray .int, 2) := dk_188_10 (dk_at dksX0_rowOf_2 9 rfl rfl)
theorem dX0_rowOf_43 : decode cX0_rowOf 43 = .ok (.areturn, 1) := dk_176 (dk_at dksX0_rowOf_2 11 rfl rfl)
theorem dX0_rowOf_44 : decode cX0_rowOf 44 = .ok (.iload_n 1, 1) := dk_27 (dk_at dksX0_rowOf_2 12 rfl rfl)
theorem dX0_rowOf_45 : decode cX0_rowOf 45 = .ok (.newarray .long, 2) := dk_188_11 (dk_at dksX0_rowOf_2 13 rfl rfl)
theorem dX0_rowOf_47 : decode cX0_rowOf 47 = .ok (.areturn, 1) := dk_176 (dk_at dksX0_rowOf_2 15 rfl rfl)
theorem dX0_rowOf_48 : decode cX0_rowOf 48 = .ok (.iload_n 1, 1) := dk_27 (dk_at dksX0_rowOf_2 16 rfl rfl)
theorem dX0_rowOf_49 : decode cX0_rowOf 49 = .ok (.newarray .boolean, 2) := dk_188_4 (dk_at dksX0_rowOf_2 17 rfl rfl)
theorem dX0_rowOf_51 : decode cX0_rowOf 51 = .ok (.areturn, 1) := dk_176 (dk_at dksX0_rowOf_2 19 rfl rfl)
abbrev cX0_write : ByteArray := prog_1_method_103_code
def yX0_write : MethodName := ⟨RX0, "write", "(III)I"⟩
def dkwX0_write_3 : List UInt8 := [172]
abbrev dktX0_write_3 : List UInt8 := dkwX0_write_3 ++ []
def dkwX0_write_2 : List UInt8 := [184, 0, 149, 16, 244, 182, 2, 24, 25, 4, 28, 29, 184, 2, 31, 4, 172, 58, 4, 25, 4, 180, 2, 35]
abbrev dktX0_write_2 : List UInt8 := dkwX0_write_2 ++ dktX0_write_3
def dkwX0_write_1 : List UInt8 := [198, 0, 7, 4, 167, 0, 4, 3, 16, 245, 182, 2, 24, 42, 28, 3, 25, 4, 184, 2, 28, 4, 100]
abbrev dktX0_write_1 : List UInt8 := dkwX0_write_1 ++ dktX0_write_2
def dkwX0_write_0 : List UInt8 := [27, 184, 2, 3, 154, 0, 5, 2, 172, 42, 180, 0, 136, 27, 50, 180, 2, 10, 58, 4, 42, 25, 4]
abbrev dktX0_write_0 : List UInt8 := dkwX0_write_0 ++ dktX0_write_1
theorem dksX0_write_0 : cX0_write.data.toList.drop 0 = dktX0_write_0 := by decide +kernel
theorem dksX0_write_1 : cX0_write.data.toList.drop 23 = dktX0_write_1 := dk_seg dksX0_write_0 23 rfl rfl
theorem dksX0_write_2 : cX0_write.data.toList.drop 46 = dktX0_write_2 := dk_seg dksX0_write_1 23 rfl rfl
theorem dksX0_write_3 : cX0_write.data.toList.drop 70 = dktX0_write_3 := dk_seg dksX0_write_2 24 rfl rfl
theorem dX0_write_0 : decode cX0_write 0 = .ok (.iload_n 1, 1) := dk_27 (dk_at dksX0_write_0 0 rfl rfl)
theorem dX0_write_1 : decode cX0_write 1 = .ok (.invokestatic 515, 3) := dk_184 2 3 (dk_at dksX0_write_0 1 rfl rfl)
theorem dX0_write_4 : decode cX0_write 4 = .ok (.ifCond .ne 5, 3) := dk_154 0 5 (dk_at dksX0_write_0 4 rfl rfl)
theorem dX0_write_7 : decode cX0_write 7 = .ok (.iconst (-1), 1) := dk_2 (dk_at dksX0_write_0 7 rfl rfl)
theorem dX0_write_8 : decode cX0_write 8 = .ok (.ireturn, 1) := dk_172 (dk_at dksX0_write_0 8 rfl rfl)
theorem dX0_write_9 : decode cX0_write 9 = .ok (.aload_n 0, 1) := dk_42 (dk_at dksX0_write_0 9 rfl rfl)
theorem dX0_write_10 : decode cX0_write 10 = .ok (.getfield 136, 3) := dk_180 0 136 (dk_at dksX0_write_0 10 rfl rfl)
theorem dX0_write_13 : decode cX0_write 13 = .ok (.iload_n 1, 1) := dk_27 (dk_at dksX0_write_0 13 rfl rfl)
theorem dX0_write_14 : decode cX0_write 14 = .ok (.aaload, 1) := dk_50 (dk_at dksX0_write_0 14 rfl rfl)
theorem dX0_write_15 : decode cX0_write 15 = .ok (.getfield 522, 3) := dk_180 2 10 (dk_at dksX0_write_0 15 rfl rfl)
theorem dX0_write_18 : decode cX0_write 18 = .ok (.astore 4, 2) := dk_58 4 (dk_at dksX0_write_0 18 rfl rfl)
theorem dX0_write_20 : decode cX0_write 20 = .ok (.aload_n 0, 1) := dk_42 (dk_at dksX0_write_0 20 rfl rfl)
theorem dX0_write_21 : decode cX0_write 21 = .ok (.aload 4, 2) := dk_25 4 (dk_at dksX0_write_0 21 rfl rfl)
theorem dX0_write_23 : decode cX0_write 23 = .ok (.ifnull 7, 3) := dk_198 0 7 (dk_at dksX0_write_1 0 rfl rfl)
theorem dX0_write_26 : decode cX0_write 26 = .ok (.iconst 1, 1) := dk_4 (dk_at dksX0_write_1 3 rfl rfl)
theorem dX0_write_27 : decode cX0_write 27 = .ok (.goto 4, 3) := dk_167 0 4 (dk_at dksX0_write_1 4 rfl rfl)
theorem dX0_write_30 : decode cX0_write 30 = .ok (.iconst 0, 1) := dk_3 (dk_at dksX0_write_1 7 rfl rfl)
theorem dX0_write_31 : decode cX0_write 31 = .ok (.bipush (-11), 2) := dk_16 245 (dk_at dksX0_write_1 8 rfl rfl)
theorem dX0_write_33 : decode cX0_write 33 = .ok (.invokevirtual 536, 3) := dk_182 2 24 (dk_at dksX0_write_1 10 rfl rfl)
theorem dX0_write_36 : decode cX0_write 36 = .ok (.aload_n 0, 1) := dk_42 (dk_at dksX0_write_1 13 rfl rfl)
theorem dX0_write_37 : decode cX0_write 37 = .ok (.iload_n 2, 1) := dk_28 (dk_at dksX0_write_1 14 rfl rfl)
theorem dX0_write_38 : decode cX0_write 38 = .ok (.iconst 0, 1) := dk_3 (dk_at dksX0_write_1 15 rfl rfl)
theorem dX0_write_39 : decode cX0_write 39 = .ok (.aload 4, 2) := dk_25 4 (dk_at dksX0_write_1 16 rfl rfl)
theorem dX0_write_41 : decode cX0_write 41 = .ok (.invokestatic 540, 3) := dk_184 2 28 (dk_at dksX0_write_1 18 rfl rfl)
theorem dX0_write_44 : decode cX0_write 44 = .ok (.iconst 1, 1) := dk_4 (dk_at dksX0_write_1 21 rfl rfl)
theorem dX0_write_45 : decode cX0_write 45 = .ok (.isub, 1) := dk_100 (dk_at dksX0_write_1 22 rfl rfl)
theorem dX0_write_46 : decode cX0_write 46 = .ok (.invokestatic 149, 3) := dk_184 0 149 (dk_at dksX0_write_2 0 rfl rfl)
theorem dX0_write_49 : decode cX0_write 49 = .ok (.bipush (-12), 2) := dk_16 244 (dk_at dksX0_write_2 3 rfl rfl)
theorem dX0_write_51 : decode cX0_write 51 = .ok (.invokevirtual 536, 3) := dk_182 2 24 (dk_at dksX0_write_2 5 rfl rfl)
theorem dX0_write_54 : decode cX0_write 54 = .ok (.aload 4, 2) := dk_25 4 (dk_at dksX0_write_2 8 rfl rfl)
theorem dX0_write_56 : decode cX0_write 56 = .ok (.iload_n 2, 1) := dk_28 (dk_at dksX0_write_2 10 rfl rfl)
theorem dX0_write_57 : decode cX0_write 57 = .ok (.iload_n 3, 1) := dk_29 (dk_at dksX0_write_2 11 rfl rfl)
theorem dX0_write_58 : decode cX0_write 58 = .ok (.invokestatic 543, 3) := dk_184 2 31 (dk_at dksX0_write_2 12 rfl rfl)
theorem dX0_write_61 : decode cX0_write 61 = .ok (.iconst 1, 1) := dk_4 (dk_at dksX0_write_2 15 rfl rfl)
theorem dX0_write_62 : decode cX0_write 62 = .ok (.ireturn, 1) := dk_172 (dk_at dksX0_write_2 16 rfl rfl)
theorem dX0_write_63 : decode cX0_write 63 = .ok (.astore 4, 2) := dk_58 4 (dk_at dksX0_write_2 17 rfl rfl)
theorem dX0_write_65 : decode cX0_write 65 = .ok (.aload 4, 2) := dk_25 4 (dk_at dksX0_write_2 19 rfl rfl)
theorem dX0_write_67 : decode cX0_write 67 = .ok (.getfield 547, 3) := dk_180 2 35 (dk_at dksX0_write_2 21 rfl rfl)
theorem dX0_write_70 : decode cX0_write 70 = .ok (.ireturn, 1) := dk_172 (dk_at dksX0_write_3 0 rfl rfl)
abbrev cX0_must : ByteArray := prog_1_method_2_code
def yX0_must : MethodName := ⟨RX0, "must", "(ZI)V"⟩
def dkwX0_must_0 : List UInt8 := [27, 154, 0, 12, 42, 180, 0, 1, 28, 182, 0, 7, 191, 177]
abbrev dktX0_must_0 : List UInt8 := dkwX0_must_0 ++ []
theorem dksX0_must_0 : cX0_must.data.toList.drop 0 = dktX0_must_0 := by decide +kernel
theorem dX0_must_0 : decode cX0_must 0 = .ok (.iload_n 1, 1) := dk_27 (dk_at dksX0_must_0 0 rfl rfl)
theorem dX0_must_1 : decode cX0_must 1 = .ok (.ifCond .ne 12, 3) := dk_154 0 12 (dk_at dksX0_must_0 1 rfl rfl)
theorem dX0_must_4 : decode cX0_must 4 = .ok (.aload_n 0, 1) := dk_42 (dk_at dksX0_must_0 4 rfl rfl)
theorem dX0_must_5 : decode cX0_must 5 = .ok (.getfield 1, 3) := dk_180 0 1 (dk_at dksX0_must_0 5 rfl rfl)
theorem dX0_must_8 : decode cX0_must 8 = .ok (.iload_n 2, 1) := dk_28 (dk_at dksX0_must_0 8 rfl rfl)
theorem dX0_must_9 : decode cX0_must 9 = .ok (.invokevirtual 7, 3) := dk_182 0 7 (dk_at dksX0_must_0 9 rfl rfl)
theorem dX0_must_12 : decode cX0_must 12 = .ok (.athrow, 1) := dk_191 (dk_at dksX0_must_0 12 rfl rfl)
theorem dX0_must_13 : decode cX0_must 13 = .ok (.return_, 1) := dk_177 (dk_at dksX0_must_0 13 rfl rfl)
abbrev cX0_length : ByteArray := prog_1_method_101_code
def yX0_length : MethodName := ⟨RX0, "length", "(Ljava/lang/Object;)I"⟩
def dkwX0_length_2 : List UInt8 := [192, 2, 20, 190, 172, 42, 192, 2, 22, 190, 172]
abbrev dktX0_length_2 : List UInt8 := dkwX0_length_2 ++ []
def dkwX0_length_1 : List UInt8 := [190, 172, 42, 193, 2, 19, 153, 0, 9, 42, 192, 2, 19, 190, 172, 42, 193, 2, 20, 153, 0, 9, 42]
abbrev dktX0_length_1 : List UInt8 := dkwX0_length_1 ++ dktX0_length_2
def dkwX0_length_0 : List UInt8 := [42, 193, 2, 16, 153, 0, 9, 42, 192, 2, 16, 190, 172, 42, 193, 2, 17, 153, 0, 9, 42, 192, 2, 17]
abbrev dktX0_length_0 : List UInt8 := dkwX0_length_0 ++ dktX0_length_1
theorem dksX0_length_0 : cX0_length.data.toList.drop 0 = dktX0_length_0 := by decide +kernel
theorem dksX0_length_1 : cX0_length.data.toList.drop 24 = dktX0_length_1 := dk_seg dksX0_length_0 24 rfl rfl
theorem dksX0_length_2 : cX0_length.data.toList.drop 47 = dktX0_length_2 := dk_seg dksX0_length_1 23 rfl rfl
theorem dX0_length_0 : decode cX0_length 0 = .ok (.aload_n 0, 1) := dk_42 (dk_at dksX0_length_0 0 rfl rfl)
theorem dX0_length_1 : decode cX0_length 1 = .ok (.instanceof 528, 3) := dk_193 2 16 (dk_at dksX0_length_0 1 rfl rfl)
theorem dX0_length_4 : decode cX0_length 4 = .ok (.ifCond .eq 9, 3) := dk_153 0 9 (dk_at dksX0_length_0 4 rfl rfl)
theorem dX0_length_7 : decode cX0_length 7 = .ok (.aload_n 0, 1) := dk_42 (dk_at dksX0_length_0 7 rfl rfl)
theorem dX0_length_8 : decode cX0_length 8 = .ok (.checkcast 528, 3) := dk_192 2 16 (dk_at dksX0_length_0 8 rfl rfl)
theorem dX0_length_11 : decode cX0_length 11 = .ok (.arraylength, 1) := dk_190 (dk_at dksX0_length_0 11 rfl rfl)
theorem dX0_length_12 : decode cX0_length 12 = .ok (.ireturn, 1) := dk_172 (dk_at dksX0_length_0 12 rfl rfl)
theorem dX0_length_13 : decode cX0_length 13 = .ok (.aload_n 0, 1) := dk_42 (dk_at dksX0_length_0 13 rfl rfl)
theorem dX0_length_14 : decode cX0_length 14 = .ok (.instanceof 529, 3) := dk_193 2 17 (dk_at dksX0_length_0 14 rfl rfl)
theorem dX0_length_17 : decode cX0_length 17 = .ok (.ifCond .eq 9, 3) := dk_153 0 9 (dk_at dksX0_length_0 17 rfl rfl)
theorem dX0_length_20 : decode cX0_length 20 = .ok (.aload_n 0, 1) := dk_42 (dk_at dksX0_length_0 20 rfl rfl)
theorem dX0_length_21 : decode cX0_length 21 = .ok (.checkcast 529, 3) := dk_192 2 17 (dk_at dksX0_length_0 21 rfl rfl)
theorem dX0_length_24 : decode cX0_length 24 = .ok (.arraylength, 1) := dk_190 (dk_at dksX0_length_1 0 rfl rfl)
theorem dX0_length_25 : decode cX0_length 25 = .ok (.ireturn, 1) := dk_172 (dk_at dksX0_length_1 1 rfl rfl)
theorem dX0_length_26 : decode cX0_length 26 = .ok (.aload_n 0, 1) := dk_42 (dk_at dksX0_length_1 2 rfl rfl)
theorem dX0_length_27 : decode cX0_length 27 = .ok (.instanceof 531, 3) := dk_193 2 19 (dk_at dksX0_length_1 3 rfl rfl)
theorem dX0_length_30 : decode cX0_length 30 = .ok (.ifCond .eq 9, 3) := dk_153 0 9 (dk_at dksX0_length_1 6 rfl rfl)
theorem dX0_length_33 : decode cX0_length 33 = .ok (.aload_n 0, 1) := dk_42 (dk_at dksX0_length_1 9 rfl rfl)
theorem dX0_length_34 : decode cX0_length 34 = .ok (.checkcast 531, 3) := dk_192 2 19 (dk_at dksX0_length_1 10 rfl rfl)
theorem dX0_length_37 : decode cX0_length 37 = .ok (.arraylength, 1) := dk_190 (dk_at dksX0_length_1 13 rfl rfl)
theorem dX0_length_38 : decode cX0_length 38 = .ok (.ireturn, 1) := dk_172 (dk_at dksX0_length_1 14 rfl rfl)
theorem dX0_length_39 : decode cX0_length 39 = .ok (.aload_n 0, 1) := dk_42 (dk_at dksX0_length_1 15 rfl rfl)
theorem dX0_length_40 : decode cX0_length 40 = .ok (.instanceof 532, 3) := dk_193 2 20 (dk_at dksX0_length_1 16 rfl rfl)
theorem dX0_length_43 : decode cX0_length 43 = .ok (.ifCond .eq 9, 3) := dk_153 0 9 (dk_at dksX0_length_1 19 rfl rfl)
theorem dX0_length_46 : decode cX0_length 46 = .ok (.aload_n 0, 1) := dk_42 (dk_at dksX0_length_1 22 rfl rfl)
theorem dX0_length_47 : decode cX0_length 47 = .ok (.checkcast 532, 3) := dk_192 2 20 (dk_at dksX0_length_2 0 rfl rfl)
theorem dX0_length_50 : decode cX0_length 50 = .ok (.arraylength, 1) := dk_190 (dk_at dksX0_length_2 3 rfl rfl)
theorem dX0_length_51 : decode cX0_length 51 = .ok (.ireturn, 1) := dk_172 (dk_at dksX0_length_2 4 rfl rfl)
theorem dX0_length_52 : decode cX0_length 52 = .ok (.aload_n 0, 1) := dk_42 (dk_at dksX0_length_2 5 rfl rfl)
theorem dX0_length_53 : decode cX0_length 53 = .ok (.checkcast 534, 3) := dk_192 2 22 (dk_at dksX0_length_2 6 rfl rfl)
theorem dX0_length_56 : decode cX0_length 56 = .ok (.arraylength, 1) := dk_190 (dk_at dksX0_length_2 9 rfl rfl)
theorem dX0_length_57 : decode cX0_length 57 = .ok (.ireturn, 1) := dk_172 (dk_at dksX0_length_2 10 rfl rfl)
abbrev cX0_set : ByteArray := prog_1_method_102_code
def yX0_set : MethodName := ⟨RX0, "set", "(Ljava/lang/Object;II)V"⟩
def dkwX0_set_3 : List UInt8 := [167, 0, 18, 42, 192, 2, 22, 27, 28, 153, 0, 7, 4, 167, 0, 4, 3, 84, 177]
abbrev dktX0_set_3 : List UInt8 := dkwX0_set_3 ++ []
def dkwX0_set_2 : List UInt8 := [192, 2, 19, 27, 28, 79, 167, 0, 36, 42, 193, 2, 20, 153, 0, 14, 42, 192, 2, 20, 27, 28, 133, 80]
abbrev dktX0_set_2 : List UInt8 := dkwX0_set_2 ++ dktX0_set_3
def dkwX0_set_1 : List UInt8 := [153, 0, 14, 42, 192, 2, 17, 27, 28, 147, 86, 167, 0, 53, 42, 193, 2, 19, 153, 0, 13, 42]
abbrev dktX0_set_1 : List UInt8 := dkwX0_set_1 ++ dktX0_set_2
def dkwX0_set_0 : List UInt8 := [42, 193, 2, 16, 153, 0, 14, 42, 192, 2, 16, 27, 28, 145, 84, 167, 0, 71, 42, 193, 2, 17]
abbrev dktX0_set_0 : List UInt8 := dkwX0_set_0 ++ dktX0_set_1
theorem dksX0_set_0 : cX0_set.data.toList.drop 0 = dktX0_set_0 := by decide +kernel
theorem dksX0_set_1 : cX0_set.data.toList.drop 22 = dktX0_set_1 := dk_seg dksX0_set_0 22 rfl rfl
theorem dksX0_set_2 : cX0_set.data.toList.drop 44 = dktX0_set_2 := dk_seg dksX0_set_1 22 rfl rfl
theorem dksX0_set_3 : cX0_set.data.toList.drop 68 = dktX0_set_3 := dk_seg dksX0_set_2 24 rfl rfl
theorem dX0_set_0 : decode cX0_set 0 = .ok (.aload_n 0, 1) := dk_42 (dk_at dksX0_set_0 0 rfl rfl)
theorem dX0_set_1 : decode cX0_set 1 = .ok (.instanceof 528, 3) := dk_193 2 16 (dk_at dksX0_set_0 1 rfl rfl)
theorem dX0_set_4 : decode cX0_set 4 = .ok (.ifCond .eq 14, 3) := dk_153 0 14 (dk_at dksX0_set_0 4 rfl rfl)
theorem dX0_set_7 : decode cX0_set 7 = .ok (.aload_n 0, 1) := dk_42 (dk_at dksX0_set_0 7 rfl rfl)
theorem dX0_set_8 : decode cX0_set 8 = .ok (.checkcast 528, 3) := dk_192 2 16 (dk_at dksX0_set_0 8 rfl rfl)
theorem dX0_set_11 : decode cX0_set 11 = .ok (.iload_n 1, 1) := dk_27 (dk_at dksX0_set_0 11 rfl rfl)
theorem dX0_set_12 : decode cX0_set 12 = .ok (.iload_n 2, 1) := dk_28 (dk_at dksX0_set_0 12 rfl rfl)
theorem dX0_set_13 : decode cX0_set 13 = .ok (.i2b, 1) := dk_145 (dk_at dksX0_set_0 13 rfl rfl)
theorem dX0_set_14 : decode cX0_set 14 = .ok (.bastore, 1) := dk_84 (dk_at dksX0_set_0 14 rfl rfl)
theorem dX0_set_15 : decode cX0_set 15 = .ok (.goto 71, 3) := dk_167 0 71 (dk_at dksX0_set_0 15 rfl rfl)
theorem dX0_set_18 : decode cX0_set 18 = .ok (.aload_n 0, 1) := dk_42 (dk_at dksX0_set_0 18 rfl rfl)
theorem dX0_set_19 : decode cX0_set 19 = .ok (.instanceof 529, 3) := dk_193 2 17 (dk_at dksX0_set_0 19 rfl rfl)
theorem dX0_set_22 : decode cX0_set 22 = .ok (.ifCond .eq 14, 3) := dk_153 0 14 (dk_at dksX0_set_1 0 rfl rfl)
theorem dX0_set_25 : decode cX0_set 25 = .ok (.aload_n 0, 1) := dk_42 (dk_at dksX0_set_1 3 rfl rfl)
theorem dX0_set_26 : decode cX0_set 26 = .ok (.checkcast 529, 3) := dk_192 2 17 (dk_at dksX0_set_1 4 rfl rfl)
theorem dX0_set_29 : decode cX0_set 29 = .ok (.iload_n 1, 1) := dk_27 (dk_at dksX0_set_1 7 rfl rfl)
theorem dX0_set_30 : decode cX0_set 30 = .ok (.iload_n 2, 1) := dk_28 (dk_at dksX0_set_1 8 rfl rfl)
theorem dX0_set_31 : decode cX0_set 31 = .ok (.i2s, 1) := dk_147 (dk_at dksX0_set_1 9 rfl rfl)
theorem dX0_set_32 : decode cX0_set 32 = .ok (.sastore, 1) := dk_86 (dk_at dksX0_set_1 10 rfl rfl)
theorem dX0_set_33 : decode cX0_set 33 = .ok (.goto 53, 3) := dk_167 0 53 (dk_at dksX0_set_1 11 rfl rfl)
theorem dX0_set_36 : decode cX0_set 36 = .ok (.aload_n 0, 1) := dk_42 (dk_at dksX0_set_1 14 rfl rfl)
theorem dX0_set_37 : decode cX0_set 37 = .ok (.instanceof 531, 3) := dk_193 2 19 (dk_at dksX0_set_1 15 rfl rfl)
theorem dX0_set_40 : decode cX0_set 40 = .ok (.ifCond .eq 13, 3) := dk_153 0 13 (dk_at dksX0_set_1 18 rfl rfl)
theorem dX0_set_43 : decode cX0_set 43 = .ok (.aload_n 0, 1) := dk_42 (dk_at dksX0_set_1 21 rfl rfl)
theorem dX0_set_44 : decode cX0_set 44 = .ok (.checkcast 531, 3) := dk_192 2 19 (dk_at dksX0_set_2 0 rfl rfl)
theorem dX0_set_47 : decode cX0_set 47 = .ok (.iload_n 1, 1) := dk_27 (dk_at dksX0_set_2 3 rfl rfl)
theorem dX0_set_48 : decode cX0_set 48 = .ok (.iload_n 2, 1) := dk_28 (dk_at dksX0_set_2 4 rfl rfl)
theorem dX0_set_49 : decode cX0_set 49 = .ok (.iastore, 1) := dk_79 (dk_at dksX0_set_2 5 rfl rfl)
theorem dX0_set_50 : decode cX0_set 50 = .ok (.goto 36, 3) := dk_167 0 36 (dk_at dksX0_set_2 6 rfl rfl)
theorem dX0_set_53 : decode cX0_set 53 = .ok (.aload_n 0, 1) := dk_42 (dk_at dksX0_set_2 9 rfl rfl)
theorem dX0_set_54 : decode cX0_set 54 = .ok (.instanceof 532, 3) := dk_193 2 20 (dk_at dksX0_set_2 10 rfl rfl)
theorem dX0_set_57 : decode cX0_set 57 = .ok (.ifCond .eq 14, 3) := dk_153 0 14 (dk_at dksX0_set_2 13 rfl rfl)
theorem dX0_set_60 : decode cX0_set 60 = .ok (.aload_n 0, 1) := dk_42 (dk_at dksX0_set_2 16 rfl rfl)
theorem dX0_set_61 : decode cX0_set 61 = .ok (.checkcast 532, 3) := dk_192 2 20 (dk_at dksX0_set_2 17 rfl rfl)
theorem dX0_set_64 : decode cX0_set 64 = .ok (.iload_n 1, 1) := dk_27 (dk_at dksX0_set_2 20 rfl rfl)
theorem dX0_set_65 : decode cX0_set 65 = .ok (.iload_n 2, 1) := dk_28 (dk_at dksX0_set_2 21 rfl rfl)
theorem dX0_set_66 : decode cX0_set 66 = .ok (.i2l, 1) := dk_133 (dk_at dksX0_set_2 22 rfl rfl)
theorem dX0_set_67 : decode cX0_set 67 = .ok (.lastore, 1) := dk_80 (dk_at dksX0_set_2 23 rfl rfl)
theorem dX0_set_68 : decode cX0_set 68 = .ok (.goto 18, 3) := dk_167 0 18 (dk_at dksX0_set_3 0 rfl rfl)
theorem dX0_set_71 : decode cX0_set 71 = .ok (.aload_n 0, 1) := dk_42 (dk_at dksX0_set_3 3 rfl rfl)
theorem dX0_set_72 : decode cX0_set 72 = .ok (.checkcast 534, 3) := dk_192 2 22 (dk_at dksX0_set_3 4 rfl rfl)
theorem dX0_set_75 : decode cX0_set 75 = .ok (.iload_n 1, 1) := dk_27 (dk_at dksX0_set_3 7 rfl rfl)
theorem dX0_set_76 : decode cX0_set 76 = .ok (.iload_n 2, 1) := dk_28 (dk_at dksX0_set_3 8 rfl rfl)
theorem dX0_set_77 : decode cX0_set 77 = .ok (.ifCond .eq 7, 3) := dk_153 0 7 (dk_at dksX0_set_3 9 rfl rfl)
theorem dX0_set_80 : decode cX0_set 80 = .ok (.iconst 1, 1) := dk_4 (dk_at dksX0_set_3 12 rfl rfl)
theorem dX0_set_81 : decode cX0_set 81 = .ok (.goto 4, 3) := dk_167 0 4 (dk_at dksX0_set_3 13 rfl rfl)
theorem dX0_set_84 : decode cX0_set 84 = .ok (.iconst 0, 1) := dk_3 (dk_at dksX0_set_3 16 rfl rfl)
theorem dX0_set_85 : decode cX0_set 85 = .ok (.bastore, 1) := dk_84 (dk_at dksX0_set_3 17 rfl rfl)
theorem dX0_set_86 : decode cX0_set 86 = .ok (.return_, 1) := dk_177 (dk_at dksX0_set_3 18 rfl rfl)
abbrev cX0_item : ByteArray := prog_1_method_106_code
def yX0_item : MethodName := ⟨RX0, "item", "(III)I"⟩
def dkwX0_item_2 : List UInt8 := [180, 2, 35, 172]
abbrev dktX0_item_2 : List UInt8 := dkwX0_item_2 ++ []
def dkwX0_item_1 : List UInt8 := [50, 180, 2, 10, 28, 29, 182, 2, 40, 172, 58, 4, 16, 243, 172, 58, 4, 16, 245, 172, 58, 4, 25, 4]
abbrev dktX0_item_1 : List UInt8 := dkwX0_item_1 ++ dktX0_item_2
def dkwX0_item_0 : List UInt8 := [27, 184, 2, 3, 153, 0, 12, 28, 3, 7, 184, 0, 149, 154, 0, 5, 2, 172, 42, 42, 180, 0, 136, 27]
abbrev dktX0_item_0 : List UInt8 := dkwX0_item_0 ++ dktX0_item_1
theorem dksX0_item_0 : cX0_item.data.toList.drop 0 = dktX0_item_0 := by decide +kernel
theorem dksX0_item_1 : cX0_item.data.toList.drop 24 = dktX0_item_1 := dk_seg dksX0_item_0 24 rfl rfl
theorem dksX0_item_2 : cX0_item.data.toList.drop 48 = dktX0_item_2 := dk_seg dksX0_item_1 24 rfl rfl
theorem dX0_item_0 : decode cX0_item 0 = .ok (.iload_n 1, 1) := dk_27 (dk_at dksX0_item_0 0 rfl rfl)
theorem dX0_item_1 : decode cX0_item 1 = .ok (.invokestatic 515, 3) := dk_184 2 3 (dk_at dksX0_item_0 1 rfl rfl)
theorem dX0_item_4 : decode cX0_item 4 = .ok (.ifCond .eq 12, 3) := dk_153 0 12 (dk_at dksX0_item_0 4 rfl rfl)
theorem dX0_item_7 : decode cX0_item 7 = .ok (.iload_n 2, 1) := dk_28 (dk_at dksX0_item_0 7 rfl rfl)
theorem dX0_item_8 : decode cX0_item 8 = .ok (.iconst 0, 1) := dk_3 (dk_at dksX0_item_0 8 rfl rfl)
theorem dX0_item_9 : decode cX0_item 9 = .ok (.iconst 4, 1) := dk_7 (dk_at dksX0_item_0 9 rfl rfl)
theorem dX0_item_10 : decode cX0_item 10 = .ok (.invokestatic 149, 3) := dk_184 0 149 (dk_at dksX0_item_0 10 rfl rfl)
theorem dX0_item_13 : decode cX0_item 13 = .ok (.ifCond .ne 5, 3) := dk_154 0 5 (dk_at dksX0_item_0 13 rfl rfl)
theorem dX0_item_16 : decode cX0_item 16 = .ok (.iconst (-1), 1) := dk_2 (dk_at dksX0_item_0 16 rfl rfl)
theorem dX0_item_17 : decode cX0_item 17 = .ok (.ireturn, 1) := dk_172 (dk_at dksX0_item_0 17 rfl rfl)
theorem dX0_item_18 : decode cX0_item 18 = .ok (.aload_n 0, 1) := dk_42 (dk_at dksX0_item_0 18 rfl rfl)
theorem dX0_item_19 : decode cX0_item 19 = .ok (.aload_n 0, 1) := dk_42 (dk_at dksX0_item_0 19 rfl rfl)
theorem dX0_item_20 : decode cX0_item 20 = .ok (.getfield 136, 3) := dk_180 0 136 (dk_at dksX0_item_0 20 rfl rfl)
theorem dX0_item_23 : decode cX0_item 23 = .ok (.iload_n 1, 1) := dk_27 (dk_at dksX0_item_0 23 rfl rfl)
theorem dX0_item_24 : decode cX0_item 24 = .ok (.aaload, 1) := dk_50 (dk_at dksX0_item_1 0 rfl rfl)
theorem dX0_item_25 : decode cX0_item 25 = .ok (.getfield 522, 3) := dk_180 2 10 (dk_at dksX0_item_1 1 rfl rfl)
theorem dX0_item_28 : decode cX0_item 28 = .ok (.iload_n 2, 1) := dk_28 (dk_at dksX0_item_1 4 rfl rfl)
theorem dX0_item_29 : decode cX0_item 29 = .ok (.iload_n 3, 1) := dk_29 (dk_at dksX0_item_1 5 rfl rfl)
theorem dX0_item_30 : decode cX0_item 30 = .ok (.invokevirtual 552, 3) := dk_182 2 40 (dk_at dksX0_item_1 6 rfl rfl)
theorem dX0_item_33 : decode cX0_item 33 = .ok (.ireturn, 1) := dk_172 (dk_at dksX0_item_1 9 rfl rfl)
theorem dX0_item_34 : decode cX0_item 34 = .ok (.astore 4, 2) := dk_58 4 (dk_at dksX0_item_1 10 rfl rfl)
theorem dX0_item_36 : decode cX0_item 36 = .ok (.bipush (-13), 2) := dk_16 243 (dk_at dksX0_item_1 12 rfl rfl)
theorem dX0_item_38 : decode cX0_item 38 = .ok (.ireturn, 1) := dk_172 (dk_at dksX0_item_1 14 rfl rfl)
theorem dX0_item_39 : decode cX0_item 39 = .ok (.astore 4, 2) := dk_58 4 (dk_at dksX0_item_1 15 rfl rfl)
theorem dX0_item_41 : decode cX0_item 41 = .ok (.bipush (-11), 2) := dk_16 245 (dk_at dksX0_item_1 17 rfl rfl)
theorem dX0_item_43 : decode cX0_item 43 = .ok (.ireturn, 1) := dk_172 (dk_at dksX0_item_1 19 rfl rfl)
theorem dX0_item_44 : decode cX0_item 44 = .ok (.astore 4, 2) := dk_58 4 (dk_at dksX0_item_1 20 rfl rfl)
theorem dX0_item_46 : decode cX0_item 46 = .ok (.aload 4, 2) := dk_25 4 (dk_at dksX0_item_1 22 rfl rfl)
theorem dX0_item_48 : decode cX0_item 48 = .ok (.getfield 547, 3) := dk_180 2 35 (dk_at dksX0_item_2 0 rfl rfl)
theorem dX0_item_51 : decode cX0_item 51 = .ok (.ireturn, 1) := dk_172 (dk_at dksX0_item_2 3 rfl rfl)
abbrev cX0_itemOf : ByteArray := prog_1_method_105_code
def yX0_itemOf : MethodName := ⟨RX0, "itemOf", "(Ljava/lang/Object;II)I"⟩
def dkwX0_itemOf_3 : List UInt8 := [192, 2, 20, 29, 47, 136, 172, 43, 192, 2, 22, 29, 51, 153, 0, 7, 4, 167, 0, 4, 3, 172]
abbrev dktX0_itemOf_3 : List UInt8 := dkwX0_itemOf_3 ++ []
def dkwX0_itemOf_2 : List UInt8 := [43, 192, 2, 16, 29, 51, 172, 43, 192, 2, 17, 29, 53, 172, 43, 192, 2, 19, 29, 46, 172, 43]
abbrev dktX0_itemOf_2 : List UInt8 := dkwX0_itemOf_2 ++ dktX0_itemOf_3
def dkwX0_itemOf_1 : List UInt8 := [170, 0, 0, 0, 58, 0, 0, 0, 0, 0, 0, 0, 3, 0, 0, 0, 29, 0, 0, 0, 36, 0, 0, 0, 43, 0, 0, 0, 50]
abbrev dktX0_itemOf_1 : List UInt8 := dkwX0_itemOf_1 ++ dktX0_itemOf_2
def dkwX0_itemOf_0 : List UInt8 := [42, 29, 3, 43, 28, 184, 2, 36, 4, 100, 184, 0, 149, 16, 244, 182, 2, 24, 28]
abbrev dktX0_itemOf_0 : List UInt8 := dkwX0_itemOf_0 ++ dktX0_itemOf_1
theorem dksX0_itemOf_0 : cX0_itemOf.data.toList.drop 0 = dktX0_itemOf_0 := by decide +kernel
theorem dksX0_itemOf_1 : cX0_itemOf.data.toList.drop 19 = dktX0_itemOf_1 := dk_seg dksX0_itemOf_0 19 rfl rfl
theorem dksX0_itemOf_2 : cX0_itemOf.data.toList.drop 48 = dktX0_itemOf_2 := dk_seg dksX0_itemOf_1 29 rfl rfl
theorem dksX0_itemOf_3 : cX0_itemOf.data.toList.drop 70 = dktX0_itemOf_3 := dk_seg dksX0_itemOf_2 22 rfl rfl
theorem dX0_itemOf_0 : decode cX0_itemOf 0 = .ok (.aload_n 0, 1) := dk_42 (dk_at dksX0_itemOf_0 0 rfl rfl)
theorem dX0_itemOf_1 : decode cX0_itemOf 1 = .ok (.iload_n 3, 1) := dk_29 (dk_at dksX0_itemOf_0 1 rfl rfl)
theorem dX0_itemOf_2 : decode cX0_itemOf 2 = .ok (.iconst 0, 1) := dk_3 (dk_at dksX0_itemOf_0 2 rfl rfl)
theorem dX0_itemOf_3 : decode cX0_itemOf 3 = .ok (.aload_n 1, 1) := dk_43 (dk_at dksX0_itemOf_0 3 rfl rfl)
theorem dX0_itemOf_4 : decode cX0_itemOf 4 = .ok (.iload_n 2, 1) := dk_28 (dk_at dksX0_itemOf_0 4 rfl rfl)
theorem dX0_itemOf_5 : decode cX0_itemOf 5 = .ok (.invokestatic 548, 3) := dk_184 2 36 (dk_at dksX0_itemOf_0 5 rfl rfl)
theorem dX0_itemOf_8 : decode cX0_itemOf 8 = .ok (.iconst 1, 1) := dk_4 (dk_at dksX0_itemOf_0 8 rfl rfl)
theorem dX0_itemOf_9 : decode cX0_itemOf 9 = .ok (.isub, 1) := dk_100 (dk_at dksX0_itemOf_0 9 rfl rfl)
theorem dX0_itemOf_10 : decode cX0_itemOf 10 = .ok (.invokestatic 149, 3) := dk_184 0 149 (dk_at dksX0_itemOf_0 10 rfl rfl)
theorem dX0_itemOf_13 : decode cX0_itemOf 13 = .ok (.bipush (-12), 2) := dk_16 244 (dk_at dksX0_itemOf_0 13 rfl rfl)
theorem dX0_itemOf_15 : decode cX0_itemOf 15 = .ok (.invokevirtual 536, 3) := dk_182 2 24 (dk_at dksX0_itemOf_0 15 rfl rfl)
theorem dX0_itemOf_18 : decode cX0_itemOf 18 = .ok (.iload_n 2, 1) := dk_28 (dk_at dksX0_itemOf_0 18 rfl rfl)
theorem dX0_itemOf_19 : decode cX0_itemOf 19 = .ok (.tableswitch 58 0 3 #[29, 36, 43, 50], 29) := by decide +kernel
theorem dX0_itemOf_48 : decode cX0_itemOf 48 = .ok (.aload_n 1, 1) := dk_43 (dk_at dksX0_itemOf_2 0 rfl rfl)
theorem dX0_itemOf_49 : decode cX0_itemOf 49 = .ok (.checkcast 528, 3) := dk_192 2 16 (dk_at dksX0_itemOf_2 1 rfl rfl)
theorem dX0_itemOf_52 : decode cX0_itemOf 52 = .ok (.iload_n 3, 1) := dk_29 (dk_at dksX0_itemOf_2 4 rfl rfl)
theorem dX0_itemOf_53 : decode cX0_itemOf 53 = .ok (.baload, 1) := dk_51 (dk_at dksX0_itemOf_2 5 rfl rfl)
theorem dX0_itemOf_54 : decode cX0_itemOf 54 = .ok (.ireturn, 1) := dk_172 (dk_at dksX0_itemOf_2 6 rfl rfl)
theorem dX0_itemOf_55 : decode cX0_itemOf 55 = .ok (.aload_n 1, 1) := dk_43 (dk_at dksX0_itemOf_2 7 rfl rfl)
theorem dX0_itemOf_56 : decode cX0_itemOf 56 = .ok (.checkcast 529, 3) := dk_192 2 17 (dk_at dksX0_itemOf_2 8 rfl rfl)
theorem dX0_itemOf_59 : decode cX0_itemOf 59 = .ok (.iload_n 3, 1) := dk_29 (dk_at dksX0_itemOf_2 11 rfl rfl)
theorem dX0_itemOf_60 : decode cX0_itemOf 60 = .ok (.saload, 1) := dk_53 (dk_at dksX0_itemOf_2 12 rfl rfl)
theorem dX0_itemOf_61 : decode cX0_itemOf 61 = .ok (.ireturn, 1) := dk_172 (dk_at dksX0_itemOf_2 13 rfl rfl)
theorem dX0_itemOf_62 : decode cX0_itemOf 62 = .ok (.aload_n 1, 1) := dk_43 (dk_at dksX0_itemOf_2 14 rfl rfl)
theorem dX0_itemOf_63 : decode cX0_itemOf 63 = .ok (.checkcast 531, 3) := dk_192 2 19 (dk_at dksX0_itemOf_2 15 rfl rfl)
theorem dX0_itemOf_66 : decode cX0_itemOf 66 = .ok (.iload_n 3, 1) := dk_29 (dk_at dksX0_itemOf_2 18 rfl rfl)
theorem dX0_itemOf_67 : decode cX0_itemOf 67 = .ok (.iaload, 1) := dk_46 (dk_at dksX0_itemOf_2 19 rfl rfl)
theorem dX0_itemOf_68 : decode cX0_itemOf 68 = .ok (.ireturn, 1) := dk_172 (dk_at dksX0_itemOf_2 20 rfl rfl)
theorem dX0_itemOf_69 : decode cX0_itemOf 69 = .ok (.aload_n 1, 1) := dk_43 (dk_at dksX0_itemOf_2 21 rfl rfl)
theorem dX0_itemOf_70 : decode cX0_itemOf 70 = .ok (.checkcast 532, 3) := dk_192 2 20 (dk_at dksX0_itemOf_3 0 rfl rfl)
theorem dX0_itemOf_73 : decode cX0_itemOf 73 = .ok (.iload_n 3, 1) := dk_29 (dk_at dksX0_itemOf_3 3 rfl rfl)
theorem dX0_itemOf_74 : decode cX0_itemOf 74 = .ok (.laload, 1) := dk_47 (dk_at dksX0_itemOf_3 4 rfl rfl)
theorem dX0_itemOf_75 : decode cX0_itemOf 75 = .ok (.l2i, 1) := dk_136 (dk_at dksX0_itemOf_3 5 rfl rfl)
theorem dX0_itemOf_76 : decode cX0_itemOf 76 = .ok (.ireturn, 1) := dk_172 (dk_at dksX0_itemOf_3 6 rfl rfl)
theorem dX0_itemOf_77 : decode cX0_itemOf 77 = .ok (.aload_n 1, 1) := dk_43 (dk_at dksX0_itemOf_3 7 rfl rfl)
theorem dX0_itemOf_78 : decode cX0_itemOf 78 = .ok (.checkcast 534, 3) := dk_192 2 22 (dk_at dksX0_itemOf_3 8 rfl rfl)
theorem dX0_itemOf_81 : decode cX0_itemOf 81 = .ok (.iload_n 3, 1) := dk_29 (dk_at dksX0_itemOf_3 11 rfl rfl)
theorem dX0_itemOf_82 : decode cX0_itemOf 82 = .ok (.baload, 1) := dk_51 (dk_at dksX0_itemOf_3 12 rfl rfl)
theorem dX0_itemOf_83 : decode cX0_itemOf 83 = .ok (.ifCond .eq 7, 3) := dk_153 0 7 (dk_at dksX0_itemOf_3 13 rfl rfl)
theorem dX0_itemOf_86 : decode cX0_itemOf 86 = .ok (.iconst 1, 1) := dk_4 (dk_at dksX0_itemOf_3 16 rfl rfl)
theorem dX0_itemOf_87 : decode cX0_itemOf 87 = .ok (.goto 4, 3) := dk_167 0 4 (dk_at dksX0_itemOf_3 17 rfl rfl)
theorem dX0_itemOf_90 : decode cX0_itemOf 90 = .ok (.iconst 0, 1) := dk_3 (dk_at dksX0_itemOf_3 20 rfl rfl)
theorem dX0_itemOf_91 : decode cX0_itemOf 91 = .ok (.ireturn, 1) := dk_172 (dk_at dksX0_itemOf_3 21 rfl rfl)
abbrev cX0_manyOf : ByteArray := prog_1_method_104_code
def yX0_manyOf : MethodName := ⟨RX0, "manyOf", "(Ljava/lang/Object;I)I"⟩
def dkwX0_manyOf_3 : List UInt8 := [42, 192, 2, 22, 190, 172]
abbrev dktX0_manyOf_3 : List UInt8 := dkwX0_manyOf_3 ++ []
def dkwX0_manyOf_2 : List UInt8 := [42, 192, 2, 16, 190, 172, 42, 192, 2, 17, 190, 172, 42, 192, 2, 19, 190, 172, 42, 192, 2, 20, 190, 172]
abbrev dktX0_manyOf_2 : List UInt8 := dkwX0_manyOf_2 ++ dktX0_manyOf_3
def dkwX0_manyOf_1 : List UInt8 := [170, 0, 0, 0, 0, 0, 55, 0, 0, 0, 0, 0, 0, 0, 3, 0, 0, 0, 31, 0, 0, 0, 37, 0, 0, 0, 43, 0, 0, 0, 49]
abbrev dktX0_manyOf_1 : List UInt8 := dkwX0_manyOf_1 ++ dktX0_manyOf_2
def dkwX0_manyOf_0 : List UInt8 := [27]
abbrev dktX0_manyOf_0 : List UInt8 := dkwX0_manyOf_0 ++ dktX0_manyOf_1
theorem dksX0_manyOf_0 : cX0_manyOf.data.toList.drop 0 = dktX0_manyOf_0 := by decide +kernel
theorem dksX0_manyOf_1 : cX0_manyOf.data.toList.drop 1 = dktX0_manyOf_1 := dk_seg dksX0_manyOf_0 1 rfl rfl
theorem dksX0_manyOf_2 : cX0_manyOf.data.toList.drop 32 = dktX0_manyOf_2 := dk_seg dksX0_manyOf_1 31 rfl rfl
theorem dksX0_manyOf_3 : cX0_manyOf.data.toList.drop 56 = dktX0_manyOf_3 := dk_seg dksX0_manyOf_2 24 rfl rfl
theorem dX0_manyOf_0 : decode cX0_manyOf 0 = .ok (.iload_n 1, 1) := dk_27 (dk_at dksX0_manyOf_0 0 rfl rfl)
theorem dX0_manyOf_1 : decode cX0_manyOf 1 = .ok (.tableswitch 55 0 3 #[31, 37, 43, 49], 31) := by decide +kernel
theorem dX0_manyOf_32 : decode cX0_manyOf 32 = .ok (.aload_n 0, 1) := dk_42 (dk_at dksX0_manyOf_2 0 rfl rfl)
theorem dX0_manyOf_33 : decode cX0_manyOf 33 = .ok (.checkcast 528, 3) := dk_192 2 16 (dk_at dksX0_manyOf_2 1 rfl rfl)
theorem dX0_manyOf_36 : decode cX0_manyOf 36 = .ok (.arraylength, 1) := dk_190 (dk_at dksX0_manyOf_2 4 rfl rfl)
theorem dX0_manyOf_37 : decode cX0_manyOf 37 = .ok (.ireturn, 1) := dk_172 (dk_at dksX0_manyOf_2 5 rfl rfl)
theorem dX0_manyOf_38 : decode cX0_manyOf 38 = .ok (.aload_n 0, 1) := dk_42 (dk_at dksX0_manyOf_2 6 rfl rfl)
theorem dX0_manyOf_39 : decode cX0_manyOf 39 = .ok (.checkcast 529, 3) := dk_192 2 17 (dk_at dksX0_manyOf_2 7 rfl rfl)
theorem dX0_manyOf_42 : decode cX0_manyOf 42 = .ok (.arraylength, 1) := dk_190 (dk_at dksX0_manyOf_2 10 rfl rfl)
theorem dX0_manyOf_43 : decode cX0_manyOf 43 = .ok (.ireturn, 1) := dk_172 (dk_at dksX0_manyOf_2 11 rfl rfl)
theorem dX0_manyOf_44 : decode cX0_manyOf 44 = .ok (.aload_n 0, 1) := dk_42 (dk_at dksX0_manyOf_2 12 rfl rfl)
theorem dX0_manyOf_45 : decode cX0_manyOf 45 = .ok (.checkcast 531, 3) := dk_192 2 19 (dk_at dksX0_manyOf_2 13 rfl rfl)
theorem dX0_manyOf_48 : decode cX0_manyOf 48 = .ok (.arraylength, 1) := dk_190 (dk_at dksX0_manyOf_2 16 rfl rfl)
theorem dX0_manyOf_49 : decode cX0_manyOf 49 = .ok (.ireturn, 1) := dk_172 (dk_at dksX0_manyOf_2 17 rfl rfl)
theorem dX0_manyOf_50 : decode cX0_manyOf 50 = .ok (.aload_n 0, 1) := dk_42 (dk_at dksX0_manyOf_2 18 rfl rfl)
theorem dX0_manyOf_51 : decode cX0_manyOf 51 = .ok (.checkcast 532, 3) := dk_192 2 20 (dk_at dksX0_manyOf_2 19 rfl rfl)
theorem dX0_manyOf_54 : decode cX0_manyOf 54 = .ok (.arraylength, 1) := dk_190 (dk_at dksX0_manyOf_2 22 rfl rfl)
theorem dX0_manyOf_55 : decode cX0_manyOf 55 = .ok (.ireturn, 1) := dk_172 (dk_at dksX0_manyOf_2 23 rfl rfl)
theorem dX0_manyOf_56 : decode cX0_manyOf 56 = .ok (.aload_n 0, 1) := dk_42 (dk_at dksX0_manyOf_3 0 rfl rfl)
theorem dX0_manyOf_57 : decode cX0_manyOf 57 = .ok (.checkcast 534, 3) := dk_192 2 22 (dk_at dksX0_manyOf_3 1 rfl rfl)
theorem dX0_manyOf_60 : decode cX0_manyOf 60 = .ok (.arraylength, 1) := dk_190 (dk_at dksX0_manyOf_3 4 rfl rfl)
theorem dX0_manyOf_61 : decode cX0_manyOf 61 = .ok (.ireturn, 1) := dk_172 (dk_at dksX0_manyOf_3 5 rfl rfl)
abbrev cX0_makeAll : ByteArray := prog_1_method_107_code
def yX0_makeAll : MethodName := ⟨RX0, "makeAll", "(III)I"⟩
def dkwX0_makeAll_6 : List UInt8 := [172, 58, 4, 16, 245, 172, 58, 4, 25, 4, 180, 2, 35, 172]
abbrev dktX0_makeAll_6 : List UInt8 := dkwX0_makeAll_6 ++ []
def dkwX0_makeAll_5 : List UInt8 := [156, 0, 7, 3, 167, 0, 4, 4, 96, 54, 6, 132, 7, 1, 167, 255, 168, 21, 6, 172, 58, 4, 16, 243]
abbrev dktX0_makeAll_5 : List UInt8 := dkwX0_makeAll_5 ++ dktX0_makeAll_6
def dkwX0_makeAll_4 : List UInt8 := [153, 0, 34, 42, 21, 8, 182, 1, 133, 154, 0, 6, 167, 0, 22, 21, 6, 42, 21, 8, 182, 1, 142]
abbrev dktX0_makeAll_4 : List UInt8 := dkwX0_makeAll_4 ++ dktX0_makeAll_5
def dkwX0_makeAll_3 : List UInt8 := [16, 244, 182, 2, 24, 42, 25, 4, 3, 28, 21, 7, 96, 182, 2, 40, 54, 8, 42, 21, 8, 182, 1, 120]
abbrev dktX0_makeAll_3 : List UInt8 := dkwX0_makeAll_3 ++ dktX0_makeAll_4
def dkwX0_makeAll_2 : List UInt8 := [162, 0, 88, 42, 28, 155, 0, 18, 28, 21, 5, 4, 100, 21, 7, 100, 163, 0, 7, 4, 167, 0, 4, 3]
abbrev dktX0_makeAll_2 : List UInt8 := dkwX0_makeAll_2 ++ dktX0_makeAll_3
def dkwX0_makeAll_1 : List UInt8 := [50, 180, 2, 10, 58, 4, 25, 4, 3, 184, 2, 36, 54, 5, 3, 54, 6, 3, 54, 7, 21, 7, 29]
abbrev dktX0_makeAll_1 : List UInt8 := dkwX0_makeAll_1 ++ dktX0_makeAll_2
def dkwX0_makeAll_0 : List UInt8 := [27, 184, 2, 3, 153, 0, 13, 29, 3, 16, 20, 184, 0, 149, 154, 0, 5, 2, 172, 42, 180, 0, 136, 27]
abbrev dktX0_makeAll_0 : List UInt8 := dkwX0_makeAll_0 ++ dktX0_makeAll_1
theorem dksX0_makeAll_0 : cX0_makeAll.data.toList.drop 0 = dktX0_makeAll_0 := by decide +kernel
theorem dksX0_makeAll_1 : cX0_makeAll.data.toList.drop 24 = dktX0_makeAll_1 := dk_seg dksX0_makeAll_0 24 rfl rfl
theorem dksX0_makeAll_2 : cX0_makeAll.data.toList.drop 47 = dktX0_makeAll_2 := dk_seg dksX0_makeAll_1 23 rfl rfl
theorem dksX0_makeAll_3 : cX0_makeAll.data.toList.drop 71 = dktX0_makeAll_3 := dk_seg dksX0_makeAll_2 24 rfl rfl
theorem dksX0_makeAll_4 : cX0_makeAll.data.toList.drop 95 = dktX0_makeAll_4 := dk_seg dksX0_makeAll_3 24 rfl rfl
theorem dksX0_makeAll_5 : cX0_makeAll.data.toList.drop 118 = dktX0_makeAll_5 := dk_seg dksX0_makeAll_4 23 rfl rfl
theorem dksX0_makeAll_6 : cX0_makeAll.data.toList.drop 142 = dktX0_makeAll_6 := dk_seg dksX0_makeAll_5 24 rfl rfl
theorem dX0_makeAll_0 : decode cX0_makeAll 0 = .ok (.iload_n 1, 1) := dk_27 (dk_at dksX0_makeAll_0 0 rfl rfl)
theorem dX0_makeAll_1 : decode cX0_makeAll 1 = .ok (.invokestatic 515, 3) := dk_184 2 3 (dk_at dksX0_makeAll_0 1 rfl rfl)
theorem dX0_makeAll_4 : decode cX0_makeAll 4 = .ok (.ifCond .eq 13, 3) := dk_153 0 13 (dk_at dksX0_makeAll_0 4 rfl rfl)
theorem dX0_makeAll_7 : decode cX0_makeAll 7 = .ok (.iload_n 3, 1) := dk_29 (dk_at dksX0_makeAll_0 7 rfl rfl)
theorem dX0_makeAll_8 : decode cX0_makeAll 8 = .ok (.iconst 0, 1) := dk_3 (dk_at dksX0_makeAll_0 8 rfl rfl)
theorem dX0_makeAll_9 : decode cX0_makeAll 9 = .ok (.bipush 20, 2) := dk_16 20 (dk_at dksX0_makeAll_0 9 rfl rfl)
theorem dX0_makeAll_11 : decode cX0_makeAll 11 = .ok (.invokestatic 149, 3) := dk_184 0 149 (dk_at dksX0_makeAll_0 11 rfl rfl)
theorem dX0_makeAll_14 : decode cX0_makeAll 14 = .ok (.ifCond .ne 5, 3) := dk_154 0 5 (dk_at dksX0_makeAll_0 14 rfl rfl)
theorem dX0_makeAll_17 : decode cX0_makeAll 17 = .ok (.iconst (-1), 1) := dk_2 (dk_at dksX0_makeAll_0 17 rfl rfl)
theorem dX0_makeAll_18 : decode cX0_makeAll 18 = .ok (.ireturn, 1) := dk_172 (dk_at dksX0_makeAll_0 18 rfl rfl)
theorem dX0_makeAll_19 : decode cX0_makeAll 19 = .ok (.aload_n 0, 1) := dk_42 (dk_at dksX0_makeAll_0 19 rfl rfl)
theorem dX0_makeAll_20 : decode cX0_makeAll 20 = .ok (.getfield 136, 3) := dk_180 0 136 (dk_at dksX0_makeAll_0 20 rfl rfl)
theorem dX0_makeAll_23 : decode cX0_makeAll 23 = .ok (.iload_n 1, 1) := dk_27 (dk_at dksX0_makeAll_0 23 rfl rfl)
theorem dX0_makeAll_24 : decode cX0_makeAll 24 = .ok (.aaload, 1) := dk_50 (dk_at dksX0_makeAll_1 0 rfl rfl)
theorem dX0_makeAll_25 : decode cX0_makeAll 25 = .ok (.getfield 522, 3) := dk_180 2 10 (dk_at dksX0_makeAll_1 1 rfl rfl)
theorem dX0_makeAll_28 : decode cX0_makeAll 28 = .ok (.astore 4, 2) := dk_58 4 (dk_at dksX0_makeAll_1 4 rfl rfl)
theorem dX0_makeAll_30 : decode cX0_makeAll 30 = .ok (.aload 4, 2) := dk_25 4 (dk_at dksX0_makeAll_1 6 rfl rfl)
theorem dX0_makeAll_32 : decode cX0_makeAll 32 = .ok (.iconst 0, 1) := dk_3 (dk_at dksX0_makeAll_1 8 rfl rfl)
theorem dX0_makeAll_33 : decode cX0_makeAll 33 = .ok (.invokestatic 548, 3) := dk_184 2 36 (dk_at dksX0_makeAll_1 9 rfl rfl)
theorem dX0_makeAll_36 : decode cX0_makeAll 36 = .ok (.istore 5, 2) := dk_54 5 (dk_at dksX0_makeAll_1 12 rfl rfl)
theorem dX0_makeAll_38 : decode cX0_makeAll 38 = .ok (.iconst 0, 1) := dk_3 (dk_at dksX0_makeAll_1 14 rfl rfl)
theorem dX0_makeAll_39 : decode cX0_makeAll 39 = .ok (.istore 6, 2) := dk_54 6 (dk_at dksX0_makeAll_1 15 rfl rfl)
theorem dX0_makeAll_41 : decode cX0_makeAll 41 = .ok (.iconst 0, 1) := dk_3 (dk_at dksX0_makeAll_1 17 rfl rfl)
theorem dX0_makeAll_42 : decode cX0_makeAll 42 = .ok (.istore 7, 2) := dk_54 7 (dk_at dksX0_makeAll_1 18 rfl rfl)
theorem dX0_makeAll_44 : decode cX0_makeAll 44 = .ok (.iload 7, 2) := dk_21 7 (dk_at dksX0_makeAll_1 20 rfl rfl)
theorem dX0_makeAll_46 : decode cX0_makeAll 46 = .ok (.iload_n 3, 1) := dk_29 (dk_at dksX0_makeAll_1 22 rfl rfl)
theorem dX0_makeAll_47 : decode cX0_makeAll 47 = .ok (.if_icmp .ge 88, 3) := dk_162 0 88 (dk_at dksX0_makeAll_2 0 rfl rfl)
theorem dX0_makeAll_50 : decode cX0_makeAll 50 = .ok (.aload_n 0, 1) := dk_42 (dk_at dksX0_makeAll_2 3 rfl rfl)
theorem dX0_makeAll_51 : decode cX0_makeAll 51 = .ok (.iload_n 2, 1) := dk_28 (dk_at dksX0_makeAll_2 4 rfl rfl)
theorem dX0_makeAll_52 : decode cX0_makeAll 52 = .ok (.ifCond .lt 18, 3) := dk_155 0 18 (dk_at dksX0_makeAll_2 5 rfl rfl)
theorem dX0_makeAll_55 : decode cX0_makeAll 55 = .ok (.iload_n 2, 1) := dk_28 (dk_at dksX0_makeAll_2 8 rfl rfl)
theorem dX0_makeAll_56 : decode cX0_makeAll 56 = .ok (.iload 5, 2) := dk_21 5 (dk_at dksX0_makeAll_2 9 rfl rfl)
theorem dX0_makeAll_58 : decode cX0_makeAll 58 = .ok (.iconst 1, 1) := dk_4 (dk_at dksX0_makeAll_2 11 rfl rfl)
theorem dX0_makeAll_59 : decode cX0_makeAll 59 = .ok (.isub, 1) := dk_100 (dk_at dksX0_makeAll_2 12 rfl rfl)
theorem dX0_makeAll_60 : decode cX0_makeAll 60 = .ok (.iload 7, 2) := dk_21 7 (dk_at dksX0_makeAll_2 13 rfl rfl)
theorem dX0_makeAll_62 : decode cX0_makeAll 62 = .ok (.isub, 1) := dk_100 (dk_at dksX0_makeAll_2 15 rfl rfl)
theorem dX0_makeAll_63 : decode cX0_makeAll 63 = .ok (.if_icmp .gt 7, 3) := dk_163 0 7 (dk_at dksX0_makeAll_2 16 rfl rfl)
theorem dX0_makeAll_66 : decode cX0_makeAll 66 = .ok (.iconst 1, 1) := dk_4 (dk_at dksX0_makeAll_2 19 rfl rfl)
theorem dX0_makeAll_67 : decode cX0_makeAll 67 = .ok (.goto 4, 3) := dk_167 0 4 (dk_at dksX0_makeAll_2 20 rfl rfl)
theorem dX0_makeAll_70 : decode cX0_makeAll 70 = .ok (.iconst 0, 1) := dk_3 (dk_at dksX0_makeAll_2 23 rfl rfl)
theorem dX0_makeAll_71 : decode cX0_makeAll 71 = .ok (.bipush (-12), 2) := dk_16 244 (dk_at dksX0_makeAll_3 0 rfl rfl)
theorem dX0_makeAll_73 : decode cX0_makeAll 73 = .ok (.invokevirtual 536, 3) := dk_182 2 24 (dk_at dksX0_makeAll_3 2 rfl rfl)
theorem dX0_makeAll_76 : decode cX0_makeAll 76 = .ok (.aload_n 0, 1) := dk_42 (dk_at dksX0_makeAll_3 5 rfl rfl)
theorem dX0_makeAll_77 : decode cX0_makeAll 77 = .ok (.aload 4, 2) := dk_25 4 (dk_at dksX0_makeAll_3 6 rfl rfl)
theorem dX0_makeAll_79 : decode cX0_makeAll 79 = .ok (.iconst 0, 1) := dk_3 (dk_at dksX0_makeAll_3 8 rfl rfl)
theorem dX0_makeAll_80 : decode cX0_makeAll 80 = .ok (.iload_n 2, 1) := dk_28 (dk_at dksX0_makeAll_3 9 rfl rfl)
theorem dX0_makeAll_81 : decode cX0_makeAll 81 = .ok (.iload 7, 2) := dk_21 7 (dk_at dksX0_makeAll_3 10 rfl rfl)
theorem dX0_makeAll_83 : decode cX0_makeAll 83 = .ok (.iadd, 1) := dk_96 (dk_at dksX0_makeAll_3 12 rfl rfl)
theorem dX0_makeAll_84 : decode cX0_makeAll 84 = .ok (.invokevirtual 552, 3) := dk_182 2 40 (dk_at dksX0_makeAll_3 13 rfl rfl)
theorem dX0_makeAll_87 : decode cX0_makeAll 87 = .ok (.istore 8, 2) := dk_54 8 (dk_at dksX0_makeAll_3 16 rfl rfl)
theorem dX0_makeAll_89 : decode cX0_makeAll 89 = .ok (.aload_n 0, 1) := dk_42 (dk_at dksX0_makeAll_3 18 rfl rfl)
theorem dX0_makeAll_90 : decode cX0_makeAll 90 = .ok (.iload 8, 2) := dk_21 8 (dk_at dksX0_makeAll_3 19 rfl rfl)
theorem dX0_makeAll_92 : decode cX0_makeAll 92 = .ok (.invokevirtual 376, 3) := dk_182 1 120 (dk_at dksX0_makeAll_3 21 rfl rfl)
theorem dX0_makeAll_95 : decode cX0_makeAll 95 = .ok (.ifCond .eq 34, 3) := dk_153 0 34 (dk_at dksX0_makeAll_4 0 rfl rfl)
theorem dX0_makeAll_98 : decode cX0_makeAll 98 = .ok (.aload_n 0, 1) := dk_42 (dk_at dksX0_makeAll_4 3 rfl rfl)
theorem dX0_makeAll_99 : decode cX0_makeAll 99 = .ok (.iload 8, 2) := dk_21 8 (dk_at dksX0_makeAll_4 4 rfl rfl)
theorem dX0_makeAll_101 : decode cX0_makeAll 101 = .ok (.invokevirtual 389, 3) := dk_182 1 133 (dk_at dksX0_makeAll_4 6 rfl rfl)
theorem dX0_makeAll_104 : decode cX0_makeAll 104 = .ok (.ifCond .ne 6, 3) := dk_154 0 6 (dk_at dksX0_makeAll_4 9 rfl rfl)
theorem dX0_makeAll_107 : decode cX0_makeAll 107 = .ok (.goto 22, 3) := dk_167 0 22 (dk_at dksX0_makeAll_4 12 rfl rfl)
theorem dX0_makeAll_110 : decode cX0_makeAll 110 = .ok (.iload 6, 2) := dk_21 6 (dk_at dksX0_makeAll_4 15 rfl rfl)
theorem dX0_makeAll_112 : decode cX0_makeAll 112 = .ok (.aload_n 0, 1) := dk_42 (dk_at dksX0_makeAll_4 17 rfl rfl)
theorem dX0_makeAll_113 : decode cX0_makeAll 113 = .ok (.iload 8, 2) := dk_21 8 (dk_at dksX0_makeAll_4 18 rfl rfl)
theorem dX0_makeAll_115 : decode cX0_makeAll 115 = .ok (.invokevirtual 398, 3) := dk_182 1 142 (dk_at dksX0_makeAll_4 20 rfl rfl)
theorem dX0_makeAll_118 : decode cX0_makeAll 118 = .ok (.ifCond .ge 7, 3) := dk_156 0 7 (dk_at dksX0_makeAll_5 0 rfl rfl)
theorem dX0_makeAll_121 : decode cX0_makeAll 121 = .ok (.iconst 0, 1) := dk_3 (dk_at dksX0_makeAll_5 3 rfl rfl)
theorem dX0_makeAll_122 : decode cX0_makeAll 122 = .ok (.goto 4, 3) := dk_167 0 4 (dk_at dksX0_makeAll_5 4 rfl rfl)
theorem dX0_makeAll_125 : decode cX0_makeAll 125 = .ok (.iconst 1, 1) := dk_4 (dk_at dksX0_makeAll_5 7 rfl rfl)
theorem dX0_makeAll_126 : decode cX0_makeAll 126 = .ok (.iadd, 1) := dk_96 (dk_at dksX0_makeAll_5 8 rfl rfl)
theorem dX0_makeAll_127 : decode cX0_makeAll 127 = .ok (.istore 6, 2) := dk_54 6 (dk_at dksX0_makeAll_5 9 rfl rfl)
theorem dX0_makeAll_129 : decode cX0_makeAll 129 = .ok (.iinc 7 1, 3) := dk_132 7 1 (dk_at dksX0_makeAll_5 11 rfl rfl)
theorem dX0_makeAll_132 : decode cX0_makeAll 132 = .ok (.goto (-88), 3) := dk_167 255 168 (dk_at dksX0_makeAll_5 14 rfl rfl)
theorem dX0_makeAll_135 : decode cX0_makeAll 135 = .ok (.iload 6, 2) := dk_21 6 (dk_at dksX0_makeAll_5 17 rfl rfl)
theorem dX0_makeAll_137 : decode cX0_makeAll 137 = .ok (.ireturn, 1) := dk_172 (dk_at dksX0_makeAll_5 19 rfl rfl)
theorem dX0_makeAll_138 : decode cX0_makeAll 138 = .ok (.astore 4, 2) := dk_58 4 (dk_at dksX0_makeAll_5 20 rfl rfl)
theorem dX0_makeAll_140 : decode cX0_makeAll 140 = .ok (.bipush (-13), 2) := dk_16 243 (dk_at dksX0_makeAll_5 22 rfl rfl)
theorem dX0_makeAll_142 : decode cX0_makeAll 142 = .ok (.ireturn, 1) := dk_172 (dk_at dksX0_makeAll_6 0 rfl rfl)
theorem dX0_makeAll_143 : decode cX0_makeAll 143 = .ok (.astore 4, 2) := dk_58 4 (dk_at dksX0_makeAll_6 1 rfl rfl)
theorem dX0_makeAll_145 : decode cX0_makeAll 145 = .ok (.bipush (-11), 2) := dk_16 245 (dk_at dksX0_makeAll_6 3 rfl rfl)
theorem dX0_makeAll_147 : decode cX0_makeAll 147 = .ok (.ireturn, 1) := dk_172 (dk_at dksX0_makeAll_6 5 rfl rfl)
theorem dX0_makeAll_148 : decode cX0_makeAll 148 = .ok (.astore 4, 2) := dk_58 4 (dk_at dksX0_makeAll_6 6 rfl rfl)
theorem dX0_makeAll_150 : decode cX0_makeAll 150 = .ok (.aload 4, 2) := dk_25 4 (dk_at dksX0_makeAll_6 8 rfl rfl)
theorem dX0_makeAll_152 : decode cX0_makeAll 152 = .ok (.getfield 547, 3) := dk_180 2 35 (dk_at dksX0_makeAll_6 10 rfl rfl)
theorem dX0_makeAll_155 : decode cX0_makeAll 155 = .ok (.ireturn, 1) := dk_172 (dk_at dksX0_makeAll_6 13 rfl rfl)
abbrev cX0_wouldCost : ByteArray := prog_1_method_108_code
def yX0_wouldCost : MethodName := ⟨RX0, "wouldCost", "(III)I"⟩
def dkwX0_wouldCost_10 : List UInt8 := [182, 1, 246, 25, 9, 191]
abbrev dktX0_wouldCost_10 : List UInt8 := dkwX0_wouldCost_10 ++ []
def dkwX0_wouldCost_9 : List UInt8 := [180, 0, 47, 42, 180, 0, 54, 182, 1, 246, 21, 5, 172, 58, 9, 42, 180, 0, 47, 42, 180, 0, 54]
abbrev dktX0_wouldCost_9 : List UInt8 := dkwX0_wouldCost_9 ++ dktX0_wouldCost_10
def dkwX0_wouldCost_8 : List UInt8 := [42, 180, 0, 47, 42, 180, 0, 54, 182, 1, 246, 21, 5, 172, 58, 4, 25, 4, 180, 2, 35, 54, 5, 42]
abbrev dktX0_wouldCost_8 : List UInt8 := dkwX0_wouldCost_8 ++ dktX0_wouldCost_9
def dkwX0_wouldCost_7 : List UInt8 := [16, 243, 54, 5, 42, 180, 0, 47, 42, 180, 0, 54, 182, 1, 246, 21, 5, 172, 58, 4, 16, 245, 54, 5]
abbrev dktX0_wouldCost_7 : List UInt8 := dkwX0_wouldCost_7 ++ dktX0_wouldCost_8
def dkwX0_wouldCost_6 : List UInt8 := [167, 255, 168, 21, 6, 54, 7, 42, 180, 0, 47, 42, 180, 0, 54, 182, 1, 246, 21, 7, 172, 58, 4]
abbrev dktX0_wouldCost_6 : List UInt8 := dkwX0_wouldCost_6 ++ dktX0_wouldCost_7
def dkwX0_wouldCost_5 : List UInt8 := [4, 167, 0, 4, 3, 16, 252, 182, 2, 24, 21, 6, 42, 21, 8, 182, 1, 136, 96, 54, 6, 132, 7, 1]
abbrev dktX0_wouldCost_5 : List UInt8 := dkwX0_wouldCost_5 ++ dktX0_wouldCost_6
def dkwX0_wouldCost_4 : List UInt8 := [182, 2, 40, 54, 8, 42, 42, 21, 8, 182, 1, 120, 153, 0, 16, 42, 21, 8, 182, 1, 133, 153, 0, 7]
abbrev dktX0_wouldCost_4 : List UInt8 := dkwX0_wouldCost_4 ++ dktX0_wouldCost_5
def dkwX0_wouldCost_3 : List UInt8 := [21, 7, 100, 163, 0, 7, 4, 167, 0, 4, 3, 16, 244, 182, 2, 24, 42, 25, 4, 3, 28, 21, 7, 96]
abbrev dktX0_wouldCost_3 : List UInt8 := dkwX0_wouldCost_3 ++ dktX0_wouldCost_4
def dkwX0_wouldCost_2 : List UInt8 := [54, 5, 3, 54, 6, 3, 54, 7, 21, 7, 29, 162, 0, 88, 42, 28, 155, 0, 18, 28, 21, 5, 4, 100]
abbrev dktX0_wouldCost_2 : List UInt8 := dkwX0_wouldCost_2 ++ dktX0_wouldCost_3
def dkwX0_wouldCost_1 : List UInt8 := [180, 0, 47, 182, 1, 246, 42, 180, 0, 136, 27, 50, 180, 2, 10, 58, 4, 25, 4, 3, 184, 2, 36]
abbrev dktX0_wouldCost_1 : List UInt8 := dkwX0_wouldCost_1 ++ dktX0_wouldCost_2
def dkwX0_wouldCost_0 : List UInt8 := [27, 184, 2, 3, 153, 0, 13, 29, 3, 16, 20, 184, 0, 149, 154, 0, 5, 2, 172, 42, 180, 0, 54, 42]
abbrev dktX0_wouldCost_0 : List UInt8 := dkwX0_wouldCost_0 ++ dktX0_wouldCost_1
theorem dksX0_wouldCost_0 : cX0_wouldCost.data.toList.drop 0 = dktX0_wouldCost_0 := by decide +kernel
theorem dksX0_wouldCost_1 : cX0_wouldCost.data.toList.drop 24 = dktX0_wouldCost_1 := dk_seg dksX0_wouldCost_0 24 rfl rfl
theorem dksX0_wouldCost_2 : cX0_wouldCost.data.toList.drop 47 = dktX0_wouldCost_2 := dk_seg dksX0_wouldCost_1 23 rfl rfl
theorem dksX0_wouldCost_3 : cX0_wouldCost.data.toList.drop 71 = dktX0_wouldCost_3 := dk_seg dksX0_wouldCost_2 24 rfl rfl
theorem dksX0_wouldCost_4 : cX0_wouldCost.data.toList.drop 95 = dktX0_wouldCost_4 := dk_seg dksX0_wouldCost_3 24 rfl rfl
theorem dksX0_wouldCost_5 : cX0_wouldCost.data.toList.drop 119 = dktX0_wouldCost_5 := dk_seg dksX0_wouldCost_4 24 rfl rfl
theorem dksX0_wouldCost_6 : cX0_wouldCost.data.toList.drop 143 = dktX0_wouldCost_6 := dk_seg dksX0_wouldCost_5 24 rfl rfl
theorem dksX0_wouldCost_7 : cX0_wouldCost.data.toList.drop 166 = dktX0_wouldCost_7 := dk_seg dksX0_wouldCost_6 23 rfl rfl
theorem dksX0_wouldCost_8 : cX0_wouldCost.data.toList.drop 190 = dktX0_wouldCost_8 := dk_seg dksX0_wouldCost_7 24 rfl rfl
theorem dksX0_wouldCost_9 : cX0_wouldCost.data.toList.drop 214 = dktX0_wouldCost_9 := dk_seg dksX0_wouldCost_8 24 rfl rfl
theorem dksX0_wouldCost_10 : cX0_wouldCost.data.toList.drop 237 = dktX0_wouldCost_10 := dk_seg dksX0_wouldCost_9 23 rfl rfl
theorem dX0_wouldCost_0 : decode cX0_wouldCost 0 = .ok (.iload_n 1, 1) := dk_27 (dk_at dksX0_wouldCost_0 0 rfl rfl)
theorem dX0_wouldCost_1 : decode cX0_wouldCost 1 = .ok (.invokestatic 515, 3) := dk_184 2 3 (dk_at dksX0_wouldCost_0 1 rfl rfl)
theorem dX0_wouldCost_4 : decode cX0_wouldCost 4 = .ok (.ifCond .eq 13, 3) := dk_153 0 13 (dk_at dksX0_wouldCost_0 4 rfl rfl)
theorem dX0_wouldCost_7 : decode cX0_wouldCost 7 = .ok (.iload_n 3, 1) := dk_29 (dk_at dksX0_wouldCost_0 7 rfl rfl)
theorem dX0_wouldCost_8 : decode cX0_wouldCost 8 = .ok (.iconst 0, 1) := dk_3 (dk_at dksX0_wouldCost_0 8 rfl rfl)
theorem dX0_wouldCost_9 : decode cX0_wouldCost 9 = .ok (.bipush 20, 2) := dk_16 20 (dk_at dksX0_wouldCost_0 9 rfl rfl)
theorem dX0_wouldCost_11 : decode cX0_wouldCost 11 = .ok (.invokestatic 149, 3) := dk_184 0 149 (dk_at dksX0_wouldCost_0 11 rfl rfl)
theorem dX0_wouldCost_14 : decode cX0_wouldCost 14 = .ok (.ifCond .ne 5, 3) := dk_154 0 5 (dk_at dksX0_wouldCost_0 14 rfl rfl)
theorem dX0_wouldCost_17 : decode cX0_wouldCost 17 = .ok (.iconst (-1), 1) := dk_2 (dk_at dksX0_wouldCost_0 17 rfl rfl)
theorem dX0_wouldCost_18 : decode cX0_wouldCost 18 = .ok (.ireturn, 1) := dk_172 (dk_at dksX0_wouldCost_0 18 rfl rfl)
theorem dX0_wouldCost_19 : decode cX0_wouldCost 19 = .ok (.aload_n 0, 1) := dk_42 (dk_at dksX0_wouldCost_0 19 rfl rfl)
theorem dX0_wouldCost_20 : decode cX0_wouldCost 20 = .ok (.getfield 54, 3) := dk_180 0 54 (dk_at dksX0_wouldCost_0 20 rfl rfl)
theorem dX0_wouldCost_23 : decode cX0_wouldCost 23 = .ok (.aload_n 0, 1) := dk_42 (dk_at dksX0_wouldCost_0 23 rfl rfl)
theorem dX0_wouldCost_24 : decode cX0_wouldCost 24 = .ok (.getfield 47, 3) := dk_180 0 47 (dk_at dksX0_wouldCost_1 0 rfl rfl)
theorem dX0_wouldCost_27 : decode cX0_wouldCost 27 = .ok (.invokevirtual 502, 3) := dk_182 1 246 (dk_at dksX0_wouldCost_1 3 rfl rfl)
theorem dX0_wouldCost_30 : decode cX0_wouldCost 30 = .ok (.aload_n 0, 1) := dk_42 (dk_at dksX0_wouldCost_1 6 rfl rfl)
theorem dX0_wouldCost_31 : decode cX0_wouldCost 31 = .ok (.getfield 136, 3) := dk_180 0 136 (dk_at dksX0_wouldCost_1 7 rfl rfl)
theorem dX0_wouldCost_34 : decode cX0_wouldCost 34 = .ok (.iload_n 1, 1) := dk_27 (dk_at dksX0_wouldCost_1 10 rfl rfl)
theorem dX0_wouldCost_35 : decode cX0_wouldCost 35 = .ok (.aaload, 1) := dk_50 (dk_at dksX0_wouldCost_1 11 rfl rfl)
theorem dX0_wouldCost_36 : decode cX0_wouldCost 36 = .ok (.getfield 522, 3) := dk_180 2 10 (dk_at dksX0_wouldCost_1 12 rfl rfl)
theorem dX0_wouldCost_39 : decode cX0_wouldCost 39 = .ok (.astore 4, 2) := dk_58 4 (dk_at dksX0_wouldCost_1 15 rfl rfl)
theorem dX0_wouldCost_41 : decode cX0_wouldCost 41 = .ok (.aload 4, 2) := dk_25 4 (dk_at dksX0_wouldCost_1 17 rfl rfl)
theorem dX0_wouldCost_43 : decode cX0_wouldCost 43 = .ok (.iconst 0, 1) := dk_3 (dk_at dksX0_wouldCost_1 19 rfl rfl)
theorem dX0_wouldCost_44 : decode cX0_wouldCost 44 = .ok (.invokestatic 548, 3) := dk_184 2 36 (dk_at dksX0_wouldCost_1 20 rfl rfl)
theorem dX0_wouldCost_47 : decode cX0_wouldCost 47 = .ok (.istore 5, 2) := dk_54 5 (dk_at dksX0_wouldCost_2 0 rfl rfl)
theorem dX0_wouldCost_49 : decode cX0_wouldCost 49 = .ok (.iconst 0, 1) := dk_3 (dk_at dksX0_wouldCost_2 2 rfl rfl)
theorem dX0_wouldCost_50 : decode cX0_wouldCost 50 = .ok (.istore 6, 2) := dk_54 6 (dk_at dksX0_wouldCost_2 3 rfl rfl)
theorem dX0_wouldCost_52 : decode cX0_wouldCost 52 = .ok (.iconst 0, 1) := dk_3 (dk_at dksX0_wouldCost_2 5 rfl rfl)
theorem dX0_wouldCost_53 : decode cX0_wouldCost 53 = .ok (.istore 7, 2) := dk_54 7 (dk_at dksX0_wouldCost_2 6 rfl rfl)
theorem dX0_wouldCost_55 : decode cX0_wouldCost 55 = .ok (.iload 7, 2) := dk_21 7 (dk_at dksX0_wouldCost_2 8 rfl rfl)
theorem dX0_wouldCost_57 : decode cX0_wouldCost 57 = .ok (.iload_n 3, 1) := dk_29 (dk_at dksX0_wouldCost_2 10 rfl rfl)
theorem dX0_wouldCost_58 : decode cX0_wouldCost 58 = .ok (.if_icmp .ge 88, 3) := dk_162 0 88 (dk_at dksX0_wouldCost_2 11 rfl rfl)
theorem dX0_wouldCost_61 : decode cX0_wouldCost 61 = .ok (.aload_n 0, 1) := dk_42 (dk_at dksX0_wouldCost_2 14 rfl rfl)
theorem dX0_wouldCost_62 : decode cX0_wouldCost 62 = .ok (.iload_n 2, 1) := dk_28 (dk_at dksX0_wouldCost_2 15 rfl rfl)
theorem dX0_wouldCost_63 : decode cX0_wouldCost 63 = .ok (.ifCond .lt 18, 3) := dk_155 0 18 (dk_at dksX0_wouldCost_2 16 rfl rfl)
theorem dX0_wouldCost_66 : decode cX0_wouldCost 66 = .ok (.iload_n 2, 1) := dk_28 (dk_at dksX0_wouldCost_2 19 rfl rfl)
theorem dX0_wouldCost_67 : decode cX0_wouldCost 67 = .ok (.iload 5, 2) := dk_21 5 (dk_at dksX0_wouldCost_2 20 rfl rfl)
theorem dX0_wouldCost_69 : decode cX0_wouldCost 69 = .ok (.iconst 1, 1) := dk_4 (dk_at dksX0_wouldCost_2 22 rfl rfl)
theorem dX0_wouldCost_70 : decode cX0_wouldCost 70 = .ok (.isub, 1) := dk_100 (dk_at dksX0_wouldCost_2 23 rfl rfl)
theorem dX0_wouldCost_71 : decode cX0_wouldCost 71 = .ok (.iload 7, 2) := dk_21 7 (dk_at dksX0_wouldCost_3 0 rfl rfl)
theorem dX0_wouldCost_73 : decode cX0_wouldCost 73 = .ok (.isub, 1) := dk_100 (dk_at dksX0_wouldCost_3 2 rfl rfl)
theorem dX0_wouldCost_74 : decode cX0_wouldCost 74 = .ok (.if_icmp .gt 7, 3) := dk_163 0 7 (dk_at dksX0_wouldCost_3 3 rfl rfl)
theorem dX0_wouldCost_77 : decode cX0_wouldCost 77 = .ok (.iconst 1, 1) := dk_4 (dk_at dksX0_wouldCost_3 6 rfl rfl)
theorem dX0_wouldCost_78 : decode cX0_wouldCost 78 = .ok (.goto 4, 3) := dk_167 0 4 (dk_at dksX0_wouldCost_3 7 rfl rfl)
theorem dX0_wouldCost_81 : decode cX0_wouldCost 81 = .ok (.iconst 0, 1) := dk_3 (dk_at dksX0_wouldCost_3 10 rfl rfl)
theorem dX0_wouldCost_82 : decode cX0_wouldCost 82 = .ok (.bipush (-12), 2) := dk_16 244 (dk_at dksX0_wouldCost_3 11 rfl rfl)
theorem dX0_wouldCost_84 : decode cX0_wouldCost 84 = .ok (.invokevirtual 536, 3) := dk_182 2 24 (dk_at dksX0_wouldCost_3 13 rfl rfl)
theorem dX0_wouldCost_87 : decode cX0_wouldCost 87 = .ok (.aload_n 0, 1) := dk_42 (dk_at dksX0_wouldCost_3 16 rfl rfl)
theorem dX0_wouldCost_88 : decode cX0_wouldCost 88 = .ok (.aload 4, 2) := dk_25 4 (dk_at dksX0_wouldCost_3 17 rfl rfl)
theorem dX0_wouldCost_90 : decode cX0_wouldCost 90 = .ok (.iconst 0, 1) := dk_3 (dk_at dksX0_wouldCost_3 19 rfl rfl)
theorem dX0_wouldCost_91 : decode cX0_wouldCost 91 = .ok (.iload_n 2, 1) := dk_28 (dk_at dksX0_wouldCost_3 20 rfl rfl)
theorem dX0_wouldCost_92 : decode cX0_wouldCost 92 = .ok (.iload 7, 2) := dk_21 7 (dk_at dksX0_wouldCost_3 21 rfl rfl)
theorem dX0_wouldCost_94 : decode cX0_wouldCost 94 = .ok (.iadd, 1) := dk_96 (dk_at dksX0_wouldCost_3 23 rfl rfl)
theorem dX0_wouldCost_95 : decode cX0_wouldCost 95 = .ok (.invokevirtual 552, 3) := dk_182 2 40 (dk_at dksX0_wouldCost_4 0 rfl rfl)
theorem dX0_wouldCost_98 : decode cX0_wouldCost 98 = .ok (.istore 8, 2) := dk_54 8 (dk_at dksX0_wouldCost_4 3 rfl rfl)
theorem dX0_wouldCost_100 : decode cX0_wouldCost 100 = .ok (.aload_n 0, 1) := dk_42 (dk_at dksX0_wouldCost_4 5 rfl rfl)
theorem dX0_wouldCost_101 : decode cX0_wouldCost 101 = .ok (.aload_n 0, 1) := dk_42 (dk_at dksX0_wouldCost_4 6 rfl rfl)
theorem dX0_wouldCost_102 : decode cX0_wouldCost 102 = .ok (.iload 8, 2) := dk_21 8 (dk_at dksX0_wouldCost_4 7 rfl rfl)
theorem dX0_wouldCost_104 : decode cX0_wouldCost 104 = .ok (.invokevirtual 376, 3) := dk_182 1 120 (dk_at dksX0_wouldCost_4 9 rfl rfl)
theorem dX0_wouldCost_107 : decode cX0_wouldCost 107 = .ok (.ifCond .eq 16, 3) := dk_153 0 16 (dk_at dksX0_wouldCost_4 12 rfl rfl)
theorem dX0_wouldCost_110 : decode cX0_wouldCost 110 = .ok (.aload_n 0, 1) := dk_42 (dk_at dksX0_wouldCost_4 15 rfl rfl)
theorem dX0_wouldCost_111 : decode cX0_wouldCost 111 = .ok (.iload 8, 2) := dk_21 8 (dk_at dksX0_wouldCost_4 16 rfl rfl)
theorem dX0_wouldCost_113 : decode cX0_wouldCost 113 = .ok (.invokevirtual 389, 3) := dk_182 1 133 (dk_at dksX0_wouldCost_4 18 rfl rfl)
theorem dX0_wouldCost_116 : decode cX0_wouldCost 116 = .ok (.ifCond .eq 7, 3) := dk_153 0 7 (dk_at dksX0_wouldCost_4 21 rfl rfl)
theorem dX0_wouldCost_119 : decode cX0_wouldCost 119 = .ok (.iconst 1, 1) := dk_4 (dk_at dksX0_wouldCost_5 0 rfl rfl)
theorem dX0_wouldCost_120 : decode cX0_wouldCost 120 = .ok (.goto 4, 3) := dk_167 0 4 (dk_at dksX0_wouldCost_5 1 rfl rfl)
theorem dX0_wouldCost_123 : decode cX0_wouldCost 123 = .ok (.iconst 0, 1) := dk_3 (dk_at dksX0_wouldCost_5 4 rfl rfl)
theorem dX0_wouldCost_124 : decode cX0_wouldCost 124 = .ok (.bipush (-4), 2) := dk_16 252 (dk_at dksX0_wouldCost_5 5 rfl rfl)
theorem dX0_wouldCost_126 : decode cX0_wouldCost 126 = .ok (.invokevirtual 536, 3) := dk_182 2 24 (dk_at dksX0_wouldCost_5 7 rfl rfl)
theorem dX0_wouldCost_129 : decode cX0_wouldCost 129 = .ok (.iload 6, 2) := dk_21 6 (dk_at dksX0_wouldCost_5 10 rfl rfl)
theorem dX0_wouldCost_131 : decode cX0_wouldCost 131 = .ok (.aload_n 0, 1) := dk_42 (dk_at dksX0_wouldCost_5 12 rfl rfl)
theorem dX0_wouldCost_132 : decode cX0_wouldCost 132 = .ok (.iload 8, 2) := dk_21 8 (dk_at dksX0_wouldCost_5 13 rfl rfl)
theorem dX0_wouldCost_134 : decode cX0_wouldCost 134 = .ok (.invokevirtual 392, 3) := dk_182 1 136 (dk_at dksX0_wouldCost_5 15 rfl rfl)
theorem dX0_wouldCost_137 : decode cX0_wouldCost 137 = .ok (.iadd, 1) := dk_96 (dk_at dksX0_wouldCost_5 18 rfl rfl)
theorem dX0_wouldCost_138 : decode cX0_wouldCost 138 = .ok (.istore 6, 2) := dk_54 6 (dk_at dksX0_wouldCost_5 19 rfl rfl)
theorem dX0_wouldCost_140 : decode cX0_wouldCost 140 = .ok (.iinc 7 1, 3) := dk_132 7 1 (dk_at dksX0_wouldCost_5 21 rfl rfl)
theorem dX0_wouldCost_143 : decode cX0_wouldCost 143 = .ok (.goto (-88), 3) := dk_167 255 168 (dk_at dksX0_wouldCost_6 0 rfl rfl)
theorem dX0_wouldCost_146 : decode cX0_wouldCost 146 = .ok (.iload 6, 2) := dk_21 6 (dk_at dksX0_wouldCost_6 3 rfl rfl)
theorem dX0_wouldCost_148 : decode cX0_wouldCost 148 = .ok (.istore 7, 2) := dk_54 7 (dk_at dksX0_wouldCost_6 5 rfl rfl)
theorem dX0_wouldCost_150 : decode cX0_wouldCost 150 = .ok (.aload_n 0, 1) := dk_42 (dk_at dksX0_wouldCost_6 7 rfl rfl)
theorem dX0_wouldCost_151 : decode cX0_wouldCost 151 = .ok (.getfield 47, 3) := dk_180 0 47 (dk_at dksX0_wouldCost_6 8 rfl rfl)
theorem dX0_wouldCost_154 : decode cX0_wouldCost 154 = .ok (.aload_n 0, 1) := dk_42 (dk_at dksX0_wouldCost_6 11 rfl rfl)
theorem dX0_wouldCost_155 : decode cX0_wouldCost 155 = .ok (.getfield 54, 3) := dk_180 0 54 (dk_at dksX0_wouldCost_6 12 rfl rfl)
theorem dX0_wouldCost_158 : decode cX0_wouldCost 158 = .ok (.invokevirtual 502, 3) := dk_182 1 246 (dk_at dksX0_wouldCost_6 15 rfl rfl)
theorem dX0_wouldCost_161 : decode cX0_wouldCost 161 = .ok (.iload 7, 2) := dk_21 7 (dk_at dksX0_wouldCost_6 18 rfl rfl)
theorem dX0_wouldCost_163 : decode cX0_wouldCost 163 = .ok (.ireturn, 1) := dk_172 (dk_at dksX0_wouldCost_6 20 rfl rfl)
theorem dX0_wouldCost_164 : decode cX0_wouldCost 164 = .ok (.astore 4, 2) := dk_58 4 (dk_at dksX0_wouldCost_6 21 rfl rfl)
theorem dX0_wouldCost_166 : decode cX0_wouldCost 166 = .ok (.bipush (-13), 2) := dk_16 243 (dk_at dksX0_wouldCost_7 0 rfl rfl)
theorem dX0_wouldCost_168 : decode cX0_wouldCost 168 = .ok (.istore 5, 2) := dk_54 5 (dk_at dksX0_wouldCost_7 2 rfl rfl)
theorem dX0_wouldCost_170 : decode cX0_wouldCost 170 = .ok (.aload_n 0, 1) := dk_42 (dk_at dksX0_wouldCost_7 4 rfl rfl)
theorem dX0_wouldCost_171 : decode cX0_wouldCost 171 = .ok (.getfield 47, 3) := dk_180 0 47 (dk_at dksX0_wouldCost_7 5 rfl rfl)
theorem dX0_wouldCost_174 : decode cX0_wouldCost 174 = .ok (.aload_n 0, 1) := dk_42 (dk_at dksX0_wouldCost_7 8 rfl rfl)
theorem dX0_wouldCost_175 : decode cX0_wouldCost 175 = .ok (.getfield 54, 3) := dk_180 0 54 (dk_at dksX0_wouldCost_7 9 rfl rfl)
theorem dX0_wouldCost_178 : decode cX0_wouldCost 178 = .ok (.invokevirtual 502, 3) := dk_182 1 246 (dk_at dksX0_wouldCost_7 12 rfl rfl)
theorem dX0_wouldCost_181 : decode cX0_wouldCost 181 = .ok (.iload 5, 2) := dk_21 5 (dk_at dksX0_wouldCost_7 15 rfl rfl)
theorem dX0_wouldCost_183 : decode cX0_wouldCost 183 = .ok (.ireturn, 1) := dk_172 (dk_at dksX0_wouldCost_7 17 rfl rfl)
theorem dX0_wouldCost_184 : decode cX0_wouldCost 184 = .ok (.astore 4, 2) := dk_58 4 (dk_at dksX0_wouldCost_7 18 rfl rfl)
theorem dX0_wouldCost_186 : decode cX0_wouldCost 186 = .ok (.bipush (-11), 2) := dk_16 245 (dk_at dksX0_wouldCost_7 20 rfl rfl)
theorem dX0_wouldCost_188 : decode cX0_wouldCost 188 = .ok (.istore 5, 2) := dk_54 5 (dk_at dksX0_wouldCost_7 22 rfl rfl)
theorem dX0_wouldCost_190 : decode cX0_wouldCost 190 = .ok (.aload_n 0, 1) := dk_42 (dk_at dksX0_wouldCost_8 0 rfl rfl)
theorem dX0_wouldCost_191 : decode cX0_wouldCost 191 = .ok (.getfield 47, 3) := dk_180 0 47 (dk_at dksX0_wouldCost_8 1 rfl rfl)
theorem dX0_wouldCost_194 : decode cX0_wouldCost 194 = .ok (.aload_n 0, 1) := dk_42 (dk_at dksX0_wouldCost_8 4 rfl rfl)
theorem dX0_wouldCost_195 : decode cX0_wouldCost 195 = .ok (.getfield 54, 3) := dk_180 0 54 (dk_at dksX0_wouldCost_8 5 rfl rfl)
theorem dX0_wouldCost_198 : decode cX0_wouldCost 198 = .ok (.invokevirtual 502, 3) := dk_182 1 246 (dk_at dksX0_wouldCost_8 8 rfl rfl)
theorem dX0_wouldCost_201 : decode cX0_wouldCost 201 = .ok (.iload 5, 2) := dk_21 5 (dk_at dksX0_wouldCost_8 11 rfl rfl)
theorem dX0_wouldCost_203 : decode cX0_wouldCost 203 = .ok (.ireturn, 1) := dk_172 (dk_at dksX0_wouldCost_8 13 rfl rfl)
theorem dX0_wouldCost_204 : decode cX0_wouldCost 204 = .ok (.astore 4, 2) := dk_58 4 (dk_at dksX0_wouldCost_8 14 rfl rfl)
theorem dX0_wouldCost_206 : decode cX0_wouldCost 206 = .ok (.aload 4, 2) := dk_25 4 (dk_at dksX0_wouldCost_8 16 rfl rfl)
theorem dX0_wouldCost_208 : decode cX0_wouldCost 208 = .ok (.getfield 547, 3) := dk_180 2 35 (dk_at dksX0_wouldCost_8 18 rfl rfl)
theorem dX0_wouldCost_211 : decode cX0_wouldCost 211 = .ok (.istore 5, 2) := dk_54 5 (dk_at dksX0_wouldCost_8 21 rfl rfl)
theorem dX0_wouldCost_213 : decode cX0_wouldCost 213 = .ok (.aload_n 0, 1) := dk_42 (dk_at dksX0_wouldCost_8 23 rfl rfl)
theorem dX0_wouldCost_214 : decode cX0_wouldCost 214 = .ok (.getfield 47, 3) := dk_180 0 47 (dk_at dksX0_wouldCost_9 0 rfl rfl)
theorem dX0_wouldCost_217 : decode cX0_wouldCost 217 = .ok (.aload_n 0, 1) := dk_42 (dk_at dksX0_wouldCost_9 3 rfl rfl)
theorem dX0_wouldCost_218 : decode cX0_wouldCost 218 = .ok (.getfield 54, 3) := dk_180 0 54 (dk_at dksX0_wouldCost_9 4 rfl rfl)
theorem dX0_wouldCost_221 : decode cX0_wouldCost 221 = .ok (.invokevirtual 502, 3) := dk_182 1 246 (dk_at dksX0_wouldCost_9 7 rfl rfl)
theorem dX0_wouldCost_224 : decode cX0_wouldCost 224 = .ok (.iload 5, 2) := dk_21 5 (dk_at dksX0_wouldCost_9 10 rfl rfl)
theorem dX0_wouldCost_226 : decode cX0_wouldCost 226 = .ok (.ireturn, 1) := dk_172 (dk_at dksX0_wouldCost_9 12 rfl rfl)
theorem dX0_wouldCost_227 : decode cX0_wouldCost 227 = .ok (.astore 9, 2) := dk_58 9 (dk_at dksX0_wouldCost_9 13 rfl rfl)
theorem dX0_wouldCost_229 : decode cX0_wouldCost 229 = .ok (.aload_n 0, 1) := dk_42 (dk_at dksX0_wouldCost_9 15 rfl rfl)
theorem dX0_wouldCost_230 : decode cX0_wouldCost 230 = .ok (.getfield 47, 3) := dk_180 0 47 (dk_at dksX0_wouldCost_9 16 rfl rfl)
theorem dX0_wouldCost_233 : decode cX0_wouldCost 233 = .ok (.aload_n 0, 1) := dk_42 (dk_at dksX0_wouldCost_9 19 rfl rfl)
theorem dX0_wouldCost_234 : decode cX0_wouldCost 234 = .ok (.getfield 54, 3) := dk_180 0 54 (dk_at dksX0_wouldCost_9 20 rfl rfl)
theorem dX0_wouldCost_237 : decode cX0_wouldCost 237 = .ok (.invokevirtual 502, 3) := dk_182 1 246 (dk_at dksX0_wouldCost_10 0 rfl rfl)
theorem dX0_wouldCost_240 : decode cX0_wouldCost 240 = .ok (.aload 9, 2) := dk_25 9 (dk_at dksX0_wouldCost_10 3 rfl rfl)
theorem dX0_wouldCost_242 : decode cX0_wouldCost 242 = .ok (.athrow, 1) := dk_191 (dk_at dksX0_wouldCost_10 5 rfl rfl)
abbrev cX0_shelf : ByteArray := prog_1_method_109_code
def yX0_shelf : MethodName := ⟨RX0, "shelf", "(III)I"⟩
def dkwX0_shelf_3 : List UInt8 := [180, 0, 136, 29, 50, 180, 2, 10, 167, 0, 4, 1, 181, 2, 10, 4, 172]
abbrev dktX0_shelf_3 : List UInt8 := dkwX0_shelf_3 ++ []
def dkwX0_shelf_2 : List UInt8 := [27, 50, 28, 154, 0, 14, 187, 2, 48, 89, 29, 183, 2, 50, 167, 0, 21, 28, 4, 160, 0, 15, 42]
abbrev dktX0_shelf_2 : List UInt8 := dkwX0_shelf_2 ++ dktX0_shelf_3
def dkwX0_shelf_1 : List UInt8 := [184, 2, 3, 153, 0, 15, 28, 154, 0, 13, 42, 29, 182, 0, 185, 154, 0, 5, 2, 172, 42, 180, 0, 132]
abbrev dktX0_shelf_1 : List UInt8 := dkwX0_shelf_1 ++ dktX0_shelf_2
def dkwX0_shelf_0 : List UInt8 := [27, 184, 2, 3, 153, 0, 36, 28, 3, 5, 184, 0, 149, 153, 0, 27, 28, 4, 160, 0, 10, 29]
abbrev dktX0_shelf_0 : List UInt8 := dkwX0_shelf_0 ++ dktX0_shelf_1
theorem dksX0_shelf_0 : cX0_shelf.data.toList.drop 0 = dktX0_shelf_0 := by decide +kernel
theorem dksX0_shelf_1 : cX0_shelf.data.toList.drop 22 = dktX0_shelf_1 := dk_seg dksX0_shelf_0 22 rfl rfl
theorem dksX0_shelf_2 : cX0_shelf.data.toList.drop 46 = dktX0_shelf_2 := dk_seg dksX0_shelf_1 24 rfl rfl
theorem dksX0_shelf_3 : cX0_shelf.data.toList.drop 69 = dktX0_shelf_3 := dk_seg dksX0_shelf_2 23 rfl rfl
theorem dX0_shelf_0 : decode cX0_shelf 0 = .ok (.iload_n 1, 1) := dk_27 (dk_at dksX0_shelf_0 0 rfl rfl)
theorem dX0_shelf_1 : decode cX0_shelf 1 = .ok (.invokestatic 515, 3) := dk_184 2 3 (dk_at dksX0_shelf_0 1 rfl rfl)
theorem dX0_shelf_4 : decode cX0_shelf 4 = .ok (.ifCond .eq 36, 3) := dk_153 0 36 (dk_at dksX0_shelf_0 4 rfl rfl)
theorem dX0_shelf_7 : decode cX0_shelf 7 = .ok (.iload_n 2, 1) := dk_28 (dk_at dksX0_shelf_0 7 rfl rfl)
theorem dX0_shelf_8 : decode cX0_shelf 8 = .ok (.iconst 0, 1) := dk_3 (dk_at dksX0_shelf_0 8 rfl rfl)
theorem dX0_shelf_9 : decode cX0_shelf 9 = .ok (.iconst 2, 1) := dk_5 (dk_at dksX0_shelf_0 9 rfl rfl)
theorem dX0_shelf_10 : decode cX0_shelf 10 = .ok (.invokestatic 149, 3) := dk_184 0 149 (dk_at dksX0_shelf_0 10 rfl rfl)
theorem dX0_shelf_13 : decode cX0_shelf 13 = .ok (.ifCond .eq 27, 3) := dk_153 0 27 (dk_at dksX0_shelf_0 13 rfl rfl)
theorem dX0_shelf_16 : decode cX0_shelf 16 = .ok (.iload_n 2, 1) := dk_28 (dk_at dksX0_shelf_0 16 rfl rfl)
theorem dX0_shelf_17 : decode cX0_shelf 17 = .ok (.iconst 1, 1) := dk_4 (dk_at dksX0_shelf_0 17 rfl rfl)
theorem dX0_shelf_18 : decode cX0_shelf 18 = .ok (.if_icmp .ne 10, 3) := dk_160 0 10 (dk_at dksX0_shelf_0 18 rfl rfl)
theorem dX0_shelf_21 : decode cX0_shelf 21 = .ok (.iload_n 3, 1) := dk_29 (dk_at dksX0_shelf_0 21 rfl rfl)
theorem dX0_shelf_22 : decode cX0_shelf 22 = .ok (.invokestatic 515, 3) := dk_184 2 3 (dk_at dksX0_shelf_1 0 rfl rfl)
theorem dX0_shelf_25 : decode cX0_shelf 25 = .ok (.ifCond .eq 15, 3) := dk_153 0 15 (dk_at dksX0_shelf_1 3 rfl rfl)
theorem dX0_shelf_28 : decode cX0_shelf 28 = .ok (.iload_n 2, 1) := dk_28 (dk_at dksX0_shelf_1 6 rfl rfl)
theorem dX0_shelf_29 : decode cX0_shelf 29 = .ok (.ifCond .ne 13, 3) := dk_154 0 13 (dk_at dksX0_shelf_1 7 rfl rfl)
theorem dX0_shelf_32 : decode cX0_shelf 32 = .ok (.aload_n 0, 1) := dk_42 (dk_at dksX0_shelf_1 10 rfl rfl)
theorem dX0_shelf_33 : decode cX0_shelf 33 = .ok (.iload_n 3, 1) := dk_29 (dk_at dksX0_shelf_1 11 rfl rfl)
theorem dX0_shelf_34 : decode cX0_shelf 34 = .ok (.invokevirtual 185, 3) := dk_182 0 185 (dk_at dksX0_shelf_1 12 rfl rfl)
theorem dX0_shelf_37 : decode cX0_shelf 37 = .ok (.ifCond .ne 5, 3) := dk_154 0 5 (dk_at dksX0_shelf_1 15 rfl rfl)
theorem dX0_shelf_40 : decode cX0_shelf 40 = .ok (.iconst (-1), 1) := dk_2 (dk_at dksX0_shelf_1 18 rfl rfl)
theorem dX0_shelf_41 : decode cX0_shelf 41 = .ok (.ireturn, 1) := dk_172 (dk_at dksX0_shelf_1 19 rfl rfl)
theorem dX0_shelf_42 : decode cX0_shelf 42 = .ok (.aload_n 0, 1) := dk_42 (dk_at dksX0_shelf_1 20 rfl rfl)
theorem dX0_shelf_43 : decode cX0_shelf 43 = .ok (.getfield 132, 3) := dk_180 0 132 (dk_at dksX0_shelf_1 21 rfl rfl)
theorem dX0_shelf_46 : decode cX0_shelf 46 = .ok (.iload_n 1, 1) := dk_27 (dk_at dksX0_shelf_2 0 rfl rfl)
theorem dX0_shelf_47 : decode cX0_shelf 47 = .ok (.aaload, 1) := dk_50 (dk_at dksX0_shelf_2 1 rfl rfl)
theorem dX0_shelf_48 : decode cX0_shelf 48 = .ok (.iload_n 2, 1) := dk_28 (dk_at dksX0_shelf_2 2 rfl rfl)
theorem dX0_shelf_49 : decode cX0_shelf 49 = .ok (.ifCond .ne 14, 3) := dk_154 0 14 (dk_at dksX0_shelf_2 3 rfl rfl)
theorem dX0_shelf_52 : decode cX0_shelf 52 = .ok (.new 560, 3) := dk_187 2 48 (dk_at dksX0_shelf_2 6 rfl rfl)
theorem dX0_shelf_55 : decode cX0_shelf 55 = .ok (.dup, 1) := dk_89 (dk_at dksX0_shelf_2 9 rfl rfl)
theorem dX0_shelf_56 : decode cX0_shelf 56 = .ok (.iload_n 3, 1) := dk_29 (dk_at dksX0_shelf_2 10 rfl rfl)
theorem dX0_shelf_57 : decode cX0_shelf 57 = .ok (.invokespecial 562, 3) := dk_183 2 50 (dk_at dksX0_shelf_2 11 rfl rfl)
theorem dX0_shelf_60 : decode cX0_shelf 60 = .ok (.goto 21, 3) := dk_167 0 21 (dk_at dksX0_shelf_2 14 rfl rfl)
theorem dX0_shelf_63 : decode cX0_shelf 63 = .ok (.iload_n 2, 1) := dk_28 (dk_at dksX0_shelf_2 17 rfl rfl)
theorem dX0_shelf_64 : decode cX0_shelf 64 = .ok (.iconst 1, 1) := dk_4 (dk_at dksX0_shelf_2 18 rfl rfl)
theorem dX0_shelf_65 : decode cX0_shelf 65 = .ok (.if_icmp .ne 15, 3) := dk_160 0 15 (dk_at dksX0_shelf_2 19 rfl rfl)
theorem dX0_shelf_68 : decode cX0_shelf 68 = .ok (.aload_n 0, 1) := dk_42 (dk_at dksX0_shelf_2 22 rfl rfl)
theorem dX0_shelf_69 : decode cX0_shelf 69 = .ok (.getfield 136, 3) := dk_180 0 136 (dk_at dksX0_shelf_3 0 rfl rfl)
theorem dX0_shelf_72 : decode cX0_shelf 72 = .ok (.iload_n 3, 1) := dk_29 (dk_at dksX0_shelf_3 3 rfl rfl)
theorem dX0_shelf_73 : decode cX0_shelf 73 = .ok (.aaload, 1) := dk_50 (dk_at dksX0_shelf_3 4 rfl rfl)
theorem dX0_shelf_74 : decode cX0_shelf 74 = .ok (.getfield 522, 3) := dk_180 2 10 (dk_at dksX0_shelf_3 5 rfl rfl)
theorem dX0_shelf_77 : decode cX0_shelf 77 = .ok (.goto 4, 3) := dk_167 0 4 (dk_at dksX0_shelf_3 8 rfl rfl)
theorem dX0_shelf_80 : decode cX0_shelf 80 = .ok (.aconst_null, 1) := dk_1 (dk_at dksX0_shelf_3 11 rfl rfl)
theorem dX0_shelf_81 : decode cX0_shelf 81 = .ok (.putfield 522, 3) := dk_181 2 10 (dk_at dksX0_shelf_3 12 rfl rfl)
theorem dX0_shelf_84 : decode cX0_shelf 84 = .ok (.iconst 1, 1) := dk_4 (dk_at dksX0_shelf_3 15 rfl rfl)
theorem dX0_shelf_85 : decode cX0_shelf 85 = .ok (.ireturn, 1) := dk_172 (dk_at dksX0_shelf_3 16 rfl rfl)
abbrev cX0_taken : ByteArray := prog_1_method_113_code
def yX0_taken : MethodName := ⟨RX0, "taken", "(II)I"⟩
def dkwX0_taken_1 : List UInt8 := [154, 0, 5, 2, 172, 42, 27, 182, 2, 60, 28, 184, 2, 63, 172, 78, 16, 243, 172, 78, 16, 245, 172]
abbrev dktX0_taken_1 : List UInt8 := dkwX0_taken_1 ++ []
def dkwX0_taken_0 : List UInt8 := [27, 184, 2, 3, 153, 0, 23, 28, 3, 8, 184, 0, 149, 154, 0, 16, 28, 16, 10, 16, 14, 184, 0, 149]
abbrev dktX0_taken_0 : List UInt8 := dkwX0_taken_0 ++ dktX0_taken_1
theorem dksX0_taken_0 : cX0_taken.data.toList.drop 0 = dktX0_taken_0 := by decide +kernel
theorem dksX0_taken_1 : cX0_taken.data.toList.drop 24 = dktX0_taken_1 := dk_seg dksX0_taken_0 24 rfl rfl
theorem dX0_taken_0 : decode cX0_taken 0 = .ok (.iload_n 1, 1) := dk_27 (dk_at dksX0_taken_0 0 rfl rfl)
theorem dX0_taken_1 : decode cX0_taken 1 = .ok (.invokestatic 515, 3) := dk_184 2 3 (dk_at dksX0_taken_0 1 rfl rfl)
theorem dX0_taken_4 : decode cX0_taken 4 = .ok (.ifCond .eq 23, 3) := dk_153 0 23 (dk_at dksX0_taken_0 4 rfl rfl)
theorem dX0_taken_7 : decode cX0_taken 7 = .ok (.iload_n 2, 1) := dk_28 (dk_at dksX0_taken_0 7 rfl rfl)
theorem dX0_taken_8 : decode cX0_taken 8 = .ok (.iconst 0, 1) := dk_3 (dk_at dksX0_taken_0 8 rfl rfl)
theorem dX0_taken_9 : decode cX0_taken 9 = .ok (.iconst 5, 1) := dk_8 (dk_at dksX0_taken_0 9 rfl rfl)
theorem dX0_taken_10 : decode cX0_taken 10 = .ok (.invokestatic 149, 3) := dk_184 0 149 (dk_at dksX0_taken_0 10 rfl rfl)
theorem dX0_taken_13 : decode cX0_taken 13 = .ok (.ifCond .ne 16, 3) := dk_154 0 16 (dk_at dksX0_taken_0 13 rfl rfl)
theorem dX0_taken_16 : decode cX0_taken 16 = .ok (.iload_n 2, 1) := dk_28 (dk_at dksX0_taken_0 16 rfl rfl)
theorem dX0_taken_17 : decode cX0_taken 17 = .ok (.bipush 10, 2) := dk_16 10 (dk_at dksX0_taken_0 17 rfl rfl)
theorem dX0_taken_19 : decode cX0_taken 19 = .ok (.bipush 14, 2) := dk_16 14 (dk_at dksX0_taken_0 19 rfl rfl)
theorem dX0_taken_21 : decode cX0_taken 21 = .ok (.invokestatic 149, 3) := dk_184 0 149 (dk_at dksX0_taken_0 21 rfl rfl)
theorem dX0_taken_24 : decode cX0_taken 24 = .ok (.ifCond .ne 5, 3) := dk_154 0 5 (dk_at dksX0_taken_1 0 rfl rfl)
theorem dX0_taken_27 : decode cX0_taken 27 = .ok (.iconst (-1), 1) := dk_2 (dk_at dksX0_taken_1 3 rfl rfl)
theorem dX0_taken_28 : decode cX0_taken 28 = .ok (.ireturn, 1) := dk_172 (dk_at dksX0_taken_1 4 rfl rfl)
theorem dX0_taken_29 : decode cX0_taken 29 = .ok (.aload_n 0, 1) := dk_42 (dk_at dksX0_taken_1 5 rfl rfl)
theorem dX0_taken_30 : decode cX0_taken 30 = .ok (.iload_n 1, 1) := dk_27 (dk_at dksX0_taken_1 6 rfl rfl)
theorem dX0_taken_31 : decode cX0_taken 31 = .ok (.invokevirtual 572, 3) := dk_182 2 60 (dk_at dksX0_taken_1 7 rfl rfl)
theorem dX0_taken_34 : decode cX0_taken 34 = .ok (.iload_n 2, 1) := dk_28 (dk_at dksX0_taken_1 10 rfl rfl)
theorem dX0_taken_35 : decode cX0_taken 35 = .ok (.invokestatic 575, 3) := dk_184 2 63 (dk_at dksX0_taken_1 11 rfl rfl)
theorem dX0_taken_38 : decode cX0_taken 38 = .ok (.ireturn, 1) := dk_172 (dk_at dksX0_taken_1 14 rfl rfl)
theorem dX0_taken_39 : decode cX0_taken 39 = .ok (.astore_n 3, 1) := dk_78 (dk_at dksX0_taken_1 15 rfl rfl)
theorem dX0_taken_40 : decode cX0_taken 40 = .ok (.bipush (-13), 2) := dk_16 243 (dk_at dksX0_taken_1 16 rfl rfl)
theorem dX0_taken_42 : decode cX0_taken 42 = .ok (.ireturn, 1) := dk_172 (dk_at dksX0_taken_1 18 rfl rfl)
theorem dX0_taken_43 : decode cX0_taken 43 = .ok (.astore_n 3, 1) := dk_78 (dk_at dksX0_taken_1 19 rfl rfl)
theorem dX0_taken_44 : decode cX0_taken 44 = .ok (.bipush (-11), 2) := dk_16 245 (dk_at dksX0_taken_1 20 rfl rfl)
theorem dX0_taken_46 : decode cX0_taken 46 = .ok (.ireturn, 1) := dk_172 (dk_at dksX0_taken_1 22 rfl rfl)
abbrev cX0_held : ByteArray := prog_1_method_110_code
def yX0_held : MethodName := ⟨RX0, "held", "(I)Ljava/lang/Object;"⟩
def dkwX0_held_2 : List UInt8 := [176]
abbrev dktX0_held_2 : List UInt8 := dkwX0_held_2 ++ []
def dkwX0_held_1 : List UInt8 := [42, 45, 180, 2, 52, 182, 0, 185, 153, 0, 15, 42, 180, 0, 59, 45, 180, 2, 52, 50, 167, 0, 4, 1]
abbrev dktX0_held_1 : List UInt8 := dkwX0_held_1 ++ dktX0_held_2
def dkwX0_held_0 : List UInt8 := [42, 180, 0, 132, 27, 50, 180, 2, 10, 77, 44, 193, 2, 48, 154, 0, 5, 44, 176, 44, 192, 2, 48, 78]
abbrev dktX0_held_0 : List UInt8 := dkwX0_held_0 ++ dktX0_held_1
theorem dksX0_held_0 : cX0_held.data.toList.drop 0 = dktX0_held_0 := by decide +kernel
theorem dksX0_held_1 : cX0_held.data.toList.drop 24 = dktX0_held_1 := dk_seg dksX0_held_0 24 rfl rfl
theorem dksX0_held_2 : cX0_held.data.toList.drop 48 = dktX0_held_2 := dk_seg dksX0_held_1 24 rfl rfl
theorem dX0_held_0 : decode cX0_held 0 = .ok (.aload_n 0, 1) := dk_42 (dk_at dksX0_held_0 0 rfl rfl)
theorem dX0_held_1 : decode cX0_held 1 = .ok (.getfield 132, 3) := dk_180 0 132 (dk_at dksX0_held_0 1 rfl rfl)
theorem dX0_held_4 : decode cX0_held 4 = .ok (.iload_n 1, 1) := dk_27 (dk_at dksX0_held_0 4 rfl rfl)
theorem dX0_held_5 : decode cX0_held 5 = .ok (.aaload, 1) := dk_50 (dk_at dksX0_held_0 5 rfl rfl)
theorem dX0_held_6 : decode cX0_held 6 = .ok (.getfield 522, 3) := dk_180 2 10 (dk_at dksX0_held_0 6 rfl rfl)
theorem dX0_held_9 : decode cX0_held 9 = .ok (.astore_n 2, 1) := dk_77 (dk_at dksX0_held_0 9 rfl rfl)
theorem dX0_held_10 : decode cX0_held 10 = .ok (.aload_n 2, 1) := dk_44 (dk_at dksX0_held_0 10 rfl rfl)
theorem dX0_held_11 : decode cX0_held 11 = .ok (.instanceof 560, 3) := dk_193 2 48 (dk_at dksX0_held_0 11 rfl rfl)
theorem dX0_held_14 : decode cX0_held 14 = .ok (.ifCond .ne 5, 3) := dk_154 0 5 (dk_at dksX0_held_0 14 rfl rfl)
theorem dX0_held_17 : decode cX0_held 17 = .ok (.aload_n 2, 1) := dk_44 (dk_at dksX0_held_0 17 rfl rfl)
theorem dX0_held_18 : decode cX0_held 18 = .ok (.areturn, 1) := dk_176 (dk_at dksX0_held_0 18 rfl rfl)
theorem dX0_held_19 : decode cX0_held 19 = .ok (.aload_n 2, 1) := dk_44 (dk_at dksX0_held_0 19 rfl rfl)
theorem dX0_held_20 : decode cX0_held 20 = .ok (.checkcast 560, 3) := dk_192 2 48 (dk_at dksX0_held_0 20 rfl rfl)
theorem dX0_held_23 : decode cX0_held 23 = .ok (.astore_n 3, 1) := dk_78 (dk_at dksX0_held_0 23 rfl rfl)
theorem dX0_held_24 : decode cX0_held 24 = .ok (.aload_n 0, 1) := dk_42 (dk_at dksX0_held_1 0 rfl rfl)
theorem dX0_held_25 : decode cX0_held 25 = .ok (.aload_n 3, 1) := dk_45 (dk_at dksX0_held_1 1 rfl rfl)
theorem dX0_held_26 : decode cX0_held 26 = .ok (.getfield 564, 3) := dk_180 2 52 (dk_at dksX0_held_1 2 rfl rfl)
theorem dX0_held_29 : decode cX0_held 29 = .ok (.invokevirtual 185, 3) := dk_182 0 185 (dk_at dksX0_held_1 5 rfl rfl)
theorem dX0_held_32 : decode cX0_held 32 = .ok (.ifCond .eq 15, 3) := dk_153 0 15 (dk_at dksX0_held_1 8 rfl rfl)
theorem dX0_held_35 : decode cX0_held 35 = .ok (.aload_n 0, 1) := dk_42 (dk_at dksX0_held_1 11 rfl rfl)
theorem dX0_held_36 : decode cX0_held 36 = .ok (.getfield 59, 3) := dk_180 0 59 (dk_at dksX0_held_1 12 rfl rfl)
theorem dX0_held_39 : decode cX0_held 39 = .ok (.aload_n 3, 1) := dk_45 (dk_at dksX0_held_1 15 rfl rfl)
theorem dX0_held_40 : decode cX0_held 40 = .ok (.getfield 564, 3) := dk_180 2 52 (dk_at dksX0_held_1 16 rfl rfl)
theorem dX0_held_43 : decode cX0_held 43 = .ok (.aaload, 1) := dk_50 (dk_at dksX0_held_1 19 rfl rfl)
theorem dX0_held_44 : decode cX0_held 44 = .ok (.goto 4, 3) := dk_167 0 4 (dk_at dksX0_held_1 20 rfl rfl)
theorem dX0_held_47 : decode cX0_held 47 = .ok (.aconst_null, 1) := dk_1 (dk_at dksX0_held_1 23 rfl rfl)
theorem dX0_held_48 : decode cX0_held 48 = .ok (.areturn, 1) := dk_176 (dk_at dksX0_held_2 0 rfl rfl)
abbrev cX0_takenAs : ByteArray := prog_1_method_112_code
def yX0_takenAs : MethodName := ⟨RX0, "takenAs", "(Ljava/lang/Object;I)I"⟩
def dkwX0_takenAs_1 : List UInt8 := [182, 2, 58, 172]
abbrev dktX0_takenAs_1 : List UInt8 := dkwX0_takenAs_1 ++ []
def dkwX0_takenAs_0 : List UInt8 := [27, 16, 10, 161, 0, 14, 42, 27, 16, 10, 100, 184, 2, 36, 167, 0, 11, 42, 27, 184, 2, 54]
abbrev dktX0_takenAs_0 : List UInt8 := dkwX0_takenAs_0 ++ dktX0_takenAs_1
theorem dksX0_takenAs_0 : cX0_takenAs.data.toList.drop 0 = dktX0_takenAs_0 := by decide +kernel
theorem dksX0_takenAs_1 : cX0_takenAs.data.toList.drop 22 = dktX0_takenAs_1 := dk_seg dksX0_takenAs_0 22 rfl rfl
theorem dX0_takenAs_0 : decode cX0_takenAs 0 = .ok (.iload_n 1, 1) := dk_27 (dk_at dksX0_takenAs_0 0 rfl rfl)
theorem dX0_takenAs_1 : decode cX0_takenAs 1 = .ok (.bipush 10, 2) := dk_16 10 (dk_at dksX0_takenAs_0 1 rfl rfl)
theorem dX0_takenAs_3 : decode cX0_takenAs 3 = .ok (.if_icmp .lt 14, 3) := dk_161 0 14 (dk_at dksX0_takenAs_0 3 rfl rfl)
theorem dX0_takenAs_6 : decode cX0_takenAs 6 = .ok (.aload_n 0, 1) := dk_42 (dk_at dksX0_takenAs_0 6 rfl rfl)
theorem dX0_takenAs_7 : decode cX0_takenAs 7 = .ok (.iload_n 1, 1) := dk_27 (dk_at dksX0_takenAs_0 7 rfl rfl)
theorem dX0_takenAs_8 : decode cX0_takenAs 8 = .ok (.bipush 10, 2) := dk_16 10 (dk_at dksX0_takenAs_0 8 rfl rfl)
theorem dX0_takenAs_10 : decode cX0_takenAs 10 = .ok (.isub, 1) := dk_100 (dk_at dksX0_takenAs_0 10 rfl rfl)
theorem dX0_takenAs_11 : decode cX0_takenAs 11 = .ok (.invokestatic 548, 3) := dk_184 2 36 (dk_at dksX0_takenAs_0 11 rfl rfl)
theorem dX0_takenAs_14 : decode cX0_takenAs 14 = .ok (.goto 11, 3) := dk_167 0 11 (dk_at dksX0_takenAs_0 14 rfl rfl)
theorem dX0_takenAs_17 : decode cX0_takenAs 17 = .ok (.aload_n 0, 1) := dk_42 (dk_at dksX0_takenAs_0 17 rfl rfl)
theorem dX0_takenAs_18 : decode cX0_takenAs 18 = .ok (.iload_n 1, 1) := dk_27 (dk_at dksX0_takenAs_0 18 rfl rfl)
theorem dX0_takenAs_19 : decode cX0_takenAs 19 = .ok (.invokestatic 566, 3) := dk_184 2 54 (dk_at dksX0_takenAs_0 19 rfl rfl)
theorem dX0_takenAs_22 : decode cX0_takenAs 22 = .ok (.invokevirtual 570, 3) := dk_182 2 58 (dk_at dksX0_takenAs_1 0 rfl rfl)
theorem dX0_takenAs_25 : decode cX0_takenAs 25 = .ok (.ireturn, 1) := dk_172 (dk_at dksX0_takenAs_1 3 rfl rfl)
abbrev cX0_personAs : ByteArray := prog_1_method_111_code
def yX0_personAs : MethodName := ⟨RX0, "personAs", "(Ljava/lang/Object;I)LHadForVoice$Person;"⟩
def dkwX0_personAs_3 : List UInt8 := [176, 42, 192, 0, 28, 176]
abbrev dktX0_personAs_3 : List UInt8 := dkwX0_personAs_3 ++ []
def dkwX0_personAs_2 : List UInt8 := [42, 192, 0, 57, 176, 42, 192, 0, 13, 176, 42, 192, 0, 19, 176, 42, 192, 0, 22, 176, 42, 192, 0, 25]
abbrev dktX0_personAs_2 : List UInt8 := dkwX0_personAs_2 ++ dktX0_personAs_3
def dkwX0_personAs_1 : List UInt8 := [170, 0, 0, 0, 0, 0, 60, 0, 0, 0, 0, 0, 0, 0, 4, 0, 0, 0, 35, 0, 0, 0, 40, 0, 0, 0, 45, 0, 0, 0, 50, 0, 0, 0, 55]
abbrev dktX0_personAs_1 : List UInt8 := dkwX0_personAs_1 ++ dktX0_personAs_2
def dkwX0_personAs_0 : List UInt8 := [27]
abbrev dktX0_personAs_0 : List UInt8 := dkwX0_personAs_0 ++ dktX0_personAs_1
theorem dksX0_personAs_0 : cX0_personAs.data.toList.drop 0 = dktX0_personAs_0 := by decide +kernel
theorem dksX0_personAs_1 : cX0_personAs.data.toList.drop 1 = dktX0_personAs_1 := dk_seg dksX0_personAs_0 1 rfl rfl
theorem dksX0_personAs_2 : cX0_personAs.data.toList.drop 36 = dktX0_personAs_2 := dk_seg dksX0_personAs_1 35 rfl rfl
theorem dksX0_personAs_3 : cX0_personAs.data.toList.drop 60 = dktX0_personAs_3 := dk_seg dksX0_personAs_2 24 rfl rfl
theorem dX0_personAs_0 : decode cX0_personAs 0 = .ok (.iload_n 1, 1) := dk_27 (dk_at dksX0_personAs_0 0 rfl rfl)
theorem dX0_personAs_1 : decode cX0_personAs 1 = .ok (.tableswitch 60 0 4 #[35, 40, 45, 50, 55], 35) := by decide +kernel
theorem dX0_personAs_36 : decode cX0_personAs 36 = .ok (.aload_n 0, 1) := dk_42 (dk_at dksX0_personAs_2 0 rfl rfl)
theorem dX0_personAs_37 : decode cX0_personAs 37 = .ok (.checkcast 57, 3) := dk_192 0 57 (dk_at dksX0_personAs_2 1 rfl rfl)
theorem dX0_personAs_40 : decode cX0_personAs 40 = .ok (.areturn, 1) := dk_176 (dk_at dksX0_personAs_2 4 rfl rfl)
theorem dX0_personAs_41 : decode cX0_personAs 41 = .ok (.aload_n 0, 1) := dk_42 (dk_at dksX0_personAs_2 5 rfl rfl)
theorem dX0_personAs_42 : decode cX0_personAs 42 = .ok (.checkcast 13, 3) := dk_192 0 13 (dk_at dksX0_personAs_2 6 rfl rfl)
theorem dX0_personAs_45 : decode cX0_personAs 45 = .ok (.areturn, 1) := dk_176 (dk_at dksX0_personAs_2 9 rfl rfl)
theorem dX0_personAs_46 : decode cX0_personAs 46 = .ok (.aload_n 0, 1) := dk_42 (dk_at dksX0_personAs_2 10 rfl rfl)
theorem dX0_personAs_47 : decode cX0_personAs 47 = .ok (.checkcast 19, 3) := dk_192 0 19 (dk_at dksX0_personAs_2 11 rfl rfl)
theorem dX0_personAs_50 : decode cX0_personAs 50 = .ok (.areturn, 1) := dk_176 (dk_at dksX0_personAs_2 14 rfl rfl)
theorem dX0_personAs_51 : decode cX0_personAs 51 = .ok (.aload_n 0, 1) := dk_42 (dk_at dksX0_personAs_2 15 rfl rfl)
theorem dX0_personAs_52 : decode cX0_personAs 52 = .ok (.checkcast 22, 3) := dk_192 0 22 (dk_at dksX0_personAs_2 16 rfl rfl)
theorem dX0_personAs_55 : decode cX0_personAs 55 = .ok (.areturn, 1) := dk_176 (dk_at dksX0_personAs_2 19 rfl rfl)
theorem dX0_personAs_56 : decode cX0_personAs 56 = .ok (.aload_n 0, 1) := dk_42 (dk_at dksX0_personAs_2 20 rfl rfl)
theorem dX0_personAs_57 : decode cX0_personAs 57 = .ok (.checkcast 25, 3) := dk_192 0 25 (dk_at dksX0_personAs_2 21 rfl rfl)
theorem dX0_personAs_60 : decode cX0_personAs 60 = .ok (.areturn, 1) := dk_176 (dk_at dksX0_personAs_3 0 rfl rfl)
theorem dX0_personAs_61 : decode cX0_personAs 61 = .ok (.aload_n 0, 1) := dk_42 (dk_at dksX0_personAs_3 1 rfl rfl)
theorem dX0_personAs_62 : decode cX0_personAs 62 = .ok (.checkcast 28, 3) := dk_192 0 28 (dk_at dksX0_personAs_3 2 rfl rfl)
theorem dX0_personAs_65 : decode cX0_personAs 65 = .ok (.areturn, 1) := dk_176 (dk_at dksX0_personAs_3 5 rfl rfl)
abbrev cX0_act : ByteArray := prog_1_method_114_code
def yX0_act : MethodName := ⟨RX0, "act", "(III)I"⟩
def dkwX0_act_6 : List UInt8 := [180, 0, 142, 185, 2, 81, 3, 0, 172, 58, 6, 16, 241, 172]
abbrev dktX0_act_6 : List UInt8 := dkwX0_act_6 ++ []
def dkwX0_act_5 : List UInt8 := [185, 2, 75, 3, 0, 172, 25, 5, 29, 42, 180, 0, 142, 185, 2, 78, 3, 0, 172, 25, 5, 29, 42]
abbrev dktX0_act_5 : List UInt8 := dkwX0_act_5 ++ dktX0_act_6
def dkwX0_act_4 : List UInt8 := [25, 5, 29, 42, 180, 0, 142, 185, 2, 71, 3, 0, 172, 25, 5, 29, 42, 180, 0, 142]
abbrev dktX0_act_4 : List UInt8 := dkwX0_act_4 ++ dktX0_act_5
def dkwX0_act_3 : List UInt8 := [170, 0, 0, 0, 0, 0, 66, 0, 0, 0, 0, 0, 0, 0, 2, 0, 0, 0, 27, 0, 0, 0, 40, 0, 0, 0, 53]
abbrev dktX0_act_3 : List UInt8 := dkwX0_act_3 ++ dktX0_act_4
def dkwX0_act_2 : List UInt8 := [192, 2, 69, 58, 5, 28]
abbrev dktX0_act_2 : List UInt8 := dkwX0_act_2 ++ dktX0_act_3
def dkwX0_act_1 : List UInt8 := [42, 27, 182, 2, 60, 167, 0, 4, 1, 58, 4, 25, 4, 193, 2, 69, 154, 0, 5, 3, 172, 25, 4]
abbrev dktX0_act_1 : List UInt8 := dkwX0_act_1 ++ dktX0_act_2
def dkwX0_act_0 : List UInt8 := [42, 180, 0, 142, 3, 181, 2, 66, 27, 184, 2, 3, 153, 0, 20, 28, 3, 6, 184, 0, 149, 153, 0, 11]
abbrev dktX0_act_0 : List UInt8 := dkwX0_act_0 ++ dktX0_act_1
theorem dksX0_act_0 : cX0_act.data.toList.drop 0 = dktX0_act_0 := by decide +kernel
theorem dksX0_act_1 : cX0_act.data.toList.drop 24 = dktX0_act_1 := dk_seg dksX0_act_0 24 rfl rfl
theorem dksX0_act_2 : cX0_act.data.toList.drop 47 = dktX0_act_2 := dk_seg dksX0_act_1 23 rfl rfl
theorem dksX0_act_3 : cX0_act.data.toList.drop 53 = dktX0_act_3 := dk_seg dksX0_act_2 6 rfl rfl
theorem dksX0_act_4 : cX0_act.data.toList.drop 80 = dktX0_act_4 := dk_seg dksX0_act_3 27 rfl rfl
theorem dksX0_act_5 : cX0_act.data.toList.drop 100 = dktX0_act_5 := dk_seg dksX0_act_4 20 rfl rfl
theorem dksX0_act_6 : cX0_act.data.toList.drop 123 = dktX0_act_6 := dk_seg dksX0_act_5 23 rfl rfl
theorem dX0_act_0 : decode cX0_act 0 = .ok (.aload_n 0, 1) := dk_42 (dk_at dksX0_act_0 0 rfl rfl)
theorem dX0_act_1 : decode cX0_act 1 = .ok (.getfield 142, 3) := dk_180 0 142 (dk_at dksX0_act_0 1 rfl rfl)
theorem dX0_act_4 : decode cX0_act 4 = .ok (.iconst 0, 1) := dk_3 (dk_at dksX0_act_0 4 rfl rfl)
theorem dX0_act_5 : decode cX0_act 5 = .ok (.putfield 578, 3) := dk_181 2 66 (dk_at dksX0_act_0 5 rfl rfl)
theorem dX0_act_8 : decode cX0_act 8 = .ok (.iload_n 1, 1) := dk_27 (dk_at dksX0_act_0 8 rfl rfl)
theorem dX0_act_9 : decode cX0_act 9 = .ok (.invokestatic 515, 3) := dk_184 2 3 (dk_at dksX0_act_0 9 rfl rfl)
theorem dX0_act_12 : decode cX0_act 12 = .ok (.ifCond .eq 20, 3) := dk_153 0 20 (dk_at dksX0_act_0 12 rfl rfl)
theorem dX0_act_15 : decode cX0_act 15 = .ok (.iload_n 2, 1) := dk_28 (dk_at dksX0_act_0 15 rfl rfl)
theorem dX0_act_16 : decode cX0_act 16 = .ok (.iconst 0, 1) := dk_3 (dk_at dksX0_act_0 16 rfl rfl)
theorem dX0_act_17 : decode cX0_act 17 = .ok (.iconst 3, 1) := dk_6 (dk_at dksX0_act_0 17 rfl rfl)
theorem dX0_act_18 : decode cX0_act 18 = .ok (.invokestatic 149, 3) := dk_184 0 149 (dk_at dksX0_act_0 18 rfl rfl)
theorem dX0_act_21 : decode cX0_act 21 = .ok (.ifCond .eq 11, 3) := dk_153 0 11 (dk_at dksX0_act_0 21 rfl rfl)
theorem dX0_act_24 : decode cX0_act 24 = .ok (.aload_n 0, 1) := dk_42 (dk_at dksX0_act_1 0 rfl rfl)
theorem dX0_act_25 : decode cX0_act 25 = .ok (.iload_n 1, 1) := dk_27 (dk_at dksX0_act_1 1 rfl rfl)
theorem dX0_act_26 : decode cX0_act 26 = .ok (.invokevirtual 572, 3) := dk_182 2 60 (dk_at dksX0_act_1 2 rfl rfl)
theorem dX0_act_29 : decode cX0_act 29 = .ok (.goto 4, 3) := dk_167 0 4 (dk_at dksX0_act_1 5 rfl rfl)
theorem dX0_act_32 : decode cX0_act 32 = .ok (.aconst_null, 1) := dk_1 (dk_at dksX0_act_1 8 rfl rfl)
theorem dX0_act_33 : decode cX0_act 33 = .ok (.astore 4, 2) := dk_58 4 (dk_at dksX0_act_1 9 rfl rfl)
theorem dX0_act_35 : decode cX0_act 35 = .ok (.aload 4, 2) := dk_25 4 (dk_at dksX0_act_1 11 rfl rfl)
theorem dX0_act_37 : decode cX0_act 37 = .ok (.instanceof 581, 3) := dk_193 2 69 (dk_at dksX0_act_1 13 rfl rfl)
theorem dX0_act_40 : decode cX0_act 40 = .ok (.ifCond .ne 5, 3) := dk_154 0 5 (dk_at dksX0_act_1 16 rfl rfl)
theorem dX0_act_43 : decode cX0_act 43 = .ok (.iconst 0, 1) := dk_3 (dk_at dksX0_act_1 19 rfl rfl)
theorem dX0_act_44 : decode cX0_act 44 = .ok (.ireturn, 1) := dk_172 (dk_at dksX0_act_1 20 rfl rfl)
theorem dX0_act_45 : decode cX0_act 45 = .ok (.aload 4, 2) := dk_25 4 (dk_at dksX0_act_1 21 rfl rfl)
theorem dX0_act_47 : decode cX0_act 47 = .ok (.checkcast 581, 3) := dk_192 2 69 (dk_at dksX0_act_2 0 rfl rfl)
theorem dX0_act_50 : decode cX0_act 50 = .ok (.astore 5, 2) := dk_58 5 (dk_at dksX0_act_2 3 rfl rfl)
theorem dX0_act_52 : decode cX0_act 52 = .ok (.iload_n 2, 1) := dk_28 (dk_at dksX0_act_2 5 rfl rfl)
theorem dX0_act_53 : decode cX0_act 53 = .ok (.tableswitch 66 0 2 #[27, 40, 53], 27) := by decide +kernel
theorem dX0_act_80 : decode cX0_act 80 = .ok (.aload 5, 2) := dk_25 5 (dk_at dksX0_act_4 0 rfl rfl)
theorem dX0_act_82 : decode cX0_act 82 = .ok (.iload_n 3, 1) := dk_29 (dk_at dksX0_act_4 2 rfl rfl)
theorem dX0_act_83 : decode cX0_act 83 = .ok (.aload_n 0, 1) := dk_42 (dk_at dksX0_act_4 3 rfl rfl)
theorem dX0_act_84 : decode cX0_act 84 = .ok (.getfield 142, 3) := dk_180 0 142 (dk_at dksX0_act_4 4 rfl rfl)
theorem dX0_act_87 : decode cX0_act 87 = .ok (.invokeinterface 583 3, 5) := by decide +kernel
theorem dX0_act_92 : decode cX0_act 92 = .ok (.ireturn, 1) := dk_172 (dk_at dksX0_act_4 12 rfl rfl)
theorem dX0_act_93 : decode cX0_act 93 = .ok (.aload 5, 2) := dk_25 5 (dk_at dksX0_act_4 13 rfl rfl)
theorem dX0_act_95 : decode cX0_act 95 = .ok (.iload_n 3, 1) := dk_29 (dk_at dksX0_act_4 15 rfl rfl)
theorem dX0_act_96 : decode cX0_act 96 = .ok (.aload_n 0, 1) := dk_42 (dk_at dksX0_act_4 16 rfl rfl)
theorem dX0_act_97 : decode cX0_act 97 = .ok (.getfield 142, 3) := dk_180 0 142 (dk_at dksX0_act_4 17 rfl rfl)
theorem dX0_act_100 : decode cX0_act 100 = .ok (.invokeinterface 587 3, 5) := by decide +kernel
theorem dX0_act_105 : decode cX0_act 105 = .ok (.ireturn, 1) := dk_172 (dk_at dksX0_act_5 5 rfl rfl)
theorem dX0_act_106 : decode cX0_act 106 = .ok (.aload 5, 2) := dk_25 5 (dk_at dksX0_act_5 6 rfl rfl)
theorem dX0_act_108 : decode cX0_act 108 = .ok (.iload_n 3, 1) := dk_29 (dk_at dksX0_act_5 8 rfl rfl)
theorem dX0_act_109 : decode cX0_act 109 = .ok (.aload_n 0, 1) := dk_42 (dk_at dksX0_act_5 9 rfl rfl)
theorem dX0_act_110 : decode cX0_act 110 = .ok (.getfield 142, 3) := dk_180 0 142 (dk_at dksX0_act_5 10 rfl rfl)
theorem dX0_act_113 : decode cX0_act 113 = .ok (.invokeinterface 590 3, 5) := by decide +kernel
theorem dX0_act_118 : decode cX0_act 118 = .ok (.ireturn, 1) := dk_172 (dk_at dksX0_act_5 18 rfl rfl)
theorem dX0_act_119 : decode cX0_act 119 = .ok (.aload 5, 2) := dk_25 5 (dk_at dksX0_act_5 19 rfl rfl)
theorem dX0_act_121 : decode cX0_act 121 = .ok (.iload_n 3, 1) := dk_29 (dk_at dksX0_act_5 21 rfl rfl)
theorem dX0_act_122 : decode cX0_act 122 = .ok (.aload_n 0, 1) := dk_42 (dk_at dksX0_act_5 22 rfl rfl)
theorem dX0_act_123 : decode cX0_act 123 = .ok (.getfield 142, 3) := dk_180 0 142 (dk_at dksX0_act_6 0 rfl rfl)
theorem dX0_act_126 : decode cX0_act 126 = .ok (.invokeinterface 593 3, 5) := by decide +kernel
theorem dX0_act_131 : decode cX0_act 131 = .ok (.ireturn, 1) := dk_172 (dk_at dksX0_act_6 8 rfl rfl)
theorem dX0_act_132 : decode cX0_act 132 = .ok (.astore 6, 2) := dk_58 6 (dk_at dksX0_act_6 9 rfl rfl)
theorem dX0_act_134 : decode cX0_act 134 = .ok (.bipush (-15), 2) := dk_16 241 (dk_at dksX0_act_6 11 rfl rfl)
theorem dX0_act_136 : decode cX0_act 136 = .ok (.ireturn, 1) := dk_172 (dk_at dksX0_act_6 13 rfl rfl)
abbrev cX0_trace : ByteArray := prog_1_method_115_code
def yX0_trace : MethodName := ⟨RX0, "trace", "(I)I"⟩
def dkwX0_trace_1 : List UInt8 := [27, 46, 167, 0, 5, 16, 253, 172]
abbrev dktX0_trace_1 : List UInt8 := dkwX0_trace_1 ++ []
def dkwX0_trace_0 : List UInt8 := [27, 3, 42, 180, 0, 142, 180, 2, 66, 4, 100, 184, 0, 149, 153, 0, 15, 42, 180, 0, 142, 180, 2, 86]
abbrev dktX0_trace_0 : List UInt8 := dkwX0_trace_0 ++ dktX0_trace_1
theorem dksX0_trace_0 : cX0_trace.data.toList.drop 0 = dktX0_trace_0 := by decide +kernel
theorem dksX0_trace_1 : cX0_trace.data.toList.drop 24 = dktX0_trace_1 := dk_seg dksX0_trace_0 24 rfl rfl
theorem dX0_trace_0 : decode cX0_trace 0 = .ok (.iload_n 1, 1) := dk_27 (dk_at dksX0_trace_0 0 rfl rfl)
theorem dX0_trace_1 : decode cX0_trace 1 = .ok (.iconst 0, 1) := dk_3 (dk_at dksX0_trace_0 1 rfl rfl)
theorem dX0_trace_2 : decode cX0_trace 2 = .ok (.aload_n 0, 1) := dk_42 (dk_at dksX0_trace_0 2 rfl rfl)
theorem dX0_trace_3 : decode cX0_trace 3 = .ok (.getfield 142, 3) := dk_180 0 142 (dk_at dksX0_trace_0 3 rfl rfl)
theorem dX0_trace_6 : decode cX0_trace 6 = .ok (.getfield 578, 3) := dk_180 2 66 (dk_at dksX0_trace_0 6 rfl rfl)
theorem dX0_trace_9 : decode cX0_trace 9 = .ok (.iconst 1, 1) := dk_4 (dk_at dksX0_trace_0 9 rfl rfl)
theorem dX0_trace_10 : decode cX0_trace 10 = .ok (.isub, 1) := dk_100 (dk_at dksX0_trace_0 10 rfl rfl)
theorem dX0_trace_11 : decode cX0_trace 11 = .ok (.invokestatic 149, 3) := dk_184 0 149 (dk_at dksX0_trace_0 11 rfl rfl)
theorem dX0_trace_14 : decode cX0_trace 14 = .ok (.ifCond .eq 15, 3) := dk_153 0 15 (dk_at dksX0_trace_0 14 rfl rfl)
theorem dX0_trace_17 : decode cX0_trace 17 = .ok (.aload_n 0, 1) := dk_42 (dk_at dksX0_trace_0 17 rfl rfl)
theorem dX0_trace_18 : decode cX0_trace 18 = .ok (.getfield 142, 3) := dk_180 0 142 (dk_at dksX0_trace_0 18 rfl rfl)
theorem dX0_trace_21 : decode cX0_trace 21 = .ok (.getfield 598, 3) := dk_180 2 86 (dk_at dksX0_trace_0 21 rfl rfl)
theorem dX0_trace_24 : decode cX0_trace 24 = .ok (.iload_n 1, 1) := dk_27 (dk_at dksX0_trace_1 0 rfl rfl)
theorem dX0_trace_25 : decode cX0_trace 25 = .ok (.iaload, 1) := dk_46 (dk_at dksX0_trace_1 1 rfl rfl)
theorem dX0_trace_26 : decode cX0_trace 26 = .ok (.goto 5, 3) := dk_167 0 5 (dk_at dksX0_trace_1 2 rfl rfl)
theorem dX0_trace_29 : decode cX0_trace 29 = .ok (.bipush (-3), 2) := dk_16 253 (dk_at dksX0_trace_1 5 rfl rfl)
theorem dX0_trace_31 : decode cX0_trace 31 = .ok (.ireturn, 1) := dk_172 (dk_at dksX0_trace_1 7 rfl rfl)
abbrev cX0_many : ByteArray := prog_1_method_116_code
def yX0_many : MethodName := ⟨RX0, "many", "(I)I"⟩
def dkwX0_many_4 : List UInt8 := [180, 2, 66, 172, 2, 172]
abbrev dktX0_many_4 : List UInt8 := dkwX0_many_4 ++ []
def dkwX0_many_3 : List UInt8 := [172, 42, 180, 0, 47, 180, 1, 215, 172, 42, 180, 1, 253, 172, 42, 180, 0, 219, 172, 42, 180, 0, 142]
abbrev dktX0_many_3 : List UInt8 := dkwX0_many_3 ++ dktX0_many_4
def dkwX0_many_2 : List UInt8 := [42, 180, 0, 47, 180, 0, 147, 172, 42, 180, 0, 47, 180, 1, 82, 190, 172, 42, 180, 0, 47, 180, 0, 217]
abbrev dktX0_many_2 : List UInt8 := dkwX0_many_2 ++ dktX0_many_3
def dkwX0_many_1 : List UInt8 := [170, 0, 0, 0, 0, 0, 94, 0, 0, 0, 0, 0, 0, 0, 6, 0, 0, 0, 43, 0, 0, 0, 51, 0, 0, 0, 60, 0, 0, 0, 68, 0, 0, 0, 76, 0, 0, 0, 81, 0, 0, 0, 86]
abbrev dktX0_many_1 : List UInt8 := dkwX0_many_1 ++ dktX0_many_2
def dkwX0_many_0 : List UInt8 := [27]
abbrev dktX0_many_0 : List UInt8 := dkwX0_many_0 ++ dktX0_many_1
theorem dksX0_many_0 : cX0_many.data.toList.drop 0 = dktX0_many_0 := by decide +kernel
theorem dksX0_many_1 : cX0_many.data.toList.drop 1 = dktX0_many_1 := dk_seg dksX0_many_0 1 rfl rfl
theorem dksX0_many_2 : cX0_many.data.toList.drop 44 = dktX0_many_2 := dk_seg dksX0_many_1 43 rfl rfl
theorem dksX0_many_3 : cX0_many.data.toList.drop 68 = dktX0_many_3 := dk_seg dksX0_many_2 24 rfl rfl
theorem dksX0_many_4 : cX0_many.data.toList.drop 91 = dktX0_many_4 := dk_seg dksX0_many_3 23 rfl rfl
theorem dX0_many_0 : decode cX0_many 0 = .ok (.iload_n 1, 1) := dk_27 (dk_at dksX0_many_0 0 rfl rfl)
theorem dX0_many_1 : decode cX0_many 1 = .ok (.tableswitch 94 0 6 #[43, 51, 60, 68, 76, 81, 86], 43) := by decide +kernel
theorem dX0_many_44 : decode cX0_many 44 = .ok (.aload_n 0, 1) := dk_42 (dk_at dksX0_many_2 0 rfl rfl)
theorem dX0_many_45 : decode cX0_many 45 = .ok (.getfield 47, 3) := dk_180 0 47 (dk_at dksX0_many_2 1 rfl rfl)
theorem dX0_many_48 : decode cX0_many 48 = .ok (.getfield 147, 3) := dk_180 0 147 (dk_at dksX0_many_2 4 rfl rfl)
theorem dX0_many_51 : decode cX0_many 51 = .ok (.ireturn, 1) := dk_172 (dk_at dksX0_many_2 7 rfl rfl)
theorem dX0_many_52 : decode cX0_many 52 = .ok (.aload_n 0, 1) := dk_42 (dk_at dksX0_many_2 8 rfl rfl)
theorem dX0_many_53 : decode cX0_many 53 = .ok (.getfield 47, 3) := dk_180 0 47 (dk_at dksX0_many_2 9 rfl rfl)
theorem dX0_many_56 : decode cX0_many 56 = .ok (.getfield 338, 3) := dk_180 1 82 (dk_at dksX0_many_2 12 rfl rfl)
theorem dX0_many_59 : decode cX0_many 59 = .ok (.arraylength, 1) := dk_190 (dk_at dksX0_many_2 15 rfl rfl)
theorem dX0_many_60 : decode cX0_many 60 = .ok (.ireturn, 1) := dk_172 (dk_at dksX0_many_2 16 rfl rfl)
theorem dX0_many_61 : decode cX0_many 61 = .ok (.aload_n 0, 1) := dk_42 (dk_at dksX0_many_2 17 rfl rfl)
theorem dX0_many_62 : decode cX0_many 62 = .ok (.getfield 47, 3) := dk_180 0 47 (dk_at dksX0_many_2 18 rfl rfl)
theorem dX0_many_65 : decode cX0_many 65 = .ok (.getfield 217, 3) := dk_180 0 217 (dk_at dksX0_many_2 21 rfl rfl)
theorem dX0_many_68 : decode cX0_many 68 = .ok (.ireturn, 1) := dk_172 (dk_at dksX0_many_3 0 rfl rfl)
theorem dX0_many_69 : decode cX0_many 69 = .ok (.aload_n 0, 1) := dk_42 (dk_at dksX0_many_3 1 rfl rfl)
theorem dX0_many_70 : decode cX0_many 70 = .ok (.getfield 47, 3) := dk_180 0 47 (dk_at dksX0_many_3 2 rfl rfl)
theorem dX0_many_73 : decode cX0_many 73 = .ok (.getfield 471, 3) := dk_180 1 215 (dk_at dksX0_many_3 5 rfl rfl)
theorem dX0_many_76 : decode cX0_many 76 = .ok (.ireturn, 1) := dk_172 (dk_at dksX0_many_3 8 rfl rfl)
theorem dX0_many_77 : decode cX0_many 77 = .ok (.aload_n 0, 1) := dk_42 (dk_at dksX0_many_3 9 rfl rfl)
theorem dX0_many_78 : decode cX0_many 78 = .ok (.getfield 509, 3) := dk_180 1 253 (dk_at dksX0_many_3 10 rfl rfl)
theorem dX0_many_81 : decode cX0_many 81 = .ok (.ireturn, 1) := dk_172 (dk_at dksX0_many_3 13 rfl rfl)
theorem dX0_many_82 : decode cX0_many 82 = .ok (.aload_n 0, 1) := dk_42 (dk_at dksX0_many_3 14 rfl rfl)
theorem dX0_many_83 : decode cX0_many 83 = .ok (.getfield 219, 3) := dk_180 0 219 (dk_at dksX0_many_3 15 rfl rfl)
theorem dX0_many_86 : decode cX0_many 86 = .ok (.ireturn, 1) := dk_172 (dk_at dksX0_many_3 18 rfl rfl)
theorem dX0_many_87 : decode cX0_many 87 = .ok (.aload_n 0, 1) := dk_42 (dk_at dksX0_many_3 19 rfl rfl)
theorem dX0_many_88 : decode cX0_many 88 = .ok (.getfield 142, 3) := dk_180 0 142 (dk_at dksX0_many_3 20 rfl rfl)
theorem dX0_many_91 : decode cX0_many 91 = .ok (.getfield 578, 3) := dk_180 2 66 (dk_at dksX0_many_4 0 rfl rfl)
theorem dX0_many_94 : decode cX0_many 94 = .ok (.ireturn, 1) := dk_172 (dk_at dksX0_many_4 3 rfl rfl)
theorem dX0_many_95 : decode cX0_many 95 = .ok (.iconst (-1), 1) := dk_2 (dk_at dksX0_many_4 4 rfl rfl)
theorem dX0_many_96 : decode cX0_many 96 = .ok (.ireturn, 1) := dk_172 (dk_at dksX0_many_4 5 rfl rfl)
abbrev cX0_keep : ByteArray := prog_1_method_117_code
def yX0_keep : MethodName := ⟨RX0, "keep", "()I"⟩
def dkwX0_keep_0 : List UInt8 := [42, 180, 0, 51, 42, 180, 0, 47, 182, 1, 246, 42, 4, 181, 2, 89, 4, 172]
abbrev dktX0_keep_0 : List UInt8 := dkwX0_keep_0 ++ []
theorem dksX0_keep_0 : cX0_keep.data.toList.drop 0 = dktX0_keep_0 := by decide +kernel
theorem dX0_keep_0 : decode cX0_keep 0 = .ok (.aload_n 0, 1) := dk_42 (dk_at dksX0_keep_0 0 rfl rfl)
theorem dX0_keep_1 : decode cX0_keep 1 = .ok (.getfield 51, 3) := dk_180 0 51 (dk_at dksX0_keep_0 1 rfl rfl)
theorem dX0_keep_4 : decode cX0_keep 4 = .ok (.aload_n 0, 1) := dk_42 (dk_at dksX0_keep_0 4 rfl rfl)
theorem dX0_keep_5 : decode cX0_keep 5 = .ok (.getfield 47, 3) := dk_180 0 47 (dk_at dksX0_keep_0 5 rfl rfl)
theorem dX0_keep_8 : decode cX0_keep 8 = .ok (.invokevirtual 502, 3) := dk_182 1 246 (dk_at dksX0_keep_0 8 rfl rfl)
theorem dX0_keep_11 : decode cX0_keep 11 = .ok (.aload_n 0, 1) := dk_42 (dk_at dksX0_keep_0 11 rfl rfl)
theorem dX0_keep_12 : decode cX0_keep 12 = .ok (.iconst 1, 1) := dk_4 (dk_at dksX0_keep_0 12 rfl rfl)
theorem dX0_keep_13 : decode cX0_keep 13 = .ok (.putfield 601, 3) := dk_181 2 89 (dk_at dksX0_keep_0 13 rfl rfl)
theorem dX0_keep_16 : decode cX0_keep 16 = .ok (.iconst 1, 1) := dk_4 (dk_at dksX0_keep_0 16 rfl rfl)
theorem dX0_keep_17 : decode cX0_keep 17 = .ok (.ireturn, 1) := dk_172 (dk_at dksX0_keep_0 17 rfl rfl)
abbrev cX0_again : ByteArray := prog_1_method_118_code
def yX0_again : MethodName := ⟨RX0, "again", "()I"⟩
def dkwX0_again_2 : List UInt8 := [180, 0, 47, 180, 0, 147, 172]
abbrev dktX0_again_2 : List UInt8 := dkwX0_again_2 ++ []
def dkwX0_again_1 : List UInt8 := [42, 180, 0, 47, 180, 0, 147, 162, 0, 14, 42, 27, 182, 0, 181, 132, 1, 1, 167, 255, 237, 42]
abbrev dktX0_again_1 : List UInt8 := dkwX0_again_1 ++ dktX0_again_2
def dkwX0_again_0 : List UInt8 := [42, 180, 2, 89, 154, 0, 6, 16, 253, 172, 42, 180, 0, 47, 42, 180, 0, 51, 182, 1, 246, 3, 60, 27]
abbrev dktX0_again_0 : List UInt8 := dkwX0_again_0 ++ dktX0_again_1
theorem dksX0_again_0 : cX0_again.data.toList.drop 0 = dktX0_again_0 := by decide +kernel
theorem dksX0_again_1 : cX0_again.data.toList.drop 24 = dktX0_again_1 := dk_seg dksX0_again_0 24 rfl rfl
theorem dksX0_again_2 : cX0_again.data.toList.drop 46 = dktX0_again_2 := dk_seg dksX0_again_1 22 rfl rfl
theorem dX0_again_0 : decode cX0_again 0 = .ok (.aload_n 0, 1) := dk_42 (dk_at dksX0_again_0 0 rfl rfl)
theorem dX0_again_1 : decode cX0_again 1 = .ok (.getfield 601, 3) := dk_180 2 89 (dk_at dksX0_again_0 1 rfl rfl)
theorem dX0_again_4 : decode cX0_again 4 = .ok (.ifCond .ne 6, 3) := dk_154 0 6 (dk_at dksX0_again_0 4 rfl rfl)
theorem dX0_again_7 : decode cX0_again 7 = .ok (.bipush (-3), 2) := dk_16 253 (dk_at dksX0_again_0 7 rfl rfl)
theorem dX0_again_9 : decode cX0_again 9 = .ok (.ireturn, 1) := dk_172 (dk_at dksX0_again_0 9 rfl rfl)
theorem dX0_again_10 : decode cX0_again 10 = .ok (.aload_n 0, 1) := dk_42 (dk_at dksX0_again_0 10 rfl rfl)
theorem dX0_again_11 : decode cX0_again 11 = .ok (.getfield 47, 3) := dk_180 0 47 (dk_at dksX0_again_0 11 rfl rfl)
theorem dX0_again_14 : decode cX0_again 14 = .ok (.aload_n 0, 1) := dk_42 (dk_at dksX0_again_0 14 rfl rfl)
theorem dX0_again_15 : decode cX0_again 15 = .ok (.getfield 51, 3) := dk_180 0 51 (dk_at dksX0_again_0 15 rfl rfl)
theorem dX0_again_18 : decode cX0_again 18 = .ok (.invokevirtual 502, 3) := dk_182 1 246 (dk_at dksX0_again_0 18 rfl rfl)
theorem dX0_again_21 : decode cX0_again 21 = .ok (.iconst 0, 1) := dk_3 (dk_at dksX0_again_0 21 rfl rfl)
theorem dX0_again_22 : decode cX0_again 22 = .ok (.istore_n 1, 1) := dk_60 (dk_at dksX0_again_0 22 rfl rfl)
theorem dX0_again_23 : decode cX0_again 23 = .ok (.iload_n 1, 1) := dk_27 (dk_at dksX0_again_0 23 rfl rfl)
theorem dX0_again_24 : decode cX0_again 24 = .ok (.aload_n 0, 1) := dk_42 (dk_at dksX0_again_1 0 rfl rfl)
theorem dX0_again_25 : decode cX0_again 25 = .ok (.getfield 47, 3) := dk_180 0 47 (dk_at dksX0_again_1 1 rfl rfl)
theorem dX0_again_28 : decode cX0_again 28 = .ok (.getfield 147, 3) := dk_180 0 147 (dk_at dksX0_again_1 4 rfl rfl)
theorem dX0_again_31 : decode cX0_again 31 = .ok (.if_icmp .ge 14, 3) := dk_162 0 14 (dk_at dksX0_again_1 7 rfl rfl)
theorem dX0_again_34 : decode cX0_again 34 = .ok (.aload_n 0, 1) := dk_42 (dk_at dksX0_again_1 10 rfl rfl)
theorem dX0_again_35 : decode cX0_again 35 = .ok (.iload_n 1, 1) := dk_27 (dk_at dksX0_again_1 11 rfl rfl)
theorem dX0_again_36 : decode cX0_again 36 = .ok (.invokevirtual 181, 3) := dk_182 0 181 (dk_at dksX0_again_1 12 rfl rfl)
theorem dX0_again_39 : decode cX0_again 39 = .ok (.iinc 1 1, 3) := dk_132 1 1 (dk_at dksX0_again_1 15 rfl rfl)
theorem dX0_again_42 : decode cX0_again 42 = .ok (.goto (-19), 3) := dk_167 255 237 (dk_at dksX0_again_1 18 rfl rfl)
theorem dX0_again_45 : decode cX0_again 45 = .ok (.aload_n 0, 1) := dk_42 (dk_at dksX0_again_1 21 rfl rfl)
theorem dX0_again_46 : decode cX0_again 46 = .ok (.getfield 47, 3) := dk_180 0 47 (dk_at dksX0_again_2 0 rfl rfl)
theorem dX0_again_49 : decode cX0_again 49 = .ok (.getfield 147, 3) := dk_180 0 147 (dk_at dksX0_again_2 3 rfl rfl)
theorem dX0_again_52 : decode cX0_again 52 = .ok (.ireturn, 1) := dk_172 (dk_at dksX0_again_2 6 rfl rfl)
theorem q116 : (Jvm.Cond.initialized "HadForVoice") ∈ lw_all := lw_g (lw_at lw_m1 1 rfl) rfl
theorem q152 : (Jvm.Cond.instantiable "HadForVoice" (32 : Nat)) ∈ lw_all := lw_g (lw_at lw_m1 37 rfl) rfl
theorem q154 : (Jvm.Cond.instanceMethod ({ cls := "HadForVoice", name := "<init>", desc := "()V" } : Jvm.MethodName)) ∈ lw_all := lw_g (lw_at lw_m1 39 rfl) rfl
theorem q155 : (Jvm.Cond.code ({ cls := "HadForVoice", name := "<init>", desc := "()V" } : Jvm.MethodName) prog_1_method_5_code (2 : Nat) (Option.none : Option Jvm.ClassFile.FieldType)) ∈ lw_all := lw_g (lw_at lw_m1 40 rfl) rfl
theorem q156 : (Jvm.Cond.methodLink "HadForVoice" (31 : Nat) ({ cls := "java/lang/Object", name := "<init>", desc := "()V" } : Jvm.MethodName)) ∈ lw_all := lw_g (lw_at lw_m1 41 rfl) rfl
theorem q159 : (Jvm.Cond.classLink "HadForVoice" (8 : Nat) "HadForVoice$Refusal") ∈ lw_all := lw_g (lw_at lw_m1 44 rfl) rfl
theorem q216 : (Jvm.Cond.methodLink "HadForVoice" (36 : Nat) ({ cls := "HadForVoice$Refusal", name := "<init>", desc := "()V" } : Jvm.MethodName)) ∈ lw_all := lw_g (lw_at lw_m1 101 rfl) rfl
theorem q229 : (Jvm.Cond.fieldLink "HadForVoice" (342 : Nat) "HadForVoice$Fault" "answer" "I") ∈ lw_all := lw_g (lw_at lw_m1 114 rfl) rfl
theorem q231 : (Jvm.Cond.fieldLink "HadForVoice" (547 : Nat) "HadForVoice$Refusal" "answer" "I") ∈ lw_all := lw_g (lw_at lw_m1 116 rfl) rfl
theorem q247 : (Jvm.Cond.classLink "HadForVoice" (37 : Nat) "HadForVoice$Fault") ∈ lw_all := lw_g (lw_at lw_m1 132 rfl) rfl
theorem q257 : (Jvm.Cond.methodLinkNest "HadForVoice" (39 : Nat) ({ cls := "HadForVoice$Fault", name := "<init>", desc := "()V" } : Jvm.MethodName) "HadForVoice") ∈ lw_tbl := lw_at lw_m1 142 rfl
theorem q264 : (Jvm.Cond.classLink "HadForVoice" (44 : Nat) "HadForVoice$Town") ∈ lw_all := lw_g (lw_at lw_m1 149 rfl) rfl
theorem q266 : (Jvm.Cond.methodLinkNest "HadForVoice" (46 : Nat) ({ cls := "HadForVoice$Town", name := "<init>", desc := "()V" } : Jvm.MethodName) "HadForVoice") ∈ lw_tbl := lw_at lw_m1 151 rfl
theorem q273 : (Jvm.Cond.fieldLink "HadForVoice" (147 : Nat) "HadForVoice$Town" "people" "I") ∈ lw_all := lw_g (lw_at lw_m1 158 rfl) rfl
theorem q275 : (Jvm.Cond.fieldLink "HadForVoice" (204 : Nat) "HadForVoice$Town" "fee" "I") ∈ lw_all := lw_g (lw_at lw_m1 160 rfl) rfl
theorem q277 : (Jvm.Cond.fieldLink "HadForVoice" (471 : Nat) "HadForVoice$Town" "reports" "I") ∈ lw_all := lw_g (lw_at lw_m1 162 rfl) rfl
theorem q279 : (Jvm.Cond.fieldLink "HadForVoice" (217 : Nat) "HadForVoice$Town" "made" "I") ∈ lw_all := lw_g (lw_at lw_m1 164 rfl) rfl
theorem q281 : (Jvm.Cond.fieldLink "HadForVoice" (492 : Nat) "HadForVoice$Town" "z" "I") ∈ lw_all := lw_g (lw_at lw_m1 166 rfl) rfl
theorem q283 : (Jvm.Cond.fieldLink "HadForVoice" (157 : Nat) "HadForVoice$Town" "kind" "[I") ∈ lw_all := lw_g (lw_at lw_m1 168 rfl) rfl
theorem q285 : (Jvm.Cond.fieldLink "HadForVoice" (174 : Nat) "HadForVoice$Town" "has" "[I") ∈ lw_all := lw_g (lw_at lw_m1 170 rfl) rfl
theorem q287 : (Jvm.Cond.fieldLink "HadForVoice" (160 : Nat) "HadForVoice$Town" "needs" "[I") ∈ lw_all := lw_g (lw_at lw_m1 172 rfl) rfl
theorem q289 : (Jvm.Cond.fieldLink "HadForVoice" (176 : Nat) "HadForVoice$Town" "coins" "[I") ∈ lw_all := lw_g (lw_at lw_m1 174 rfl) rfl
theorem q291 : (Jvm.Cond.fieldLink "HadForVoice" (178 : Nat) "HadForVoice$Town" "meets" "[I") ∈ lw_all := lw_g (lw_at lw_m1 176 rfl) rfl
theorem q293 : (Jvm.Cond.fieldLink "HadForVoice" (198 : Nat) "HadForVoice$Town" "worth" "[I") ∈ lw_all := lw_g (lw_at lw_m1 178 rfl) rfl
theorem q295 : (Jvm.Cond.fieldLink "HadForVoice" (201 : Nat) "HadForVoice$Town" "jar" "[I") ∈ lw_all := lw_g (lw_at lw_m1 180 rfl) rfl
theorem q297 : (Jvm.Cond.fieldLink "HadForVoice" (474 : Nat) "HadForVoice$Town" "given" "[I") ∈ lw_all := lw_g (lw_at lw_m1 182 rfl) rfl
theorem q299 : (Jvm.Cond.fieldLink "HadForVoice" (477 : Nat) "HadForVoice$Town" "got" "[I") ∈ lw_all := lw_g (lw_at lw_m1 184 rfl) rfl
theorem q301 : (Jvm.Cond.fieldLink "HadForVoice" (480 : Nat) "HadForVoice$Town" "asked" "[I") ∈ lw_all := lw_g (lw_at lw_m1 186 rfl) rfl
theorem q303 : (Jvm.Cond.fieldLink "HadForVoice" (401 : Nat) "HadForVoice$Town" "which" "[I") ∈ lw_all := lw_g (lw_at lw_m1 188 rfl) rfl
theorem q305 : (Jvm.Cond.fieldLink "HadForVoice" (407 : Nat) "HadForVoice$Town" "had" "[I") ∈ lw_all := lw_g (lw_at lw_m1 190 rfl) rfl
theorem q307 : (Jvm.Cond.fieldLink "HadForVoice" (404 : Nat) "HadForVoice$Town" "came" "[I") ∈ lw_all := lw_g (lw_at lw_m1 192 rfl) rfl
theorem q309 : (Jvm.Cond.fieldLink "HadForVoice" (338 : Nat) "HadForVoice$Town" "rules" "[LHadForVoice$Rule;") ∈ lw_all := lw_g (lw_at lw_m1 194 rfl) rfl
theorem q350 : (Jvm.Cond.classLink "HadForVoice" (57 : Nat) "HadForVoice$Person") ∈ lw_all := lw_g (lw_at lw_m1 235 rfl) rfl
theorem q352 : (Jvm.Cond.classLink "HadForVoice" (63 : Nat) "java/lang/String") ∈ lw_all := lw_g (lw_at lw_m1 237 rfl) rfl
theorem q354 : (Jvm.Cond.stringRef "HadForVoice" (65 : Nat) "person") ∈ lw_tbl := lw_at lw_m1 239 rfl
theorem q355 : (Jvm.Cond.stringRef "HadForVoice" (67 : Nat) "maid") ∈ lw_tbl := lw_at lw_m2 0 rfl
theorem q356 : (Jvm.Cond.stringRef "HadForVoice" (69 : Nat) "miser") ∈ lw_tbl := lw_at lw_m2 1 rfl
theorem q357 : (Jvm.Cond.stringRef "HadForVoice" (71 : Nat) "widow") ∈ lw_tbl := lw_at lw_m2 2 rfl
theorem q358 : (Jvm.Cond.stringRef "HadForVoice" (73 : Nat) "prince") ∈ lw_tbl := lw_at lw_m2 3 rfl
theorem q359 : (Jvm.Cond.stringRef "HadForVoice" (75 : Nat) "beast") ∈ lw_tbl := lw_at lw_m2 4 rfl
theorem q360 : (Jvm.Cond.stringRef "HadForVoice" (81 : Nat) "more") ∈ lw_tbl := lw_at lw_m2 5 rfl
theorem q361 : (Jvm.Cond.stringRef "HadForVoice" (83 : Nat) "less") ∈ lw_tbl := lw_at lw_m2 6 rfl
theorem q362 : (Jvm.Cond.stringRef "HadForVoice" (85 : Nat) "free") ∈ lw_tbl := lw_at lw_m2 7 rfl
theorem q363 : (Jvm.Cond.stringRef "HadForVoice" (90 : Nat) "has") ∈ lw_tbl := lw_at lw_m2 8 rfl
theorem q364 : (Jvm.Cond.stringRef "HadForVoice" (92 : Nat) "need") ∈ lw_tbl := lw_at lw_m2 9 rfl
theorem q365 : (Jvm.Cond.stringRef "HadForVoice" (94 : Nat) "coins") ∈ lw_tbl := lw_at lw_m2 10 rfl
theorem q366 : (Jvm.Cond.stringRef "HadForVoice" (96 : Nat) "whole") ∈ lw_tbl := lw_at lw_m2 11 rfl
theorem q367 : (Jvm.Cond.stringRef "HadForVoice" (98 : Nat) "number") ∈ lw_tbl := lw_at lw_m2 12 rfl
theorem q368 : (Jvm.Cond.classLink "HadForVoice" (130 : Nat) "HadForVoice$Shelf") ∈ lw_all := lw_g (lw_at lw_m2 13 rfl) rfl
theorem q370 : (Jvm.Cond.classLink "HadForVoice" (139 : Nat) "HadForVoice$Trace") ∈ lw_all := lw_g (lw_at lw_m2 15 rfl) rfl
theorem q372 : (Jvm.Cond.methodLinkNest "HadForVoice" (141 : Nat) ({ cls := "HadForVoice$Trace", name := "<init>", desc := "()V" } : Jvm.MethodName) "HadForVoice") ∈ lw_tbl := lw_at lw_m2 17 rfl
theorem q377 : (Jvm.Cond.fieldLinkNest "HadForVoice" (598 : Nat) "HadForVoice$Trace" "bodies" "[I" "HadForVoice") ∈ lw_tbl := lw_at lw_m2 22 rfl
theorem q379 : (Jvm.Cond.fieldLinkNest "HadForVoice" (578 : Nat) "HadForVoice$Trace" "many" "I" "HadForVoice") ∈ lw_tbl := lw_at lw_m2 24 rfl
theorem q387 : (Jvm.Cond.methodLinkNest "HadForVoice" (146 : Nat) ({ cls := "HadForVoice$Shelf", name := "<init>", desc := "()V" } : Jvm.MethodName) "HadForVoice") ∈ lw_tbl := lw_at lw_m2 32 rfl
theorem q391 : (Jvm.Cond.fieldLinkNest "HadForVoice" (522 : Nat) "HadForVoice$Shelf" "held" "Ljava/lang/Object;" "HadForVoice") ∈ lw_tbl := lw_at lw_m2 36 rfl
theorem q395 : (Jvm.Cond.fieldLink "HadForVoice" (1 : Nat) "HadForVoice" "refusal" "LHadForVoice$Refusal;") ∈ lw_all := lw_g (lw_at lw_m2 40 rfl) rfl
theorem q396 : (Jvm.Cond.fieldLink "HadForVoice" (40 : Nat) "HadForVoice" "fault" "LHadForVoice$Fault;") ∈ lw_all := lw_g (lw_at lw_m2 41 rfl) rfl
theorem q397 : (Jvm.Cond.fieldLink "HadForVoice" (47 : Nat) "HadForVoice" "now" "LHadForVoice$Town;") ∈ lw_all := lw_g (lw_at lw_m2 42 rfl) rfl
theorem q398 : (Jvm.Cond.fieldLink "HadForVoice" (51 : Nat) "HadForVoice" "kept" "LHadForVoice$Town;") ∈ lw_all := lw_g (lw_at lw_m2 43 rfl) rfl
theorem q399 : (Jvm.Cond.fieldLink "HadForVoice" (54 : Nat) "HadForVoice" "tried" "LHadForVoice$Town;") ∈ lw_all := lw_g (lw_at lw_m2 44 rfl) rfl
theorem q400 : (Jvm.Cond.fieldLink "HadForVoice" (59 : Nat) "HadForVoice" "people" "[LHadForVoice$Person;") ∈ lw_all := lw_g (lw_at lw_m2 45 rfl) rfl
theorem q401 : (Jvm.Cond.fieldLink "HadForVoice" (601 : Nat) "HadForVoice" "isKept" "Z") ∈ lw_all := lw_g (lw_at lw_m2 46 rfl) rfl
theorem q402 : (Jvm.Cond.fieldLink "HadForVoice" (77 : Nat) "HadForVoice" "kindNames" "[Ljava/lang/String;") ∈ lw_all := lw_g (lw_at lw_m2 47 rfl) rfl
theorem q403 : (Jvm.Cond.fieldLink "HadForVoice" (87 : Nat) "HadForVoice" "doings" "[Ljava/lang/String;") ∈ lw_all := lw_g (lw_at lw_m2 48 rfl) rfl
theorem q404 : (Jvm.Cond.fieldLink "HadForVoice" (100 : Nat) "HadForVoice" "names" "[Ljava/lang/String;") ∈ lw_all := lw_g (lw_at lw_m2 49 rfl) rfl
theorem q405 : (Jvm.Cond.fieldLink "HadForVoice" (103 : Nat) "HadForVoice" "tape" "[B") ∈ lw_all := lw_g (lw_at lw_m2 50 rfl) rfl
theorem q406 : (Jvm.Cond.fieldLink "HadForVoice" (219 : Nat) "HadForVoice" "tapeMany" "I") ∈ lw_all := lw_g (lw_at lw_m2 51 rfl) rfl
theorem q407 : (Jvm.Cond.fieldLink "HadForVoice" (225 : Nat) "HadForVoice" "at" "I") ∈ lw_all := lw_g (lw_at lw_m2 52 rfl) rfl
theorem q408 : (Jvm.Cond.fieldLink "HadForVoice" (222 : Nat) "HadForVoice" "end" "I") ∈ lw_all := lw_g (lw_at lw_m2 53 rfl) rfl
theorem q409 : (Jvm.Cond.fieldLink "HadForVoice" (107 : Nat) "HadForVoice" "facts" "[I") ∈ lw_all := lw_g (lw_at lw_m2 54 rfl) rfl
theorem q410 : (Jvm.Cond.fieldLink "HadForVoice" (111 : Nat) "HadForVoice" "absent" "I") ∈ lw_all := lw_g (lw_at lw_m2 55 rfl) rfl
theorem q411 : (Jvm.Cond.fieldLink "HadForVoice" (115 : Nat) "HadForVoice" "told" "[I") ∈ lw_all := lw_g (lw_at lw_m2 56 rfl) rfl
theorem q412 : (Jvm.Cond.fieldLink "HadForVoice" (118 : Nat) "HadForVoice" "row" "[I") ∈ lw_all := lw_g (lw_at lw_m2 57 rfl) rfl
theorem q413 : (Jvm.Cond.fieldLink "HadForVoice" (435 : Nat) "HadForVoice" "rowLong" "I") ∈ lw_all := lw_g (lw_at lw_m2 58 rfl) rfl
theorem q414 : (Jvm.Cond.fieldLink "HadForVoice" (429 : Nat) "HadForVoice" "wholes" "I") ∈ lw_all := lw_g (lw_at lw_m2 59 rfl) rfl
theorem q415 : (Jvm.Cond.fieldLink "HadForVoice" (426 : Nat) "HadForVoice" "most" "I") ∈ lw_all := lw_g (lw_at lw_m2 60 rfl) rfl
theorem q416 : (Jvm.Cond.fieldLink "HadForVoice" (432 : Nat) "HadForVoice" "least" "I") ∈ lw_all := lw_g (lw_at lw_m2 61 rfl) rfl
theorem q417 : (Jvm.Cond.fieldLink "HadForVoice" (121 : Nat) "HadForVoice" "ring" "[I") ∈ lw_all := lw_g (lw_at lw_m2 62 rfl) rfl
theorem q418 : (Jvm.Cond.fieldLink "HadForVoice" (124 : Nat) "HadForVoice" "firstRing" "[I") ∈ lw_all := lw_g (lw_at lw_m2 63 rfl) rfl
theorem q419 : (Jvm.Cond.fieldLink "HadForVoice" (444 : Nat) "HadForVoice" "ringMany" "I") ∈ lw_all := lw_g (lw_at lw_m2 64 rfl) rfl
theorem q420 : (Jvm.Cond.fieldLink "HadForVoice" (453 : Nat) "HadForVoice" "reach" "I") ∈ lw_all := lw_g (lw_at lw_m2 65 rfl) rfl
theorem q421 : (Jvm.Cond.fieldLink "HadForVoice" (486 : Nat) "HadForVoice" "firstFit" "I") ∈ lw_all := lw_g (lw_at lw_m2 66 rfl) rfl
theorem q422 : (Jvm.Cond.fieldLink "HadForVoice" (127 : Nat) "HadForVoice" "rows" "[I") ∈ lw_all := lw_g (lw_at lw_m2 67 rfl) rfl
theorem q423 : (Jvm.Cond.fieldLink "HadForVoice" (509 : Nat) "HadForVoice" "rowMany" "I") ∈ lw_all := lw_g (lw_at lw_m2 68 rfl) rfl
theorem q424 : (Jvm.Cond.fieldLink "HadForVoice" (132 : Nat) "HadForVoice" "shelves" "[LHadForVoice$Shelf;") ∈ lw_all := lw_g (lw_at lw_m2 69 rfl) rfl
theorem q425 : (Jvm.Cond.fieldLink "HadForVoice" (136 : Nat) "HadForVoice" "sheets" "[LHadForVoice$Shelf;") ∈ lw_all := lw_g (lw_at lw_m2 70 rfl) rfl
theorem q426 : (Jvm.Cond.fieldLink "HadForVoice" (142 : Nat) "HadForVoice" "trace" "LHadForVoice$Trace;") ∈ lw_all := lw_g (lw_at lw_m2 71 rfl) rfl
theorem q427 : (Jvm.Cond.laysFinal "HadForVoice" "HadForVoice" "refusal" "LHadForVoice$Refusal;") ∈ lw_all := lw_g (lw_at lw_m2 72 rfl) rfl
theorem q428 : (Jvm.Cond.soleField "HadForVoice" "refusal") ∈ lw_all := lw_g (lw_at lw_m2 73 rfl) rfl
theorem q429 : (Jvm.Cond.laysFinal "HadForVoice" "HadForVoice" "fault" "LHadForVoice$Fault;") ∈ lw_all := lw_g (lw_at lw_m2 74 rfl) rfl
theorem q430 : (Jvm.Cond.soleField "HadForVoice" "fault") ∈ lw_all := lw_g (lw_at lw_m2 75 rfl) rfl
theorem q431 : (Jvm.Cond.laysFinal "HadForVoice" "HadForVoice" "now" "LHadForVoice$Town;") ∈ lw_all := lw_g (lw_at lw_m2 76 rfl) rfl
theorem q432 : (Jvm.Cond.soleField "HadForVoice" "now") ∈ lw_all := lw_g (lw_at lw_m2 77 rfl) rfl
theorem q433 : (Jvm.Cond.laysFinal "HadForVoice" "HadForVoice" "kept" "LHadForVoice$Town;") ∈ lw_all := lw_g (lw_at lw_m2 78 rfl) rfl
theorem q434 : (Jvm.Cond.soleField "HadForVoice" "kept") ∈ lw_all := lw_g (lw_at lw_m2 79 rfl) rfl
theorem q435 : (Jvm.Cond.laysFinal "HadForVoice" "HadForVoice" "tried" "LHadForVoice$Town;") ∈ lw_all := lw_g (lw_at lw_m2 80 rfl) rfl
theorem q436 : (Jvm.Cond.soleField "HadForVoice" "tried") ∈ lw_all := lw_g (lw_at lw_m2 81 rfl) rfl
theorem q437 : (Jvm.Cond.laysFinal "HadForVoice" "HadForVoice" "people" "[LHadForVoice$Person;") ∈ lw_all := lw_g (lw_at lw_m2 82 rfl) rfl
theorem q438 : (Jvm.Cond.soleField "HadForVoice" "people") ∈ lw_all := lw_g (lw_at lw_m2 83 rfl) rfl
theorem q439 : (Jvm.Cond.lays "HadForVoice" "HadForVoice" "isKept" "Z") ∈ lw_all := lw_g (lw_at lw_m2 84 rfl) rfl
theorem q440 : (Jvm.Cond.soleField "HadForVoice" "isKept") ∈ lw_all := lw_g (lw_at lw_m2 85 rfl) rfl
theorem q441 : (Jvm.Cond.laysFinal "HadForVoice" "HadForVoice" "kindNames" "[Ljava/lang/String;") ∈ lw_all := lw_g (lw_at lw_m2 86 rfl) rfl
theorem q442 : (Jvm.Cond.soleField "HadForVoice" "kindNames") ∈ lw_all := lw_g (lw_at lw_m2 87 rfl) rfl
theorem q443 : (Jvm.Cond.laysFinal "HadForVoice" "HadForVoice" "doings" "[Ljava/lang/String;") ∈ lw_all := lw_g (lw_at lw_m2 88 rfl) rfl
theorem q444 : (Jvm.Cond.soleField "HadForVoice" "doings") ∈ lw_all := lw_g (lw_at lw_m2 89 rfl) rfl
theorem q445 : (Jvm.Cond.laysFinal "HadForVoice" "HadForVoice" "names" "[Ljava/lang/String;") ∈ lw_all := lw_g (lw_at lw_m2 90 rfl) rfl
theorem q446 : (Jvm.Cond.soleField "HadForVoice" "names") ∈ lw_all := lw_g (lw_at lw_m2 91 rfl) rfl
theorem q447 : (Jvm.Cond.laysFinal "HadForVoice" "HadForVoice" "tape" "[B") ∈ lw_all := lw_g (lw_at lw_m2 92 rfl) rfl
theorem q448 : (Jvm.Cond.soleField "HadForVoice" "tape") ∈ lw_all := lw_g (lw_at lw_m2 93 rfl) rfl
theorem q449 : (Jvm.Cond.lays "HadForVoice" "HadForVoice" "tapeMany" "I") ∈ lw_all := lw_g (lw_at lw_m2 94 rfl) rfl
theorem q450 : (Jvm.Cond.soleField "HadForVoice" "tapeMany") ∈ lw_all := lw_g (lw_at lw_m2 95 rfl) rfl
theorem q451 : (Jvm.Cond.lays "HadForVoice" "HadForVoice" "at" "I") ∈ lw_all := lw_g (lw_at lw_m2 96 rfl) rfl
theorem q452 : (Jvm.Cond.soleField "HadForVoice" "at") ∈ lw_all := lw_g (lw_at lw_m2 97 rfl) rfl
theorem q453 : (Jvm.Cond.lays "HadForVoice" "HadForVoice" "end" "I") ∈ lw_all := lw_g (lw_at lw_m2 98 rfl) rfl
theorem q454 : (Jvm.Cond.soleField "HadForVoice" "end") ∈ lw_all := lw_g (lw_at lw_m2 99 rfl) rfl
theorem q455 : (Jvm.Cond.laysFinal "HadForVoice" "HadForVoice" "facts" "[I") ∈ lw_all := lw_g (lw_at lw_m2 100 rfl) rfl
theorem q456 : (Jvm.Cond.soleField "HadForVoice" "facts") ∈ lw_all := lw_g (lw_at lw_m2 101 rfl) rfl
theorem q457 : (Jvm.Cond.lays "HadForVoice" "HadForVoice" "absent" "I") ∈ lw_all := lw_g (lw_at lw_m2 102 rfl) rfl
theorem q458 : (Jvm.Cond.soleField "HadForVoice" "absent") ∈ lw_all := lw_g (lw_at lw_m2 103 rfl) rfl
theorem q459 : (Jvm.Cond.laysFinal "HadForVoice" "HadForVoice" "told" "[I") ∈ lw_all := lw_g (lw_at lw_m2 104 rfl) rfl
theorem q460 : (Jvm.Cond.soleField "HadForVoice" "told") ∈ lw_all := lw_g (lw_at lw_m2 105 rfl) rfl
theorem q461 : (Jvm.Cond.laysFinal "HadForVoice" "HadForVoice" "row" "[I") ∈ lw_all := lw_g (lw_at lw_m2 106 rfl) rfl
theorem q462 : (Jvm.Cond.soleField "HadForVoice" "row") ∈ lw_all := lw_g (lw_at lw_m2 107 rfl) rfl
theorem q463 : (Jvm.Cond.lays "HadForVoice" "HadForVoice" "rowLong" "I") ∈ lw_all := lw_g (lw_at lw_m2 108 rfl) rfl
theorem q464 : (Jvm.Cond.soleField "HadForVoice" "rowLong") ∈ lw_all := lw_g (lw_at lw_m2 109 rfl) rfl
theorem q465 : (Jvm.Cond.lays "HadForVoice" "HadForVoice" "wholes" "I") ∈ lw_all := lw_g (lw_at lw_m2 110 rfl) rfl
theorem q466 : (Jvm.Cond.soleField "HadForVoice" "wholes") ∈ lw_all := lw_g (lw_at lw_m2 111 rfl) rfl
theorem q467 : (Jvm.Cond.lays "HadForVoice" "HadForVoice" "most" "I") ∈ lw_all := lw_g (lw_at lw_m2 112 rfl) rfl
theorem q468 : (Jvm.Cond.soleField "HadForVoice" "most") ∈ lw_all := lw_g (lw_at lw_m2 113 rfl) rfl
theorem q469 : (Jvm.Cond.lays "HadForVoice" "HadForVoice" "least" "I") ∈ lw_all := lw_g (lw_at lw_m2 114 rfl) rfl
theorem q470 : (Jvm.Cond.soleField "HadForVoice" "least") ∈ lw_all := lw_g (lw_at lw_m2 115 rfl) rfl
theorem q471 : (Jvm.Cond.laysFinal "HadForVoice" "HadForVoice" "ring" "[I") ∈ lw_all := lw_g (lw_at lw_m2 116 rfl) rfl
theorem q472 : (Jvm.Cond.soleField "HadForVoice" "ring") ∈ lw_all := lw_g (lw_at lw_m2 117 rfl) rfl
theorem q473 : (Jvm.Cond.laysFinal "HadForVoice" "HadForVoice" "firstRing" "[I") ∈ lw_all := lw_g (lw_at lw_m2 118 rfl) rfl
theorem q474 : (Jvm.Cond.soleField "HadForVoice" "firstRing") ∈ lw_all := lw_g (lw_at lw_m2 119 rfl) rfl
theorem q475 : (Jvm.Cond.lays "HadForVoice" "HadForVoice" "ringMany" "I") ∈ lw_all := lw_g (lw_at lw_m2 120 rfl) rfl
theorem q476 : (Jvm.Cond.soleField "HadForVoice" "ringMany") ∈ lw_all := lw_g (lw_at lw_m2 121 rfl) rfl
theorem q477 : (Jvm.Cond.lays "HadForVoice" "HadForVoice" "reach" "I") ∈ lw_all := lw_g (lw_at lw_m2 122 rfl) rfl
theorem q478 : (Jvm.Cond.soleField "HadForVoice" "reach") ∈ lw_all := lw_g (lw_at lw_m2 123 rfl) rfl
theorem q479 : (Jvm.Cond.lays "HadForVoice" "HadForVoice" "firstFit" "I") ∈ lw_all := lw_g (lw_at lw_m2 124 rfl) rfl
theorem q480 : (Jvm.Cond.soleField "HadForVoice" "firstFit") ∈ lw_all := lw_g (lw_at lw_m2 125 rfl) rfl
theorem q481 : (Jvm.Cond.laysFinal "HadForVoice" "HadForVoice" "rows" "[I") ∈ lw_all := lw_g (lw_at lw_m2 126 rfl) rfl
theorem q482 : (Jvm.Cond.soleField "HadForVoice" "rows") ∈ lw_all := lw_g (lw_at lw_m2 127 rfl) rfl
theorem q483 : (Jvm.Cond.lays "HadForVoice" "HadForVoice" "rowMany" "I") ∈ lw_all := lw_g (lw_at lw_m2 128 rfl) rfl
theorem q484 : (Jvm.Cond.soleField "HadForVoice" "rowMany") ∈ lw_all := lw_g (lw_at lw_m2 129 rfl) rfl
theorem q485 : (Jvm.Cond.laysFinal "HadForVoice" "HadForVoice" "shelves" "[LHadForVoice$Shelf;") ∈ lw_all := lw_g (lw_at lw_m2 130 rfl) rfl
theorem q486 : (Jvm.Cond.soleField "HadForVoice" "shelves") ∈ lw_all := lw_g (lw_at lw_m2 131 rfl) rfl
theorem q487 : (Jvm.Cond.laysFinal "HadForVoice" "HadForVoice" "sheets" "[LHadForVoice$Shelf;") ∈ lw_all := lw_g (lw_at lw_m2 132 rfl) rfl
theorem q488 : (Jvm.Cond.soleField "HadForVoice" "sheets") ∈ lw_all := lw_g (lw_at lw_m2 133 rfl) rfl
theorem q489 : (Jvm.Cond.laysFinal "HadForVoice" "HadForVoice" "trace" "LHadForVoice$Trace;") ∈ lw_all := lw_g (lw_at lw_m2 134 rfl) rfl
theorem q490 : (Jvm.Cond.soleField "HadForVoice" "trace") ∈ lw_all := lw_g (lw_at lw_m2 135 rfl) rfl
theorem q491 : (Jvm.Cond.superclass "HadForVoice" "java/lang/Object") ∈ lw_all := lw_g (lw_at lw_m2 136 rfl) rfl
theorem q493 : (Jvm.Cond.instanceMethod ({ cls := "HadForVoice", name := "person", desc := "(IIII)I" } : Jvm.MethodName)) ∈ lw_all := lw_g (lw_at lw_m2 138 rfl) rfl
theorem q494 : (Jvm.Cond.selects "HadForVoice" ({ cls := "HadForVoice", name := "person", desc := "(IIII)I" } : Jvm.MethodName) ({ cls := "HadForVoice", name := "person", desc := "(IIII)I" } : Jvm.MethodName)) ∈ lw_all := lw_g (lw_at lw_m2 139 rfl) rfl
theorem q495 : (Jvm.Cond.code ({ cls := "HadForVoice", name := "person", desc := "(IIII)I" } : Jvm.MethodName) prog_1_method_11_code (6 : Nat) (Option.some Jvm.ClassFile.FieldType.int)) ∈ lw_all := lw_g (lw_at lw_m2 140 rfl) rfl
theorem q496 : (Jvm.Cond.methodLink "HadForVoice" (167 : Nat) ({ cls := "HadForVoice", name := "isKind", desc := "(I)Z" } : Jvm.MethodName)) ∈ lw_all := lw_g (lw_at lw_m2 141 rfl) rfl
theorem q497 : (Jvm.Cond.static ({ cls := "HadForVoice", name := "isKind", desc := "(I)Z" } : Jvm.MethodName)) ∈ lw_all := lw_g (lw_at lw_m2 142 rfl) rfl
theorem q498 : (Jvm.Cond.code ({ cls := "HadForVoice", name := "isKind", desc := "(I)Z" } : Jvm.MethodName) prog_1_method_8_code (1 : Nat) (Option.some Jvm.ClassFile.FieldType.boolean)) ∈ lw_all := lw_g (lw_at lw_m2 143 rfl) rfl
theorem q499 : (Jvm.Cond.methodLink "HadForVoice" (149 : Nat) ({ cls := "HadForVoice", name := "isIn", desc := "(III)Z" } : Jvm.MethodName)) ∈ lw_all := lw_g (lw_at lw_m2 144 rfl) rfl
theorem q500 : (Jvm.Cond.static ({ cls := "HadForVoice", name := "isIn", desc := "(III)Z" } : Jvm.MethodName)) ∈ lw_all := lw_g (lw_at lw_m2 145 rfl) rfl
theorem q501 : (Jvm.Cond.code ({ cls := "HadForVoice", name := "isIn", desc := "(III)Z" } : Jvm.MethodName) prog_1_method_1_code (3 : Nat) (Option.some Jvm.ClassFile.FieldType.boolean)) ∈ lw_all := lw_g (lw_at lw_m2 146 rfl) rfl
theorem q502 : (Jvm.Cond.methodLink "HadForVoice" (170 : Nat) ({ cls := "HadForVoice", name := "isTold", desc := "(II)Z" } : Jvm.MethodName)) ∈ lw_all := lw_g (lw_at lw_m2 147 rfl) rfl
theorem q503 : (Jvm.Cond.static ({ cls := "HadForVoice", name := "isTold", desc := "(II)Z" } : Jvm.MethodName)) ∈ lw_all := lw_g (lw_at lw_m2 148 rfl) rfl
theorem q504 : (Jvm.Cond.code ({ cls := "HadForVoice", name := "isTold", desc := "(II)Z" } : Jvm.MethodName) prog_1_method_9_code (2 : Nat) (Option.some Jvm.ClassFile.FieldType.boolean)) ∈ lw_all := lw_g (lw_at lw_m2 149 rfl) rfl
theorem q505 : (Jvm.Cond.methodLink "HadForVoice" (153 : Nat) ({ cls := "HadForVoice", name := "isThing", desc := "(I)Z" } : Jvm.MethodName)) ∈ lw_all := lw_g (lw_at lw_m2 150 rfl) rfl
theorem q506 : (Jvm.Cond.static ({ cls := "HadForVoice", name := "isThing", desc := "(I)Z" } : Jvm.MethodName)) ∈ lw_all := lw_g (lw_at lw_m2 151 rfl) rfl
theorem q507 : (Jvm.Cond.code ({ cls := "HadForVoice", name := "isThing", desc := "(I)Z" } : Jvm.MethodName) prog_1_method_7_code (1 : Nat) (Option.some Jvm.ClassFile.FieldType.boolean)) ∈ lw_all := lw_g (lw_at lw_m2 152 rfl) rfl
theorem q508 : (Jvm.Cond.methodLink "HadForVoice" (181 : Nat) ({ cls := "HadForVoice", name := "renew", desc := "(I)V" } : Jvm.MethodName)) ∈ lw_all := lw_g (lw_at lw_m2 153 rfl) rfl
theorem q509 : (Jvm.Cond.privateMethod ({ cls := "HadForVoice", name := "renew", desc := "(I)V" } : Jvm.MethodName)) ∈ lw_tbl := lw_at lw_m2 154 rfl
theorem q510 : (Jvm.Cond.instanceMethod ({ cls := "HadForVoice", name := "renew", desc := "(I)V" } : Jvm.MethodName)) ∈ lw_all := lw_g (lw_at lw_m2 155 rfl) rfl
theorem q511 : (Jvm.Cond.code ({ cls := "HadForVoice", name := "renew", desc := "(I)V" } : Jvm.MethodName) prog_1_method_10_code (2 : Nat) (Option.none : Option Jvm.ClassFile.FieldType)) ∈ lw_all := lw_g (lw_at lw_m2 156 rfl) rfl
theorem q512 : (Jvm.Cond.methodLink "HadForVoice" (163 : Nat) ({ cls := "HadForVoice", name := "made", desc := "(III)LHadForVoice$Person;" } : Jvm.MethodName)) ∈ lw_all := lw_g (lw_at lw_m2 157 rfl) rfl
theorem q513 : (Jvm.Cond.static ({ cls := "HadForVoice", name := "made", desc := "(III)LHadForVoice$Person;" } : Jvm.MethodName)) ∈ lw_all := lw_g (lw_at lw_m2 158 rfl) rfl
theorem q514 : (Jvm.Cond.code ({ cls := "HadForVoice", name := "made", desc := "(III)LHadForVoice$Person;" } : Jvm.MethodName) prog_1_method_3_code (3 : Nat) (Option.some (Jvm.ClassFile.FieldType.object "HadForVoice$Person"))) ∈ lw_all := lw_g (lw_at lw_m2 159 rfl) rfl
theorem q515 : (Jvm.Cond.classLink "HadForVoice" (13 : Nat) "HadForVoice$Maid") ∈ lw_all := lw_g (lw_at lw_m2 160 rfl) rfl
theorem q517 : (Jvm.Cond.methodLink "HadForVoice" (15 : Nat) ({ cls := "HadForVoice$Maid", name := "<init>", desc := "(II)V" } : Jvm.MethodName)) ∈ lw_all := lw_g (lw_at lw_m2 162 rfl) rfl
theorem q531 : (Jvm.Cond.classLink "HadForVoice" (19 : Nat) "HadForVoice$Miser") ∈ lw_all := lw_g (lw_at lw_m2 176 rfl) rfl
theorem q533 : (Jvm.Cond.methodLink "HadForVoice" (21 : Nat) ({ cls := "HadForVoice$Miser", name := "<init>", desc := "(II)V" } : Jvm.MethodName)) ∈ lw_all := lw_g (lw_at lw_m2 178 rfl) rfl
theorem q540 : (Jvm.Cond.classLink "HadForVoice" (22 : Nat) "HadForVoice$Widow") ∈ lw_all := lw_g (lw_at lw_m2 185 rfl) rfl
theorem q542 : (Jvm.Cond.methodLink "HadForVoice" (24 : Nat) ({ cls := "HadForVoice$Widow", name := "<init>", desc := "(II)V" } : Jvm.MethodName)) ∈ lw_all := lw_g (lw_at lw_m2 187 rfl) rfl
theorem q549 : (Jvm.Cond.classLink "HadForVoice" (25 : Nat) "HadForVoice$Prince") ∈ lw_all := lw_g (lw_at lw_m2 194 rfl) rfl
theorem q551 : (Jvm.Cond.methodLink "HadForVoice" (27 : Nat) ({ cls := "HadForVoice$Prince", name := "<init>", desc := "(II)V" } : Jvm.MethodName)) ∈ lw_all := lw_g (lw_at lw_m2 196 rfl) rfl
theorem q558 : (Jvm.Cond.classLink "HadForVoice" (28 : Nat) "HadForVoice$Beast") ∈ lw_all := lw_g (lw_at lw_m2 203 rfl) rfl
theorem q560 : (Jvm.Cond.methodLink "HadForVoice" (30 : Nat) ({ cls := "HadForVoice$Beast", name := "<init>", desc := "(II)V" } : Jvm.MethodName)) ∈ lw_all := lw_g (lw_at lw_m2 205 rfl) rfl
theorem q568 : (Jvm.Cond.instanceMethod ({ cls := "HadForVoice", name := "personOf", desc := "(II)I" } : Jvm.MethodName)) ∈ lw_all := lw_g (lw_at lw_m2 213 rfl) rfl
theorem q569 : (Jvm.Cond.selects "HadForVoice" ({ cls := "HadForVoice", name := "personOf", desc := "(II)I" } : Jvm.MethodName) ({ cls := "HadForVoice", name := "personOf", desc := "(II)I" } : Jvm.MethodName)) ∈ lw_all := lw_g (lw_at lw_m2 214 rfl) rfl
theorem q570 : (Jvm.Cond.code ({ cls := "HadForVoice", name := "personOf", desc := "(II)I" } : Jvm.MethodName) prog_1_method_12_code (3 : Nat) (Option.some Jvm.ClassFile.FieldType.int)) ∈ lw_all := lw_g (lw_at lw_m2 215 rfl) rfl
theorem q571 : (Jvm.Cond.methodLink "HadForVoice" (185 : Nat) ({ cls := "HadForVoice", name := "isPerson", desc := "(I)Z" } : Jvm.MethodName)) ∈ lw_all := lw_g (lw_at lw_m2 216 rfl) rfl
theorem q572 : (Jvm.Cond.privateMethod ({ cls := "HadForVoice", name := "isPerson", desc := "(I)Z" } : Jvm.MethodName)) ∈ lw_tbl := lw_at lw_m2 217 rfl
theorem q573 : (Jvm.Cond.instanceMethod ({ cls := "HadForVoice", name := "isPerson", desc := "(I)Z" } : Jvm.MethodName)) ∈ lw_all := lw_g (lw_at lw_m2 218 rfl) rfl
theorem q574 : (Jvm.Cond.code ({ cls := "HadForVoice", name := "isPerson", desc := "(I)Z" } : Jvm.MethodName) prog_1_method_6_code (2 : Nat) (Option.some Jvm.ClassFile.FieldType.boolean)) ∈ lw_all := lw_g (lw_at lw_m2 219 rfl) rfl
theorem q575 : (Jvm.Cond.methodLink "HadForVoice" (188 : Nat) ({ cls := "HadForVoice", name := "priceOf", desc := "(I)I" } : Jvm.MethodName)) ∈ lw_all := lw_g (lw_at lw_m2 220 rfl) rfl
theorem q576 : (Jvm.Cond.privateMethod ({ cls := "HadForVoice", name := "priceOf", desc := "(I)I" } : Jvm.MethodName)) ∈ lw_tbl := lw_at lw_m2 221 rfl
theorem q577 : (Jvm.Cond.instanceMethod ({ cls := "HadForVoice", name := "priceOf", desc := "(I)I" } : Jvm.MethodName)) ∈ lw_all := lw_g (lw_at lw_m2 222 rfl) rfl
theorem q578 : (Jvm.Cond.code ({ cls := "HadForVoice", name := "priceOf", desc := "(I)I" } : Jvm.MethodName) prog_1_method_41_code (5 : Nat) (Option.some Jvm.ClassFile.FieldType.int)) ∈ lw_all := lw_g (lw_at lw_m2 223 rfl) rfl
theorem q579 : (Jvm.Cond.methodLink "HadForVoice" (211 : Nat) ({ cls := "HadForVoice$Town", name := "whole", desc := "()I" } : Jvm.MethodName)) ∈ lw_all := lw_g (lw_at lw_m2 224 rfl) rfl
theorem q587 : (Jvm.Cond.methodLink "HadForVoice" (345 : Nat) ({ cls := "HadForVoice", name := "absentBit", desc := "()I" } : Jvm.MethodName)) ∈ lw_all := lw_g (lw_at lw_m2 232 rfl) rfl
theorem q588 : (Jvm.Cond.privateMethod ({ cls := "HadForVoice", name := "absentBit", desc := "()I" } : Jvm.MethodName)) ∈ lw_tbl := lw_at lw_m2 233 rfl
theorem q589 : (Jvm.Cond.instanceMethod ({ cls := "HadForVoice", name := "absentBit", desc := "()I" } : Jvm.MethodName)) ∈ lw_all := lw_g (lw_at lw_m2 234 rfl) rfl
theorem q590 : (Jvm.Cond.code ({ cls := "HadForVoice", name := "absentBit", desc := "()I" } : Jvm.MethodName) prog_1_method_42_code (1 : Nat) (Option.some Jvm.ClassFile.FieldType.int)) ∈ lw_all := lw_g (lw_at lw_m2 235 rfl) rfl
theorem q591 : (Jvm.Cond.methodLink "HadForVoice" (348 : Nat) ({ cls := "java/lang/Integer", name := "bitCount", desc := "(I)I" } : Jvm.MethodName)) ∈ lw_all := lw_g (lw_at lw_m2 236 rfl) rfl
theorem q597 : (Jvm.Cond.methodLink "HadForVoice" (353 : Nat) ({ cls := "java/lang/Math", name := "max", desc := "(II)I" } : Jvm.MethodName)) ∈ lw_all := lw_g (lw_at lw_m3 2 rfl) rfl
theorem q600 : (Jvm.Cond.methodLink "HadForVoice" (359 : Nat) ({ cls := "HadForVoice$Rule", name := "isFor", desc := "(I[I)Z" } : Jvm.MethodName)) ∈ lw_all := lw_g (lw_at lw_m3 5 rfl) rfl
theorem q605 : (Jvm.Cond.static ({ cls := "HadForVoice", name := "isOf", desc := "(II)Z" } : Jvm.MethodName)) ∈ lw_all := lw_g (lw_at lw_m3 10 rfl) rfl
theorem q606 : (Jvm.Cond.code ({ cls := "HadForVoice", name := "isOf", desc := "(II)Z" } : Jvm.MethodName) prog_1_method_4_code (2 : Nat) (Option.some Jvm.ClassFile.FieldType.boolean)) ∈ lw_all := lw_g (lw_at lw_m3 11 rfl) rfl
theorem q629 : (Jvm.Cond.methodLink "HadForVoice" (363 : Nat) ({ cls := "HadForVoice$Rule", name := "changes", desc := "(I)I" } : Jvm.MethodName)) ∈ lw_all := lw_g (lw_at lw_m3 34 rfl) rfl
theorem q634 : (Jvm.Cond.methodLink "HadForVoice" (366 : Nat) ({ cls := "HadForVoice$Person", name := "asks", desc := "(III)I" } : Jvm.MethodName)) ∈ lw_all := lw_g (lw_at lw_m3 39 rfl) rfl
theorem q657 : (Jvm.Cond.methodLink "HadForVoice" (192 : Nat) ({ cls := "HadForVoice$Town", name := "isWhole", desc := "(I)Z" } : Jvm.MethodName)) ∈ lw_all := lw_g (lw_at lw_m3 62 rfl) rfl
theorem q659 : (Jvm.Cond.instanceMethod ({ cls := "HadForVoice", name := "change", desc := "(III)I" } : Jvm.MethodName)) ∈ lw_all := lw_g (lw_at lw_m3 64 rfl) rfl
theorem q660 : (Jvm.Cond.selects "HadForVoice" ({ cls := "HadForVoice", name := "change", desc := "(III)I" } : Jvm.MethodName) ({ cls := "HadForVoice", name := "change", desc := "(III)I" } : Jvm.MethodName)) ∈ lw_all := lw_g (lw_at lw_m3 65 rfl) rfl
theorem q661 : (Jvm.Cond.code ({ cls := "HadForVoice", name := "change", desc := "(III)I" } : Jvm.MethodName) prog_1_method_13_code (6 : Nat) (Option.some Jvm.ClassFile.FieldType.int)) ∈ lw_all := lw_g (lw_at lw_m3 66 rfl) rfl
theorem q663 : (Jvm.Cond.instanceMethod ({ cls := "HadForVoice", name := "remake", desc := "(II)I" } : Jvm.MethodName)) ∈ lw_all := lw_g (lw_at lw_m3 68 rfl) rfl
theorem q664 : (Jvm.Cond.selects "HadForVoice" ({ cls := "HadForVoice", name := "remake", desc := "(II)I" } : Jvm.MethodName) ({ cls := "HadForVoice", name := "remake", desc := "(II)I" } : Jvm.MethodName)) ∈ lw_all := lw_g (lw_at lw_m3 69 rfl) rfl
theorem q665 : (Jvm.Cond.code ({ cls := "HadForVoice", name := "remake", desc := "(II)I" } : Jvm.MethodName) prog_1_method_14_code (4 : Nat) (Option.some Jvm.ClassFile.FieldType.int)) ∈ lw_all := lw_g (lw_at lw_m3 70 rfl) rfl
theorem q667 : (Jvm.Cond.instanceMethod ({ cls := "HadForVoice", name := "meets", desc := "(IIZ)I" } : Jvm.MethodName)) ∈ lw_all := lw_g (lw_at lw_m3 72 rfl) rfl
theorem q668 : (Jvm.Cond.selects "HadForVoice" ({ cls := "HadForVoice", name := "meets", desc := "(IIZ)I" } : Jvm.MethodName) ({ cls := "HadForVoice", name := "meets", desc := "(IIZ)I" } : Jvm.MethodName)) ∈ lw_all := lw_g (lw_at lw_m3 73 rfl) rfl
theorem q669 : (Jvm.Cond.code ({ cls := "HadForVoice", name := "meets", desc := "(IIZ)I" } : Jvm.MethodName) prog_1_method_16_code (5 : Nat) (Option.some Jvm.ClassFile.FieldType.int)) ∈ lw_all := lw_g (lw_at lw_m3 74 rfl) rfl
theorem q670 : (Jvm.Cond.methodLink "HadForVoice" (195 : Nat) ({ cls := "HadForVoice", name := "meet", desc := "(II)Z" } : Jvm.MethodName)) ∈ lw_all := lw_g (lw_at lw_m3 75 rfl) rfl
theorem q671 : (Jvm.Cond.privateMethod ({ cls := "HadForVoice", name := "meet", desc := "(II)Z" } : Jvm.MethodName)) ∈ lw_tbl := lw_at lw_m3 76 rfl
theorem q672 : (Jvm.Cond.instanceMethod ({ cls := "HadForVoice", name := "meet", desc := "(II)Z" } : Jvm.MethodName)) ∈ lw_all := lw_g (lw_at lw_m3 77 rfl) rfl
theorem q673 : (Jvm.Cond.code ({ cls := "HadForVoice", name := "meet", desc := "(II)Z" } : Jvm.MethodName) prog_1_method_15_code (3 : Nat) (Option.some Jvm.ClassFile.FieldType.boolean)) ∈ lw_all := lw_g (lw_at lw_m3 78 rfl) rfl
theorem q675 : (Jvm.Cond.instanceMethod ({ cls := "HadForVoice", name := "worth", desc := "(II)I" } : Jvm.MethodName)) ∈ lw_all := lw_g (lw_at lw_m3 80 rfl) rfl
theorem q676 : (Jvm.Cond.selects "HadForVoice" ({ cls := "HadForVoice", name := "worth", desc := "(II)I" } : Jvm.MethodName) ({ cls := "HadForVoice", name := "worth", desc := "(II)I" } : Jvm.MethodName)) ∈ lw_all := lw_g (lw_at lw_m3 81 rfl) rfl
theorem q677 : (Jvm.Cond.code ({ cls := "HadForVoice", name := "worth", desc := "(II)I" } : Jvm.MethodName) prog_1_method_17_code (4 : Nat) (Option.some Jvm.ClassFile.FieldType.int)) ∈ lw_all := lw_g (lw_at lw_m3 82 rfl) rfl
theorem q679 : (Jvm.Cond.instanceMethod ({ cls := "HadForVoice", name := "jar", desc := "(II)I" } : Jvm.MethodName)) ∈ lw_all := lw_g (lw_at lw_m3 84 rfl) rfl
theorem q680 : (Jvm.Cond.selects "HadForVoice" ({ cls := "HadForVoice", name := "jar", desc := "(II)I" } : Jvm.MethodName) ({ cls := "HadForVoice", name := "jar", desc := "(II)I" } : Jvm.MethodName)) ∈ lw_all := lw_g (lw_at lw_m3 85 rfl) rfl
theorem q681 : (Jvm.Cond.code ({ cls := "HadForVoice", name := "jar", desc := "(II)I" } : Jvm.MethodName) prog_1_method_18_code (4 : Nat) (Option.some Jvm.ClassFile.FieldType.int)) ∈ lw_all := lw_g (lw_at lw_m3 86 rfl) rfl
theorem q683 : (Jvm.Cond.instanceMethod ({ cls := "HadForVoice", name := "fee", desc := "(I)I" } : Jvm.MethodName)) ∈ lw_all := lw_g (lw_at lw_m3 88 rfl) rfl
theorem q684 : (Jvm.Cond.selects "HadForVoice" ({ cls := "HadForVoice", name := "fee", desc := "(I)I" } : Jvm.MethodName) ({ cls := "HadForVoice", name := "fee", desc := "(I)I" } : Jvm.MethodName)) ∈ lw_all := lw_g (lw_at lw_m3 89 rfl) rfl
theorem q685 : (Jvm.Cond.code ({ cls := "HadForVoice", name := "fee", desc := "(I)I" } : Jvm.MethodName) prog_1_method_19_code (3 : Nat) (Option.some Jvm.ClassFile.FieldType.int)) ∈ lw_all := lw_g (lw_at lw_m3 90 rfl) rfl
theorem q687 : (Jvm.Cond.instanceMethod ({ cls := "HadForVoice", name := "thing", desc := "(II)I" } : Jvm.MethodName)) ∈ lw_all := lw_g (lw_at lw_m3 92 rfl) rfl
theorem q688 : (Jvm.Cond.selects "HadForVoice" ({ cls := "HadForVoice", name := "thing", desc := "(II)I" } : Jvm.MethodName) ({ cls := "HadForVoice", name := "thing", desc := "(II)I" } : Jvm.MethodName)) ∈ lw_all := lw_g (lw_at lw_m3 93 rfl) rfl
theorem q689 : (Jvm.Cond.code ({ cls := "HadForVoice", name := "thing", desc := "(II)I" } : Jvm.MethodName) prog_1_method_21_code (3 : Nat) (Option.some Jvm.ClassFile.FieldType.int)) ∈ lw_all := lw_g (lw_at lw_m3 94 rfl) rfl
theorem q690 : (Jvm.Cond.methodLink "HadForVoice" (207 : Nat) ({ cls := "HadForVoice", name := "those", desc := "(I[I)I" } : Jvm.MethodName)) ∈ lw_all := lw_g (lw_at lw_m3 95 rfl) rfl
theorem q691 : (Jvm.Cond.privateMethod ({ cls := "HadForVoice", name := "those", desc := "(I[I)I" } : Jvm.MethodName)) ∈ lw_tbl := lw_at lw_m3 96 rfl
theorem q692 : (Jvm.Cond.instanceMethod ({ cls := "HadForVoice", name := "those", desc := "(I[I)I" } : Jvm.MethodName)) ∈ lw_all := lw_g (lw_at lw_m3 97 rfl) rfl
theorem q693 : (Jvm.Cond.code ({ cls := "HadForVoice", name := "those", desc := "(I[I)I" } : Jvm.MethodName) prog_1_method_20_code (5 : Nat) (Option.some Jvm.ClassFile.FieldType.int)) ∈ lw_all := lw_g (lw_at lw_m3 98 rfl) rfl
theorem q695 : (Jvm.Cond.instanceMethod ({ cls := "HadForVoice", name := "state", desc := "(I)I" } : Jvm.MethodName)) ∈ lw_all := lw_g (lw_at lw_m3 100 rfl) rfl
theorem q696 : (Jvm.Cond.selects "HadForVoice" ({ cls := "HadForVoice", name := "state", desc := "(I)I" } : Jvm.MethodName) ({ cls := "HadForVoice", name := "state", desc := "(I)I" } : Jvm.MethodName)) ∈ lw_all := lw_g (lw_at lw_m3 101 rfl) rfl
theorem q697 : (Jvm.Cond.code ({ cls := "HadForVoice", name := "state", desc := "(I)I" } : Jvm.MethodName) prog_1_method_22_code (2 : Nat) (Option.some Jvm.ClassFile.FieldType.int)) ∈ lw_all := lw_g (lw_at lw_m3 102 rfl) rfl
theorem q698 : (Jvm.Cond.methodLink "HadForVoice" (214 : Nat) ({ cls := "HadForVoice$Town", name := "purse", desc := "()I" } : Jvm.MethodName)) ∈ lw_all := lw_g (lw_at lw_m3 103 rfl) rfl
theorem q703 : (Jvm.Cond.instanceMethod ({ cls := "HadForVoice", name := "feed", desc := "(JI)I" } : Jvm.MethodName)) ∈ lw_all := lw_g (lw_at lw_m3 108 rfl) rfl
theorem q704 : (Jvm.Cond.selects "HadForVoice" ({ cls := "HadForVoice", name := "feed", desc := "(JI)I" } : Jvm.MethodName) ({ cls := "HadForVoice", name := "feed", desc := "(JI)I" } : Jvm.MethodName)) ∈ lw_all := lw_g (lw_at lw_m3 109 rfl) rfl
theorem q705 : (Jvm.Cond.code ({ cls := "HadForVoice", name := "feed", desc := "(JI)I" } : Jvm.MethodName) prog_1_method_23_code (5 : Nat) (Option.some Jvm.ClassFile.FieldType.int)) ∈ lw_all := lw_g (lw_at lw_m3 110 rfl) rfl
theorem q707 : (Jvm.Cond.instanceMethod ({ cls := "HadForVoice", name := "rules", desc := "()I" } : Jvm.MethodName)) ∈ lw_all := lw_g (lw_at lw_m3 112 rfl) rfl
theorem q708 : (Jvm.Cond.selects "HadForVoice" ({ cls := "HadForVoice", name := "rules", desc := "()I" } : Jvm.MethodName) ({ cls := "HadForVoice", name := "rules", desc := "()I" } : Jvm.MethodName)) ∈ lw_all := lw_g (lw_at lw_m3 113 rfl) rfl
theorem q709 : (Jvm.Cond.codeWith ({ cls := "HadForVoice", name := "rules", desc := "()I" } : Jvm.MethodName) prog_1_method_40_code (4 : Nat) (Option.some Jvm.ClassFile.FieldType.int) [((0 : Nat), (20 : Nat), (27 : Nat), (37 : Nat)), ((0 : Nat), (20 : Nat), (43 : Nat), (0 : Nat)), ((27 : Nat), (36 : Nat), (43 : Nat), (0 : Nat))]) ∈ lw_all := lw_g (lw_at lw_m3 114 rfl) rfl
theorem q710 : (Jvm.Cond.methodLink "HadForVoice" (334 : Nat) ({ cls := "HadForVoice", name := "allRules", desc := "()[LHadForVoice$Rule;" } : Jvm.MethodName)) ∈ lw_all := lw_g (lw_at lw_m3 115 rfl) rfl
theorem q711 : (Jvm.Cond.privateMethod ({ cls := "HadForVoice", name := "allRules", desc := "()[LHadForVoice$Rule;" } : Jvm.MethodName)) ∈ lw_tbl := lw_at lw_m3 116 rfl
theorem q712 : (Jvm.Cond.instanceMethod ({ cls := "HadForVoice", name := "allRules", desc := "()[LHadForVoice$Rule;" } : Jvm.MethodName)) ∈ lw_all := lw_g (lw_at lw_m3 117 rfl) rfl
theorem q713 : (Jvm.Cond.code ({ cls := "HadForVoice", name := "allRules", desc := "()[LHadForVoice$Rule;" } : Jvm.MethodName) prog_1_method_39_code (4 : Nat) (Option.some (Jvm.ClassFile.FieldType.array (Jvm.ClassFile.FieldType.object "HadForVoice$Rule")))) ∈ lw_all := lw_g (lw_at lw_m3 118 rfl) rfl
theorem q714 : (Jvm.Cond.classLink "HadForVoice" (319 : Nat) "HadForVoice$Rule") ∈ lw_all := lw_g (lw_at lw_m3 119 rfl) rfl
theorem q715 : (Jvm.Cond.methodLink "HadForVoice" (246 : Nat) ({ cls := "HadForVoice", name := "next", desc := "()V" } : Jvm.MethodName)) ∈ lw_all := lw_g (lw_at lw_m3 120 rfl) rfl
theorem q716 : (Jvm.Cond.privateMethod ({ cls := "HadForVoice", name := "next", desc := "()V" } : Jvm.MethodName)) ∈ lw_tbl := lw_at lw_m3 121 rfl
theorem q717 : (Jvm.Cond.instanceMethod ({ cls := "HadForVoice", name := "next", desc := "()V" } : Jvm.MethodName)) ∈ lw_all := lw_g (lw_at lw_m3 122 rfl) rfl
theorem q718 : (Jvm.Cond.code ({ cls := "HadForVoice", name := "next", desc := "()V" } : Jvm.MethodName) prog_1_method_26_code (4 : Nat) (Option.none : Option Jvm.ClassFile.FieldType)) ∈ lw_all := lw_g (lw_at lw_m3 123 rfl) rfl
theorem q719 : (Jvm.Cond.methodLink "HadForVoice" (228 : Nat) ({ cls := "HadForVoice", name := "isLetter", desc := "(I)Z" } : Jvm.MethodName)) ∈ lw_all := lw_g (lw_at lw_m3 124 rfl) rfl
theorem q720 : (Jvm.Cond.static ({ cls := "HadForVoice", name := "isLetter", desc := "(I)Z" } : Jvm.MethodName)) ∈ lw_all := lw_g (lw_at lw_m3 125 rfl) rfl
theorem q721 : (Jvm.Cond.code ({ cls := "HadForVoice", name := "isLetter", desc := "(I)Z" } : Jvm.MethodName) prog_1_method_25_code (1 : Nat) (Option.some Jvm.ClassFile.FieldType.boolean)) ∈ lw_all := lw_g (lw_at lw_m3 126 rfl) rfl
theorem q722 : (Jvm.Cond.methodLink "HadForVoice" (231 : Nat) ({ cls := "HadForVoice", name := "isDigit", desc := "(I)Z" } : Jvm.MethodName)) ∈ lw_all := lw_g (lw_at lw_m3 127 rfl) rfl
theorem q723 : (Jvm.Cond.static ({ cls := "HadForVoice", name := "isDigit", desc := "(I)Z" } : Jvm.MethodName)) ∈ lw_all := lw_g (lw_at lw_m3 128 rfl) rfl
theorem q724 : (Jvm.Cond.code ({ cls := "HadForVoice", name := "isDigit", desc := "(I)Z" } : Jvm.MethodName) prog_1_method_24_code (1 : Nat) (Option.some Jvm.ClassFile.FieldType.boolean)) ∈ lw_all := lw_g (lw_at lw_m3 129 rfl) rfl
theorem q725 : (Jvm.Cond.methodLink "HadForVoice" (252 : Nat) ({ cls := "HadForVoice", name := "faultHere", desc := "()LHadForVoice$Refusal;" } : Jvm.MethodName)) ∈ lw_all := lw_g (lw_at lw_m3 130 rfl) rfl
theorem q726 : (Jvm.Cond.privateMethod ({ cls := "HadForVoice", name := "faultHere", desc := "()LHadForVoice$Refusal;" } : Jvm.MethodName)) ∈ lw_tbl := lw_at lw_m3 131 rfl
theorem q727 : (Jvm.Cond.instanceMethod ({ cls := "HadForVoice", name := "faultHere", desc := "()LHadForVoice$Refusal;" } : Jvm.MethodName)) ∈ lw_all := lw_g (lw_at lw_m3 132 rfl) rfl
theorem q728 : (Jvm.Cond.code ({ cls := "HadForVoice", name := "faultHere", desc := "()LHadForVoice$Refusal;" } : Jvm.MethodName) prog_1_method_27_code (1 : Nat) (Option.some (Jvm.ClassFile.FieldType.object "HadForVoice$Refusal"))) ∈ lw_all := lw_g (lw_at lw_m3 133 rfl) rfl
theorem q729 : (Jvm.Cond.methodLink "HadForVoice" (234 : Nat) ({ cls := "HadForVoice$Fault", name := "of", desc := "(I)LHadForVoice$Refusal;" } : Jvm.MethodName)) ∈ lw_all := lw_g (lw_at lw_m3 134 rfl) rfl
theorem q735 : (Jvm.Cond.methodLink "HadForVoice" (324 : Nat) ({ cls := "HadForVoice", name := "rule", desc := "()LHadForVoice$Rule;" } : Jvm.MethodName)) ∈ lw_all := lw_g (lw_at lw_m3 140 rfl) rfl
theorem q736 : (Jvm.Cond.privateMethod ({ cls := "HadForVoice", name := "rule", desc := "()LHadForVoice$Rule;" } : Jvm.MethodName)) ∈ lw_tbl := lw_at lw_m3 141 rfl
theorem q737 : (Jvm.Cond.instanceMethod ({ cls := "HadForVoice", name := "rule", desc := "()LHadForVoice$Rule;" } : Jvm.MethodName)) ∈ lw_all := lw_g (lw_at lw_m3 142 rfl) rfl
theorem q738 : (Jvm.Cond.code ({ cls := "HadForVoice", name := "rule", desc := "()LHadForVoice$Rule;" } : Jvm.MethodName) prog_1_method_38_code (5 : Nat) (Option.some (Jvm.ClassFile.FieldType.object "HadForVoice$Rule"))) ∈ lw_all := lw_g (lw_at lw_m3 143 rfl) rfl
theorem q739 : (Jvm.Cond.methodLink "HadForVoice" (256 : Nat) ({ cls := "HadForVoice", name := "nameOf", desc := "([Ljava/lang/String;)I" } : Jvm.MethodName)) ∈ lw_all := lw_g (lw_at lw_m3 144 rfl) rfl
theorem q740 : (Jvm.Cond.privateMethod ({ cls := "HadForVoice", name := "nameOf", desc := "([Ljava/lang/String;)I" } : Jvm.MethodName)) ∈ lw_tbl := lw_at lw_m3 145 rfl
theorem q741 : (Jvm.Cond.instanceMethod ({ cls := "HadForVoice", name := "nameOf", desc := "([Ljava/lang/String;)I" } : Jvm.MethodName)) ∈ lw_all := lw_g (lw_at lw_m3 146 rfl) rfl
theorem q742 : (Jvm.Cond.code ({ cls := "HadForVoice", name := "nameOf", desc := "([Ljava/lang/String;)I" } : Jvm.MethodName) prog_1_method_32_code (3 : Nat) (Option.some Jvm.ClassFile.FieldType.int)) ∈ lw_all := lw_g (lw_at lw_m3 147 rfl) rfl
theorem q743 : (Jvm.Cond.methodLink "HadForVoice" (242 : Nat) ({ cls := "HadForVoice", name := "isName", desc := "(Ljava/lang/String;)Z" } : Jvm.MethodName)) ∈ lw_all := lw_g (lw_at lw_m3 148 rfl) rfl
theorem q744 : (Jvm.Cond.privateMethod ({ cls := "HadForVoice", name := "isName", desc := "(Ljava/lang/String;)Z" } : Jvm.MethodName)) ∈ lw_tbl := lw_at lw_m3 149 rfl
theorem q745 : (Jvm.Cond.instanceMethod ({ cls := "HadForVoice", name := "isName", desc := "(Ljava/lang/String;)Z" } : Jvm.MethodName)) ∈ lw_all := lw_g (lw_at lw_m3 150 rfl) rfl
theorem q746 : (Jvm.Cond.code ({ cls := "HadForVoice", name := "isName", desc := "(Ljava/lang/String;)Z" } : Jvm.MethodName) prog_1_method_28_code (3 : Nat) (Option.some Jvm.ClassFile.FieldType.boolean)) ∈ lw_all := lw_g (lw_at lw_m3 151 rfl) rfl
theorem q747 : (Jvm.Cond.methodLink "HadForVoice" (235 : Nat) ({ cls := "java/lang/String", name := "length", desc := "()I" } : Jvm.MethodName)) ∈ lw_all := lw_g (lw_at lw_m3 152 rfl) rfl
theorem q757 : (Jvm.Cond.methodLink "HadForVoice" (238 : Nat) ({ cls := "java/lang/String", name := "charAt", desc := "(I)C" } : Jvm.MethodName)) ∈ lw_all := lw_g (lw_at lw_m3 162 rfl) rfl
theorem q795 : (Jvm.Cond.stringRef "HadForVoice" (312 : Nat) "if") ∈ lw_tbl := lw_at lw_m3 200 rfl
theorem q796 : (Jvm.Cond.methodLink "HadForVoice" (249 : Nat) ({ cls := "HadForVoice", name := "goesOn", desc := "(Ljava/lang/String;)Z" } : Jvm.MethodName)) ∈ lw_all := lw_g (lw_at lw_m3 201 rfl) rfl
theorem q797 : (Jvm.Cond.privateMethod ({ cls := "HadForVoice", name := "goesOn", desc := "(Ljava/lang/String;)Z" } : Jvm.MethodName)) ∈ lw_tbl := lw_at lw_m3 202 rfl
theorem q798 : (Jvm.Cond.instanceMethod ({ cls := "HadForVoice", name := "goesOn", desc := "(Ljava/lang/String;)Z" } : Jvm.MethodName)) ∈ lw_all := lw_g (lw_at lw_m3 203 rfl) rfl
theorem q799 : (Jvm.Cond.code ({ cls := "HadForVoice", name := "goesOn", desc := "(Ljava/lang/String;)Z" } : Jvm.MethodName) prog_1_method_29_code (2 : Nat) (Option.some Jvm.ClassFile.FieldType.boolean)) ∈ lw_all := lw_g (lw_at lw_m3 204 rfl) rfl
theorem q800 : (Jvm.Cond.methodLink "HadForVoice" (279 : Nat) ({ cls := "HadForVoice", name := "cond", desc := "(I)LHadForVoice$Cond;" } : Jvm.MethodName)) ∈ lw_all := lw_g (lw_at lw_m3 205 rfl) rfl
theorem q801 : (Jvm.Cond.privateMethod ({ cls := "HadForVoice", name := "cond", desc := "(I)LHadForVoice$Cond;" } : Jvm.MethodName)) ∈ lw_tbl := lw_at lw_m3 206 rfl
theorem q802 : (Jvm.Cond.instanceMethod ({ cls := "HadForVoice", name := "cond", desc := "(I)LHadForVoice$Cond;" } : Jvm.MethodName)) ∈ lw_all := lw_g (lw_at lw_m3 207 rfl) rfl
theorem q803 : (Jvm.Cond.code ({ cls := "HadForVoice", name := "cond", desc := "(I)LHadForVoice$Cond;" } : Jvm.MethodName) prog_1_method_36_code (3 : Nat) (Option.some (Jvm.ClassFile.FieldType.object "HadForVoice$Cond"))) ∈ lw_all := lw_g (lw_at lw_m3 208 rfl) rfl
theorem q804 : (Jvm.Cond.methodLink "HadForVoice" (304 : Nat) ({ cls := "HadForVoice", name := "all", desc := "(I)LHadForVoice$Cond;" } : Jvm.MethodName)) ∈ lw_all := lw_g (lw_at lw_m3 209 rfl) rfl
theorem q805 : (Jvm.Cond.privateMethod ({ cls := "HadForVoice", name := "all", desc := "(I)LHadForVoice$Cond;" } : Jvm.MethodName)) ∈ lw_tbl := lw_at lw_m3 210 rfl
theorem q806 : (Jvm.Cond.instanceMethod ({ cls := "HadForVoice", name := "all", desc := "(I)LHadForVoice$Cond;" } : Jvm.MethodName)) ∈ lw_all := lw_g (lw_at lw_m3 211 rfl) rfl
theorem q807 : (Jvm.Cond.code ({ cls := "HadForVoice", name := "all", desc := "(I)LHadForVoice$Cond;" } : Jvm.MethodName) prog_1_method_35_code (3 : Nat) (Option.some (Jvm.ClassFile.FieldType.object "HadForVoice$Cond"))) ∈ lw_all := lw_g (lw_at lw_m3 212 rfl) rfl
theorem q808 : (Jvm.Cond.methodLink "HadForVoice" (270 : Nat) ({ cls := "HadForVoice", name := "oneOf", desc := "(I)LHadForVoice$Cond;" } : Jvm.MethodName)) ∈ lw_all := lw_g (lw_at lw_m3 213 rfl) rfl
theorem q809 : (Jvm.Cond.privateMethod ({ cls := "HadForVoice", name := "oneOf", desc := "(I)LHadForVoice$Cond;" } : Jvm.MethodName)) ∈ lw_tbl := lw_at lw_m3 214 rfl
theorem q810 : (Jvm.Cond.instanceMethod ({ cls := "HadForVoice", name := "oneOf", desc := "(I)LHadForVoice$Cond;" } : Jvm.MethodName)) ∈ lw_all := lw_g (lw_at lw_m3 215 rfl) rfl
theorem q811 : (Jvm.Cond.code ({ cls := "HadForVoice", name := "oneOf", desc := "(I)LHadForVoice$Cond;" } : Jvm.MethodName) prog_1_method_34_code (4 : Nat) (Option.some (Jvm.ClassFile.FieldType.object "HadForVoice$Cond"))) ∈ lw_all := lw_g (lw_at lw_m3 216 rfl) rfl
theorem q812 : (Jvm.Cond.stringRef "HadForVoice" (266 : Nat) "not") ∈ lw_tbl := lw_at lw_m3 217 rfl
theorem q813 : (Jvm.Cond.classLink "HadForVoice" (268 : Nat) "HadForVoice$Not") ∈ lw_all := lw_g (lw_at lw_m3 218 rfl) rfl
theorem q815 : (Jvm.Cond.methodLink "HadForVoice" (274 : Nat) ({ cls := "HadForVoice$Not", name := "<init>", desc := "(LHadForVoice$Cond;)V" } : Jvm.MethodName)) ∈ lw_all := lw_g (lw_at lw_m3 220 rfl) rfl
theorem q826 : (Jvm.Cond.stringRef "HadForVoice" (277 : Nat) "(") ∈ lw_tbl := lw_at lw_m3 231 rfl
theorem q827 : (Jvm.Cond.stringRef "HadForVoice" (282 : Nat) ")") ∈ lw_tbl := lw_at lw_m3 232 rfl
theorem q828 : (Jvm.Cond.methodLink "HadForVoice" (284 : Nat) ({ cls := "HadForVoice", name := "want", desc := "(Ljava/lang/String;)V" } : Jvm.MethodName)) ∈ lw_all := lw_g (lw_at lw_m3 233 rfl) rfl
theorem q829 : (Jvm.Cond.privateMethod ({ cls := "HadForVoice", name := "want", desc := "(Ljava/lang/String;)V" } : Jvm.MethodName)) ∈ lw_tbl := lw_at lw_m3 234 rfl
theorem q830 : (Jvm.Cond.instanceMethod ({ cls := "HadForVoice", name := "want", desc := "(Ljava/lang/String;)V" } : Jvm.MethodName)) ∈ lw_all := lw_g (lw_at lw_m3 235 rfl) rfl
theorem q831 : (Jvm.Cond.code ({ cls := "HadForVoice", name := "want", desc := "(Ljava/lang/String;)V" } : Jvm.MethodName) prog_1_method_30_code (2 : Nat) (Option.none : Option Jvm.ClassFile.FieldType)) ∈ lw_all := lw_g (lw_at lw_m3 236 rfl) rfl
theorem q832 : (Jvm.Cond.methodLink "HadForVoice" (288 : Nat) ({ cls := "HadForVoice", name := "value", desc := "()LHadForVoice$Value;" } : Jvm.MethodName)) ∈ lw_all := lw_g (lw_at lw_m3 237 rfl) rfl
theorem q833 : (Jvm.Cond.privateMethod ({ cls := "HadForVoice", name := "value", desc := "()LHadForVoice$Value;" } : Jvm.MethodName)) ∈ lw_tbl := lw_at lw_m3 238 rfl
theorem q834 : (Jvm.Cond.instanceMethod ({ cls := "HadForVoice", name := "value", desc := "()LHadForVoice$Value;" } : Jvm.MethodName)) ∈ lw_all := lw_g (lw_at lw_m3 239 rfl) rfl
theorem q835 : (Jvm.Cond.code ({ cls := "HadForVoice", name := "value", desc := "()LHadForVoice$Value;" } : Jvm.MethodName) prog_1_method_33_code (2 : Nat) (Option.some (Jvm.ClassFile.FieldType.object "HadForVoice$Value"))) ∈ lw_all := lw_g (lw_at lw_m4 0 rfl) rfl
theorem q836 : (Jvm.Cond.classLink "HadForVoice" (260 : Nat) "HadForVoice$Value") ∈ lw_all := lw_g (lw_at lw_m4 1 rfl) rfl
theorem q838 : (Jvm.Cond.methodLink "HadForVoice" (262 : Nat) ({ cls := "HadForVoice$Value", name := "<init>", desc := "(II)V" } : Jvm.MethodName)) ∈ lw_all := lw_g (lw_at lw_m4 3 rfl) rfl
theorem q849 : (Jvm.Cond.methodLink "HadForVoice" (263 : Nat) ({ cls := "HadForVoice", name := "figure", desc := "()I" } : Jvm.MethodName)) ∈ lw_all := lw_g (lw_at lw_m4 14 rfl) rfl
theorem q850 : (Jvm.Cond.privateMethod ({ cls := "HadForVoice", name := "figure", desc := "()I" } : Jvm.MethodName)) ∈ lw_tbl := lw_at lw_m4 15 rfl
theorem q851 : (Jvm.Cond.instanceMethod ({ cls := "HadForVoice", name := "figure", desc := "()I" } : Jvm.MethodName)) ∈ lw_all := lw_g (lw_at lw_m4 16 rfl) rfl
theorem q852 : (Jvm.Cond.code ({ cls := "HadForVoice", name := "figure", desc := "()I" } : Jvm.MethodName) prog_1_method_31_code (4 : Nat) (Option.some Jvm.ClassFile.FieldType.int)) ∈ lw_all := lw_g (lw_at lw_m4 17 rfl) rfl
theorem q853 : (Jvm.Cond.classLink "HadForVoice" (292 : Nat) "HadForVoice$Asks") ∈ lw_all := lw_g (lw_at lw_m4 18 rfl) rfl
theorem q855 : (Jvm.Cond.methodLink "HadForVoice" (294 : Nat) ({ cls := "HadForVoice$Asks", name := "<init>", desc := "(LHadForVoice$Value;ILHadForVoice$Value;)V" } : Jvm.MethodName)) ∈ lw_all := lw_g (lw_at lw_m4 20 rfl) rfl
theorem q869 : (Jvm.Cond.stringRef "HadForVoice" (297 : Nat) "and") ∈ lw_tbl := lw_at lw_m4 34 rfl
theorem q870 : (Jvm.Cond.classLink "HadForVoice" (299 : Nat) "HadForVoice$All") ∈ lw_all := lw_g (lw_at lw_m4 35 rfl) rfl
theorem q872 : (Jvm.Cond.methodLink "HadForVoice" (301 : Nat) ({ cls := "HadForVoice$All", name := "<init>", desc := "(LHadForVoice$Cond;LHadForVoice$Cond;)V" } : Jvm.MethodName)) ∈ lw_all := lw_g (lw_at lw_m4 37 rfl) rfl
theorem q887 : (Jvm.Cond.stringRef "HadForVoice" (307 : Nat) "or") ∈ lw_tbl := lw_at lw_m4 52 rfl
theorem q888 : (Jvm.Cond.classLink "HadForVoice" (309 : Nat) "HadForVoice$Some") ∈ lw_all := lw_g (lw_at lw_m4 53 rfl) rfl
theorem q890 : (Jvm.Cond.methodLink "HadForVoice" (311 : Nat) ({ cls := "HadForVoice$Some", name := "<init>", desc := "(LHadForVoice$Cond;LHadForVoice$Cond;)V" } : Jvm.MethodName)) ∈ lw_all := lw_g (lw_at lw_m4 55 rfl) rfl
theorem q897 : (Jvm.Cond.methodLink "HadForVoice" (314 : Nat) ({ cls := "HadForVoice", name := "upTo", desc := "(I)I" } : Jvm.MethodName)) ∈ lw_all := lw_g (lw_at lw_m4 62 rfl) rfl
theorem q898 : (Jvm.Cond.privateMethod ({ cls := "HadForVoice", name := "upTo", desc := "(I)I" } : Jvm.MethodName)) ∈ lw_tbl := lw_at lw_m4 63 rfl
theorem q899 : (Jvm.Cond.instanceMethod ({ cls := "HadForVoice", name := "upTo", desc := "(I)I" } : Jvm.MethodName)) ∈ lw_all := lw_g (lw_at lw_m4 64 rfl) rfl
theorem q900 : (Jvm.Cond.code ({ cls := "HadForVoice", name := "upTo", desc := "(I)I" } : Jvm.MethodName) prog_1_method_37_code (4 : Nat) (Option.some Jvm.ClassFile.FieldType.int)) ∈ lw_all := lw_g (lw_at lw_m4 65 rfl) rfl
theorem q901 : (Jvm.Cond.stringRef "HadForVoice" (317 : Nat) ";") ∈ lw_tbl := lw_at lw_m4 66 rfl
theorem q903 : (Jvm.Cond.methodLink "HadForVoice" (321 : Nat) ({ cls := "HadForVoice$Rule", name := "<init>", desc := "(ILHadForVoice$Cond;II)V" } : Jvm.MethodName)) ∈ lw_all := lw_g (lw_at lw_m4 68 rfl) rfl
theorem q920 : (Jvm.Cond.methodLink "HadForVoice" (328 : Nat) ({ cls := "java/lang/System", name := "arraycopy", desc := "(Ljava/lang/Object;ILjava/lang/Object;II)V" } : Jvm.MethodName)) ∈ lw_all := lw_g (lw_at lw_m4 85 rfl) rfl
theorem q924 : (Jvm.Cond.instanceMethod ({ cls := "HadForVoice", name := "cans", desc := "(I)I" } : Jvm.MethodName)) ∈ lw_all := lw_g (lw_at lw_m4 89 rfl) rfl
theorem q925 : (Jvm.Cond.selects "HadForVoice" ({ cls := "HadForVoice", name := "cans", desc := "(I)I" } : Jvm.MethodName) ({ cls := "HadForVoice", name := "cans", desc := "(I)I" } : Jvm.MethodName)) ∈ lw_all := lw_g (lw_at lw_m4 90 rfl) rfl
theorem q926 : (Jvm.Cond.code ({ cls := "HadForVoice", name := "cans", desc := "(I)I" } : Jvm.MethodName) prog_1_method_50_code (3 : Nat) (Option.some Jvm.ClassFile.FieldType.int)) ∈ lw_all := lw_g (lw_at lw_m4 91 rfl) rfl
theorem q927 : (Jvm.Cond.methodLink "HadForVoice" (386 : Nat) ({ cls := "HadForVoice", name := "after", desc := "(I)I" } : Jvm.MethodName)) ∈ lw_all := lw_g (lw_at lw_m4 92 rfl) rfl
theorem q928 : (Jvm.Cond.privateMethod ({ cls := "HadForVoice", name := "after", desc := "(I)I" } : Jvm.MethodName)) ∈ lw_tbl := lw_at lw_m4 93 rfl
theorem q929 : (Jvm.Cond.instanceMethod ({ cls := "HadForVoice", name := "after", desc := "(I)I" } : Jvm.MethodName)) ∈ lw_all := lw_g (lw_at lw_m4 94 rfl) rfl
theorem q930 : (Jvm.Cond.code ({ cls := "HadForVoice", name := "after", desc := "(I)I" } : Jvm.MethodName) prog_1_method_47_code (3 : Nat) (Option.some Jvm.ClassFile.FieldType.int)) ∈ lw_all := lw_g (lw_at lw_m4 95 rfl) rfl
theorem q931 : (Jvm.Cond.methodLink "HadForVoice" (376 : Nat) ({ cls := "HadForVoice", name := "isChange", desc := "(I)Z" } : Jvm.MethodName)) ∈ lw_all := lw_g (lw_at lw_m4 96 rfl) rfl
theorem q932 : (Jvm.Cond.privateMethod ({ cls := "HadForVoice", name := "isChange", desc := "(I)Z" } : Jvm.MethodName)) ∈ lw_tbl := lw_at lw_m4 97 rfl
theorem q933 : (Jvm.Cond.instanceMethod ({ cls := "HadForVoice", name := "isChange", desc := "(I)Z" } : Jvm.MethodName)) ∈ lw_all := lw_g (lw_at lw_m4 98 rfl) rfl
theorem q934 : (Jvm.Cond.code ({ cls := "HadForVoice", name := "isChange", desc := "(I)Z" } : Jvm.MethodName) prog_1_method_45_code (4 : Nat) (Option.some Jvm.ClassFile.FieldType.boolean)) ∈ lw_all := lw_g (lw_at lw_m4 99 rfl) rfl
theorem q935 : (Jvm.Cond.methodLink "HadForVoice" (389 : Nat) ({ cls := "HadForVoice", name := "can", desc := "(I)Z" } : Jvm.MethodName)) ∈ lw_all := lw_g (lw_at lw_m4 100 rfl) rfl
theorem q936 : (Jvm.Cond.privateMethod ({ cls := "HadForVoice", name := "can", desc := "(I)Z" } : Jvm.MethodName)) ∈ lw_tbl := lw_at lw_m4 101 rfl
theorem q937 : (Jvm.Cond.instanceMethod ({ cls := "HadForVoice", name := "can", desc := "(I)Z" } : Jvm.MethodName)) ∈ lw_all := lw_g (lw_at lw_m4 102 rfl) rfl
theorem q938 : (Jvm.Cond.code ({ cls := "HadForVoice", name := "can", desc := "(I)Z" } : Jvm.MethodName) prog_1_method_46_code (4 : Nat) (Option.some Jvm.ClassFile.FieldType.boolean)) ∈ lw_all := lw_g (lw_at lw_m4 103 rfl) rfl
theorem q939 : (Jvm.Cond.methodLink "HadForVoice" (370 : Nat) ({ cls := "HadForVoice", name := "canTrade", desc := "(I)Z" } : Jvm.MethodName)) ∈ lw_all := lw_g (lw_at lw_m4 104 rfl) rfl
theorem q940 : (Jvm.Cond.privateMethod ({ cls := "HadForVoice", name := "canTrade", desc := "(I)Z" } : Jvm.MethodName)) ∈ lw_tbl := lw_at lw_m4 105 rfl
theorem q941 : (Jvm.Cond.instanceMethod ({ cls := "HadForVoice", name := "canTrade", desc := "(I)Z" } : Jvm.MethodName)) ∈ lw_all := lw_g (lw_at lw_m4 106 rfl) rfl
theorem q942 : (Jvm.Cond.code ({ cls := "HadForVoice", name := "canTrade", desc := "(I)Z" } : Jvm.MethodName) prog_1_method_44_code (2 : Nat) (Option.some Jvm.ClassFile.FieldType.boolean)) ∈ lw_all := lw_g (lw_at lw_m4 107 rfl) rfl
theorem q943 : (Jvm.Cond.methodLink "HadForVoice" (373 : Nat) ({ cls := "HadForVoice", name := "canExchange", desc := "(II)Z" } : Jvm.MethodName)) ∈ lw_all := lw_g (lw_at lw_m4 108 rfl) rfl
theorem q944 : (Jvm.Cond.privateMethod ({ cls := "HadForVoice", name := "canExchange", desc := "(II)Z" } : Jvm.MethodName)) ∈ lw_tbl := lw_at lw_m4 109 rfl
theorem q945 : (Jvm.Cond.instanceMethod ({ cls := "HadForVoice", name := "canExchange", desc := "(II)Z" } : Jvm.MethodName)) ∈ lw_all := lw_g (lw_at lw_m4 110 rfl) rfl
theorem q946 : (Jvm.Cond.code ({ cls := "HadForVoice", name := "canExchange", desc := "(II)Z" } : Jvm.MethodName) prog_1_method_43_code (3 : Nat) (Option.some Jvm.ClassFile.FieldType.boolean)) ∈ lw_all := lw_g (lw_at lw_m4 111 rfl) rfl
theorem q948 : (Jvm.Cond.instanceMethod ({ cls := "HadForVoice", name := "make", desc := "(II)I" } : Jvm.MethodName)) ∈ lw_all := lw_g (lw_at lw_m4 113 rfl) rfl
theorem q949 : (Jvm.Cond.selects "HadForVoice" ({ cls := "HadForVoice", name := "make", desc := "(II)I" } : Jvm.MethodName) ({ cls := "HadForVoice", name := "make", desc := "(II)I" } : Jvm.MethodName)) ∈ lw_all := lw_g (lw_at lw_m4 114 rfl) rfl
theorem q950 : (Jvm.Cond.code ({ cls := "HadForVoice", name := "make", desc := "(II)I" } : Jvm.MethodName) prog_1_method_52_code (4 : Nat) (Option.some Jvm.ClassFile.FieldType.int)) ∈ lw_all := lw_g (lw_at lw_m4 115 rfl) rfl
theorem q951 : (Jvm.Cond.methodLink "HadForVoice" (398 : Nat) ({ cls := "HadForVoice", name := "makes", desc := "(I)I" } : Jvm.MethodName)) ∈ lw_all := lw_g (lw_at lw_m4 116 rfl) rfl
theorem q952 : (Jvm.Cond.privateMethod ({ cls := "HadForVoice", name := "makes", desc := "(I)I" } : Jvm.MethodName)) ∈ lw_tbl := lw_at lw_m4 117 rfl
theorem q953 : (Jvm.Cond.instanceMethod ({ cls := "HadForVoice", name := "makes", desc := "(I)I" } : Jvm.MethodName)) ∈ lw_all := lw_g (lw_at lw_m4 118 rfl) rfl
theorem q954 : (Jvm.Cond.code ({ cls := "HadForVoice", name := "makes", desc := "(I)I" } : Jvm.MethodName) prog_1_method_51_code (5 : Nat) (Option.some Jvm.ClassFile.FieldType.int)) ∈ lw_all := lw_g (lw_at lw_m4 119 rfl) rfl
theorem q955 : (Jvm.Cond.methodLink "HadForVoice" (392 : Nat) ({ cls := "HadForVoice", name := "carry", desc := "(I)I" } : Jvm.MethodName)) ∈ lw_all := lw_g (lw_at lw_m4 120 rfl) rfl
theorem q956 : (Jvm.Cond.privateMethod ({ cls := "HadForVoice", name := "carry", desc := "(I)I" } : Jvm.MethodName)) ∈ lw_tbl := lw_at lw_m4 121 rfl
theorem q957 : (Jvm.Cond.instanceMethod ({ cls := "HadForVoice", name := "carry", desc := "(I)I" } : Jvm.MethodName)) ∈ lw_all := lw_g (lw_at lw_m4 122 rfl) rfl
theorem q958 : (Jvm.Cond.code ({ cls := "HadForVoice", name := "carry", desc := "(I)I" } : Jvm.MethodName) prog_1_method_48_code (5 : Nat) (Option.some Jvm.ClassFile.FieldType.int)) ∈ lw_all := lw_g (lw_at lw_m4 123 rfl) rfl
theorem q959 : (Jvm.Cond.methodLink "HadForVoice" (379 : Nat) ({ cls := "HadForVoice$Town", name := "trades", desc := "(III)V" } : Jvm.MethodName)) ∈ lw_all := lw_g (lw_at lw_m4 124 rfl) rfl
theorem q963 : (Jvm.Cond.methodLink "HadForVoice" (383 : Nat) ({ cls := "HadForVoice$Town", name := "exchange", desc := "(II)V" } : Jvm.MethodName)) ∈ lw_all := lw_g (lw_at lw_m4 128 rfl) rfl
theorem q967 : (Jvm.Cond.methodLink "HadForVoice" (395 : Nat) ({ cls := "HadForVoice$Town", name := "enters", desc := "(III)V" } : Jvm.MethodName)) ∈ lw_all := lw_g (lw_at lw_m4 132 rfl) rfl
theorem q973 : (Jvm.Cond.instanceMethod ({ cls := "HadForVoice", name := "back", desc := "()I" } : Jvm.MethodName)) ∈ lw_all := lw_g (lw_at lw_m4 138 rfl) rfl
theorem q974 : (Jvm.Cond.selects "HadForVoice" ({ cls := "HadForVoice", name := "back", desc := "()I" } : Jvm.MethodName) ({ cls := "HadForVoice", name := "back", desc := "()I" } : Jvm.MethodName)) ∈ lw_all := lw_g (lw_at lw_m4 139 rfl) rfl
theorem q975 : (Jvm.Cond.code ({ cls := "HadForVoice", name := "back", desc := "()I" } : Jvm.MethodName) prog_1_method_54_code (2 : Nat) (Option.some Jvm.ClassFile.FieldType.int)) ∈ lw_all := lw_g (lw_at lw_m4 140 rfl) rfl
theorem q976 : (Jvm.Cond.methodLink "HadForVoice" (410 : Nat) ({ cls := "HadForVoice", name := "canGoBack", desc := "(I)Z" } : Jvm.MethodName)) ∈ lw_all := lw_g (lw_at lw_m4 141 rfl) rfl
theorem q977 : (Jvm.Cond.privateMethod ({ cls := "HadForVoice", name := "canGoBack", desc := "(I)Z" } : Jvm.MethodName)) ∈ lw_tbl := lw_at lw_m4 142 rfl
theorem q978 : (Jvm.Cond.instanceMethod ({ cls := "HadForVoice", name := "canGoBack", desc := "(I)Z" } : Jvm.MethodName)) ∈ lw_all := lw_g (lw_at lw_m4 143 rfl) rfl
theorem q979 : (Jvm.Cond.code ({ cls := "HadForVoice", name := "canGoBack", desc := "(I)Z" } : Jvm.MethodName) prog_1_method_53_code (4 : Nat) (Option.some Jvm.ClassFile.FieldType.boolean)) ∈ lw_all := lw_g (lw_at lw_m4 144 rfl) rfl
theorem q980 : (Jvm.Cond.methodLink "HadForVoice" (413 : Nat) ({ cls := "HadForVoice", name := "carryBack", desc := "(III)V" } : Jvm.MethodName)) ∈ lw_all := lw_g (lw_at lw_m4 145 rfl) rfl
theorem q981 : (Jvm.Cond.privateMethod ({ cls := "HadForVoice", name := "carryBack", desc := "(III)V" } : Jvm.MethodName)) ∈ lw_tbl := lw_at lw_m4 146 rfl
theorem q982 : (Jvm.Cond.instanceMethod ({ cls := "HadForVoice", name := "carryBack", desc := "(III)V" } : Jvm.MethodName)) ∈ lw_all := lw_g (lw_at lw_m4 147 rfl) rfl
theorem q983 : (Jvm.Cond.code ({ cls := "HadForVoice", name := "carryBack", desc := "(III)V" } : Jvm.MethodName) prog_1_method_49_code (6 : Nat) (Option.none : Option Jvm.ClassFile.FieldType)) ∈ lw_all := lw_g (lw_at lw_m4 148 rfl) rfl
theorem q985 : (Jvm.Cond.instanceMethod ({ cls := "HadForVoice", name := "fewest", desc := "()I" } : Jvm.MethodName)) ∈ lw_all := lw_g (lw_at lw_m4 150 rfl) rfl
theorem q986 : (Jvm.Cond.selects "HadForVoice" ({ cls := "HadForVoice", name := "fewest", desc := "()I" } : Jvm.MethodName) ({ cls := "HadForVoice", name := "fewest", desc := "()I" } : Jvm.MethodName)) ∈ lw_all := lw_g (lw_at lw_m4 151 rfl) rfl
theorem q987 : (Jvm.Cond.code ({ cls := "HadForVoice", name := "fewest", desc := "()I" } : Jvm.MethodName) prog_1_method_58_code (1 : Nat) (Option.some Jvm.ClassFile.FieldType.int)) ∈ lw_all := lw_g (lw_at lw_m4 152 rfl) rfl
theorem q988 : (Jvm.Cond.methodLink "HadForVoice" (423 : Nat) ({ cls := "HadForVoice", name := "fewestOf", desc := "(I)I" } : Jvm.MethodName)) ∈ lw_all := lw_g (lw_at lw_m4 153 rfl) rfl
theorem q989 : (Jvm.Cond.privateMethod ({ cls := "HadForVoice", name := "fewestOf", desc := "(I)I" } : Jvm.MethodName)) ∈ lw_tbl := lw_at lw_m4 154 rfl
theorem q990 : (Jvm.Cond.instanceMethod ({ cls := "HadForVoice", name := "fewestOf", desc := "(I)I" } : Jvm.MethodName)) ∈ lw_all := lw_g (lw_at lw_m4 155 rfl) rfl
theorem q991 : (Jvm.Cond.code ({ cls := "HadForVoice", name := "fewestOf", desc := "(I)I" } : Jvm.MethodName) prog_1_method_57_code (3 : Nat) (Option.some Jvm.ClassFile.FieldType.int)) ∈ lw_all := lw_g (lw_at lw_m4 156 rfl) rfl
theorem q992 : (Jvm.Cond.methodLink "HadForVoice" (420 : Nat) ({ cls := "HadForVoice", name := "doneIn", desc := "(II)Z" } : Jvm.MethodName)) ∈ lw_all := lw_g (lw_at lw_m4 157 rfl) rfl
theorem q993 : (Jvm.Cond.privateMethod ({ cls := "HadForVoice", name := "doneIn", desc := "(II)Z" } : Jvm.MethodName)) ∈ lw_tbl := lw_at lw_m4 158 rfl
theorem q994 : (Jvm.Cond.instanceMethod ({ cls := "HadForVoice", name := "doneIn", desc := "(II)Z" } : Jvm.MethodName)) ∈ lw_all := lw_g (lw_at lw_m4 159 rfl) rfl
theorem q995 : (Jvm.Cond.code ({ cls := "HadForVoice", name := "doneIn", desc := "(II)Z" } : Jvm.MethodName) prog_1_method_56_code (7 : Nat) (Option.some Jvm.ClassFile.FieldType.boolean)) ∈ lw_all := lw_g (lw_at lw_m4 160 rfl) rfl
theorem q996 : (Jvm.Cond.methodLink "HadForVoice" (416 : Nat) ({ cls := "HadForVoice", name := "isDone", desc := "()Z" } : Jvm.MethodName)) ∈ lw_all := lw_g (lw_at lw_m4 161 rfl) rfl
theorem q997 : (Jvm.Cond.privateMethod ({ cls := "HadForVoice", name := "isDone", desc := "()Z" } : Jvm.MethodName)) ∈ lw_tbl := lw_at lw_m4 162 rfl
theorem q998 : (Jvm.Cond.instanceMethod ({ cls := "HadForVoice", name := "isDone", desc := "()Z" } : Jvm.MethodName)) ∈ lw_all := lw_g (lw_at lw_m4 163 rfl) rfl
theorem q999 : (Jvm.Cond.code ({ cls := "HadForVoice", name := "isDone", desc := "()Z" } : Jvm.MethodName) prog_1_method_55_code (2 : Nat) (Option.some Jvm.ClassFile.FieldType.boolean)) ∈ lw_all := lw_g (lw_at lw_m4 164 rfl) rfl
theorem q1001 : (Jvm.Cond.instanceMethod ({ cls := "HadForVoice", name := "ith", desc := "(I)I" } : Jvm.MethodName)) ∈ lw_all := lw_g (lw_at lw_m4 166 rfl) rfl
theorem q1002 : (Jvm.Cond.selects "HadForVoice" ({ cls := "HadForVoice", name := "ith", desc := "(I)I" } : Jvm.MethodName) ({ cls := "HadForVoice", name := "ith", desc := "(I)I" } : Jvm.MethodName)) ∈ lw_all := lw_g (lw_at lw_m4 167 rfl) rfl
theorem q1003 : (Jvm.Cond.code ({ cls := "HadForVoice", name := "ith", desc := "(I)I" } : Jvm.MethodName) prog_1_method_59_code (2 : Nat) (Option.some Jvm.ClassFile.FieldType.int)) ∈ lw_all := lw_g (lw_at lw_m4 168 rfl) rfl
theorem q1005 : (Jvm.Cond.instanceMethod ({ cls := "HadForVoice", name := "ways", desc := "(I)I" } : Jvm.MethodName)) ∈ lw_all := lw_g (lw_at lw_m4 170 rfl) rfl
theorem q1006 : (Jvm.Cond.selects "HadForVoice" ({ cls := "HadForVoice", name := "ways", desc := "(I)I" } : Jvm.MethodName) ({ cls := "HadForVoice", name := "ways", desc := "(I)I" } : Jvm.MethodName)) ∈ lw_all := lw_g (lw_at lw_m4 171 rfl) rfl
theorem q1007 : (Jvm.Cond.code ({ cls := "HadForVoice", name := "ways", desc := "(I)I" } : Jvm.MethodName) prog_1_method_62_code (2 : Nat) (Option.some Jvm.ClassFile.FieldType.int)) ∈ lw_all := lw_g (lw_at lw_m4 172 rfl) rfl
theorem q1008 : (Jvm.Cond.methodLink "HadForVoice" (441 : Nat) ({ cls := "HadForVoice", name := "findRows", desc := "(I)V" } : Jvm.MethodName)) ∈ lw_all := lw_g (lw_at lw_m4 173 rfl) rfl
theorem q1009 : (Jvm.Cond.privateMethod ({ cls := "HadForVoice", name := "findRows", desc := "(I)V" } : Jvm.MethodName)) ∈ lw_tbl := lw_at lw_m4 174 rfl
theorem q1010 : (Jvm.Cond.instanceMethod ({ cls := "HadForVoice", name := "findRows", desc := "(I)V" } : Jvm.MethodName)) ∈ lw_all := lw_g (lw_at lw_m4 175 rfl) rfl
theorem q1011 : (Jvm.Cond.code ({ cls := "HadForVoice", name := "findRows", desc := "(I)V" } : Jvm.MethodName) prog_1_method_61_code (2 : Nat) (Option.none : Option Jvm.ClassFile.FieldType)) ∈ lw_all := lw_g (lw_at lw_m4 176 rfl) rfl
theorem q1012 : (Jvm.Cond.methodLink "HadForVoice" (438 : Nat) ({ cls := "HadForVoice", name := "rowsFrom", desc := "(III)V" } : Jvm.MethodName)) ∈ lw_all := lw_g (lw_at lw_m4 177 rfl) rfl
theorem q1013 : (Jvm.Cond.privateMethod ({ cls := "HadForVoice", name := "rowsFrom", desc := "(III)V" } : Jvm.MethodName)) ∈ lw_tbl := lw_at lw_m4 178 rfl
theorem q1014 : (Jvm.Cond.instanceMethod ({ cls := "HadForVoice", name := "rowsFrom", desc := "(III)V" } : Jvm.MethodName)) ∈ lw_all := lw_g (lw_at lw_m4 179 rfl) rfl
theorem q1015 : (Jvm.Cond.code ({ cls := "HadForVoice", name := "rowsFrom", desc := "(III)V" } : Jvm.MethodName) prog_1_method_60_code (7 : Nat) (Option.none : Option Jvm.ClassFile.FieldType)) ∈ lw_all := lw_g (lw_at lw_m4 180 rfl) rfl
theorem q1017 : (Jvm.Cond.instanceMethod ({ cls := "HadForVoice", name := "most", desc := "(I)I" } : Jvm.MethodName)) ∈ lw_all := lw_g (lw_at lw_m4 182 rfl) rfl
theorem q1018 : (Jvm.Cond.selects "HadForVoice" ({ cls := "HadForVoice", name := "most", desc := "(I)I" } : Jvm.MethodName) ({ cls := "HadForVoice", name := "most", desc := "(I)I" } : Jvm.MethodName)) ∈ lw_all := lw_g (lw_at lw_m4 183 rfl) rfl
theorem q1019 : (Jvm.Cond.code ({ cls := "HadForVoice", name := "most", desc := "(I)I" } : Jvm.MethodName) prog_1_method_63_code (2 : Nat) (Option.some Jvm.ClassFile.FieldType.int)) ∈ lw_all := lw_g (lw_at lw_m4 184 rfl) rfl
theorem q1021 : (Jvm.Cond.instanceMethod ({ cls := "HadForVoice", name := "cheapest", desc := "(I)I" } : Jvm.MethodName)) ∈ lw_all := lw_g (lw_at lw_m4 186 rfl) rfl
theorem q1022 : (Jvm.Cond.selects "HadForVoice" ({ cls := "HadForVoice", name := "cheapest", desc := "(I)I" } : Jvm.MethodName) ({ cls := "HadForVoice", name := "cheapest", desc := "(I)I" } : Jvm.MethodName)) ∈ lw_all := lw_g (lw_at lw_m4 187 rfl) rfl
theorem q1023 : (Jvm.Cond.code ({ cls := "HadForVoice", name := "cheapest", desc := "(I)I" } : Jvm.MethodName) prog_1_method_64_code (2 : Nat) (Option.some Jvm.ClassFile.FieldType.int)) ∈ lw_all := lw_g (lw_at lw_m4 188 rfl) rfl
theorem q1025 : (Jvm.Cond.instanceMethod ({ cls := "HadForVoice", name := "cheaply", desc := "(II)I" } : Jvm.MethodName)) ∈ lw_all := lw_g (lw_at lw_m4 190 rfl) rfl
theorem q1026 : (Jvm.Cond.selects "HadForVoice" ({ cls := "HadForVoice", name := "cheaply", desc := "(II)I" } : Jvm.MethodName) ({ cls := "HadForVoice", name := "cheaply", desc := "(II)I" } : Jvm.MethodName)) ∈ lw_all := lw_g (lw_at lw_m4 191 rfl) rfl
theorem q1027 : (Jvm.Cond.code ({ cls := "HadForVoice", name := "cheaply", desc := "(II)I" } : Jvm.MethodName) prog_1_method_65_code (3 : Nat) (Option.some Jvm.ClassFile.FieldType.int)) ∈ lw_all := lw_g (lw_at lw_m4 192 rfl) rfl
theorem q1029 : (Jvm.Cond.instanceMethod ({ cls := "HadForVoice", name := "bars", desc := "()I" } : Jvm.MethodName)) ∈ lw_all := lw_g (lw_at lw_m4 194 rfl) rfl
theorem q1030 : (Jvm.Cond.selects "HadForVoice" ({ cls := "HadForVoice", name := "bars", desc := "()I" } : Jvm.MethodName) ({ cls := "HadForVoice", name := "bars", desc := "()I" } : Jvm.MethodName)) ∈ lw_all := lw_g (lw_at lw_m4 195 rfl) rfl
theorem q1031 : (Jvm.Cond.codeWith ({ cls := "HadForVoice", name := "bars", desc := "()I" } : Jvm.MethodName) prog_1_method_66_code (4 : Nat) (Option.some Jvm.ClassFile.FieldType.int) [((13 : Nat), (69 : Nat), (76 : Nat), (0 : Nat))]) ∈ lw_all := lw_g (lw_at lw_m4 196 rfl) rfl
theorem q1033 : (Jvm.Cond.instanceMethod ({ cls := "HadForVoice", name := "jars", desc := "()I" } : Jvm.MethodName)) ∈ lw_all := lw_g (lw_at lw_m4 198 rfl) rfl
theorem q1034 : (Jvm.Cond.selects "HadForVoice" ({ cls := "HadForVoice", name := "jars", desc := "()I" } : Jvm.MethodName) ({ cls := "HadForVoice", name := "jars", desc := "()I" } : Jvm.MethodName)) ∈ lw_all := lw_g (lw_at lw_m4 199 rfl) rfl
theorem q1035 : (Jvm.Cond.code ({ cls := "HadForVoice", name := "jars", desc := "()I" } : Jvm.MethodName) prog_1_method_67_code (4 : Nat) (Option.some Jvm.ClassFile.FieldType.int)) ∈ lw_all := lw_g (lw_at lw_m4 200 rfl) rfl
theorem q1037 : (Jvm.Cond.instanceMethod ({ cls := "HadForVoice", name := "feeFor", desc := "(I)I" } : Jvm.MethodName)) ∈ lw_all := lw_g (lw_at lw_m4 202 rfl) rfl
theorem q1038 : (Jvm.Cond.selects "HadForVoice" ({ cls := "HadForVoice", name := "feeFor", desc := "(I)I" } : Jvm.MethodName) ({ cls := "HadForVoice", name := "feeFor", desc := "(I)I" } : Jvm.MethodName)) ∈ lw_all := lw_g (lw_at lw_m4 203 rfl) rfl
theorem q1039 : (Jvm.Cond.codeWith ({ cls := "HadForVoice", name := "feeFor", desc := "(I)I" } : Jvm.MethodName) prog_1_method_68_code (5 : Nat) (Option.some Jvm.ClassFile.FieldType.int) [((20 : Nat), (55 : Nat), (94 : Nat), (0 : Nat)), ((65 : Nat), (84 : Nat), (94 : Nat), (0 : Nat)), ((94 : Nat), (96 : Nat), (94 : Nat), (0 : Nat))]) ∈ lw_all := lw_g (lw_at lw_m4 204 rfl) rfl
theorem q1041 : (Jvm.Cond.instanceMethod ({ cls := "HadForVoice", name := "rings", desc := "(I)I" } : Jvm.MethodName)) ∈ lw_all := lw_g (lw_at lw_m4 206 rfl) rfl
theorem q1042 : (Jvm.Cond.selects "HadForVoice" ({ cls := "HadForVoice", name := "rings", desc := "(I)I" } : Jvm.MethodName) ({ cls := "HadForVoice", name := "rings", desc := "(I)I" } : Jvm.MethodName)) ∈ lw_all := lw_g (lw_at lw_m4 207 rfl) rfl
theorem q1043 : (Jvm.Cond.code ({ cls := "HadForVoice", name := "rings", desc := "(I)I" } : Jvm.MethodName) prog_1_method_71_code (2 : Nat) (Option.some Jvm.ClassFile.FieldType.int)) ∈ lw_all := lw_g (lw_at lw_m4 208 rfl) rfl
theorem q1044 : (Jvm.Cond.methodLink "HadForVoice" (450 : Nat) ({ cls := "HadForVoice", name := "findRings", desc := "(I)V" } : Jvm.MethodName)) ∈ lw_all := lw_g (lw_at lw_m4 209 rfl) rfl
theorem q1045 : (Jvm.Cond.privateMethod ({ cls := "HadForVoice", name := "findRings", desc := "(I)V" } : Jvm.MethodName)) ∈ lw_tbl := lw_at lw_m4 210 rfl
theorem q1046 : (Jvm.Cond.instanceMethod ({ cls := "HadForVoice", name := "findRings", desc := "(I)V" } : Jvm.MethodName)) ∈ lw_all := lw_g (lw_at lw_m4 211 rfl) rfl
theorem q1047 : (Jvm.Cond.code ({ cls := "HadForVoice", name := "findRings", desc := "(I)V" } : Jvm.MethodName) prog_1_method_70_code (3 : Nat) (Option.none : Option Jvm.ClassFile.FieldType)) ∈ lw_all := lw_g (lw_at lw_m4 212 rfl) rfl
theorem q1048 : (Jvm.Cond.methodLink "HadForVoice" (447 : Nat) ({ cls := "HadForVoice", name := "ringsFrom", desc := "(III)V" } : Jvm.MethodName)) ∈ lw_all := lw_g (lw_at lw_m4 213 rfl) rfl
theorem q1049 : (Jvm.Cond.privateMethod ({ cls := "HadForVoice", name := "ringsFrom", desc := "(III)V" } : Jvm.MethodName)) ∈ lw_tbl := lw_at lw_m4 214 rfl
theorem q1050 : (Jvm.Cond.instanceMethod ({ cls := "HadForVoice", name := "ringsFrom", desc := "(III)V" } : Jvm.MethodName)) ∈ lw_all := lw_g (lw_at lw_m4 215 rfl) rfl
theorem q1051 : (Jvm.Cond.code ({ cls := "HadForVoice", name := "ringsFrom", desc := "(III)V" } : Jvm.MethodName) prog_1_method_69_code (6 : Nat) (Option.none : Option Jvm.ClassFile.FieldType)) ∈ lw_all := lw_g (lw_at lw_m4 216 rfl) rfl
theorem q1053 : (Jvm.Cond.instanceMethod ({ cls := "HadForVoice", name := "ring", desc := "(II)I" } : Jvm.MethodName)) ∈ lw_all := lw_g (lw_at lw_m4 218 rfl) rfl
theorem q1054 : (Jvm.Cond.selects "HadForVoice" ({ cls := "HadForVoice", name := "ring", desc := "(II)I" } : Jvm.MethodName) ({ cls := "HadForVoice", name := "ring", desc := "(II)I" } : Jvm.MethodName)) ∈ lw_all := lw_g (lw_at lw_m4 219 rfl) rfl
theorem q1055 : (Jvm.Cond.code ({ cls := "HadForVoice", name := "ring", desc := "(II)I" } : Jvm.MethodName) prog_1_method_72_code (3 : Nat) (Option.some Jvm.ClassFile.FieldType.int)) ∈ lw_all := lw_g (lw_at lw_m4 220 rfl) rfl
theorem q1057 : (Jvm.Cond.instanceMethod ({ cls := "HadForVoice", name := "comes", desc := "(II)I" } : Jvm.MethodName)) ∈ lw_all := lw_g (lw_at lw_m4 222 rfl) rfl
theorem q1058 : (Jvm.Cond.selects "HadForVoice" ({ cls := "HadForVoice", name := "comes", desc := "(II)I" } : Jvm.MethodName) ({ cls := "HadForVoice", name := "comes", desc := "(II)I" } : Jvm.MethodName)) ∈ lw_all := lw_g (lw_at lw_m4 223 rfl) rfl
theorem q1059 : (Jvm.Cond.code ({ cls := "HadForVoice", name := "comes", desc := "(II)I" } : Jvm.MethodName) prog_1_method_75_code (3 : Nat) (Option.some Jvm.ClassFile.FieldType.int)) ∈ lw_all := lw_g (lw_at lw_m4 224 rfl) rfl
theorem q1060 : (Jvm.Cond.methodLink "HadForVoice" (459 : Nat) ({ cls := "HadForVoice", name := "reachOf", desc := "(II)I" } : Jvm.MethodName)) ∈ lw_all := lw_g (lw_at lw_m4 225 rfl) rfl
theorem q1061 : (Jvm.Cond.privateMethod ({ cls := "HadForVoice", name := "reachOf", desc := "(II)I" } : Jvm.MethodName)) ∈ lw_tbl := lw_at lw_m4 226 rfl
theorem q1062 : (Jvm.Cond.instanceMethod ({ cls := "HadForVoice", name := "reachOf", desc := "(II)I" } : Jvm.MethodName)) ∈ lw_all := lw_g (lw_at lw_m4 227 rfl) rfl
theorem q1063 : (Jvm.Cond.code ({ cls := "HadForVoice", name := "reachOf", desc := "(II)I" } : Jvm.MethodName) prog_1_method_74_code (3 : Nat) (Option.some Jvm.ClassFile.FieldType.int)) ∈ lw_all := lw_g (lw_at lw_m4 228 rfl) rfl
theorem q1064 : (Jvm.Cond.methodLink "HadForVoice" (456 : Nat) ({ cls := "HadForVoice", name := "reaches", desc := "(II)V" } : Jvm.MethodName)) ∈ lw_all := lw_g (lw_at lw_m4 229 rfl) rfl
theorem q1065 : (Jvm.Cond.privateMethod ({ cls := "HadForVoice", name := "reaches", desc := "(II)V" } : Jvm.MethodName)) ∈ lw_tbl := lw_at lw_m4 230 rfl
theorem q1066 : (Jvm.Cond.instanceMethod ({ cls := "HadForVoice", name := "reaches", desc := "(II)V" } : Jvm.MethodName)) ∈ lw_all := lw_g (lw_at lw_m4 231 rfl) rfl
theorem q1067 : (Jvm.Cond.code ({ cls := "HadForVoice", name := "reaches", desc := "(II)V" } : Jvm.MethodName) prog_1_method_73_code (4 : Nat) (Option.none : Option Jvm.ClassFile.FieldType)) ∈ lw_all := lw_g (lw_at lw_m4 232 rfl) rfl
theorem q1069 : (Jvm.Cond.instanceMethod ({ cls := "HadForVoice", name := "dearest", desc := "(II)I" } : Jvm.MethodName)) ∈ lw_all := lw_g (lw_at lw_m4 234 rfl) rfl
theorem q1070 : (Jvm.Cond.selects "HadForVoice" ({ cls := "HadForVoice", name := "dearest", desc := "(II)I" } : Jvm.MethodName) ({ cls := "HadForVoice", name := "dearest", desc := "(II)I" } : Jvm.MethodName)) ∈ lw_all := lw_g (lw_at lw_m4 235 rfl) rfl
theorem q1071 : (Jvm.Cond.code ({ cls := "HadForVoice", name := "dearest", desc := "(II)I" } : Jvm.MethodName) prog_1_method_76_code (7 : Nat) (Option.some Jvm.ClassFile.FieldType.int)) ∈ lw_all := lw_g (lw_at lw_m4 236 rfl) rfl
theorem q1073 : (Jvm.Cond.instanceMethod ({ cls := "HadForVoice", name := "game", desc := "(I)I" } : Jvm.MethodName)) ∈ lw_all := lw_g (lw_at lw_m4 238 rfl) rfl
theorem q1074 : (Jvm.Cond.selects "HadForVoice" ({ cls := "HadForVoice", name := "game", desc := "(I)I" } : Jvm.MethodName) ({ cls := "HadForVoice", name := "game", desc := "(I)I" } : Jvm.MethodName)) ∈ lw_all := lw_g (lw_at lw_m4 239 rfl) rfl
theorem q1075 : (Jvm.Cond.code ({ cls := "HadForVoice", name := "game", desc := "(I)I" } : Jvm.MethodName) prog_1_method_79_code (2 : Nat) (Option.some Jvm.ClassFile.FieldType.int)) ∈ lw_all := lw_g (lw_at lw_m5 0 rfl) rfl
theorem q1076 : (Jvm.Cond.methodLink "HadForVoice" (465 : Nat) ({ cls := "HadForVoice", name := "worthOf", desc := "(II)I" } : Jvm.MethodName)) ∈ lw_all := lw_g (lw_at lw_m5 1 rfl) rfl
theorem q1077 : (Jvm.Cond.privateMethod ({ cls := "HadForVoice", name := "worthOf", desc := "(II)I" } : Jvm.MethodName)) ∈ lw_tbl := lw_at lw_m5 2 rfl
theorem q1078 : (Jvm.Cond.instanceMethod ({ cls := "HadForVoice", name := "worthOf", desc := "(II)I" } : Jvm.MethodName)) ∈ lw_all := lw_g (lw_at lw_m5 3 rfl) rfl
theorem q1079 : (Jvm.Cond.code ({ cls := "HadForVoice", name := "worthOf", desc := "(II)I" } : Jvm.MethodName) prog_1_method_77_code (6 : Nat) (Option.some Jvm.ClassFile.FieldType.int)) ∈ lw_all := lw_g (lw_at lw_m5 4 rfl) rfl
theorem q1080 : (Jvm.Cond.methodLink "HadForVoice" (462 : Nat) ({ cls := "HadForVoice", name := "valueOf", desc := "(III)I" } : Jvm.MethodName)) ∈ lw_all := lw_g (lw_at lw_m5 5 rfl) rfl
theorem q1081 : (Jvm.Cond.privateMethod ({ cls := "HadForVoice", name := "valueOf", desc := "(III)I" } : Jvm.MethodName)) ∈ lw_tbl := lw_at lw_m5 6 rfl
theorem q1082 : (Jvm.Cond.instanceMethod ({ cls := "HadForVoice", name := "valueOf", desc := "(III)I" } : Jvm.MethodName)) ∈ lw_all := lw_g (lw_at lw_m5 7 rfl) rfl
theorem q1083 : (Jvm.Cond.code ({ cls := "HadForVoice", name := "valueOf", desc := "(III)I" } : Jvm.MethodName) prog_1_method_78_code (7 : Nat) (Option.some Jvm.ClassFile.FieldType.int)) ∈ lw_all := lw_g (lw_at lw_m5 8 rfl) rfl
theorem q1085 : (Jvm.Cond.instanceMethod ({ cls := "HadForVoice", name := "play", desc := "(I)I" } : Jvm.MethodName)) ∈ lw_all := lw_g (lw_at lw_m5 10 rfl) rfl
theorem q1086 : (Jvm.Cond.selects "HadForVoice" ({ cls := "HadForVoice", name := "play", desc := "(I)I" } : Jvm.MethodName) ({ cls := "HadForVoice", name := "play", desc := "(I)I" } : Jvm.MethodName)) ∈ lw_all := lw_g (lw_at lw_m5 11 rfl) rfl
theorem q1087 : (Jvm.Cond.code ({ cls := "HadForVoice", name := "play", desc := "(I)I" } : Jvm.MethodName) prog_1_method_80_code (4 : Nat) (Option.some Jvm.ClassFile.FieldType.int)) ∈ lw_all := lw_g (lw_at lw_m5 12 rfl) rfl
theorem q1088 : (Jvm.Cond.methodLink "HadForVoice" (468 : Nat) ({ cls := "HadForVoice", name := "cans", desc := "(I)I" } : Jvm.MethodName)) ∈ lw_all := lw_g (lw_at lw_m5 13 rfl) rfl
theorem q1090 : (Jvm.Cond.instanceMethod ({ cls := "HadForVoice", name := "report", desc := "(III)I" } : Jvm.MethodName)) ∈ lw_all := lw_g (lw_at lw_m5 15 rfl) rfl
theorem q1091 : (Jvm.Cond.selects "HadForVoice" ({ cls := "HadForVoice", name := "report", desc := "(III)I" } : Jvm.MethodName) ({ cls := "HadForVoice", name := "report", desc := "(III)I" } : Jvm.MethodName)) ∈ lw_all := lw_g (lw_at lw_m5 16 rfl) rfl
theorem q1092 : (Jvm.Cond.code ({ cls := "HadForVoice", name := "report", desc := "(III)I" } : Jvm.MethodName) prog_1_method_81_code (4 : Nat) (Option.some Jvm.ClassFile.FieldType.int)) ∈ lw_all := lw_g (lw_at lw_m5 17 rfl) rfl
theorem q1094 : (Jvm.Cond.instanceMethod ({ cls := "HadForVoice", name := "forget", desc := "()I" } : Jvm.MethodName)) ∈ lw_all := lw_g (lw_at lw_m5 19 rfl) rfl
theorem q1095 : (Jvm.Cond.selects "HadForVoice" ({ cls := "HadForVoice", name := "forget", desc := "()I" } : Jvm.MethodName) ({ cls := "HadForVoice", name := "forget", desc := "()I" } : Jvm.MethodName)) ∈ lw_all := lw_g (lw_at lw_m5 20 rfl) rfl
theorem q1096 : (Jvm.Cond.code ({ cls := "HadForVoice", name := "forget", desc := "()I" } : Jvm.MethodName) prog_1_method_82_code (2 : Nat) (Option.some Jvm.ClassFile.FieldType.int)) ∈ lw_all := lw_g (lw_at lw_m5 21 rfl) rfl
theorem q1098 : (Jvm.Cond.instanceMethod ({ cls := "HadForVoice", name := "span", desc := "(I)I" } : Jvm.MethodName)) ∈ lw_all := lw_g (lw_at lw_m5 23 rfl) rfl
theorem q1099 : (Jvm.Cond.selects "HadForVoice" ({ cls := "HadForVoice", name := "span", desc := "(I)I" } : Jvm.MethodName) ({ cls := "HadForVoice", name := "span", desc := "(I)I" } : Jvm.MethodName)) ∈ lw_all := lw_g (lw_at lw_m5 24 rfl) rfl
theorem q1100 : (Jvm.Cond.code ({ cls := "HadForVoice", name := "span", desc := "(I)I" } : Jvm.MethodName) prog_1_method_85_code (3 : Nat) (Option.some Jvm.ClassFile.FieldType.int)) ∈ lw_all := lw_g (lw_at lw_m5 25 rfl) rfl
theorem q1101 : (Jvm.Cond.methodLink "HadForVoice" (489 : Nat) ({ cls := "HadForVoice", name := "fitsBut", desc := "(I)I" } : Jvm.MethodName)) ∈ lw_all := lw_g (lw_at lw_m5 26 rfl) rfl
theorem q1102 : (Jvm.Cond.privateMethod ({ cls := "HadForVoice", name := "fitsBut", desc := "(I)I" } : Jvm.MethodName)) ∈ lw_tbl := lw_at lw_m5 27 rfl
theorem q1103 : (Jvm.Cond.instanceMethod ({ cls := "HadForVoice", name := "fitsBut", desc := "(I)I" } : Jvm.MethodName)) ∈ lw_all := lw_g (lw_at lw_m5 28 rfl) rfl
theorem q1104 : (Jvm.Cond.code ({ cls := "HadForVoice", name := "fitsBut", desc := "(I)I" } : Jvm.MethodName) prog_1_method_84_code (5 : Nat) (Option.some Jvm.ClassFile.FieldType.int)) ∈ lw_all := lw_g (lw_at lw_m5 29 rfl) rfl
theorem q1105 : (Jvm.Cond.methodLink "HadForVoice" (483 : Nat) ({ cls := "HadForVoice", name := "isSo", desc := "(III)Z" } : Jvm.MethodName)) ∈ lw_all := lw_g (lw_at lw_m5 30 rfl) rfl
theorem q1106 : (Jvm.Cond.privateMethod ({ cls := "HadForVoice", name := "isSo", desc := "(III)Z" } : Jvm.MethodName)) ∈ lw_tbl := lw_at lw_m5 31 rfl
theorem q1107 : (Jvm.Cond.instanceMethod ({ cls := "HadForVoice", name := "isSo", desc := "(III)Z" } : Jvm.MethodName)) ∈ lw_all := lw_g (lw_at lw_m5 32 rfl) rfl
theorem q1108 : (Jvm.Cond.code ({ cls := "HadForVoice", name := "isSo", desc := "(III)Z" } : Jvm.MethodName) prog_1_method_83_code (4 : Nat) (Option.some Jvm.ClassFile.FieldType.boolean)) ∈ lw_all := lw_g (lw_at lw_m5 33 rfl) rfl
theorem q1110 : (Jvm.Cond.instanceMethod ({ cls := "HadForVoice", name := "liar", desc := "()I" } : Jvm.MethodName)) ∈ lw_all := lw_g (lw_at lw_m5 35 rfl) rfl
theorem q1111 : (Jvm.Cond.selects "HadForVoice" ({ cls := "HadForVoice", name := "liar", desc := "()I" } : Jvm.MethodName) ({ cls := "HadForVoice", name := "liar", desc := "()I" } : Jvm.MethodName)) ∈ lw_all := lw_g (lw_at lw_m5 36 rfl) rfl
theorem q1112 : (Jvm.Cond.code ({ cls := "HadForVoice", name := "liar", desc := "()I" } : Jvm.MethodName) prog_1_method_86_code (2 : Nat) (Option.some Jvm.ClassFile.FieldType.int)) ∈ lw_all := lw_g (lw_at lw_m5 37 rfl) rfl
theorem q1114 : (Jvm.Cond.instanceMethod ({ cls := "HadForVoice", name := "seed", desc := "(I)I" } : Jvm.MethodName)) ∈ lw_all := lw_g (lw_at lw_m5 39 rfl) rfl
theorem q1115 : (Jvm.Cond.selects "HadForVoice" ({ cls := "HadForVoice", name := "seed", desc := "(I)I" } : Jvm.MethodName) ({ cls := "HadForVoice", name := "seed", desc := "(I)I" } : Jvm.MethodName)) ∈ lw_all := lw_g (lw_at lw_m5 40 rfl) rfl
theorem q1116 : (Jvm.Cond.code ({ cls := "HadForVoice", name := "seed", desc := "(I)I" } : Jvm.MethodName) prog_1_method_87_code (3 : Nat) (Option.some Jvm.ClassFile.FieldType.int)) ∈ lw_all := lw_g (lw_at lw_m5 41 rfl) rfl
theorem q1118 : (Jvm.Cond.instanceMethod ({ cls := "HadForVoice", name := "draw", desc := "()I" } : Jvm.MethodName)) ∈ lw_all := lw_g (lw_at lw_m5 43 rfl) rfl
theorem q1119 : (Jvm.Cond.selects "HadForVoice" ({ cls := "HadForVoice", name := "draw", desc := "()I" } : Jvm.MethodName) ({ cls := "HadForVoice", name := "draw", desc := "()I" } : Jvm.MethodName)) ∈ lw_all := lw_g (lw_at lw_m5 44 rfl) rfl
theorem q1120 : (Jvm.Cond.code ({ cls := "HadForVoice", name := "draw", desc := "()I" } : Jvm.MethodName) prog_1_method_90_code (1 : Nat) (Option.some Jvm.ClassFile.FieldType.int)) ∈ lw_all := lw_g (lw_at lw_m5 45 rfl) rfl
theorem q1121 : (Jvm.Cond.methodLink "HadForVoice" (499 : Nat) ({ cls := "HadForVoice", name := "drawn", desc := "()I" } : Jvm.MethodName)) ∈ lw_all := lw_g (lw_at lw_m5 46 rfl) rfl
theorem q1122 : (Jvm.Cond.privateMethod ({ cls := "HadForVoice", name := "drawn", desc := "()I" } : Jvm.MethodName)) ∈ lw_tbl := lw_at lw_m5 47 rfl
theorem q1123 : (Jvm.Cond.instanceMethod ({ cls := "HadForVoice", name := "drawn", desc := "()I" } : Jvm.MethodName)) ∈ lw_all := lw_g (lw_at lw_m5 48 rfl) rfl
theorem q1124 : (Jvm.Cond.code ({ cls := "HadForVoice", name := "drawn", desc := "()I" } : Jvm.MethodName) prog_1_method_89_code (4 : Nat) (Option.some Jvm.ClassFile.FieldType.int)) ∈ lw_all := lw_g (lw_at lw_m5 49 rfl) rfl
theorem q1125 : (Jvm.Cond.methodLink "HadForVoice" (495 : Nat) ({ cls := "HadForVoice", name := "manyCan", desc := "()I" } : Jvm.MethodName)) ∈ lw_all := lw_g (lw_at lw_m5 50 rfl) rfl
theorem q1126 : (Jvm.Cond.privateMethod ({ cls := "HadForVoice", name := "manyCan", desc := "()I" } : Jvm.MethodName)) ∈ lw_tbl := lw_at lw_m5 51 rfl
theorem q1127 : (Jvm.Cond.instanceMethod ({ cls := "HadForVoice", name := "manyCan", desc := "()I" } : Jvm.MethodName)) ∈ lw_all := lw_g (lw_at lw_m5 52 rfl) rfl
theorem q1128 : (Jvm.Cond.code ({ cls := "HadForVoice", name := "manyCan", desc := "()I" } : Jvm.MethodName) prog_1_method_88_code (3 : Nat) (Option.some Jvm.ClassFile.FieldType.int)) ∈ lw_all := lw_g (lw_at lw_m5 53 rfl) rfl
theorem q1129 : (Jvm.Cond.constant "HadForVoice" (498 : Nat) (1103515245 : Int32)) ∈ lw_all := lw_g (lw_at lw_m5 54 rfl) rfl
theorem q1131 : (Jvm.Cond.instanceMethod ({ cls := "HadForVoice", name := "often", desc := "(I)I" } : Jvm.MethodName)) ∈ lw_all := lw_g (lw_at lw_m5 56 rfl) rfl
theorem q1132 : (Jvm.Cond.selects "HadForVoice" ({ cls := "HadForVoice", name := "often", desc := "(I)I" } : Jvm.MethodName) ({ cls := "HadForVoice", name := "often", desc := "(I)I" } : Jvm.MethodName)) ∈ lw_all := lw_g (lw_at lw_m5 57 rfl) rfl
theorem q1133 : (Jvm.Cond.codeWith ({ cls := "HadForVoice", name := "often", desc := "(I)I" } : Jvm.MethodName) prog_1_method_92_code (6 : Nat) (Option.some Jvm.ClassFile.FieldType.int) [((33 : Nat), (93 : Nat), (107 : Nat), (0 : Nat)), ((107 : Nat), (109 : Nat), (107 : Nat), (0 : Nat))]) ∈ lw_all := lw_g (lw_at lw_m5 58 rfl) rfl
theorem q1134 : (Jvm.Cond.methodLink "HadForVoice" (502 : Nat) ({ cls := "HadForVoice$Town", name := "become", desc := "(LHadForVoice$Town;)V" } : Jvm.MethodName)) ∈ lw_all := lw_g (lw_at lw_m5 59 rfl) rfl
theorem q1138 : (Jvm.Cond.methodLink "HadForVoice" (506 : Nat) ({ cls := "HadForVoice", name := "runs", desc := "()Z" } : Jvm.MethodName)) ∈ lw_all := lw_g (lw_at lw_m5 63 rfl) rfl
theorem q1139 : (Jvm.Cond.privateMethod ({ cls := "HadForVoice", name := "runs", desc := "()Z" } : Jvm.MethodName)) ∈ lw_tbl := lw_at lw_m5 64 rfl
theorem q1140 : (Jvm.Cond.instanceMethod ({ cls := "HadForVoice", name := "runs", desc := "()Z" } : Jvm.MethodName)) ∈ lw_all := lw_g (lw_at lw_m5 65 rfl) rfl
theorem q1141 : (Jvm.Cond.code ({ cls := "HadForVoice", name := "runs", desc := "()Z" } : Jvm.MethodName) prog_1_method_91_code (2 : Nat) (Option.some Jvm.ClassFile.FieldType.boolean)) ∈ lw_all := lw_g (lw_at lw_m5 66 rfl) rfl
theorem q1143 : (Jvm.Cond.instanceMethod ({ cls := "HadForVoice", name := "prove", desc := "()I" } : Jvm.MethodName)) ∈ lw_all := lw_g (lw_at lw_m5 68 rfl) rfl
theorem q1144 : (Jvm.Cond.selects "HadForVoice" ({ cls := "HadForVoice", name := "prove", desc := "()I" } : Jvm.MethodName) ({ cls := "HadForVoice", name := "prove", desc := "()I" } : Jvm.MethodName)) ∈ lw_all := lw_g (lw_at lw_m5 69 rfl) rfl
theorem q1145 : (Jvm.Cond.code ({ cls := "HadForVoice", name := "prove", desc := "()I" } : Jvm.MethodName) prog_1_method_93_code (4 : Nat) (Option.some Jvm.ClassFile.FieldType.int)) ∈ lw_all := lw_g (lw_at lw_m5 70 rfl) rfl
theorem q1147 : (Jvm.Cond.instanceMethod ({ cls := "HadForVoice", name := "row", desc := "(II)I" } : Jvm.MethodName)) ∈ lw_all := lw_g (lw_at lw_m5 72 rfl) rfl
theorem q1148 : (Jvm.Cond.selects "HadForVoice" ({ cls := "HadForVoice", name := "row", desc := "(II)I" } : Jvm.MethodName) ({ cls := "HadForVoice", name := "row", desc := "(II)I" } : Jvm.MethodName)) ∈ lw_all := lw_g (lw_at lw_m5 73 rfl) rfl
theorem q1149 : (Jvm.Cond.code ({ cls := "HadForVoice", name := "row", desc := "(II)I" } : Jvm.MethodName) prog_1_method_95_code (3 : Nat) (Option.some Jvm.ClassFile.FieldType.int)) ∈ lw_all := lw_g (lw_at lw_m5 74 rfl) rfl
theorem q1150 : (Jvm.Cond.methodLink "HadForVoice" (512 : Nat) ({ cls := "HadForVoice", name := "isRow", desc := "(II)Z" } : Jvm.MethodName)) ∈ lw_all := lw_g (lw_at lw_m5 75 rfl) rfl
theorem q1151 : (Jvm.Cond.privateMethod ({ cls := "HadForVoice", name := "isRow", desc := "(II)Z" } : Jvm.MethodName)) ∈ lw_tbl := lw_at lw_m5 76 rfl
theorem q1152 : (Jvm.Cond.instanceMethod ({ cls := "HadForVoice", name := "isRow", desc := "(II)Z" } : Jvm.MethodName)) ∈ lw_all := lw_g (lw_at lw_m5 77 rfl) rfl
theorem q1153 : (Jvm.Cond.code ({ cls := "HadForVoice", name := "isRow", desc := "(II)Z" } : Jvm.MethodName) prog_1_method_94_code (3 : Nat) (Option.some Jvm.ClassFile.FieldType.boolean)) ∈ lw_all := lw_g (lw_at lw_m5 78 rfl) rfl
theorem q1155 : (Jvm.Cond.instanceMethod ({ cls := "HadForVoice", name := "alterRow", desc := "(III)I" } : Jvm.MethodName)) ∈ lw_all := lw_g (lw_at lw_m5 80 rfl) rfl
theorem q1156 : (Jvm.Cond.selects "HadForVoice" ({ cls := "HadForVoice", name := "alterRow", desc := "(III)I" } : Jvm.MethodName) ({ cls := "HadForVoice", name := "alterRow", desc := "(III)I" } : Jvm.MethodName)) ∈ lw_all := lw_g (lw_at lw_m5 81 rfl) rfl
theorem q1157 : (Jvm.Cond.code ({ cls := "HadForVoice", name := "alterRow", desc := "(III)I" } : Jvm.MethodName) prog_1_method_96_code (5 : Nat) (Option.some Jvm.ClassFile.FieldType.int)) ∈ lw_all := lw_g (lw_at lw_m5 82 rfl) rfl
theorem q1159 : (Jvm.Cond.instanceMethod ({ cls := "HadForVoice", name := "judge", desc := "()I" } : Jvm.MethodName)) ∈ lw_all := lw_g (lw_at lw_m5 84 rfl) rfl
theorem q1160 : (Jvm.Cond.selects "HadForVoice" ({ cls := "HadForVoice", name := "judge", desc := "()I" } : Jvm.MethodName) ({ cls := "HadForVoice", name := "judge", desc := "()I" } : Jvm.MethodName)) ∈ lw_all := lw_g (lw_at lw_m5 85 rfl) rfl
theorem q1161 : (Jvm.Cond.codeWith ({ cls := "HadForVoice", name := "judge", desc := "()I" } : Jvm.MethodName) prog_1_method_97_code (6 : Nat) (Option.some Jvm.ClassFile.FieldType.int) [((13 : Nat), (137 : Nat), (150 : Nat), (0 : Nat)), ((150 : Nat), (152 : Nat), (150 : Nat), (0 : Nat))]) ∈ lw_all := lw_g (lw_at lw_m5 86 rfl) rfl
theorem q1163 : (Jvm.Cond.instanceMethod ({ cls := "HadForVoice", name := "sheet", desc := "(III)I" } : Jvm.MethodName)) ∈ lw_all := lw_g (lw_at lw_m5 88 rfl) rfl
theorem q1164 : (Jvm.Cond.selects "HadForVoice" ({ cls := "HadForVoice", name := "sheet", desc := "(III)I" } : Jvm.MethodName) ({ cls := "HadForVoice", name := "sheet", desc := "(III)I" } : Jvm.MethodName)) ∈ lw_all := lw_g (lw_at lw_m5 89 rfl) rfl
theorem q1165 : (Jvm.Cond.codeWith ({ cls := "HadForVoice", name := "sheet", desc := "(III)I" } : Jvm.MethodName) prog_1_method_100_code (5 : Nat) (Option.some Jvm.ClassFile.FieldType.int) [((28 : Nat), (51 : Nat), (52 : Nat), (526 : Nat))]) ∈ lw_all := lw_g (lw_at lw_m5 90 rfl) rfl
theorem q1166 : (Jvm.Cond.classLink "HadForVoice" (526 : Nat) "java/lang/NegativeArraySizeException") ∈ lw_all := lw_g (lw_at lw_m5 91 rfl) rfl
theorem q1193 : (Jvm.Cond.methodLink "HadForVoice" (515 : Nat) ({ cls := "HadForVoice", name := "isShelf", desc := "(I)Z" } : Jvm.MethodName)) ∈ lw_all := lw_g (lw_at lw_m5 118 rfl) rfl
theorem q1194 : (Jvm.Cond.static ({ cls := "HadForVoice", name := "isShelf", desc := "(I)Z" } : Jvm.MethodName)) ∈ lw_all := lw_g (lw_at lw_m5 119 rfl) rfl
theorem q1195 : (Jvm.Cond.code ({ cls := "HadForVoice", name := "isShelf", desc := "(I)Z" } : Jvm.MethodName) prog_1_method_98_code (1 : Nat) (Option.some Jvm.ClassFile.FieldType.boolean)) ∈ lw_all := lw_g (lw_at lw_m5 120 rfl) rfl
theorem q1196 : (Jvm.Cond.methodLink "HadForVoice" (518 : Nat) ({ cls := "HadForVoice", name := "rowOf", desc := "(II)Ljava/lang/Object;" } : Jvm.MethodName)) ∈ lw_all := lw_g (lw_at lw_m5 121 rfl) rfl
theorem q1197 : (Jvm.Cond.static ({ cls := "HadForVoice", name := "rowOf", desc := "(II)Ljava/lang/Object;" } : Jvm.MethodName)) ∈ lw_all := lw_g (lw_at lw_m5 122 rfl) rfl
theorem q1198 : (Jvm.Cond.code ({ cls := "HadForVoice", name := "rowOf", desc := "(II)Ljava/lang/Object;" } : Jvm.MethodName) prog_1_method_99_code (2 : Nat) (Option.some (Jvm.ClassFile.FieldType.object "java/lang/Object"))) ∈ lw_all := lw_g (lw_at lw_m5 123 rfl) rfl
theorem q1203 : (Jvm.Cond.instanceMethod ({ cls := "HadForVoice", name := "write", desc := "(III)I" } : Jvm.MethodName)) ∈ lw_all := lw_g (lw_at lw_m5 128 rfl) rfl
theorem q1204 : (Jvm.Cond.selects "HadForVoice" ({ cls := "HadForVoice", name := "write", desc := "(III)I" } : Jvm.MethodName) ({ cls := "HadForVoice", name := "write", desc := "(III)I" } : Jvm.MethodName)) ∈ lw_all := lw_g (lw_at lw_m5 129 rfl) rfl
theorem q1205 : (Jvm.Cond.codeWith ({ cls := "HadForVoice", name := "write", desc := "(III)I" } : Jvm.MethodName) prog_1_method_103_code (5 : Nat) (Option.some Jvm.ClassFile.FieldType.int) [((9 : Nat), (62 : Nat), (63 : Nat), (8 : Nat))]) ∈ lw_all := lw_g (lw_at lw_m5 130 rfl) rfl
theorem q1206 : (Jvm.Cond.methodLink "HadForVoice" (536 : Nat) ({ cls := "HadForVoice", name := "must", desc := "(ZI)V" } : Jvm.MethodName)) ∈ lw_all := lw_g (lw_at lw_m5 131 rfl) rfl
theorem q1207 : (Jvm.Cond.privateMethod ({ cls := "HadForVoice", name := "must", desc := "(ZI)V" } : Jvm.MethodName)) ∈ lw_tbl := lw_at lw_m5 132 rfl
theorem q1208 : (Jvm.Cond.instanceMethod ({ cls := "HadForVoice", name := "must", desc := "(ZI)V" } : Jvm.MethodName)) ∈ lw_all := lw_g (lw_at lw_m5 133 rfl) rfl
theorem q1209 : (Jvm.Cond.code ({ cls := "HadForVoice", name := "must", desc := "(ZI)V" } : Jvm.MethodName) prog_1_method_2_code (3 : Nat) (Option.none : Option Jvm.ClassFile.FieldType)) ∈ lw_all := lw_g (lw_at lw_m5 134 rfl) rfl
theorem q1210 : (Jvm.Cond.methodLink "HadForVoice" (7 : Nat) ({ cls := "HadForVoice$Refusal", name := "of", desc := "(I)LHadForVoice$Refusal;" } : Jvm.MethodName)) ∈ lw_all := lw_g (lw_at lw_m5 135 rfl) rfl
theorem q1211 : (Jvm.Cond.methodLink "HadForVoice" (540 : Nat) ({ cls := "HadForVoice", name := "length", desc := "(Ljava/lang/Object;)I" } : Jvm.MethodName)) ∈ lw_all := lw_g (lw_at lw_m5 136 rfl) rfl
theorem q1212 : (Jvm.Cond.static ({ cls := "HadForVoice", name := "length", desc := "(Ljava/lang/Object;)I" } : Jvm.MethodName)) ∈ lw_all := lw_g (lw_at lw_m5 137 rfl) rfl
theorem q1213 : (Jvm.Cond.code ({ cls := "HadForVoice", name := "length", desc := "(Ljava/lang/Object;)I" } : Jvm.MethodName) prog_1_method_101_code (1 : Nat) (Option.some Jvm.ClassFile.FieldType.int)) ∈ lw_all := lw_g (lw_at lw_m5 138 rfl) rfl
theorem q1214 : (Jvm.Cond.classLink "HadForVoice" (528 : Nat) "[B") ∈ lw_all := lw_g (lw_at lw_m5 139 rfl) rfl
theorem q1215 : (Jvm.Cond.classLink "HadForVoice" (529 : Nat) "[S") ∈ lw_all := lw_g (lw_at lw_m5 140 rfl) rfl
theorem q1216 : (Jvm.Cond.classLink "HadForVoice" (531 : Nat) "[I") ∈ lw_all := lw_g (lw_at lw_m5 141 rfl) rfl
theorem q1217 : (Jvm.Cond.classLink "HadForVoice" (532 : Nat) "[J") ∈ lw_all := lw_g (lw_at lw_m5 142 rfl) rfl
theorem q1218 : (Jvm.Cond.classLink "HadForVoice" (534 : Nat) "[Z") ∈ lw_all := lw_g (lw_at lw_m5 143 rfl) rfl
theorem q1219 : (Jvm.Cond.methodLink "HadForVoice" (543 : Nat) ({ cls := "HadForVoice", name := "set", desc := "(Ljava/lang/Object;II)V" } : Jvm.MethodName)) ∈ lw_all := lw_g (lw_at lw_m5 144 rfl) rfl
theorem q1220 : (Jvm.Cond.static ({ cls := "HadForVoice", name := "set", desc := "(Ljava/lang/Object;II)V" } : Jvm.MethodName)) ∈ lw_all := lw_g (lw_at lw_m5 145 rfl) rfl
theorem q1221 : (Jvm.Cond.code ({ cls := "HadForVoice", name := "set", desc := "(Ljava/lang/Object;II)V" } : Jvm.MethodName) prog_1_method_102_code (3 : Nat) (Option.none : Option Jvm.ClassFile.FieldType)) ∈ lw_all := lw_g (lw_at lw_m5 146 rfl) rfl
theorem q1223 : (Jvm.Cond.instanceMethod ({ cls := "HadForVoice", name := "item", desc := "(III)I" } : Jvm.MethodName)) ∈ lw_all := lw_g (lw_at lw_m5 148 rfl) rfl
theorem q1224 : (Jvm.Cond.selects "HadForVoice" ({ cls := "HadForVoice", name := "item", desc := "(III)I" } : Jvm.MethodName) ({ cls := "HadForVoice", name := "item", desc := "(III)I" } : Jvm.MethodName)) ∈ lw_all := lw_g (lw_at lw_m5 149 rfl) rfl
theorem q1225 : (Jvm.Cond.codeWith ({ cls := "HadForVoice", name := "item", desc := "(III)I" } : Jvm.MethodName) prog_1_method_106_code (5 : Nat) (Option.some Jvm.ClassFile.FieldType.int) [((18 : Nat), (33 : Nat), (34 : Nat), (556 : Nat)), ((18 : Nat), (33 : Nat), (39 : Nat), (558 : Nat)), ((18 : Nat), (33 : Nat), (44 : Nat), (8 : Nat))]) ∈ lw_all := lw_g (lw_at lw_m5 150 rfl) rfl
theorem q1226 : (Jvm.Cond.classLink "HadForVoice" (556 : Nat) "java/lang/ClassCastException") ∈ lw_all := lw_g (lw_at lw_m5 151 rfl) rfl
theorem q1240 : (Jvm.Cond.classLink "HadForVoice" (558 : Nat) "java/lang/NullPointerException") ∈ lw_all := lw_g (lw_at lw_m5 165 rfl) rfl
theorem q1265 : (Jvm.Cond.methodLink "HadForVoice" (552 : Nat) ({ cls := "HadForVoice", name := "itemOf", desc := "(Ljava/lang/Object;II)I" } : Jvm.MethodName)) ∈ lw_all := lw_g (lw_at lw_m5 190 rfl) rfl
theorem q1266 : (Jvm.Cond.privateMethod ({ cls := "HadForVoice", name := "itemOf", desc := "(Ljava/lang/Object;II)I" } : Jvm.MethodName)) ∈ lw_tbl := lw_at lw_m5 191 rfl
theorem q1267 : (Jvm.Cond.instanceMethod ({ cls := "HadForVoice", name := "itemOf", desc := "(Ljava/lang/Object;II)I" } : Jvm.MethodName)) ∈ lw_all := lw_g (lw_at lw_m5 192 rfl) rfl
theorem q1268 : (Jvm.Cond.code ({ cls := "HadForVoice", name := "itemOf", desc := "(Ljava/lang/Object;II)I" } : Jvm.MethodName) prog_1_method_105_code (4 : Nat) (Option.some Jvm.ClassFile.FieldType.int)) ∈ lw_all := lw_g (lw_at lw_m5 193 rfl) rfl
theorem q1269 : (Jvm.Cond.methodLink "HadForVoice" (548 : Nat) ({ cls := "HadForVoice", name := "manyOf", desc := "(Ljava/lang/Object;I)I" } : Jvm.MethodName)) ∈ lw_all := lw_g (lw_at lw_m5 194 rfl) rfl
theorem q1270 : (Jvm.Cond.static ({ cls := "HadForVoice", name := "manyOf", desc := "(Ljava/lang/Object;I)I" } : Jvm.MethodName)) ∈ lw_all := lw_g (lw_at lw_m5 195 rfl) rfl
theorem q1271 : (Jvm.Cond.code ({ cls := "HadForVoice", name := "manyOf", desc := "(Ljava/lang/Object;I)I" } : Jvm.MethodName) prog_1_method_104_code (2 : Nat) (Option.some Jvm.ClassFile.FieldType.int)) ∈ lw_all := lw_g (lw_at lw_m5 196 rfl) rfl
theorem q1273 : (Jvm.Cond.instanceMethod ({ cls := "HadForVoice", name := "makeAll", desc := "(III)I" } : Jvm.MethodName)) ∈ lw_all := lw_g (lw_at lw_m5 198 rfl) rfl
theorem q1274 : (Jvm.Cond.selects "HadForVoice" ({ cls := "HadForVoice", name := "makeAll", desc := "(III)I" } : Jvm.MethodName) ({ cls := "HadForVoice", name := "makeAll", desc := "(III)I" } : Jvm.MethodName)) ∈ lw_all := lw_g (lw_at lw_m5 199 rfl) rfl
theorem q1275 : (Jvm.Cond.codeWith ({ cls := "HadForVoice", name := "makeAll", desc := "(III)I" } : Jvm.MethodName) prog_1_method_107_code (9 : Nat) (Option.some Jvm.ClassFile.FieldType.int) [((19 : Nat), (137 : Nat), (138 : Nat), (556 : Nat)), ((19 : Nat), (137 : Nat), (143 : Nat), (558 : Nat)), ((19 : Nat), (137 : Nat), (148 : Nat), (8 : Nat))]) ∈ lw_all := lw_g (lw_at lw_m5 200 rfl) rfl
theorem q1277 : (Jvm.Cond.instanceMethod ({ cls := "HadForVoice", name := "wouldCost", desc := "(III)I" } : Jvm.MethodName)) ∈ lw_all := lw_g (lw_at lw_m5 202 rfl) rfl
theorem q1278 : (Jvm.Cond.selects "HadForVoice" ({ cls := "HadForVoice", name := "wouldCost", desc := "(III)I" } : Jvm.MethodName) ({ cls := "HadForVoice", name := "wouldCost", desc := "(III)I" } : Jvm.MethodName)) ∈ lw_all := lw_g (lw_at lw_m5 203 rfl) rfl
theorem q1279 : (Jvm.Cond.codeWith ({ cls := "HadForVoice", name := "wouldCost", desc := "(III)I" } : Jvm.MethodName) prog_1_method_108_code (10 : Nat) (Option.some Jvm.ClassFile.FieldType.int) [((30 : Nat), (150 : Nat), (164 : Nat), (556 : Nat)), ((30 : Nat), (150 : Nat), (184 : Nat), (558 : Nat)), ((30 : Nat), (150 : Nat), (204 : Nat), (8 : Nat)), ((30 : Nat), (150 : Nat), (227 : Nat), (0 : Nat)), ((164 : Nat), (170 : Nat), (227 : Nat), (0 : Nat)), ((184 : Nat), (190 : Nat), (227 : Nat), (0 : Nat)), ((204 : Nat), (213 : Nat), (227 : Nat), (0 : Nat)), ((227 : Nat), (229 : Nat), (227 : Nat), (0 : Nat))]) ∈ lw_all := lw_g (lw_at lw_m5 204 rfl) rfl
theorem q1281 : (Jvm.Cond.instanceMethod ({ cls := "HadForVoice", name := "shelf", desc := "(III)I" } : Jvm.MethodName)) ∈ lw_all := lw_g (lw_at lw_m5 206 rfl) rfl
theorem q1282 : (Jvm.Cond.selects "HadForVoice" ({ cls := "HadForVoice", name := "shelf", desc := "(III)I" } : Jvm.MethodName) ({ cls := "HadForVoice", name := "shelf", desc := "(III)I" } : Jvm.MethodName)) ∈ lw_all := lw_g (lw_at lw_m5 207 rfl) rfl
theorem q1283 : (Jvm.Cond.code ({ cls := "HadForVoice", name := "shelf", desc := "(III)I" } : Jvm.MethodName) prog_1_method_109_code (4 : Nat) (Option.some Jvm.ClassFile.FieldType.int)) ∈ lw_all := lw_g (lw_at lw_m5 208 rfl) rfl
theorem q1284 : (Jvm.Cond.classLink "HadForVoice" (560 : Nat) "HadForVoice$Ticket") ∈ lw_all := lw_g (lw_at lw_m5 209 rfl) rfl
theorem q1286 : (Jvm.Cond.methodLink "HadForVoice" (562 : Nat) ({ cls := "HadForVoice$Ticket", name := "<init>", desc := "(I)V" } : Jvm.MethodName)) ∈ lw_all := lw_g (lw_at lw_m5 211 rfl) rfl
theorem q1291 : (Jvm.Cond.fieldLinkNest "HadForVoice" (564 : Nat) "HadForVoice$Ticket" "number" "I" "HadForVoice") ∈ lw_tbl := lw_at lw_m5 216 rfl
theorem q1296 : (Jvm.Cond.instanceMethod ({ cls := "HadForVoice", name := "taken", desc := "(II)I" } : Jvm.MethodName)) ∈ lw_all := lw_g (lw_at lw_m5 221 rfl) rfl
theorem q1297 : (Jvm.Cond.selects "HadForVoice" ({ cls := "HadForVoice", name := "taken", desc := "(II)I" } : Jvm.MethodName) ({ cls := "HadForVoice", name := "taken", desc := "(II)I" } : Jvm.MethodName)) ∈ lw_all := lw_g (lw_at lw_m5 222 rfl) rfl
theorem q1298 : (Jvm.Cond.codeWith ({ cls := "HadForVoice", name := "taken", desc := "(II)I" } : Jvm.MethodName) prog_1_method_113_code (4 : Nat) (Option.some Jvm.ClassFile.FieldType.int) [((29 : Nat), (38 : Nat), (39 : Nat), (556 : Nat)), ((29 : Nat), (38 : Nat), (43 : Nat), (558 : Nat))]) ∈ lw_all := lw_g (lw_at lw_m5 223 rfl) rfl
theorem q1299 : (Jvm.Cond.methodLink "HadForVoice" (572 : Nat) ({ cls := "HadForVoice", name := "held", desc := "(I)Ljava/lang/Object;" } : Jvm.MethodName)) ∈ lw_all := lw_g (lw_at lw_m5 224 rfl) rfl
theorem q1300 : (Jvm.Cond.privateMethod ({ cls := "HadForVoice", name := "held", desc := "(I)Ljava/lang/Object;" } : Jvm.MethodName)) ∈ lw_tbl := lw_at lw_m5 225 rfl
theorem q1301 : (Jvm.Cond.instanceMethod ({ cls := "HadForVoice", name := "held", desc := "(I)Ljava/lang/Object;" } : Jvm.MethodName)) ∈ lw_all := lw_g (lw_at lw_m5 226 rfl) rfl
theorem q1302 : (Jvm.Cond.code ({ cls := "HadForVoice", name := "held", desc := "(I)Ljava/lang/Object;" } : Jvm.MethodName) prog_1_method_110_code (4 : Nat) (Option.some (Jvm.ClassFile.FieldType.object "java/lang/Object"))) ∈ lw_all := lw_g (lw_at lw_m5 227 rfl) rfl
theorem q1303 : (Jvm.Cond.methodLink "HadForVoice" (575 : Nat) ({ cls := "HadForVoice", name := "takenAs", desc := "(Ljava/lang/Object;I)I" } : Jvm.MethodName)) ∈ lw_all := lw_g (lw_at lw_m5 228 rfl) rfl
theorem q1304 : (Jvm.Cond.static ({ cls := "HadForVoice", name := "takenAs", desc := "(Ljava/lang/Object;I)I" } : Jvm.MethodName)) ∈ lw_all := lw_g (lw_at lw_m5 229 rfl) rfl
theorem q1305 : (Jvm.Cond.code ({ cls := "HadForVoice", name := "takenAs", desc := "(Ljava/lang/Object;I)I" } : Jvm.MethodName) prog_1_method_112_code (2 : Nat) (Option.some Jvm.ClassFile.FieldType.int)) ∈ lw_all := lw_g (lw_at lw_m5 230 rfl) rfl
theorem q1306 : (Jvm.Cond.methodLink "HadForVoice" (566 : Nat) ({ cls := "HadForVoice", name := "personAs", desc := "(Ljava/lang/Object;I)LHadForVoice$Person;" } : Jvm.MethodName)) ∈ lw_all := lw_g (lw_at lw_m5 231 rfl) rfl
theorem q1307 : (Jvm.Cond.static ({ cls := "HadForVoice", name := "personAs", desc := "(Ljava/lang/Object;I)LHadForVoice$Person;" } : Jvm.MethodName)) ∈ lw_all := lw_g (lw_at lw_m5 232 rfl) rfl
theorem q1308 : (Jvm.Cond.code ({ cls := "HadForVoice", name := "personAs", desc := "(Ljava/lang/Object;I)LHadForVoice$Person;" } : Jvm.MethodName) prog_1_method_111_code (2 : Nat) (Option.some (Jvm.ClassFile.FieldType.object "HadForVoice$Person"))) ∈ lw_all := lw_g (lw_at lw_m5 233 rfl) rfl
theorem q1309 : (Jvm.Cond.methodLink "HadForVoice" (570 : Nat) ({ cls := "HadForVoice$Person", name := "number", desc := "()I" } : Jvm.MethodName)) ∈ lw_all := lw_g (lw_at lw_m5 234 rfl) rfl
theorem q1319 : (Jvm.Cond.instanceMethod ({ cls := "HadForVoice", name := "act", desc := "(III)I" } : Jvm.MethodName)) ∈ lw_all := lw_g (lw_at lw_m6 4 rfl) rfl
theorem q1320 : (Jvm.Cond.selects "HadForVoice" ({ cls := "HadForVoice", name := "act", desc := "(III)I" } : Jvm.MethodName) ({ cls := "HadForVoice", name := "act", desc := "(III)I" } : Jvm.MethodName)) ∈ lw_all := lw_g (lw_at lw_m6 5 rfl) rfl
theorem q1321 : (Jvm.Cond.codeWith ({ cls := "HadForVoice", name := "act", desc := "(III)I" } : Jvm.MethodName) prog_1_method_114_code (7 : Nat) (Option.some Jvm.ClassFile.FieldType.int) [((52 : Nat), (92 : Nat), (132 : Nat), (596 : Nat)), ((93 : Nat), (105 : Nat), (132 : Nat), (596 : Nat)), ((106 : Nat), (118 : Nat), (132 : Nat), (596 : Nat)), ((119 : Nat), (131 : Nat), (132 : Nat), (596 : Nat))]) ∈ lw_all := lw_g (lw_at lw_m6 6 rfl) rfl
theorem q1322 : (Jvm.Cond.classLink "HadForVoice" (596 : Nat) "java/lang/ArithmeticException") ∈ lw_all := lw_g (lw_at lw_m6 7 rfl) rfl
theorem q1336 : (Jvm.Cond.classLink "HadForVoice" (581 : Nat) "HadForVoice$Owes") ∈ lw_all := lw_g (lw_at lw_m6 21 rfl) rfl
theorem q1337 : (Jvm.Cond.interfaceEntry "HadForVoice" (583 : Nat)) ∈ lw_tbl := lw_at lw_m6 22 rfl
theorem q1389 : (Jvm.Cond.interfaceEntry "HadForVoice" (587 : Nat)) ∈ lw_tbl := lw_at lw_m6 74 rfl
theorem q1435 : (Jvm.Cond.interfaceEntry "HadForVoice" (590 : Nat)) ∈ lw_tbl := lw_at lw_m6 120 rfl
theorem q1466 : (Jvm.Cond.interfaceEntry "HadForVoice" (593 : Nat)) ∈ lw_tbl := lw_at lw_m6 151 rfl
theorem q1467 : (Jvm.Cond.methodLink "HadForVoice" (593 : Nat) ({ cls := "HadForVoice$Owes", name := "owes", desc := "(ILHadForVoice$Trace;)I" } : Jvm.MethodName)) ∈ lw_all := lw_g (lw_at lw_m6 152 rfl) rfl
theorem q1490 : (Jvm.Cond.instanceMethod ({ cls := "HadForVoice", name := "trace", desc := "(I)I" } : Jvm.MethodName)) ∈ lw_all := lw_g (lw_at lw_m6 175 rfl) rfl
theorem q1491 : (Jvm.Cond.selects "HadForVoice" ({ cls := "HadForVoice", name := "trace", desc := "(I)I" } : Jvm.MethodName) ({ cls := "HadForVoice", name := "trace", desc := "(I)I" } : Jvm.MethodName)) ∈ lw_all := lw_g (lw_at lw_m6 176 rfl) rfl
theorem q1492 : (Jvm.Cond.code ({ cls := "HadForVoice", name := "trace", desc := "(I)I" } : Jvm.MethodName) prog_1_method_115_code (2 : Nat) (Option.some Jvm.ClassFile.FieldType.int)) ∈ lw_all := lw_g (lw_at lw_m6 177 rfl) rfl
theorem q1494 : (Jvm.Cond.instanceMethod ({ cls := "HadForVoice", name := "many", desc := "(I)I" } : Jvm.MethodName)) ∈ lw_all := lw_g (lw_at lw_m6 179 rfl) rfl
theorem q1495 : (Jvm.Cond.selects "HadForVoice" ({ cls := "HadForVoice", name := "many", desc := "(I)I" } : Jvm.MethodName) ({ cls := "HadForVoice", name := "many", desc := "(I)I" } : Jvm.MethodName)) ∈ lw_all := lw_g (lw_at lw_m6 180 rfl) rfl
theorem q1496 : (Jvm.Cond.code ({ cls := "HadForVoice", name := "many", desc := "(I)I" } : Jvm.MethodName) prog_1_method_116_code (2 : Nat) (Option.some Jvm.ClassFile.FieldType.int)) ∈ lw_all := lw_g (lw_at lw_m6 181 rfl) rfl
theorem q1498 : (Jvm.Cond.instanceMethod ({ cls := "HadForVoice", name := "keep", desc := "()I" } : Jvm.MethodName)) ∈ lw_all := lw_g (lw_at lw_m6 183 rfl) rfl
theorem q1499 : (Jvm.Cond.selects "HadForVoice" ({ cls := "HadForVoice", name := "keep", desc := "()I" } : Jvm.MethodName) ({ cls := "HadForVoice", name := "keep", desc := "()I" } : Jvm.MethodName)) ∈ lw_all := lw_g (lw_at lw_m6 184 rfl) rfl
theorem q1500 : (Jvm.Cond.code ({ cls := "HadForVoice", name := "keep", desc := "()I" } : Jvm.MethodName) prog_1_method_117_code (1 : Nat) (Option.some Jvm.ClassFile.FieldType.int)) ∈ lw_all := lw_g (lw_at lw_m6 185 rfl) rfl
theorem q1502 : (Jvm.Cond.instanceMethod ({ cls := "HadForVoice", name := "again", desc := "()I" } : Jvm.MethodName)) ∈ lw_all := lw_g (lw_at lw_m6 187 rfl) rfl
theorem q1503 : (Jvm.Cond.selects "HadForVoice" ({ cls := "HadForVoice", name := "again", desc := "()I" } : Jvm.MethodName) ({ cls := "HadForVoice", name := "again", desc := "()I" } : Jvm.MethodName)) ∈ lw_all := lw_g (lw_at lw_m6 188 rfl) rfl
theorem q1504 : (Jvm.Cond.code ({ cls := "HadForVoice", name := "again", desc := "()I" } : Jvm.MethodName) prog_1_method_118_code (2 : Nat) (Option.some Jvm.ClassFile.FieldType.int)) ∈ lw_all := lw_g (lw_at lw_m6 189 rfl) rfl
theorem in_X0 : ∀ w ∈ wsX00, w ∈ lw_all := lw_in wsX00 [427, 429, 431, 433, 435, 437, 439, 441, 443, 445, 447, 449, 451, 453, 455, 457, 459, 461, 463, 465, 467, 469, 471, 473, 475, 477, 479, 481, 483, 485, 487, 489] (by decide +kernel) (by decide +kernel)
