/-! LeftUndoes -/
set_option maxRecDepth 100000
def RX0 : String := "LeftUndoes"
def TX0 : u_T := fun k => match k with
  | 0 => ("LeftUndoes", "refusal", "LLeftUndoes$Refusal;", true)
  | 1 => ("LeftUndoes", "fault", "LLeftUndoes$Fault;", true)
  | 2 => ("LeftUndoes", "now", "LLeftUndoes$Town;", true)
  | 3 => ("LeftUndoes", "kept", "LLeftUndoes$Town;", true)
  | 4 => ("LeftUndoes", "tried", "LLeftUndoes$Town;", true)
  | 5 => ("LeftUndoes", "hands", "[LLeftUndoes$Hand;", true)
  | 6 => ("LeftUndoes", "isKept", "Z", false)
  | 7 => ("LeftUndoes", "kindNames", "[Ljava/lang/String;", true)
  | 8 => ("LeftUndoes", "doings", "[Ljava/lang/String;", true)
  | 9 => ("LeftUndoes", "names", "[Ljava/lang/String;", true)
  | 10 => ("LeftUndoes", "tape", "[B", true)
  | 11 => ("LeftUndoes", "tapeMany", "I", false)
  | 12 => ("LeftUndoes", "at", "I", false)
  | 13 => ("LeftUndoes", "end", "I", false)
  | 14 => ("LeftUndoes", "facts", "[I", true)
  | 15 => ("LeftUndoes", "sos", "[I", true)
  | 16 => ("LeftUndoes", "parts", "[I", true)
  | 17 => ("LeftUndoes", "told", "[I", true)
  | 18 => ("LeftUndoes", "plan", "[I", true)
  | 19 => ("LeftUndoes", "most", "I", false)
  | 20 => ("LeftUndoes", "ways", "I", false)
  | 21 => ("LeftUndoes", "planLong", "I", false)
  | 22 => ("LeftUndoes", "wanted", "I", false)
  | 23 => ("LeftUndoes", "fewest", "I", false)
  | 24 => ("LeftUndoes", "stoodEver", "I", false)
  | 25 => ("LeftUndoes", "strangers", "[LLeftUndoes$Hand;", true)
  | 26 => ("LeftUndoes", "firstFit", "I", false)
  | 27 => ("LeftUndoes", "rows", "[I", true)
  | 28 => ("LeftUndoes", "rowMany", "I", false)
  | 29 => ("LeftUndoes", "shelves", "[LLeftUndoes$Shelf;", true)
  | 30 => ("LeftUndoes", "sheets", "[LLeftUndoes$Shelf;", true)
  | _ => ("LeftUndoes", "trace", "LLeftUndoes$Trace;", true)
def tyX0 : Nat → FieldType := fun k => match k with
  | 0 => .object "LeftUndoes$Refusal"
  | 1 => .object "LeftUndoes$Fault"
  | 2 => .object "LeftUndoes$Town"
  | 3 => .object "LeftUndoes$Town"
  | 4 => .object "LeftUndoes$Town"
  | 5 => .array (.object "LeftUndoes$Hand")
  | 6 => .boolean
  | 7 => .array (.object "java/lang/String")
  | 8 => .array (.object "java/lang/String")
  | 9 => .array (.object "java/lang/String")
  | 10 => .array .byte
  | 11 => .int
  | 12 => .int
  | 13 => .int
  | 14 => .array .int
  | 15 => .array .int
  | 16 => .array .int
  | 17 => .array .int
  | 18 => .array .int
  | 19 => .int
  | 20 => .int
  | 21 => .int
  | 22 => .int
  | 23 => .int
  | 24 => .int
  | 25 => .array (.object "LeftUndoes$Hand")
  | 26 => .int
  | 27 => .array .int
  | 28 => .int
  | 29 => .array (.object "LeftUndoes$Shelf")
  | 30 => .array (.object "LeftUndoes$Shelf")
  | _ => .object "LeftUndoes$Trace"
abbrev wsX00 : List Cond := u_ws RX0 TX0 32
set_option maxRecDepth 100000 in
theorem nmX0 : ∀ a, a < 32 → ∀ b, b < 32 → a ≠ b → (TX0 a).2.1 ≠ (TX0 b).2.1 := by decide +kernel
set_option maxRecDepth 100000 in
theorem tyX0_ok : ∀ k, k < 32 → parseFieldDescriptor (TX0 k).2.2.1 = some (tyX0 k) := by decide +kernel
abbrev cX0_init : ByteArray := prog_1_method_5_code
def yX0_init : MethodName := ⟨RX0, "<init>", "()V"⟩
def dkwX0_init_12 : List UInt8 := [183, 0, 145, 83, 132, 1, 1, 167, 255, 222, 177]
abbrev dktX0_init_12 : List UInt8 := dkwX0_init_12 ++ []
def dkwX0_init_11 : List UInt8 := [42, 180, 0, 131, 27, 187, 0, 129, 89, 183, 0, 145, 83, 42, 180, 0, 135, 27, 187, 0, 129, 89]
abbrev dktX0_init_11 : List UInt8 := dkwX0_init_11 ++ dktX0_init_12
def dkwX0_init_10 : List UInt8 := [189, 0, 129, 181, 0, 135, 42, 187, 0, 138, 89, 183, 0, 140, 181, 0, 141, 3, 60, 27, 7, 162, 0, 35]
abbrev dktX0_init_10 : List UInt8 := dkwX0_init_10 ++ dktX0_init_11
def dkwX0_init_9 : List UInt8 := [189, 0, 57, 181, 0, 123, 42, 16, 12, 188, 10, 181, 0, 126, 42, 7, 189, 0, 129, 181, 0, 131, 42, 7]
abbrev dktX0_init_9 : List UInt8 := dkwX0_init_9 ++ dktX0_init_10
def dkwX0_init_8 : List UInt8 := [16, 64, 188, 10, 181, 0, 114, 42, 7, 188, 10, 181, 0, 117, 42, 7, 188, 10, 181, 0, 120, 42, 16, 45]
abbrev dktX0_init_8 : List UInt8 := dkwX0_init_8 ++ dktX0_init_9
def dkwX0_init_7 : List UInt8 := [17, 0, 200, 188, 8, 181, 0, 103, 42, 8, 188, 10, 181, 0, 107, 42, 16, 50, 188, 10, 181, 0, 111, 42]
abbrev dktX0_init_7 : List UInt8 := dkwX0_init_7 ++ dktX0_init_8
def dkwX0_init_6 : List UInt8 := [4, 18, 92, 83, 89, 5, 18, 94, 83, 89, 6, 18, 96, 83, 89, 7, 18, 98, 83, 181, 0, 100, 42]
abbrev dktX0_init_6 : List UInt8 := dkwX0_init_6 ++ dktX0_init_7
def dkwX0_init_5 : List UInt8 := [89, 4, 18, 83, 83, 89, 5, 18, 85, 83, 181, 0, 87, 42, 8, 189, 0, 63, 89, 3, 18, 90, 83, 89]
abbrev dktX0_init_5 : List UInt8 := dkwX0_init_5 ++ dktX0_init_6
def dkwX0_init_4 : List UInt8 := [83, 89, 7, 18, 73, 83, 89, 8, 18, 75, 83, 181, 0, 77, 42, 6, 189, 0, 63, 89, 3, 18, 81, 83]
abbrev dktX0_init_4 : List UInt8 := dkwX0_init_4 ++ dktX0_init_5
def dkwX0_init_3 : List UInt8 := [16, 6, 189, 0, 63, 89, 3, 18, 65, 83, 89, 4, 18, 67, 83, 89, 5, 18, 69, 83, 89, 6, 18, 71]
abbrev dktX0_init_3 : List UInt8 := dkwX0_init_3 ++ dktX0_init_4
def dkwX0_init_2 : List UInt8 := [181, 0, 51, 42, 187, 0, 44, 89, 183, 0, 46, 181, 0, 54, 42, 16, 6, 189, 0, 57, 181, 0, 59, 42]
abbrev dktX0_init_2 : List UInt8 := dkwX0_init_2 ++ dktX0_init_3
def dkwX0_init_1 : List UInt8 := [181, 0, 40, 42, 187, 0, 44, 89, 183, 0, 46, 181, 0, 47, 42, 187, 0, 44, 89, 183, 0, 46]
abbrev dktX0_init_1 : List UInt8 := dkwX0_init_1 ++ dktX0_init_2
def dkwX0_init_0 : List UInt8 := [42, 183, 0, 31, 42, 187, 0, 8, 89, 183, 0, 36, 181, 0, 3, 42, 187, 0, 37, 89, 183, 0, 39]
abbrev dktX0_init_0 : List UInt8 := dkwX0_init_0 ++ dktX0_init_1
theorem dksX0_init_0 : cX0_init.data.toList.drop 0 = dktX0_init_0 := by decide +kernel
theorem dksX0_init_1 : cX0_init.data.toList.drop 23 = dktX0_init_1 := dk_seg dksX0_init_0 23 rfl rfl
theorem dksX0_init_2 : cX0_init.data.toList.drop 45 = dktX0_init_2 := dk_seg dksX0_init_1 22 rfl rfl
theorem dksX0_init_3 : cX0_init.data.toList.drop 69 = dktX0_init_3 := dk_seg dksX0_init_2 24 rfl rfl
theorem dksX0_init_4 : cX0_init.data.toList.drop 93 = dktX0_init_4 := dk_seg dksX0_init_3 24 rfl rfl
theorem dksX0_init_5 : cX0_init.data.toList.drop 117 = dktX0_init_5 := dk_seg dksX0_init_4 24 rfl rfl
theorem dksX0_init_6 : cX0_init.data.toList.drop 141 = dktX0_init_6 := dk_seg dksX0_init_5 24 rfl rfl
theorem dksX0_init_7 : cX0_init.data.toList.drop 164 = dktX0_init_7 := dk_seg dksX0_init_6 23 rfl rfl
theorem dksX0_init_8 : cX0_init.data.toList.drop 188 = dktX0_init_8 := dk_seg dksX0_init_7 24 rfl rfl
theorem dksX0_init_9 : cX0_init.data.toList.drop 212 = dktX0_init_9 := dk_seg dksX0_init_8 24 rfl rfl
theorem dksX0_init_10 : cX0_init.data.toList.drop 236 = dktX0_init_10 := dk_seg dksX0_init_9 24 rfl rfl
theorem dksX0_init_11 : cX0_init.data.toList.drop 260 = dktX0_init_11 := dk_seg dksX0_init_10 24 rfl rfl
theorem dksX0_init_12 : cX0_init.data.toList.drop 282 = dktX0_init_12 := dk_seg dksX0_init_11 22 rfl rfl
theorem dX0_init_0 : decode cX0_init 0 = .ok (.aload_n 0, 1) := dk_42 (dk_at dksX0_init_0 0 rfl rfl)
theorem dX0_init_1 : decode cX0_init 1 = .ok (.invokespecial 31, 3) := dk_183 0 31 (dk_at dksX0_init_0 1 rfl rfl)
theorem dX0_init_4 : decode cX0_init 4 = .ok (.aload_n 0, 1) := dk_42 (dk_at dksX0_init_0 4 rfl rfl)
theorem dX0_init_5 : decode cX0_init 5 = .ok (.new 8, 3) := dk_187 0 8 (dk_at dksX0_init_0 5 rfl rfl)
theorem dX0_init_8 : decode cX0_init 8 = .ok (.dup, 1) := dk_89 (dk_at dksX0_init_0 8 rfl rfl)
theorem dX0_init_9 : decode cX0_init 9 = .ok (.invokespecial 36, 3) := dk_183 0 36 (dk_at dksX0_init_0 9 rfl rfl)
theorem dX0_init_12 : decode cX0_init 12 = .ok (.putfield 3, 3) := dk_181 0 3 (dk_at dksX0_init_0 12 rfl rfl)
theorem dX0_init_15 : decode cX0_init 15 = .ok (.aload_n 0, 1) := dk_42 (dk_at dksX0_init_0 15 rfl rfl)
theorem dX0_init_16 : decode cX0_init 16 = .ok (.new 37, 3) := dk_187 0 37 (dk_at dksX0_init_0 16 rfl rfl)
theorem dX0_init_19 : decode cX0_init 19 = .ok (.dup, 1) := dk_89 (dk_at dksX0_init_0 19 rfl rfl)
theorem dX0_init_20 : decode cX0_init 20 = .ok (.invokespecial 39, 3) := dk_183 0 39 (dk_at dksX0_init_0 20 rfl rfl)
theorem dX0_init_23 : decode cX0_init 23 = .ok (.putfield 40, 3) := dk_181 0 40 (dk_at dksX0_init_1 0 rfl rfl)
theorem dX0_init_26 : decode cX0_init 26 = .ok (.aload_n 0, 1) := dk_42 (dk_at dksX0_init_1 3 rfl rfl)
theorem dX0_init_27 : decode cX0_init 27 = .ok (.new 44, 3) := dk_187 0 44 (dk_at dksX0_init_1 4 rfl rfl)
theorem dX0_init_30 : decode cX0_init 30 = .ok (.dup, 1) := dk_89 (dk_at dksX0_init_1 7 rfl rfl)
theorem dX0_init_31 : decode cX0_init 31 = .ok (.invokespecial 46, 3) := dk_183 0 46 (dk_at dksX0_init_1 8 rfl rfl)
theorem dX0_init_34 : decode cX0_init 34 = .ok (.putfield 47, 3) := dk_181 0 47 (dk_at dksX0_init_1 11 rfl rfl)
theorem dX0_init_37 : decode cX0_init 37 = .ok (.aload_n 0, 1) := dk_42 (dk_at dksX0_init_1 14 rfl rfl)
theorem dX0_init_38 : decode cX0_init 38 = .ok (.new 44, 3) := dk_187 0 44 (dk_at dksX0_init_1 15 rfl rfl)
theorem dX0_init_41 : decode cX0_init 41 = .ok (.dup, 1) := dk_89 (dk_at dksX0_init_1 18 rfl rfl)
theorem dX0_init_42 : decode cX0_init 42 = .ok (.invokespecial 46, 3) := dk_183 0 46 (dk_at dksX0_init_1 19 rfl rfl)
theorem dX0_init_45 : decode cX0_init 45 = .ok (.putfield 51, 3) := dk_181 0 51 (dk_at dksX0_init_2 0 rfl rfl)
theorem dX0_init_48 : decode cX0_init 48 = .ok (.aload_n 0, 1) := dk_42 (dk_at dksX0_init_2 3 rfl rfl)
theorem dX0_init_49 : decode cX0_init 49 = .ok (.new 44, 3) := dk_187 0 44 (dk_at dksX0_init_2 4 rfl rfl)
theorem dX0_init_52 : decode cX0_init 52 = .ok (.dup, 1) := dk_89 (dk_at dksX0_init_2 7 rfl rfl)
theorem dX0_init_53 : decode cX0_init 53 = .ok (.invokespecial 46, 3) := dk_183 0 46 (dk_at dksX0_init_2 8 rfl rfl)
theorem dX0_init_56 : decode cX0_init 56 = .ok (.putfield 54, 3) := dk_181 0 54 (dk_at dksX0_init_2 11 rfl rfl)
theorem dX0_init_59 : decode cX0_init 59 = .ok (.aload_n 0, 1) := dk_42 (dk_at dksX0_init_2 14 rfl rfl)
theorem dX0_init_60 : decode cX0_init 60 = .ok (.bipush 6, 2) := dk_16 6 (dk_at dksX0_init_2 15 rfl rfl)
theorem dX0_init_62 : decode cX0_init 62 = .ok (.anewarray 57, 3) := dk_189 0 57 (dk_at dksX0_init_2 17 rfl rfl)
theorem dX0_init_65 : decode cX0_init 65 = .ok (.putfield 59, 3) := dk_181 0 59 (dk_at dksX0_init_2 20 rfl rfl)
theorem dX0_init_68 : decode cX0_init 68 = .ok (.aload_n 0, 1) := dk_42 (dk_at dksX0_init_2 23 rfl rfl)
theorem dX0_init_69 : decode cX0_init 69 = .ok (.bipush 6, 2) := dk_16 6 (dk_at dksX0_init_3 0 rfl rfl)
theorem dX0_init_71 : decode cX0_init 71 = .ok (.anewarray 63, 3) := dk_189 0 63 (dk_at dksX0_init_3 2 rfl rfl)
theorem dX0_init_74 : decode cX0_init 74 = .ok (.dup, 1) := dk_89 (dk_at dksX0_init_3 5 rfl rfl)
theorem dX0_init_75 : decode cX0_init 75 = .ok (.iconst 0, 1) := dk_3 (dk_at dksX0_init_3 6 rfl rfl)
theorem dX0_init_76 : decode cX0_init 76 = .ok (.ldc 65, 2) := dk_18 65 (dk_at dksX0_init_3 7 rfl rfl)
theorem dX0_init_78 : decode cX0_init 78 = .ok (.aastore, 1) := dk_83 (dk_at dksX0_init_3 9 rfl rfl)
theorem dX0_init_79 : decode cX0_init 79 = .ok (.dup, 1) := dk_89 (dk_at dksX0_init_3 10 rfl rfl)
theorem dX0_init_80 : decode cX0_init 80 = .ok (.iconst 1, 1) := dk_4 (dk_at dksX0_init_3 11 rfl rfl)
theorem dX0_init_81 : decode cX0_init 81 = .ok (.ldc 67, 2) := dk_18 67 (dk_at dksX0_init_3 12 rfl rfl)
theorem dX0_init_83 : decode cX0_init 83 = .ok (.aastore, 1) := dk_83 (dk_at dksX0_init_3 14 rfl rfl)
theorem dX0_init_84 : decode cX0_init 84 = .ok (.dup, 1) := dk_89 (dk_at dksX0_init_3 15 rfl rfl)
theorem dX0_init_85 : decode cX0_init 85 = .ok (.iconst 2, 1) := dk_5 (dk_at dksX0_init_3 16 rfl rfl)
theorem dX0_init_86 : decode cX0_init 86 = .ok (.ldc 69, 2) := dk_18 69 (dk_at dksX0_init_3 17 rfl rfl)
theorem dX0_init_88 : decode cX0_init 88 = .ok (.aastore, 1) := dk_83 (dk_at dksX0_init_3 19 rfl rfl)
theorem dX0_init_89 : decode cX0_init 89 = .ok (.dup, 1) := dk_89 (dk_at dksX0_init_3 20 rfl rfl)
theorem dX0_init_90 : decode cX0_init 90 = .ok (.iconst 3, 1) := dk_6 (dk_at dksX0_init_3 21 rfl rfl)
theorem dX0_init_91 : decode cX0_init 91 = .ok (.ldc 71, 2) := dk_18 71 (dk_at dksX0_init_3 22 rfl rfl)
theorem dX0_init_93 : decode cX0_init 93 = .ok (.aastore, 1) := dk_83 (dk_at dksX0_init_4 0 rfl rfl)
theorem dX0_init_94 : decode cX0_init 94 = .ok (.dup, 1) := dk_89 (dk_at dksX0_init_4 1 rfl rfl)
theorem dX0_init_95 : decode cX0_init 95 = .ok (.iconst 4, 1) := dk_7 (dk_at dksX0_init_4 2 rfl rfl)
theorem dX0_init_96 : decode cX0_init 96 = .ok (.ldc 73, 2) := dk_18 73 (dk_at dksX0_init_4 3 rfl rfl)
theorem dX0_init_98 : decode cX0_init 98 = .ok (.aastore, 1) := dk_83 (dk_at dksX0_init_4 5 rfl rfl)
theorem dX0_init_99 : decode cX0_init 99 = .ok (.dup, 1) := dk_89 (dk_at dksX0_init_4 6 rfl rfl)
theorem dX0_init_100 : decode cX0_init 100 = .ok (.iconst 5, 1) := dk_8 (dk_at dksX0_init_4 7 rfl rfl)
theorem dX0_init_101 : decode cX0_init 101 = .ok (.ldc 75, 2) := dk_18 75 (dk_at dksX0_init_4 8 rfl rfl)
theorem dX0_init_103 : decode cX0_init 103 = .ok (.aastore, 1) := dk_83 (dk_at dksX0_init_4 10 rfl rfl)
theorem dX0_init_104 : decode cX0_init 104 = .ok (.putfield 77, 3) := dk_181 0 77 (dk_at dksX0_init_4 11 rfl rfl)
theorem dX0_init_107 : decode cX0_init 107 = .ok (.aload_n 0, 1) := dk_42 (dk_at dksX0_init_4 14 rfl rfl)
theorem dX0_init_108 : decode cX0_init 108 = .ok (.iconst 3, 1) := dk_6 (dk_at dksX0_init_4 15 rfl rfl)
theorem dX0_init_109 : decode cX0_init 109 = .ok (.anewarray 63, 3) := dk_189 0 63 (dk_at dksX0_init_4 16 rfl rfl)
theorem dX0_init_112 : decode cX0_init 112 = .ok (.dup, 1) := dk_89 (dk_at dksX0_init_4 19 rfl rfl)
theorem dX0_init_113 : decode cX0_init 113 = .ok (.iconst 0, 1) := dk_3 (dk_at dksX0_init_4 20 rfl rfl)
theorem dX0_init_114 : decode cX0_init 114 = .ok (.ldc 81, 2) := dk_18 81 (dk_at dksX0_init_4 21 rfl rfl)
theorem dX0_init_116 : decode cX0_init 116 = .ok (.aastore, 1) := dk_83 (dk_at dksX0_init_4 23 rfl rfl)
theorem dX0_init_117 : decode cX0_init 117 = .ok (.dup, 1) := dk_89 (dk_at dksX0_init_5 0 rfl rfl)
theorem dX0_init_118 : decode cX0_init 118 = .ok (.iconst 1, 1) := dk_4 (dk_at dksX0_init_5 1 rfl rfl)
theorem dX0_init_119 : decode cX0_init 119 = .ok (.ldc 83, 2) := dk_18 83 (dk_at dksX0_init_5 2 rfl rfl)
theorem dX0_init_121 : decode cX0_init 121 = .ok (.aastore, 1) := dk_83 (dk_at dksX0_init_5 4 rfl rfl)
theorem dX0_init_122 : decode cX0_init 122 = .ok (.dup, 1) := dk_89 (dk_at dksX0_init_5 5 rfl rfl)
theorem dX0_init_123 : decode cX0_init 123 = .ok (.iconst 2, 1) := dk_5 (dk_at dksX0_init_5 6 rfl rfl)
theorem dX0_init_124 : decode cX0_init 124 = .ok (.ldc 85, 2) := dk_18 85 (dk_at dksX0_init_5 7 rfl rfl)
theorem dX0_init_126 : decode cX0_init 126 = .ok (.aastore, 1) := dk_83 (dk_at dksX0_init_5 9 rfl rfl)
theorem dX0_init_127 : decode cX0_init 127 = .ok (.putfield 87, 3) := dk_181 0 87 (dk_at dksX0_init_5 10 rfl rfl)
theorem dX0_init_130 : decode cX0_init 130 = .ok (.aload_n 0, 1) := dk_42 (dk_at dksX0_init_5 13 rfl rfl)
theorem dX0_init_131 : decode cX0_init 131 = .ok (.iconst 5, 1) := dk_8 (dk_at dksX0_init_5 14 rfl rfl)
theorem dX0_init_132 : decode cX0_init 132 = .ok (.anewarray 63, 3) := dk_189 0 63 (dk_at dksX0_init_5 15 rfl rfl)
theorem dX0_init_135 : decode cX0_init 135 = .ok (.dup, 1) := dk_89 (dk_at dksX0_init_5 18 rfl rfl)
theorem dX0_init_136 : decode cX0_init 136 = .ok (.iconst 0, 1) := dk_3 (dk_at dksX0_init_5 19 rfl rfl)
theorem dX0_init_137 : decode cX0_init 137 = .ok (.ldc 90, 2) := dk_18 90 (dk_at dksX0_init_5 20 rfl rfl)
theorem dX0_init_139 : decode cX0_init 139 = .ok (.aastore, 1) := dk_83 (dk_at dksX0_init_5 22 rfl rfl)
theorem dX0_init_140 : decode cX0_init 140 = .ok (.dup, 1) := dk_89 (dk_at dksX0_init_5 23 rfl rfl)
theorem dX0_init_141 : decode cX0_init 141 = .ok (.iconst 1, 1) := dk_4 (dk_at dksX0_init_6 0 rfl rfl)
theorem dX0_init_142 : decode cX0_init 142 = .ok (.ldc 92, 2) := dk_18 92 (dk_at dksX0_init_6 1 rfl rfl)
theorem dX0_init_144 : decode cX0_init 144 = .ok (.aastore, 1) := dk_83 (dk_at dksX0_init_6 3 rfl rfl)
theorem dX0_init_145 : decode cX0_init 145 = .ok (.dup, 1) := dk_89 (dk_at dksX0_init_6 4 rfl rfl)
theorem dX0_init_146 : decode cX0_init 146 = .ok (.iconst 2, 1) := dk_5 (dk_at dksX0_init_6 5 rfl rfl)
theorem dX0_init_147 : decode cX0_init 147 = .ok (.ldc 94, 2) := dk_18 94 (dk_at dksX0_init_6 6 rfl rfl)
theorem dX0_init_149 : decode cX0_init 149 = .ok (.aastore, 1) := dk_83 (dk_at dksX0_init_6 8 rfl rfl)
theorem dX0_init_150 : decode cX0_init 150 = .ok (.dup, 1) := dk_89 (dk_at dksX0_init_6 9 rfl rfl)
theorem dX0_init_151 : decode cX0_init 151 = .ok (.iconst 3, 1) := dk_6 (dk_at dksX0_init_6 10 rfl rfl)
theorem dX0_init_152 : decode cX0_init 152 = .ok (.ldc 96, 2) := dk_18 96 (dk_at dksX0_init_6 11 rfl rfl)
theorem dX0_init_154 : decode cX0_init 154 = .ok (.aastore, 1) := dk_83 (dk_at dksX0_init_6 13 rfl rfl)
theorem dX0_init_155 : decode cX0_init 155 = .ok (.dup, 1) := dk_89 (dk_at dksX0_init_6 14 rfl rfl)
theorem dX0_init_156 : decode cX0_init 156 = .ok (.iconst 4, 1) := dk_7 (dk_at dksX0_init_6 15 rfl rfl)
theorem dX0_init_157 : decode cX0_init 157 = .ok (.ldc 98, 2) := dk_18 98 (dk_at dksX0_init_6 16 rfl rfl)
theorem dX0_init_159 : decode cX0_init 159 = .ok (.aastore, 1) := dk_83 (dk_at dksX0_init_6 18 rfl rfl)
theorem dX0_init_160 : decode cX0_init 160 = .ok (.putfield 100, 3) := dk_181 0 100 (dk_at dksX0_init_6 19 rfl rfl)
theorem dX0_init_163 : decode cX0_init 163 = .ok (.aload_n 0, 1) := dk_42 (dk_at dksX0_init_6 22 rfl rfl)
theorem dX0_init_164 : decode cX0_init 164 = .ok (.sipush 200, 3) := dk_17 0 200 (dk_at dksX0_init_7 0 rfl rfl)
theorem dX0_init_167 : decode cX0_init 167 = .ok (.newarray .byte, 2) := dk_188_8 (dk_at dksX0_init_7 3 rfl rfl)
theorem dX0_init_169 : decode cX0_init 169 = .ok (.putfield 103, 3) := dk_181 0 103 (dk_at dksX0_init_7 5 rfl rfl)
theorem dX0_init_172 : decode cX0_init 172 = .ok (.aload_n 0, 1) := dk_42 (dk_at dksX0_init_7 8 rfl rfl)
theorem dX0_init_173 : decode cX0_init 173 = .ok (.iconst 5, 1) := dk_8 (dk_at dksX0_init_7 9 rfl rfl)
theorem dX0_init_174 : decode cX0_init 174 = .ok (.newarray .int, 2) := dk_188_10 (dk_at dksX0_init_7 10 rfl rfl)
theorem dX0_init_176 : decode cX0_init 176 = .ok (.putfield 107, 3) := dk_181 0 107 (dk_at dksX0_init_7 12 rfl rfl)
theorem dX0_init_179 : decode cX0_init 179 = .ok (.aload_n 0, 1) := dk_42 (dk_at dksX0_init_7 15 rfl rfl)
theorem dX0_init_180 : decode cX0_init 180 = .ok (.bipush 50, 2) := dk_16 50 (dk_at dksX0_init_7 16 rfl rfl)
theorem dX0_init_182 : decode cX0_init 182 = .ok (.newarray .int, 2) := dk_188_10 (dk_at dksX0_init_7 18 rfl rfl)
theorem dX0_init_184 : decode cX0_init 184 = .ok (.putfield 111, 3) := dk_181 0 111 (dk_at dksX0_init_7 20 rfl rfl)
theorem dX0_init_187 : decode cX0_init 187 = .ok (.aload_n 0, 1) := dk_42 (dk_at dksX0_init_7 23 rfl rfl)
theorem dX0_init_188 : decode cX0_init 188 = .ok (.bipush 64, 2) := dk_16 64 (dk_at dksX0_init_8 0 rfl rfl)
theorem dX0_init_190 : decode cX0_init 190 = .ok (.newarray .int, 2) := dk_188_10 (dk_at dksX0_init_8 2 rfl rfl)
theorem dX0_init_192 : decode cX0_init 192 = .ok (.putfield 114, 3) := dk_181 0 114 (dk_at dksX0_init_8 4 rfl rfl)
theorem dX0_init_195 : decode cX0_init 195 = .ok (.aload_n 0, 1) := dk_42 (dk_at dksX0_init_8 7 rfl rfl)
theorem dX0_init_196 : decode cX0_init 196 = .ok (.iconst 4, 1) := dk_7 (dk_at dksX0_init_8 8 rfl rfl)
theorem dX0_init_197 : decode cX0_init 197 = .ok (.newarray .int, 2) := dk_188_10 (dk_at dksX0_init_8 9 rfl rfl)
theorem dX0_init_199 : decode cX0_init 199 = .ok (.putfield 117, 3) := dk_181 0 117 (dk_at dksX0_init_8 11 rfl rfl)
theorem dX0_init_202 : decode cX0_init 202 = .ok (.aload_n 0, 1) := dk_42 (dk_at dksX0_init_8 14 rfl rfl)
theorem dX0_init_203 : decode cX0_init 203 = .ok (.iconst 4, 1) := dk_7 (dk_at dksX0_init_8 15 rfl rfl)
theorem dX0_init_204 : decode cX0_init 204 = .ok (.newarray .int, 2) := dk_188_10 (dk_at dksX0_init_8 16 rfl rfl)
theorem dX0_init_206 : decode cX0_init 206 = .ok (.putfield 120, 3) := dk_181 0 120 (dk_at dksX0_init_8 18 rfl rfl)
theorem dX0_init_209 : decode cX0_init 209 = .ok (.aload_n 0, 1) := dk_42 (dk_at dksX0_init_8 21 rfl rfl)
theorem dX0_init_210 : decode cX0_init 210 = .ok (.bipush 45, 2) := dk_16 45 (dk_at dksX0_init_8 22 rfl rfl)
theorem dX0_init_212 : decode cX0_init 212 = .ok (.anewarray 57, 3) := dk_189 0 57 (dk_at dksX0_init_9 0 rfl rfl)
theorem dX0_init_215 : decode cX0_init 215 = .ok (.putfield 123, 3) := dk_181 0 123 (dk_at dksX0_init_9 3 rfl rfl)
theorem dX0_init_218 : decode cX0_init 218 = .ok (.aload_n 0, 1) := dk_42 (dk_at dksX0_init_9 6 rfl rfl)
theorem dX0_init_219 : decode cX0_init 219 = .ok (.bipush 12, 2) := dk_16 12 (dk_at dksX0_init_9 7 rfl rfl)
theorem dX0_init_221 : decode cX0_init 221 = .ok (.newarray .int, 2) := dk_188_10 (dk_at dksX0_init_9 9 rfl rfl)
theorem dX0_init_223 : decode cX0_init 223 = .ok (.putfield 126, 3) := dk_181 0 126 (dk_at dksX0_init_9 11 rfl rfl)
theorem dX0_init_226 : decode cX0_init 226 = .ok (.aload_n 0, 1) := dk_42 (dk_at dksX0_init_9 14 rfl rfl)
theorem dX0_init_227 : decode cX0_init 227 = .ok (.iconst 4, 1) := dk_7 (dk_at dksX0_init_9 15 rfl rfl)
theorem dX0_init_228 : decode cX0_init 228 = .ok (.anewarray 129, 3) := dk_189 0 129 (dk_at dksX0_init_9 16 rfl rfl)
theorem dX0_init_231 : decode cX0_init 231 = .ok (.putfield 131, 3) := dk_181 0 131 (dk_at dksX0_init_9 19 rfl rfl)
theorem dX0_init_234 : decode cX0_init 234 = .ok (.aload_n 0, 1) := dk_42 (dk_at dksX0_init_9 22 rfl rfl)
theorem dX0_init_235 : decode cX0_init 235 = .ok (.iconst 4, 1) := dk_7 (dk_at dksX0_init_9 23 rfl rfl)
theorem dX0_init_236 : decode cX0_init 236 = .ok (.anewarray 129, 3) := dk_189 0 129 (dk_at dksX0_init_10 0 rfl rfl)
theorem dX0_init_239 : decode cX0_init 239 = .ok (.putfield 135, 3) := dk_181 0 135 (dk_at dksX0_init_10 3 rfl rfl)
theorem dX0_init_242 : decode cX0_init 242 = .ok (.aload_n 0, 1) := dk_42 (dk_at dksX0_init_10 6 rfl rfl)
theorem dX0_init_243 : decode cX0_init 243 = .ok (.new 138, 3) := dk_187 0 138 (dk_at dksX0_init_10 7 rfl rfl)
theorem dX0_init_246 : decode cX0_init 246 = .ok (.dup, 1) := dk_89 (dk_at dksX0_init_10 10 rfl rfl)
theorem dX0_init_247 : decode cX0_init 247 = .ok (.invokespecial 140, 3) := dk_183 0 140 (dk_at dksX0_init_10 11 rfl rfl)
theorem dX0_init_250 : decode cX0_init 250 = .ok (.putfield 141, 3) := dk_181 0 141 (dk_at dksX0_init_10 14 rfl rfl)
theorem dX0_init_253 : decode cX0_init 253 = .ok (.iconst 0, 1) := dk_3 (dk_at dksX0_init_10 17 rfl rfl)
theorem dX0_init_254 : decode cX0_init 254 = .ok (.istore_n 1, 1) := dk_60 (dk_at dksX0_init_10 18 rfl rfl)
theorem dX0_init_255 : decode cX0_init 255 = .ok (.iload_n 1, 1) := dk_27 (dk_at dksX0_init_10 19 rfl rfl)
theorem dX0_init_256 : decode cX0_init 256 = .ok (.iconst 4, 1) := dk_7 (dk_at dksX0_init_10 20 rfl rfl)
theorem dX0_init_257 : decode cX0_init 257 = .ok (.if_icmp .ge 35, 3) := dk_162 0 35 (dk_at dksX0_init_10 21 rfl rfl)
theorem dX0_init_260 : decode cX0_init 260 = .ok (.aload_n 0, 1) := dk_42 (dk_at dksX0_init_11 0 rfl rfl)
theorem dX0_init_261 : decode cX0_init 261 = .ok (.getfield 131, 3) := dk_180 0 131 (dk_at dksX0_init_11 1 rfl rfl)
theorem dX0_init_264 : decode cX0_init 264 = .ok (.iload_n 1, 1) := dk_27 (dk_at dksX0_init_11 4 rfl rfl)
theorem dX0_init_265 : decode cX0_init 265 = .ok (.new 129, 3) := dk_187 0 129 (dk_at dksX0_init_11 5 rfl rfl)
theorem dX0_init_268 : decode cX0_init 268 = .ok (.dup, 1) := dk_89 (dk_at dksX0_init_11 8 rfl rfl)
theorem dX0_init_269 : decode cX0_init 269 = .ok (.invokespecial 145, 3) := dk_183 0 145 (dk_at dksX0_init_11 9 rfl rfl)
theorem dX0_init_272 : decode cX0_init 272 = .ok (.aastore, 1) := dk_83 (dk_at dksX0_init_11 12 rfl rfl)
theorem dX0_init_273 : decode cX0_init 273 = .ok (.aload_n 0, 1) := dk_42 (dk_at dksX0_init_11 13 rfl rfl)
theorem dX0_init_274 : decode cX0_init 274 = .ok (.getfield 135, 3) := dk_180 0 135 (dk_at dksX0_init_11 14 rfl rfl)
theorem dX0_init_277 : decode cX0_init 277 = .ok (.iload_n 1, 1) := dk_27 (dk_at dksX0_init_11 17 rfl rfl)
theorem dX0_init_278 : decode cX0_init 278 = .ok (.new 129, 3) := dk_187 0 129 (dk_at dksX0_init_11 18 rfl rfl)
theorem dX0_init_281 : decode cX0_init 281 = .ok (.dup, 1) := dk_89 (dk_at dksX0_init_11 21 rfl rfl)
theorem dX0_init_282 : decode cX0_init 282 = .ok (.invokespecial 145, 3) := dk_183 0 145 (dk_at dksX0_init_12 0 rfl rfl)
theorem dX0_init_285 : decode cX0_init 285 = .ok (.aastore, 1) := dk_83 (dk_at dksX0_init_12 3 rfl rfl)
theorem dX0_init_286 : decode cX0_init 286 = .ok (.iinc 1 1, 3) := dk_132 1 1 (dk_at dksX0_init_12 4 rfl rfl)
theorem dX0_init_289 : decode cX0_init 289 = .ok (.goto (-34), 3) := dk_167 255 222 (dk_at dksX0_init_12 7 rfl rfl)
theorem dX0_init_292 : decode cX0_init 292 = .ok (.return_, 1) := dk_177 (dk_at dksX0_init_12 10 rfl rfl)
abbrev cX0_person : ByteArray := prog_1_method_11_code
def yX0_person : MethodName := ⟨RX0, "person", "(III)I"⟩
def dkwX0_person_4 : List UInt8 := [21, 4, 182, 0, 175, 21, 4, 172]
abbrev dktX0_person_4 : List UInt8 := dkwX0_person_4 ++ []
def dkwX0_person_3 : List UInt8 := [180, 0, 47, 180, 0, 173, 21, 4, 29, 79, 42, 180, 0, 47, 89, 180, 0, 146, 4, 96, 181, 0, 146, 42]
abbrev dktX0_person_3 : List UInt8 := dkwX0_person_3 ++ dktX0_person_4
def dkwX0_person_2 : List UInt8 := [180, 0, 47, 180, 0, 157, 21, 4, 27, 79, 42, 180, 0, 47, 180, 0, 160, 21, 4, 28, 79, 42]
abbrev dktX0_person_2 : List UInt8 := dkwX0_person_2 ++ dktX0_person_3
def dkwX0_person_1 : List UInt8 := [180, 0, 47, 180, 0, 146, 16, 6, 160, 0, 6, 16, 254, 172, 42, 180, 0, 47, 180, 0, 146, 54, 4, 42]
abbrev dktX0_person_1 : List UInt8 := dkwX0_person_1 ++ dktX0_person_2
def dkwX0_person_0 : List UInt8 := [27, 184, 0, 166, 153, 0, 17, 28, 184, 0, 170, 153, 0, 10, 29, 184, 0, 170, 154, 0, 5, 2, 172, 42]
abbrev dktX0_person_0 : List UInt8 := dkwX0_person_0 ++ dktX0_person_1
theorem dksX0_person_0 : cX0_person.data.toList.drop 0 = dktX0_person_0 := by decide +kernel
theorem dksX0_person_1 : cX0_person.data.toList.drop 24 = dktX0_person_1 := dk_seg dksX0_person_0 24 rfl rfl
theorem dksX0_person_2 : cX0_person.data.toList.drop 48 = dktX0_person_2 := dk_seg dksX0_person_1 24 rfl rfl
theorem dksX0_person_3 : cX0_person.data.toList.drop 70 = dktX0_person_3 := dk_seg dksX0_person_2 22 rfl rfl
theorem dksX0_person_4 : cX0_person.data.toList.drop 94 = dktX0_person_4 := dk_seg dksX0_person_3 24 rfl rfl
theorem dX0_person_0 : decode cX0_person 0 = .ok (.iload_n 1, 1) := dk_27 (dk_at dksX0_person_0 0 rfl rfl)
theorem dX0_person_1 : decode cX0_person 1 = .ok (.invokestatic 166, 3) := dk_184 0 166 (dk_at dksX0_person_0 1 rfl rfl)
theorem dX0_person_4 : decode cX0_person 4 = .ok (.ifCond .eq 17, 3) := dk_153 0 17 (dk_at dksX0_person_0 4 rfl rfl)
theorem dX0_person_7 : decode cX0_person 7 = .ok (.iload_n 2, 1) := dk_28 (dk_at dksX0_person_0 7 rfl rfl)
theorem dX0_person_8 : decode cX0_person 8 = .ok (.invokestatic 170, 3) := dk_184 0 170 (dk_at dksX0_person_0 8 rfl rfl)
theorem dX0_person_11 : decode cX0_person 11 = .ok (.ifCond .eq 10, 3) := dk_153 0 10 (dk_at dksX0_person_0 11 rfl rfl)
theorem dX0_person_14 : decode cX0_person 14 = .ok (.iload_n 3, 1) := dk_29 (dk_at dksX0_person_0 14 rfl rfl)
theorem dX0_person_15 : decode cX0_person 15 = .ok (.invokestatic 170, 3) := dk_184 0 170 (dk_at dksX0_person_0 15 rfl rfl)
theorem dX0_person_18 : decode cX0_person 18 = .ok (.ifCond .ne 5, 3) := dk_154 0 5 (dk_at dksX0_person_0 18 rfl rfl)
theorem dX0_person_21 : decode cX0_person 21 = .ok (.iconst (-1), 1) := dk_2 (dk_at dksX0_person_0 21 rfl rfl)
theorem dX0_person_22 : decode cX0_person 22 = .ok (.ireturn, 1) := dk_172 (dk_at dksX0_person_0 22 rfl rfl)
theorem dX0_person_23 : decode cX0_person 23 = .ok (.aload_n 0, 1) := dk_42 (dk_at dksX0_person_0 23 rfl rfl)
theorem dX0_person_24 : decode cX0_person 24 = .ok (.getfield 47, 3) := dk_180 0 47 (dk_at dksX0_person_1 0 rfl rfl)
theorem dX0_person_27 : decode cX0_person 27 = .ok (.getfield 146, 3) := dk_180 0 146 (dk_at dksX0_person_1 3 rfl rfl)
theorem dX0_person_30 : decode cX0_person 30 = .ok (.bipush 6, 2) := dk_16 6 (dk_at dksX0_person_1 6 rfl rfl)
theorem dX0_person_32 : decode cX0_person 32 = .ok (.if_icmp .ne 6, 3) := dk_160 0 6 (dk_at dksX0_person_1 8 rfl rfl)
theorem dX0_person_35 : decode cX0_person 35 = .ok (.bipush (-2), 2) := dk_16 254 (dk_at dksX0_person_1 11 rfl rfl)
theorem dX0_person_37 : decode cX0_person 37 = .ok (.ireturn, 1) := dk_172 (dk_at dksX0_person_1 13 rfl rfl)
theorem dX0_person_38 : decode cX0_person 38 = .ok (.aload_n 0, 1) := dk_42 (dk_at dksX0_person_1 14 rfl rfl)
theorem dX0_person_39 : decode cX0_person 39 = .ok (.getfield 47, 3) := dk_180 0 47 (dk_at dksX0_person_1 15 rfl rfl)
theorem dX0_person_42 : decode cX0_person 42 = .ok (.getfield 146, 3) := dk_180 0 146 (dk_at dksX0_person_1 18 rfl rfl)
theorem dX0_person_45 : decode cX0_person 45 = .ok (.istore 4, 2) := dk_54 4 (dk_at dksX0_person_1 21 rfl rfl)
theorem dX0_person_47 : decode cX0_person 47 = .ok (.aload_n 0, 1) := dk_42 (dk_at dksX0_person_1 23 rfl rfl)
theorem dX0_person_48 : decode cX0_person 48 = .ok (.getfield 47, 3) := dk_180 0 47 (dk_at dksX0_person_2 0 rfl rfl)
theorem dX0_person_51 : decode cX0_person 51 = .ok (.getfield 157, 3) := dk_180 0 157 (dk_at dksX0_person_2 3 rfl rfl)
theorem dX0_person_54 : decode cX0_person 54 = .ok (.iload 4, 2) := dk_21 4 (dk_at dksX0_person_2 6 rfl rfl)
theorem dX0_person_56 : decode cX0_person 56 = .ok (.iload_n 1, 1) := dk_27 (dk_at dksX0_person_2 8 rfl rfl)
theorem dX0_person_57 : decode cX0_person 57 = .ok (.iastore, 1) := dk_79 (dk_at dksX0_person_2 9 rfl rfl)
theorem dX0_person_58 : decode cX0_person 58 = .ok (.aload_n 0, 1) := dk_42 (dk_at dksX0_person_2 10 rfl rfl)
theorem dX0_person_59 : decode cX0_person 59 = .ok (.getfield 47, 3) := dk_180 0 47 (dk_at dksX0_person_2 11 rfl rfl)
theorem dX0_person_62 : decode cX0_person 62 = .ok (.getfield 160, 3) := dk_180 0 160 (dk_at dksX0_person_2 14 rfl rfl)
theorem dX0_person_65 : decode cX0_person 65 = .ok (.iload 4, 2) := dk_21 4 (dk_at dksX0_person_2 17 rfl rfl)
theorem dX0_person_67 : decode cX0_person 67 = .ok (.iload_n 2, 1) := dk_28 (dk_at dksX0_person_2 19 rfl rfl)
theorem dX0_person_68 : decode cX0_person 68 = .ok (.iastore, 1) := dk_79 (dk_at dksX0_person_2 20 rfl rfl)
theorem dX0_person_69 : decode cX0_person 69 = .ok (.aload_n 0, 1) := dk_42 (dk_at dksX0_person_2 21 rfl rfl)
theorem dX0_person_70 : decode cX0_person 70 = .ok (.getfield 47, 3) := dk_180 0 47 (dk_at dksX0_person_3 0 rfl rfl)
theorem dX0_person_73 : decode cX0_person 73 = .ok (.getfield 173, 3) := dk_180 0 173 (dk_at dksX0_person_3 3 rfl rfl)
theorem dX0_person_76 : decode cX0_person 76 = .ok (.iload 4, 2) := dk_21 4 (dk_at dksX0_person_3 6 rfl rfl)
theorem dX0_person_78 : decode cX0_person 78 = .ok (.iload_n 3, 1) := dk_29 (dk_at dksX0_person_3 8 rfl rfl)
theorem dX0_person_79 : decode cX0_person 79 = .ok (.iastore, 1) := dk_79 (dk_at dksX0_person_3 9 rfl rfl)
theorem dX0_person_80 : decode cX0_person 80 = .ok (.aload_n 0, 1) := dk_42 (dk_at dksX0_person_3 10 rfl rfl)
theorem dX0_person_81 : decode cX0_person 81 = .ok (.getfield 47, 3) := dk_180 0 47 (dk_at dksX0_person_3 11 rfl rfl)
theorem dX0_person_84 : decode cX0_person 84 = .ok (.dup, 1) := dk_89 (dk_at dksX0_person_3 14 rfl rfl)
theorem dX0_person_85 : decode cX0_person 85 = .ok (.getfield 146, 3) := dk_180 0 146 (dk_at dksX0_person_3 15 rfl rfl)
theorem dX0_person_88 : decode cX0_person 88 = .ok (.iconst 1, 1) := dk_4 (dk_at dksX0_person_3 18 rfl rfl)
theorem dX0_person_89 : decode cX0_person 89 = .ok (.iadd, 1) := dk_96 (dk_at dksX0_person_3 19 rfl rfl)
theorem dX0_person_90 : decode cX0_person 90 = .ok (.putfield 146, 3) := dk_181 0 146 (dk_at dksX0_person_3 20 rfl rfl)
theorem dX0_person_93 : decode cX0_person 93 = .ok (.aload_n 0, 1) := dk_42 (dk_at dksX0_person_3 23 rfl rfl)
theorem dX0_person_94 : decode cX0_person 94 = .ok (.iload 4, 2) := dk_21 4 (dk_at dksX0_person_4 0 rfl rfl)
theorem dX0_person_96 : decode cX0_person 96 = .ok (.invokevirtual 175, 3) := dk_182 0 175 (dk_at dksX0_person_4 2 rfl rfl)
theorem dX0_person_99 : decode cX0_person 99 = .ok (.iload 4, 2) := dk_21 4 (dk_at dksX0_person_4 5 rfl rfl)
theorem dX0_person_101 : decode cX0_person 101 = .ok (.ireturn, 1) := dk_172 (dk_at dksX0_person_4 7 rfl rfl)
abbrev cX0_isKind : ByteArray := prog_1_method_8_code
def yX0_isKind : MethodName := ⟨RX0, "isKind", "(I)Z"⟩
def dkwX0_isKind_0 : List UInt8 := [26, 4, 8, 184, 0, 150, 172]
abbrev dktX0_isKind_0 : List UInt8 := dkwX0_isKind_0 ++ []
theorem dksX0_isKind_0 : cX0_isKind.data.toList.drop 0 = dktX0_isKind_0 := by decide +kernel
theorem dX0_isKind_0 : decode cX0_isKind 0 = .ok (.iload_n 0, 1) := dk_26 (dk_at dksX0_isKind_0 0 rfl rfl)
theorem dX0_isKind_1 : decode cX0_isKind 1 = .ok (.iconst 1, 1) := dk_4 (dk_at dksX0_isKind_0 1 rfl rfl)
theorem dX0_isKind_2 : decode cX0_isKind 2 = .ok (.iconst 5, 1) := dk_8 (dk_at dksX0_isKind_0 2 rfl rfl)
theorem dX0_isKind_3 : decode cX0_isKind 3 = .ok (.invokestatic 150, 3) := dk_184 0 150 (dk_at dksX0_isKind_0 3 rfl rfl)
theorem dX0_isKind_6 : decode cX0_isKind 6 = .ok (.ireturn, 1) := dk_172 (dk_at dksX0_isKind_0 6 rfl rfl)
abbrev cX0_isIn : ByteArray := prog_1_method_1_code
def yX0_isIn : MethodName := ⟨RX0, "isIn", "(III)Z"⟩
def dkwX0_isIn_0 : List UInt8 := [26, 27, 161, 0, 12, 26, 28, 163, 0, 7, 4, 167, 0, 4, 3, 172]
abbrev dktX0_isIn_0 : List UInt8 := dkwX0_isIn_0 ++ []
theorem dksX0_isIn_0 : cX0_isIn.data.toList.drop 0 = dktX0_isIn_0 := by decide +kernel
theorem dX0_isIn_0 : decode cX0_isIn 0 = .ok (.iload_n 0, 1) := dk_26 (dk_at dksX0_isIn_0 0 rfl rfl)
theorem dX0_isIn_1 : decode cX0_isIn 1 = .ok (.iload_n 1, 1) := dk_27 (dk_at dksX0_isIn_0 1 rfl rfl)
theorem dX0_isIn_2 : decode cX0_isIn 2 = .ok (.if_icmp .lt 12, 3) := dk_161 0 12 (dk_at dksX0_isIn_0 2 rfl rfl)
theorem dX0_isIn_5 : decode cX0_isIn 5 = .ok (.iload_n 0, 1) := dk_26 (dk_at dksX0_isIn_0 5 rfl rfl)
theorem dX0_isIn_6 : decode cX0_isIn 6 = .ok (.iload_n 2, 1) := dk_28 (dk_at dksX0_isIn_0 6 rfl rfl)
theorem dX0_isIn_7 : decode cX0_isIn 7 = .ok (.if_icmp .gt 7, 3) := dk_163 0 7 (dk_at dksX0_isIn_0 7 rfl rfl)
theorem dX0_isIn_10 : decode cX0_isIn 10 = .ok (.iconst 1, 1) := dk_4 (dk_at dksX0_isIn_0 10 rfl rfl)
theorem dX0_isIn_11 : decode cX0_isIn 11 = .ok (.goto 4, 3) := dk_167 0 4 (dk_at dksX0_isIn_0 11 rfl rfl)
theorem dX0_isIn_14 : decode cX0_isIn 14 = .ok (.iconst 0, 1) := dk_3 (dk_at dksX0_isIn_0 14 rfl rfl)
theorem dX0_isIn_15 : decode cX0_isIn 15 = .ok (.ireturn, 1) := dk_172 (dk_at dksX0_isIn_0 15 rfl rfl)
abbrev cX0_isPart : ByteArray := prog_1_method_9_code
def yX0_isPart : MethodName := ⟨RX0, "isPart", "(I)Z"⟩
def dkwX0_isPart_0 : List UInt8 := [26, 4, 16, 9, 184, 0, 150, 172]
abbrev dktX0_isPart_0 : List UInt8 := dkwX0_isPart_0 ++ []
theorem dksX0_isPart_0 : cX0_isPart.data.toList.drop 0 = dktX0_isPart_0 := by decide +kernel
theorem dX0_isPart_0 : decode cX0_isPart 0 = .ok (.iload_n 0, 1) := dk_26 (dk_at dksX0_isPart_0 0 rfl rfl)
theorem dX0_isPart_1 : decode cX0_isPart 1 = .ok (.iconst 1, 1) := dk_4 (dk_at dksX0_isPart_0 1 rfl rfl)
theorem dX0_isPart_2 : decode cX0_isPart 2 = .ok (.bipush 9, 2) := dk_16 9 (dk_at dksX0_isPart_0 2 rfl rfl)
theorem dX0_isPart_4 : decode cX0_isPart 4 = .ok (.invokestatic 150, 3) := dk_184 0 150 (dk_at dksX0_isPart_0 4 rfl rfl)
theorem dX0_isPart_7 : decode cX0_isPart 7 = .ok (.ireturn, 1) := dk_172 (dk_at dksX0_isPart_0 7 rfl rfl)
abbrev cX0_renew : ByteArray := prog_1_method_10_code
def yX0_renew : MethodName := ⟨RX0, "renew", "(I)V"⟩
def dkwX0_renew_1 : List UInt8 := [184, 0, 162, 83, 177]
abbrev dktX0_renew_1 : List UInt8 := dkwX0_renew_1 ++ []
def dkwX0_renew_0 : List UInt8 := [42, 180, 0, 59, 27, 42, 180, 0, 47, 180, 0, 157, 27, 46, 27, 42, 180, 0, 47, 180, 0, 160, 27, 46]
abbrev dktX0_renew_0 : List UInt8 := dkwX0_renew_0 ++ dktX0_renew_1
theorem dksX0_renew_0 : cX0_renew.data.toList.drop 0 = dktX0_renew_0 := by decide +kernel
theorem dksX0_renew_1 : cX0_renew.data.toList.drop 24 = dktX0_renew_1 := dk_seg dksX0_renew_0 24 rfl rfl
theorem dX0_renew_0 : decode cX0_renew 0 = .ok (.aload_n 0, 1) := dk_42 (dk_at dksX0_renew_0 0 rfl rfl)
theorem dX0_renew_1 : decode cX0_renew 1 = .ok (.getfield 59, 3) := dk_180 0 59 (dk_at dksX0_renew_0 1 rfl rfl)
theorem dX0_renew_4 : decode cX0_renew 4 = .ok (.iload_n 1, 1) := dk_27 (dk_at dksX0_renew_0 4 rfl rfl)
theorem dX0_renew_5 : decode cX0_renew 5 = .ok (.aload_n 0, 1) := dk_42 (dk_at dksX0_renew_0 5 rfl rfl)
theorem dX0_renew_6 : decode cX0_renew 6 = .ok (.getfield 47, 3) := dk_180 0 47 (dk_at dksX0_renew_0 6 rfl rfl)
theorem dX0_renew_9 : decode cX0_renew 9 = .ok (.getfield 157, 3) := dk_180 0 157 (dk_at dksX0_renew_0 9 rfl rfl)
theorem dX0_renew_12 : decode cX0_renew 12 = .ok (.iload_n 1, 1) := dk_27 (dk_at dksX0_renew_0 12 rfl rfl)
theorem dX0_renew_13 : decode cX0_renew 13 = .ok (.iaload, 1) := dk_46 (dk_at dksX0_renew_0 13 rfl rfl)
theorem dX0_renew_14 : decode cX0_renew 14 = .ok (.iload_n 1, 1) := dk_27 (dk_at dksX0_renew_0 14 rfl rfl)
theorem dX0_renew_15 : decode cX0_renew 15 = .ok (.aload_n 0, 1) := dk_42 (dk_at dksX0_renew_0 15 rfl rfl)
theorem dX0_renew_16 : decode cX0_renew 16 = .ok (.getfield 47, 3) := dk_180 0 47 (dk_at dksX0_renew_0 16 rfl rfl)
theorem dX0_renew_19 : decode cX0_renew 19 = .ok (.getfield 160, 3) := dk_180 0 160 (dk_at dksX0_renew_0 19 rfl rfl)
theorem dX0_renew_22 : decode cX0_renew 22 = .ok (.iload_n 1, 1) := dk_27 (dk_at dksX0_renew_0 22 rfl rfl)
theorem dX0_renew_23 : decode cX0_renew 23 = .ok (.iaload, 1) := dk_46 (dk_at dksX0_renew_0 23 rfl rfl)
theorem dX0_renew_24 : decode cX0_renew 24 = .ok (.invokestatic 162, 3) := dk_184 0 162 (dk_at dksX0_renew_1 0 rfl rfl)
theorem dX0_renew_27 : decode cX0_renew 27 = .ok (.aastore, 1) := dk_83 (dk_at dksX0_renew_1 3 rfl rfl)
theorem dX0_renew_28 : decode cX0_renew 28 = .ok (.return_, 1) := dk_177 (dk_at dksX0_renew_1 4 rfl rfl)
abbrev cX0_made : ByteArray := prog_1_method_3_code
def yX0_made : MethodName := ⟨RX0, "made", "(III)LLeftUndoes$Hand;"⟩
def dkwX0_made_4 : List UInt8 := [183, 0, 30, 176]
abbrev dktX0_made_4 : List UInt8 := dkwX0_made_4 ++ []
def dkwX0_made_3 : List UInt8 := [27, 28, 183, 0, 24, 176, 187, 0, 25, 89, 27, 28, 183, 0, 27, 176, 187, 0, 28, 89, 27, 28]
abbrev dktX0_made_3 : List UInt8 := dkwX0_made_3 ++ dktX0_made_4
def dkwX0_made_2 : List UInt8 := [187, 0, 13, 89, 27, 28, 183, 0, 15, 176, 187, 0, 19, 89, 27, 28, 183, 0, 21, 176, 187, 0, 22, 89]
abbrev dktX0_made_2 : List UInt8 := dkwX0_made_2 ++ dktX0_made_3
def dkwX0_made_1 : List UInt8 := [170, 0, 0, 0, 0, 0, 71, 0, 0, 0, 1, 0, 0, 0, 4, 0, 0, 0, 31, 0, 0, 0, 41, 0, 0, 0, 51, 0, 0, 0, 61]
abbrev dktX0_made_1 : List UInt8 := dkwX0_made_1 ++ dktX0_made_2
def dkwX0_made_0 : List UInt8 := [26]
abbrev dktX0_made_0 : List UInt8 := dkwX0_made_0 ++ dktX0_made_1
theorem dksX0_made_0 : cX0_made.data.toList.drop 0 = dktX0_made_0 := by decide +kernel
theorem dksX0_made_1 : cX0_made.data.toList.drop 1 = dktX0_made_1 := dk_seg dksX0_made_0 1 rfl rfl
theorem dksX0_made_2 : cX0_made.data.toList.drop 32 = dktX0_made_2 := dk_seg dksX0_made_1 31 rfl rfl
theorem dksX0_made_3 : cX0_made.data.toList.drop 56 = dktX0_made_3 := dk_seg dksX0_made_2 24 rfl rfl
theorem dksX0_made_4 : cX0_made.data.toList.drop 78 = dktX0_made_4 := dk_seg dksX0_made_3 22 rfl rfl
theorem dX0_made_0 : decode cX0_made 0 = .ok (.iload_n 0, 1) := dk_26 (dk_at dksX0_made_0 0 rfl rfl)
theorem dX0_made_1 : decode cX0_made 1 = .ok (.tableswitch 71 1 4 #[31, 41, 51, 61], 31) := by decide +kernel
theorem dX0_made_32 : decode cX0_made 32 = .ok (.new 13, 3) := dk_187 0 13 (dk_at dksX0_made_2 0 rfl rfl)
theorem dX0_made_35 : decode cX0_made 35 = .ok (.dup, 1) := dk_89 (dk_at dksX0_made_2 3 rfl rfl)
theorem dX0_made_36 : decode cX0_made 36 = .ok (.iload_n 1, 1) := dk_27 (dk_at dksX0_made_2 4 rfl rfl)
theorem dX0_made_37 : decode cX0_made 37 = .ok (.iload_n 2, 1) := dk_28 (dk_at dksX0_made_2 5 rfl rfl)
theorem dX0_made_38 : decode cX0_made 38 = .ok (.invokespecial 15, 3) := dk_183 0 15 (dk_at dksX0_made_2 6 rfl rfl)
theorem dX0_made_41 : decode cX0_made 41 = .ok (.areturn, 1) := dk_176 (dk_at dksX0_made_2 9 rfl rfl)
theorem dX0_made_42 : decode cX0_made 42 = .ok (.new 19, 3) := dk_187 0 19 (dk_at dksX0_made_2 10 rfl rfl)
theorem dX0_made_45 : decode cX0_made 45 = .ok (.dup, 1) := dk_89 (dk_at dksX0_made_2 13 rfl rfl)
theorem dX0_made_46 : decode cX0_made 46 = .ok (.iload_n 1, 1) := dk_27 (dk_at dksX0_made_2 14 rfl rfl)
theorem dX0_made_47 : decode cX0_made 47 = .ok (.iload_n 2, 1) := dk_28 (dk_at dksX0_made_2 15 rfl rfl)
theorem dX0_made_48 : decode cX0_made 48 = .ok (.invokespecial 21, 3) := dk_183 0 21 (dk_at dksX0_made_2 16 rfl rfl)
theorem dX0_made_51 : decode cX0_made 51 = .ok (.areturn, 1) := dk_176 (dk_at dksX0_made_2 19 rfl rfl)
theorem dX0_made_52 : decode cX0_made 52 = .ok (.new 22, 3) := dk_187 0 22 (dk_at dksX0_made_2 20 rfl rfl)
theorem dX0_made_55 : decode cX0_made 55 = .ok (.dup, 1) := dk_89 (dk_at dksX0_made_2 23 rfl rfl)
theorem dX0_made_56 : decode cX0_made 56 = .ok (.iload_n 1, 1) := dk_27 (dk_at dksX0_made_3 0 rfl rfl)
theorem dX0_made_57 : decode cX0_made 57 = .ok (.iload_n 2, 1) := dk_28 (dk_at dksX0_made_3 1 rfl rfl)
theorem dX0_made_58 : decode cX0_made 58 = .ok (.invokespecial 24, 3) := dk_183 0 24 (dk_at dksX0_made_3 2 rfl rfl)
theorem dX0_made_61 : decode cX0_made 61 = .ok (.areturn, 1) := dk_176 (dk_at dksX0_made_3 5 rfl rfl)
theorem dX0_made_62 : decode cX0_made 62 = .ok (.new 25, 3) := dk_187 0 25 (dk_at dksX0_made_3 6 rfl rfl)
theorem dX0_made_65 : decode cX0_made 65 = .ok (.dup, 1) := dk_89 (dk_at dksX0_made_3 9 rfl rfl)
theorem dX0_made_66 : decode cX0_made 66 = .ok (.iload_n 1, 1) := dk_27 (dk_at dksX0_made_3 10 rfl rfl)
theorem dX0_made_67 : decode cX0_made 67 = .ok (.iload_n 2, 1) := dk_28 (dk_at dksX0_made_3 11 rfl rfl)
theorem dX0_made_68 : decode cX0_made 68 = .ok (.invokespecial 27, 3) := dk_183 0 27 (dk_at dksX0_made_3 12 rfl rfl)
theorem dX0_made_71 : decode cX0_made 71 = .ok (.areturn, 1) := dk_176 (dk_at dksX0_made_3 15 rfl rfl)
theorem dX0_made_72 : decode cX0_made 72 = .ok (.new 28, 3) := dk_187 0 28 (dk_at dksX0_made_3 16 rfl rfl)
theorem dX0_made_75 : decode cX0_made 75 = .ok (.dup, 1) := dk_89 (dk_at dksX0_made_3 19 rfl rfl)
theorem dX0_made_76 : decode cX0_made 76 = .ok (.iload_n 1, 1) := dk_27 (dk_at dksX0_made_3 20 rfl rfl)
theorem dX0_made_77 : decode cX0_made 77 = .ok (.iload_n 2, 1) := dk_28 (dk_at dksX0_made_3 21 rfl rfl)
theorem dX0_made_78 : decode cX0_made 78 = .ok (.invokespecial 30, 3) := dk_183 0 30 (dk_at dksX0_made_4 0 rfl rfl)
theorem dX0_made_81 : decode cX0_made 81 = .ok (.areturn, 1) := dk_176 (dk_at dksX0_made_4 3 rfl rfl)
abbrev cX0_personOf : ByteArray := prog_1_method_12_code
def yX0_personOf : MethodName := ⟨RX0, "personOf", "(II)I"⟩
def dkwX0_personOf_5 : List UInt8 := [16, 10, 167, 0, 8, 42, 27, 182, 0, 192, 172, 2, 172]
abbrev dktX0_personOf_5 : List UInt8 := dkwX0_personOf_5 ++ []
def dkwX0_personOf_4 : List UInt8 := [180, 0, 173, 27, 46, 42, 180, 0, 47, 180, 0, 186, 182, 0, 188, 172, 42, 27, 182, 0, 192, 156, 0, 8]
abbrev dktX0_personOf_4 : List UInt8 := dkwX0_personOf_4 ++ dktX0_personOf_5
def dkwX0_personOf_3 : List UInt8 := [180, 0, 173, 27, 46, 172, 42, 27, 182, 0, 182, 172, 42, 180, 0, 59, 27, 50, 42, 180, 0, 47]
abbrev dktX0_personOf_3 : List UInt8 := dkwX0_personOf_3 ++ dktX0_personOf_4
def dkwX0_personOf_2 : List UInt8 := [42, 180, 0, 47, 180, 0, 157, 27, 46, 172, 42, 180, 0, 47, 180, 0, 160, 27, 46, 172, 42, 180, 0, 47]
abbrev dktX0_personOf_2 : List UInt8 := dkwX0_personOf_2 ++ dktX0_personOf_3
def dkwX0_personOf_1 : List UInt8 := [170, 0, 0, 0, 118, 0, 0, 0, 0, 0, 0, 0, 5, 0, 0, 0, 37, 0, 0, 0, 47, 0, 0, 0, 57, 0, 0, 0, 67, 0, 0, 0, 73, 0, 0, 0, 99]
abbrev dktX0_personOf_1 : List UInt8 := dkwX0_personOf_1 ++ dktX0_personOf_2
def dkwX0_personOf_0 : List UInt8 := [42, 27, 182, 0, 179, 154, 0, 5, 2, 172, 28]
abbrev dktX0_personOf_0 : List UInt8 := dkwX0_personOf_0 ++ dktX0_personOf_1
theorem dksX0_personOf_0 : cX0_personOf.data.toList.drop 0 = dktX0_personOf_0 := by decide +kernel
theorem dksX0_personOf_1 : cX0_personOf.data.toList.drop 11 = dktX0_personOf_1 := dk_seg dksX0_personOf_0 11 rfl rfl
theorem dksX0_personOf_2 : cX0_personOf.data.toList.drop 48 = dktX0_personOf_2 := dk_seg dksX0_personOf_1 37 rfl rfl
theorem dksX0_personOf_3 : cX0_personOf.data.toList.drop 72 = dktX0_personOf_3 := dk_seg dksX0_personOf_2 24 rfl rfl
theorem dksX0_personOf_4 : cX0_personOf.data.toList.drop 94 = dktX0_personOf_4 := dk_seg dksX0_personOf_3 22 rfl rfl
theorem dksX0_personOf_5 : cX0_personOf.data.toList.drop 118 = dktX0_personOf_5 := dk_seg dksX0_personOf_4 24 rfl rfl
theorem dX0_personOf_0 : decode cX0_personOf 0 = .ok (.aload_n 0, 1) := dk_42 (dk_at dksX0_personOf_0 0 rfl rfl)
theorem dX0_personOf_1 : decode cX0_personOf 1 = .ok (.iload_n 1, 1) := dk_27 (dk_at dksX0_personOf_0 1 rfl rfl)
theorem dX0_personOf_2 : decode cX0_personOf 2 = .ok (.invokevirtual 179, 3) := dk_182 0 179 (dk_at dksX0_personOf_0 2 rfl rfl)
theorem dX0_personOf_5 : decode cX0_personOf 5 = .ok (.ifCond .ne 5, 3) := dk_154 0 5 (dk_at dksX0_personOf_0 5 rfl rfl)
theorem dX0_personOf_8 : decode cX0_personOf 8 = .ok (.iconst (-1), 1) := dk_2 (dk_at dksX0_personOf_0 8 rfl rfl)
theorem dX0_personOf_9 : decode cX0_personOf 9 = .ok (.ireturn, 1) := dk_172 (dk_at dksX0_personOf_0 9 rfl rfl)
theorem dX0_personOf_10 : decode cX0_personOf 10 = .ok (.iload_n 2, 1) := dk_28 (dk_at dksX0_personOf_0 10 rfl rfl)
theorem dX0_personOf_11 : decode cX0_personOf 11 = .ok (.tableswitch 118 0 5 #[37, 47, 57, 67, 73, 99], 37) := by decide +kernel
theorem dX0_personOf_48 : decode cX0_personOf 48 = .ok (.aload_n 0, 1) := dk_42 (dk_at dksX0_personOf_2 0 rfl rfl)
theorem dX0_personOf_49 : decode cX0_personOf 49 = .ok (.getfield 47, 3) := dk_180 0 47 (dk_at dksX0_personOf_2 1 rfl rfl)
theorem dX0_personOf_52 : decode cX0_personOf 52 = .ok (.getfield 157, 3) := dk_180 0 157 (dk_at dksX0_personOf_2 4 rfl rfl)
theorem dX0_personOf_55 : decode cX0_personOf 55 = .ok (.iload_n 1, 1) := dk_27 (dk_at dksX0_personOf_2 7 rfl rfl)
theorem dX0_personOf_56 : decode cX0_personOf 56 = .ok (.iaload, 1) := dk_46 (dk_at dksX0_personOf_2 8 rfl rfl)
theorem dX0_personOf_57 : decode cX0_personOf 57 = .ok (.ireturn, 1) := dk_172 (dk_at dksX0_personOf_2 9 rfl rfl)
theorem dX0_personOf_58 : decode cX0_personOf 58 = .ok (.aload_n 0, 1) := dk_42 (dk_at dksX0_personOf_2 10 rfl rfl)
theorem dX0_personOf_59 : decode cX0_personOf 59 = .ok (.getfield 47, 3) := dk_180 0 47 (dk_at dksX0_personOf_2 11 rfl rfl)
theorem dX0_personOf_62 : decode cX0_personOf 62 = .ok (.getfield 160, 3) := dk_180 0 160 (dk_at dksX0_personOf_2 14 rfl rfl)
theorem dX0_personOf_65 : decode cX0_personOf 65 = .ok (.iload_n 1, 1) := dk_27 (dk_at dksX0_personOf_2 17 rfl rfl)
theorem dX0_personOf_66 : decode cX0_personOf 66 = .ok (.iaload, 1) := dk_46 (dk_at dksX0_personOf_2 18 rfl rfl)
theorem dX0_personOf_67 : decode cX0_personOf 67 = .ok (.ireturn, 1) := dk_172 (dk_at dksX0_personOf_2 19 rfl rfl)
theorem dX0_personOf_68 : decode cX0_personOf 68 = .ok (.aload_n 0, 1) := dk_42 (dk_at dksX0_personOf_2 20 rfl rfl)
theorem dX0_personOf_69 : decode cX0_personOf 69 = .ok (.getfield 47, 3) := dk_180 0 47 (dk_at dksX0_personOf_2 21 rfl rfl)
theorem dX0_personOf_72 : decode cX0_personOf 72 = .ok (.getfield 173, 3) := dk_180 0 173 (dk_at dksX0_personOf_3 0 rfl rfl)
theorem dX0_personOf_75 : decode cX0_personOf 75 = .ok (.iload_n 1, 1) := dk_27 (dk_at dksX0_personOf_3 3 rfl rfl)
theorem dX0_personOf_76 : decode cX0_personOf 76 = .ok (.iaload, 1) := dk_46 (dk_at dksX0_personOf_3 4 rfl rfl)
theorem dX0_personOf_77 : decode cX0_personOf 77 = .ok (.ireturn, 1) := dk_172 (dk_at dksX0_personOf_3 5 rfl rfl)
theorem dX0_personOf_78 : decode cX0_personOf 78 = .ok (.aload_n 0, 1) := dk_42 (dk_at dksX0_personOf_3 6 rfl rfl)
theorem dX0_personOf_79 : decode cX0_personOf 79 = .ok (.iload_n 1, 1) := dk_27 (dk_at dksX0_personOf_3 7 rfl rfl)
theorem dX0_personOf_80 : decode cX0_personOf 80 = .ok (.invokevirtual 182, 3) := dk_182 0 182 (dk_at dksX0_personOf_3 8 rfl rfl)
theorem dX0_personOf_83 : decode cX0_personOf 83 = .ok (.ireturn, 1) := dk_172 (dk_at dksX0_personOf_3 11 rfl rfl)
theorem dX0_personOf_84 : decode cX0_personOf 84 = .ok (.aload_n 0, 1) := dk_42 (dk_at dksX0_personOf_3 12 rfl rfl)
theorem dX0_personOf_85 : decode cX0_personOf 85 = .ok (.getfield 59, 3) := dk_180 0 59 (dk_at dksX0_personOf_3 13 rfl rfl)
theorem dX0_personOf_88 : decode cX0_personOf 88 = .ok (.iload_n 1, 1) := dk_27 (dk_at dksX0_personOf_3 16 rfl rfl)
theorem dX0_personOf_89 : decode cX0_personOf 89 = .ok (.aaload, 1) := dk_50 (dk_at dksX0_personOf_3 17 rfl rfl)
theorem dX0_personOf_90 : decode cX0_personOf 90 = .ok (.aload_n 0, 1) := dk_42 (dk_at dksX0_personOf_3 18 rfl rfl)
theorem dX0_personOf_91 : decode cX0_personOf 91 = .ok (.getfield 47, 3) := dk_180 0 47 (dk_at dksX0_personOf_3 19 rfl rfl)
theorem dX0_personOf_94 : decode cX0_personOf 94 = .ok (.getfield 173, 3) := dk_180 0 173 (dk_at dksX0_personOf_4 0 rfl rfl)
theorem dX0_personOf_97 : decode cX0_personOf 97 = .ok (.iload_n 1, 1) := dk_27 (dk_at dksX0_personOf_4 3 rfl rfl)
theorem dX0_personOf_98 : decode cX0_personOf 98 = .ok (.iaload, 1) := dk_46 (dk_at dksX0_personOf_4 4 rfl rfl)
theorem dX0_personOf_99 : decode cX0_personOf 99 = .ok (.aload_n 0, 1) := dk_42 (dk_at dksX0_personOf_4 5 rfl rfl)
theorem dX0_personOf_100 : decode cX0_personOf 100 = .ok (.getfield 47, 3) := dk_180 0 47 (dk_at dksX0_personOf_4 6 rfl rfl)
theorem dX0_personOf_103 : decode cX0_personOf 103 = .ok (.getfield 186, 3) := dk_180 0 186 (dk_at dksX0_personOf_4 9 rfl rfl)
theorem dX0_personOf_106 : decode cX0_personOf 106 = .ok (.invokevirtual 188, 3) := dk_182 0 188 (dk_at dksX0_personOf_4 12 rfl rfl)
theorem dX0_personOf_109 : decode cX0_personOf 109 = .ok (.ireturn, 1) := dk_172 (dk_at dksX0_personOf_4 15 rfl rfl)
theorem dX0_personOf_110 : decode cX0_personOf 110 = .ok (.aload_n 0, 1) := dk_42 (dk_at dksX0_personOf_4 16 rfl rfl)
theorem dX0_personOf_111 : decode cX0_personOf 111 = .ok (.iload_n 1, 1) := dk_27 (dk_at dksX0_personOf_4 17 rfl rfl)
theorem dX0_personOf_112 : decode cX0_personOf 112 = .ok (.invokevirtual 192, 3) := dk_182 0 192 (dk_at dksX0_personOf_4 18 rfl rfl)
theorem dX0_personOf_115 : decode cX0_personOf 115 = .ok (.ifCond .ge 8, 3) := dk_156 0 8 (dk_at dksX0_personOf_4 21 rfl rfl)
theorem dX0_personOf_118 : decode cX0_personOf 118 = .ok (.bipush 10, 2) := dk_16 10 (dk_at dksX0_personOf_5 0 rfl rfl)
theorem dX0_personOf_120 : decode cX0_personOf 120 = .ok (.goto 8, 3) := dk_167 0 8 (dk_at dksX0_personOf_5 2 rfl rfl)
theorem dX0_personOf_123 : decode cX0_personOf 123 = .ok (.aload_n 0, 1) := dk_42 (dk_at dksX0_personOf_5 5 rfl rfl)
theorem dX0_personOf_124 : decode cX0_personOf 124 = .ok (.iload_n 1, 1) := dk_27 (dk_at dksX0_personOf_5 6 rfl rfl)
theorem dX0_personOf_125 : decode cX0_personOf 125 = .ok (.invokevirtual 192, 3) := dk_182 0 192 (dk_at dksX0_personOf_5 7 rfl rfl)
theorem dX0_personOf_128 : decode cX0_personOf 128 = .ok (.ireturn, 1) := dk_172 (dk_at dksX0_personOf_5 10 rfl rfl)
theorem dX0_personOf_129 : decode cX0_personOf 129 = .ok (.iconst (-1), 1) := dk_2 (dk_at dksX0_personOf_5 11 rfl rfl)
theorem dX0_personOf_130 : decode cX0_personOf 130 = .ok (.ireturn, 1) := dk_172 (dk_at dksX0_personOf_5 12 rfl rfl)
abbrev cX0_isPerson : ByteArray := prog_1_method_6_code
def yX0_isPerson : MethodName := ⟨RX0, "isPerson", "(I)Z"⟩
def dkwX0_isPerson_0 : List UInt8 := [27, 3, 42, 180, 0, 47, 180, 0, 146, 4, 100, 184, 0, 150, 172]
abbrev dktX0_isPerson_0 : List UInt8 := dkwX0_isPerson_0 ++ []
theorem dksX0_isPerson_0 : cX0_isPerson.data.toList.drop 0 = dktX0_isPerson_0 := by decide +kernel
theorem dX0_isPerson_0 : decode cX0_isPerson 0 = .ok (.iload_n 1, 1) := dk_27 (dk_at dksX0_isPerson_0 0 rfl rfl)
theorem dX0_isPerson_1 : decode cX0_isPerson 1 = .ok (.iconst 0, 1) := dk_3 (dk_at dksX0_isPerson_0 1 rfl rfl)
theorem dX0_isPerson_2 : decode cX0_isPerson 2 = .ok (.aload_n 0, 1) := dk_42 (dk_at dksX0_isPerson_0 2 rfl rfl)
theorem dX0_isPerson_3 : decode cX0_isPerson 3 = .ok (.getfield 47, 3) := dk_180 0 47 (dk_at dksX0_isPerson_0 3 rfl rfl)
theorem dX0_isPerson_6 : decode cX0_isPerson 6 = .ok (.getfield 146, 3) := dk_180 0 146 (dk_at dksX0_isPerson_0 6 rfl rfl)
theorem dX0_isPerson_9 : decode cX0_isPerson 9 = .ok (.iconst 1, 1) := dk_4 (dk_at dksX0_isPerson_0 9 rfl rfl)
theorem dX0_isPerson_10 : decode cX0_isPerson 10 = .ok (.isub, 1) := dk_100 (dk_at dksX0_isPerson_0 10 rfl rfl)
theorem dX0_isPerson_11 : decode cX0_isPerson 11 = .ok (.invokestatic 150, 3) := dk_184 0 150 (dk_at dksX0_isPerson_0 11 rfl rfl)
theorem dX0_isPerson_14 : decode cX0_isPerson 14 = .ok (.ireturn, 1) := dk_172 (dk_at dksX0_isPerson_0 14 rfl rfl)
abbrev cX0_standsOf : ByteArray := prog_1_method_39_code
def yX0_standsOf : MethodName := ⟨RX0, "standsOf", "(I)I"⟩
def dkwX0_standsOf_2 : List UInt8 := [180, 0, 204, 29, 46, 167, 0, 4, 3, 96, 61, 132, 3, 1, 167, 255, 200, 28, 172]
abbrev dktX0_standsOf_2 : List UInt8 := dkwX0_standsOf_2 ++ []
def dkwX0_standsOf_1 : List UInt8 := [46, 27, 160, 0, 28, 42, 180, 0, 47, 180, 0, 210, 29, 46, 4, 160, 0, 15, 42, 180, 0, 47]
abbrev dktX0_standsOf_1 : List UInt8 := dkwX0_standsOf_1 ++ dktX0_standsOf_2
def dkwX0_standsOf_0 : List UInt8 := [3, 61, 3, 62, 29, 42, 180, 0, 47, 180, 0, 154, 162, 0, 51, 28, 42, 180, 0, 47, 180, 0, 198, 29]
abbrev dktX0_standsOf_0 : List UInt8 := dkwX0_standsOf_0 ++ dktX0_standsOf_1
theorem dksX0_standsOf_0 : cX0_standsOf.data.toList.drop 0 = dktX0_standsOf_0 := by decide +kernel
theorem dksX0_standsOf_1 : cX0_standsOf.data.toList.drop 24 = dktX0_standsOf_1 := dk_seg dksX0_standsOf_0 24 rfl rfl
theorem dksX0_standsOf_2 : cX0_standsOf.data.toList.drop 46 = dktX0_standsOf_2 := dk_seg dksX0_standsOf_1 22 rfl rfl
theorem dX0_standsOf_0 : decode cX0_standsOf 0 = .ok (.iconst 0, 1) := dk_3 (dk_at dksX0_standsOf_0 0 rfl rfl)
theorem dX0_standsOf_1 : decode cX0_standsOf 1 = .ok (.istore_n 2, 1) := dk_61 (dk_at dksX0_standsOf_0 1 rfl rfl)
theorem dX0_standsOf_2 : decode cX0_standsOf 2 = .ok (.iconst 0, 1) := dk_3 (dk_at dksX0_standsOf_0 2 rfl rfl)
theorem dX0_standsOf_3 : decode cX0_standsOf 3 = .ok (.istore_n 3, 1) := dk_62 (dk_at dksX0_standsOf_0 3 rfl rfl)
theorem dX0_standsOf_4 : decode cX0_standsOf 4 = .ok (.iload_n 3, 1) := dk_29 (dk_at dksX0_standsOf_0 4 rfl rfl)
theorem dX0_standsOf_5 : decode cX0_standsOf 5 = .ok (.aload_n 0, 1) := dk_42 (dk_at dksX0_standsOf_0 5 rfl rfl)
theorem dX0_standsOf_6 : decode cX0_standsOf 6 = .ok (.getfield 47, 3) := dk_180 0 47 (dk_at dksX0_standsOf_0 6 rfl rfl)
theorem dX0_standsOf_9 : decode cX0_standsOf 9 = .ok (.getfield 154, 3) := dk_180 0 154 (dk_at dksX0_standsOf_0 9 rfl rfl)
theorem dX0_standsOf_12 : decode cX0_standsOf 12 = .ok (.if_icmp .ge 51, 3) := dk_162 0 51 (dk_at dksX0_standsOf_0 12 rfl rfl)
theorem dX0_standsOf_15 : decode cX0_standsOf 15 = .ok (.iload_n 2, 1) := dk_28 (dk_at dksX0_standsOf_0 15 rfl rfl)
theorem dX0_standsOf_16 : decode cX0_standsOf 16 = .ok (.aload_n 0, 1) := dk_42 (dk_at dksX0_standsOf_0 16 rfl rfl)
theorem dX0_standsOf_17 : decode cX0_standsOf 17 = .ok (.getfield 47, 3) := dk_180 0 47 (dk_at dksX0_standsOf_0 17 rfl rfl)
theorem dX0_standsOf_20 : decode cX0_standsOf 20 = .ok (.getfield 198, 3) := dk_180 0 198 (dk_at dksX0_standsOf_0 20 rfl rfl)
theorem dX0_standsOf_23 : decode cX0_standsOf 23 = .ok (.iload_n 3, 1) := dk_29 (dk_at dksX0_standsOf_0 23 rfl rfl)
theorem dX0_standsOf_24 : decode cX0_standsOf 24 = .ok (.iaload, 1) := dk_46 (dk_at dksX0_standsOf_1 0 rfl rfl)
theorem dX0_standsOf_25 : decode cX0_standsOf 25 = .ok (.iload_n 1, 1) := dk_27 (dk_at dksX0_standsOf_1 1 rfl rfl)
theorem dX0_standsOf_26 : decode cX0_standsOf 26 = .ok (.if_icmp .ne 28, 3) := dk_160 0 28 (dk_at dksX0_standsOf_1 2 rfl rfl)
theorem dX0_standsOf_29 : decode cX0_standsOf 29 = .ok (.aload_n 0, 1) := dk_42 (dk_at dksX0_standsOf_1 5 rfl rfl)
theorem dX0_standsOf_30 : decode cX0_standsOf 30 = .ok (.getfield 47, 3) := dk_180 0 47 (dk_at dksX0_standsOf_1 6 rfl rfl)
theorem dX0_standsOf_33 : decode cX0_standsOf 33 = .ok (.getfield 210, 3) := dk_180 0 210 (dk_at dksX0_standsOf_1 9 rfl rfl)
theorem dX0_standsOf_36 : decode cX0_standsOf 36 = .ok (.iload_n 3, 1) := dk_29 (dk_at dksX0_standsOf_1 12 rfl rfl)
theorem dX0_standsOf_37 : decode cX0_standsOf 37 = .ok (.iaload, 1) := dk_46 (dk_at dksX0_standsOf_1 13 rfl rfl)
theorem dX0_standsOf_38 : decode cX0_standsOf 38 = .ok (.iconst 1, 1) := dk_4 (dk_at dksX0_standsOf_1 14 rfl rfl)
theorem dX0_standsOf_39 : decode cX0_standsOf 39 = .ok (.if_icmp .ne 15, 3) := dk_160 0 15 (dk_at dksX0_standsOf_1 15 rfl rfl)
theorem dX0_standsOf_42 : decode cX0_standsOf 42 = .ok (.aload_n 0, 1) := dk_42 (dk_at dksX0_standsOf_1 18 rfl rfl)
theorem dX0_standsOf_43 : decode cX0_standsOf 43 = .ok (.getfield 47, 3) := dk_180 0 47 (dk_at dksX0_standsOf_1 19 rfl rfl)
theorem dX0_standsOf_46 : decode cX0_standsOf 46 = .ok (.getfield 204, 3) := dk_180 0 204 (dk_at dksX0_standsOf_2 0 rfl rfl)
theorem dX0_standsOf_49 : decode cX0_standsOf 49 = .ok (.iload_n 3, 1) := dk_29 (dk_at dksX0_standsOf_2 3 rfl rfl)
theorem dX0_standsOf_50 : decode cX0_standsOf 50 = .ok (.iaload, 1) := dk_46 (dk_at dksX0_standsOf_2 4 rfl rfl)
theorem dX0_standsOf_51 : decode cX0_standsOf 51 = .ok (.goto 4, 3) := dk_167 0 4 (dk_at dksX0_standsOf_2 5 rfl rfl)
theorem dX0_standsOf_54 : decode cX0_standsOf 54 = .ok (.iconst 0, 1) := dk_3 (dk_at dksX0_standsOf_2 8 rfl rfl)
theorem dX0_standsOf_55 : decode cX0_standsOf 55 = .ok (.iadd, 1) := dk_96 (dk_at dksX0_standsOf_2 9 rfl rfl)
theorem dX0_standsOf_56 : decode cX0_standsOf 56 = .ok (.istore_n 2, 1) := dk_61 (dk_at dksX0_standsOf_2 10 rfl rfl)
theorem dX0_standsOf_57 : decode cX0_standsOf 57 = .ok (.iinc 3 1, 3) := dk_132 3 1 (dk_at dksX0_standsOf_2 11 rfl rfl)
theorem dX0_standsOf_60 : decode cX0_standsOf 60 = .ok (.goto (-56), 3) := dk_167 255 200 (dk_at dksX0_standsOf_2 14 rfl rfl)
theorem dX0_standsOf_63 : decode cX0_standsOf 63 = .ok (.iload_n 2, 1) := dk_28 (dk_at dksX0_standsOf_2 17 rfl rfl)
theorem dX0_standsOf_64 : decode cX0_standsOf 64 = .ok (.ireturn, 1) := dk_172 (dk_at dksX0_standsOf_2 18 rfl rfl)
abbrev cX0_choiceOf : ByteArray := prog_1_method_41_code
def yX0_choiceOf : MethodName := ⟨RX0, "choiceOf", "(I)I"⟩
def dkwX0_choiceOf_6 : List UInt8 := [21, 4, 172]
abbrev dktX0_choiceOf_6 : List UInt8 := dkwX0_choiceOf_6 ++ []
def dkwX0_choiceOf_5 : List UInt8 := [42, 21, 5, 182, 0, 217, 163, 0, 8, 21, 4, 167, 0, 5, 21, 5, 54, 4, 132, 5, 1, 167, 255, 157]
abbrev dktX0_choiceOf_5 : List UInt8 := dkwX0_choiceOf_5 ++ dktX0_choiceOf_6
def dkwX0_choiceOf_4 : List UInt8 := [42, 21, 5, 182, 0, 217, 28, 164, 0, 6, 167, 0, 32, 21, 4, 155, 0, 23, 42, 21, 4, 182, 0, 217]
abbrev dktX0_choiceOf_4 : List UInt8 := dkwX0_choiceOf_4 ++ dktX0_choiceOf_5
def dkwX0_choiceOf_3 : List UInt8 := [180, 0, 210, 21, 5, 46, 4, 160, 0, 59, 42, 180, 0, 47, 180, 0, 204, 21, 5, 46, 29, 163, 0, 45]
abbrev dktX0_choiceOf_3 : List UInt8 := dkwX0_choiceOf_3 ++ dktX0_choiceOf_4
def dkwX0_choiceOf_2 : List UInt8 := [180, 0, 154, 162, 0, 93, 42, 180, 0, 47, 180, 0, 198, 21, 5, 46, 27, 160, 0, 73, 42, 180, 0, 47]
abbrev dktX0_choiceOf_2 : List UInt8 := dkwX0_choiceOf_2 ++ dktX0_choiceOf_3
def dkwX0_choiceOf_1 : List UInt8 := [180, 0, 47, 180, 0, 186, 182, 0, 188, 62, 16, 253, 54, 4, 3, 54, 5, 21, 5, 42, 180, 0, 47]
abbrev dktX0_choiceOf_1 : List UInt8 := dkwX0_choiceOf_1 ++ dktX0_choiceOf_2
def dkwX0_choiceOf_0 : List UInt8 := [42, 27, 182, 1, 108, 61, 42, 180, 0, 59, 27, 50, 42, 180, 0, 47, 180, 0, 173, 27, 46, 42]
abbrev dktX0_choiceOf_0 : List UInt8 := dkwX0_choiceOf_0 ++ dktX0_choiceOf_1
theorem dksX0_choiceOf_0 : cX0_choiceOf.data.toList.drop 0 = dktX0_choiceOf_0 := by decide +kernel
theorem dksX0_choiceOf_1 : cX0_choiceOf.data.toList.drop 22 = dktX0_choiceOf_1 := dk_seg dksX0_choiceOf_0 22 rfl rfl
theorem dksX0_choiceOf_2 : cX0_choiceOf.data.toList.drop 45 = dktX0_choiceOf_2 := dk_seg dksX0_choiceOf_1 23 rfl rfl
theorem dksX0_choiceOf_3 : cX0_choiceOf.data.toList.drop 69 = dktX0_choiceOf_3 := dk_seg dksX0_choiceOf_2 24 rfl rfl
theorem dksX0_choiceOf_4 : cX0_choiceOf.data.toList.drop 93 = dktX0_choiceOf_4 := dk_seg dksX0_choiceOf_3 24 rfl rfl
theorem dksX0_choiceOf_5 : cX0_choiceOf.data.toList.drop 117 = dktX0_choiceOf_5 := dk_seg dksX0_choiceOf_4 24 rfl rfl
theorem dksX0_choiceOf_6 : cX0_choiceOf.data.toList.drop 141 = dktX0_choiceOf_6 := dk_seg dksX0_choiceOf_5 24 rfl rfl
theorem dX0_choiceOf_0 : decode cX0_choiceOf 0 = .ok (.aload_n 0, 1) := dk_42 (dk_at dksX0_choiceOf_0 0 rfl rfl)
theorem dX0_choiceOf_1 : decode cX0_choiceOf 1 = .ok (.iload_n 1, 1) := dk_27 (dk_at dksX0_choiceOf_0 1 rfl rfl)
theorem dX0_choiceOf_2 : decode cX0_choiceOf 2 = .ok (.invokevirtual 364, 3) := dk_182 1 108 (dk_at dksX0_choiceOf_0 2 rfl rfl)
theorem dX0_choiceOf_5 : decode cX0_choiceOf 5 = .ok (.istore_n 2, 1) := dk_61 (dk_at dksX0_choiceOf_0 5 rfl rfl)
theorem dX0_choiceOf_6 : decode cX0_choiceOf 6 = .ok (.aload_n 0, 1) := dk_42 (dk_at dksX0_choiceOf_0 6 rfl rfl)
theorem dX0_choiceOf_7 : decode cX0_choiceOf 7 = .ok (.getfield 59, 3) := dk_180 0 59 (dk_at dksX0_choiceOf_0 7 rfl rfl)
theorem dX0_choiceOf_10 : decode cX0_choiceOf 10 = .ok (.iload_n 1, 1) := dk_27 (dk_at dksX0_choiceOf_0 10 rfl rfl)
theorem dX0_choiceOf_11 : decode cX0_choiceOf 11 = .ok (.aaload, 1) := dk_50 (dk_at dksX0_choiceOf_0 11 rfl rfl)
theorem dX0_choiceOf_12 : decode cX0_choiceOf 12 = .ok (.aload_n 0, 1) := dk_42 (dk_at dksX0_choiceOf_0 12 rfl rfl)
theorem dX0_choiceOf_13 : decode cX0_choiceOf 13 = .ok (.getfield 47, 3) := dk_180 0 47 (dk_at dksX0_choiceOf_0 13 rfl rfl)
theorem dX0_choiceOf_16 : decode cX0_choiceOf 16 = .ok (.getfield 173, 3) := dk_180 0 173 (dk_at dksX0_choiceOf_0 16 rfl rfl)
theorem dX0_choiceOf_19 : decode cX0_choiceOf 19 = .ok (.iload_n 1, 1) := dk_27 (dk_at dksX0_choiceOf_0 19 rfl rfl)
theorem dX0_choiceOf_20 : decode cX0_choiceOf 20 = .ok (.iaload, 1) := dk_46 (dk_at dksX0_choiceOf_0 20 rfl rfl)
theorem dX0_choiceOf_21 : decode cX0_choiceOf 21 = .ok (.aload_n 0, 1) := dk_42 (dk_at dksX0_choiceOf_0 21 rfl rfl)
theorem dX0_choiceOf_22 : decode cX0_choiceOf 22 = .ok (.getfield 47, 3) := dk_180 0 47 (dk_at dksX0_choiceOf_1 0 rfl rfl)
theorem dX0_choiceOf_25 : decode cX0_choiceOf 25 = .ok (.getfield 186, 3) := dk_180 0 186 (dk_at dksX0_choiceOf_1 3 rfl rfl)
theorem dX0_choiceOf_28 : decode cX0_choiceOf 28 = .ok (.invokevirtual 188, 3) := dk_182 0 188 (dk_at dksX0_choiceOf_1 6 rfl rfl)
theorem dX0_choiceOf_31 : decode cX0_choiceOf 31 = .ok (.istore_n 3, 1) := dk_62 (dk_at dksX0_choiceOf_1 9 rfl rfl)
theorem dX0_choiceOf_32 : decode cX0_choiceOf 32 = .ok (.bipush (-3), 2) := dk_16 253 (dk_at dksX0_choiceOf_1 10 rfl rfl)
theorem dX0_choiceOf_34 : decode cX0_choiceOf 34 = .ok (.istore 4, 2) := dk_54 4 (dk_at dksX0_choiceOf_1 12 rfl rfl)
theorem dX0_choiceOf_36 : decode cX0_choiceOf 36 = .ok (.iconst 0, 1) := dk_3 (dk_at dksX0_choiceOf_1 14 rfl rfl)
theorem dX0_choiceOf_37 : decode cX0_choiceOf 37 = .ok (.istore 5, 2) := dk_54 5 (dk_at dksX0_choiceOf_1 15 rfl rfl)
theorem dX0_choiceOf_39 : decode cX0_choiceOf 39 = .ok (.iload 5, 2) := dk_21 5 (dk_at dksX0_choiceOf_1 17 rfl rfl)
theorem dX0_choiceOf_41 : decode cX0_choiceOf 41 = .ok (.aload_n 0, 1) := dk_42 (dk_at dksX0_choiceOf_1 19 rfl rfl)
theorem dX0_choiceOf_42 : decode cX0_choiceOf 42 = .ok (.getfield 47, 3) := dk_180 0 47 (dk_at dksX0_choiceOf_1 20 rfl rfl)
theorem dX0_choiceOf_45 : decode cX0_choiceOf 45 = .ok (.getfield 154, 3) := dk_180 0 154 (dk_at dksX0_choiceOf_2 0 rfl rfl)
theorem dX0_choiceOf_48 : decode cX0_choiceOf 48 = .ok (.if_icmp .ge 93, 3) := dk_162 0 93 (dk_at dksX0_choiceOf_2 3 rfl rfl)
theorem dX0_choiceOf_51 : decode cX0_choiceOf 51 = .ok (.aload_n 0, 1) := dk_42 (dk_at dksX0_choiceOf_2 6 rfl rfl)
theorem dX0_choiceOf_52 : decode cX0_choiceOf 52 = .ok (.getfield 47, 3) := dk_180 0 47 (dk_at dksX0_choiceOf_2 7 rfl rfl)
theorem dX0_choiceOf_55 : decode cX0_choiceOf 55 = .ok (.getfield 198, 3) := dk_180 0 198 (dk_at dksX0_choiceOf_2 10 rfl rfl)
theorem dX0_choiceOf_58 : decode cX0_choiceOf 58 = .ok (.iload 5, 2) := dk_21 5 (dk_at dksX0_choiceOf_2 13 rfl rfl)
theorem dX0_choiceOf_60 : decode cX0_choiceOf 60 = .ok (.iaload, 1) := dk_46 (dk_at dksX0_choiceOf_2 15 rfl rfl)
theorem dX0_choiceOf_61 : decode cX0_choiceOf 61 = .ok (.iload_n 1, 1) := dk_27 (dk_at dksX0_choiceOf_2 16 rfl rfl)
theorem dX0_choiceOf_62 : decode cX0_choiceOf 62 = .ok (.if_icmp .ne 73, 3) := dk_160 0 73 (dk_at dksX0_choiceOf_2 17 rfl rfl)
theorem dX0_choiceOf_65 : decode cX0_choiceOf 65 = .ok (.aload_n 0, 1) := dk_42 (dk_at dksX0_choiceOf_2 20 rfl rfl)
theorem dX0_choiceOf_66 : decode cX0_choiceOf 66 = .ok (.getfield 47, 3) := dk_180 0 47 (dk_at dksX0_choiceOf_2 21 rfl rfl)
theorem dX0_choiceOf_69 : decode cX0_choiceOf 69 = .ok (.getfield 210, 3) := dk_180 0 210 (dk_at dksX0_choiceOf_3 0 rfl rfl)
theorem dX0_choiceOf_72 : decode cX0_choiceOf 72 = .ok (.iload 5, 2) := dk_21 5 (dk_at dksX0_choiceOf_3 3 rfl rfl)
theorem dX0_choiceOf_74 : decode cX0_choiceOf 74 = .ok (.iaload, 1) := dk_46 (dk_at dksX0_choiceOf_3 5 rfl rfl)
theorem dX0_choiceOf_75 : decode cX0_choiceOf 75 = .ok (.iconst 1, 1) := dk_4 (dk_at dksX0_choiceOf_3 6 rfl rfl)
theorem dX0_choiceOf_76 : decode cX0_choiceOf 76 = .ok (.if_icmp .ne 59, 3) := dk_160 0 59 (dk_at dksX0_choiceOf_3 7 rfl rfl)
theorem dX0_choiceOf_79 : decode cX0_choiceOf 79 = .ok (.aload_n 0, 1) := dk_42 (dk_at dksX0_choiceOf_3 10 rfl rfl)
theorem dX0_choiceOf_80 : decode cX0_choiceOf 80 = .ok (.getfield 47, 3) := dk_180 0 47 (dk_at dksX0_choiceOf_3 11 rfl rfl)
theorem dX0_choiceOf_83 : decode cX0_choiceOf 83 = .ok (.getfield 204, 3) := dk_180 0 204 (dk_at dksX0_choiceOf_3 14 rfl rfl)
theorem dX0_choiceOf_86 : decode cX0_choiceOf 86 = .ok (.iload 5, 2) := dk_21 5 (dk_at dksX0_choiceOf_3 17 rfl rfl)
theorem dX0_choiceOf_88 : decode cX0_choiceOf 88 = .ok (.iaload, 1) := dk_46 (dk_at dksX0_choiceOf_3 19 rfl rfl)
theorem dX0_choiceOf_89 : decode cX0_choiceOf 89 = .ok (.iload_n 3, 1) := dk_29 (dk_at dksX0_choiceOf_3 20 rfl rfl)
theorem dX0_choiceOf_90 : decode cX0_choiceOf 90 = .ok (.if_icmp .gt 45, 3) := dk_163 0 45 (dk_at dksX0_choiceOf_3 21 rfl rfl)
theorem dX0_choiceOf_93 : decode cX0_choiceOf 93 = .ok (.aload_n 0, 1) := dk_42 (dk_at dksX0_choiceOf_4 0 rfl rfl)
theorem dX0_choiceOf_94 : decode cX0_choiceOf 94 = .ok (.iload 5, 2) := dk_21 5 (dk_at dksX0_choiceOf_4 1 rfl rfl)
theorem dX0_choiceOf_96 : decode cX0_choiceOf 96 = .ok (.invokevirtual 217, 3) := dk_182 0 217 (dk_at dksX0_choiceOf_4 3 rfl rfl)
theorem dX0_choiceOf_99 : decode cX0_choiceOf 99 = .ok (.iload_n 2, 1) := dk_28 (dk_at dksX0_choiceOf_4 6 rfl rfl)
theorem dX0_choiceOf_100 : decode cX0_choiceOf 100 = .ok (.if_icmp .le 6, 3) := dk_164 0 6 (dk_at dksX0_choiceOf_4 7 rfl rfl)
theorem dX0_choiceOf_103 : decode cX0_choiceOf 103 = .ok (.goto 32, 3) := dk_167 0 32 (dk_at dksX0_choiceOf_4 10 rfl rfl)
theorem dX0_choiceOf_106 : decode cX0_choiceOf 106 = .ok (.iload 4, 2) := dk_21 4 (dk_at dksX0_choiceOf_4 13 rfl rfl)
theorem dX0_choiceOf_108 : decode cX0_choiceOf 108 = .ok (.ifCond .lt 23, 3) := dk_155 0 23 (dk_at dksX0_choiceOf_4 15 rfl rfl)
theorem dX0_choiceOf_111 : decode cX0_choiceOf 111 = .ok (.aload_n 0, 1) := dk_42 (dk_at dksX0_choiceOf_4 18 rfl rfl)
theorem dX0_choiceOf_112 : decode cX0_choiceOf 112 = .ok (.iload 4, 2) := dk_21 4 (dk_at dksX0_choiceOf_4 19 rfl rfl)
theorem dX0_choiceOf_114 : decode cX0_choiceOf 114 = .ok (.invokevirtual 217, 3) := dk_182 0 217 (dk_at dksX0_choiceOf_4 21 rfl rfl)
theorem dX0_choiceOf_117 : decode cX0_choiceOf 117 = .ok (.aload_n 0, 1) := dk_42 (dk_at dksX0_choiceOf_5 0 rfl rfl)
theorem dX0_choiceOf_118 : decode cX0_choiceOf 118 = .ok (.iload 5, 2) := dk_21 5 (dk_at dksX0_choiceOf_5 1 rfl rfl)
theorem dX0_choiceOf_120 : decode cX0_choiceOf 120 = .ok (.invokevirtual 217, 3) := dk_182 0 217 (dk_at dksX0_choiceOf_5 3 rfl rfl)
theorem dX0_choiceOf_123 : decode cX0_choiceOf 123 = .ok (.if_icmp .gt 8, 3) := dk_163 0 8 (dk_at dksX0_choiceOf_5 6 rfl rfl)
theorem dX0_choiceOf_126 : decode cX0_choiceOf 126 = .ok (.iload 4, 2) := dk_21 4 (dk_at dksX0_choiceOf_5 9 rfl rfl)
theorem dX0_choiceOf_128 : decode cX0_choiceOf 128 = .ok (.goto 5, 3) := dk_167 0 5 (dk_at dksX0_choiceOf_5 11 rfl rfl)
theorem dX0_choiceOf_131 : decode cX0_choiceOf 131 = .ok (.iload 5, 2) := dk_21 5 (dk_at dksX0_choiceOf_5 14 rfl rfl)
theorem dX0_choiceOf_133 : decode cX0_choiceOf 133 = .ok (.istore 4, 2) := dk_54 4 (dk_at dksX0_choiceOf_5 16 rfl rfl)
theorem dX0_choiceOf_135 : decode cX0_choiceOf 135 = .ok (.iinc 5 1, 3) := dk_132 5 1 (dk_at dksX0_choiceOf_5 18 rfl rfl)
theorem dX0_choiceOf_138 : decode cX0_choiceOf 138 = .ok (.goto (-99), 3) := dk_167 255 157 (dk_at dksX0_choiceOf_5 21 rfl rfl)
theorem dX0_choiceOf_141 : decode cX0_choiceOf 141 = .ok (.iload 4, 2) := dk_21 4 (dk_at dksX0_choiceOf_6 0 rfl rfl)
theorem dX0_choiceOf_143 : decode cX0_choiceOf 143 = .ok (.ireturn, 1) := dk_172 (dk_at dksX0_choiceOf_6 2 rfl rfl)
abbrev cX0_reachOf : ByteArray := prog_1_method_40_code
def yX0_reachOf : MethodName := ⟨RX0, "reachOf", "(I)I"⟩
def dkwX0_reachOf_6 : List UInt8 := [180, 0, 186, 172]
abbrev dktX0_reachOf_6 : List UInt8 := dkwX0_reachOf_6 ++ []
def dkwX0_reachOf_5 : List UInt8 := [45, 42, 180, 0, 47, 180, 0, 186, 182, 1, 105, 172, 132, 2, 1, 167, 255, 184, 42, 180, 0, 47]
abbrev dktX0_reachOf_5 : List UInt8 := dkwX0_reachOf_5 ++ dktX0_reachOf_6
def dkwX0_reachOf_4 : List UInt8 := [180, 0, 107, 182, 1, 98, 154, 0, 6, 167, 0, 27, 45, 180, 1, 102, 5, 160, 0, 7, 2, 167, 0, 14]
abbrev dktX0_reachOf_4 : List UInt8 := dkwX0_reachOf_4 ++ dktX0_reachOf_5
def dkwX0_reachOf_3 : List UInt8 := [162, 0, 66, 42, 180, 0, 47, 180, 1, 91, 28, 50, 78, 45, 42, 180, 0, 47, 180, 0, 157, 27, 46, 42]
abbrev dktX0_reachOf_3 : List UInt8 := dkwX0_reachOf_3 ++ dktX0_reachOf_4
def dkwX0_reachOf_2 : List UInt8 := [180, 0, 173, 27, 46, 79, 42, 180, 0, 107, 7, 27, 79, 3, 61, 28, 42, 180, 0, 47, 180, 1, 91, 190]
abbrev dktX0_reachOf_2 : List UInt8 := dkwX0_reachOf_2 ++ dktX0_reachOf_3
def dkwX0_reachOf_1 : List UInt8 := [42, 180, 0, 107, 5, 42, 180, 0, 47, 180, 0, 160, 27, 46, 79, 42, 180, 0, 107, 6, 42, 180, 0, 47]
abbrev dktX0_reachOf_1 : List UInt8 := dkwX0_reachOf_1 ++ dktX0_reachOf_2
def dkwX0_reachOf_0 : List UInt8 := [42, 180, 0, 107, 3, 42, 180, 0, 47, 180, 0, 186, 79, 42, 180, 0, 107, 4, 42, 27, 182, 0, 182, 79]
abbrev dktX0_reachOf_0 : List UInt8 := dkwX0_reachOf_0 ++ dktX0_reachOf_1
theorem dksX0_reachOf_0 : cX0_reachOf.data.toList.drop 0 = dktX0_reachOf_0 := by decide +kernel
theorem dksX0_reachOf_1 : cX0_reachOf.data.toList.drop 24 = dktX0_reachOf_1 := dk_seg dksX0_reachOf_0 24 rfl rfl
theorem dksX0_reachOf_2 : cX0_reachOf.data.toList.drop 48 = dktX0_reachOf_2 := dk_seg dksX0_reachOf_1 24 rfl rfl
theorem dksX0_reachOf_3 : cX0_reachOf.data.toList.drop 72 = dktX0_reachOf_3 := dk_seg dksX0_reachOf_2 24 rfl rfl
theorem dksX0_reachOf_4 : cX0_reachOf.data.toList.drop 96 = dktX0_reachOf_4 := dk_seg dksX0_reachOf_3 24 rfl rfl
theorem dksX0_reachOf_5 : cX0_reachOf.data.toList.drop 120 = dktX0_reachOf_5 := dk_seg dksX0_reachOf_4 24 rfl rfl
theorem dksX0_reachOf_6 : cX0_reachOf.data.toList.drop 142 = dktX0_reachOf_6 := dk_seg dksX0_reachOf_5 22 rfl rfl
theorem dX0_reachOf_0 : decode cX0_reachOf 0 = .ok (.aload_n 0, 1) := dk_42 (dk_at dksX0_reachOf_0 0 rfl rfl)
theorem dX0_reachOf_1 : decode cX0_reachOf 1 = .ok (.getfield 107, 3) := dk_180 0 107 (dk_at dksX0_reachOf_0 1 rfl rfl)
theorem dX0_reachOf_4 : decode cX0_reachOf 4 = .ok (.iconst 0, 1) := dk_3 (dk_at dksX0_reachOf_0 4 rfl rfl)
theorem dX0_reachOf_5 : decode cX0_reachOf 5 = .ok (.aload_n 0, 1) := dk_42 (dk_at dksX0_reachOf_0 5 rfl rfl)
theorem dX0_reachOf_6 : decode cX0_reachOf 6 = .ok (.getfield 47, 3) := dk_180 0 47 (dk_at dksX0_reachOf_0 6 rfl rfl)
theorem dX0_reachOf_9 : decode cX0_reachOf 9 = .ok (.getfield 186, 3) := dk_180 0 186 (dk_at dksX0_reachOf_0 9 rfl rfl)
theorem dX0_reachOf_12 : decode cX0_reachOf 12 = .ok (.iastore, 1) := dk_79 (dk_at dksX0_reachOf_0 12 rfl rfl)
theorem dX0_reachOf_13 : decode cX0_reachOf 13 = .ok (.aload_n 0, 1) := dk_42 (dk_at dksX0_reachOf_0 13 rfl rfl)
theorem dX0_reachOf_14 : decode cX0_reachOf 14 = .ok (.getfield 107, 3) := dk_180 0 107 (dk_at dksX0_reachOf_0 14 rfl rfl)
theorem dX0_reachOf_17 : decode cX0_reachOf 17 = .ok (.iconst 1, 1) := dk_4 (dk_at dksX0_reachOf_0 17 rfl rfl)
theorem dX0_reachOf_18 : decode cX0_reachOf 18 = .ok (.aload_n 0, 1) := dk_42 (dk_at dksX0_reachOf_0 18 rfl rfl)
theorem dX0_reachOf_19 : decode cX0_reachOf 19 = .ok (.iload_n 1, 1) := dk_27 (dk_at dksX0_reachOf_0 19 rfl rfl)
theorem dX0_reachOf_20 : decode cX0_reachOf 20 = .ok (.invokevirtual 182, 3) := dk_182 0 182 (dk_at dksX0_reachOf_0 20 rfl rfl)
theorem dX0_reachOf_23 : decode cX0_reachOf 23 = .ok (.iastore, 1) := dk_79 (dk_at dksX0_reachOf_0 23 rfl rfl)
theorem dX0_reachOf_24 : decode cX0_reachOf 24 = .ok (.aload_n 0, 1) := dk_42 (dk_at dksX0_reachOf_1 0 rfl rfl)
theorem dX0_reachOf_25 : decode cX0_reachOf 25 = .ok (.getfield 107, 3) := dk_180 0 107 (dk_at dksX0_reachOf_1 1 rfl rfl)
theorem dX0_reachOf_28 : decode cX0_reachOf 28 = .ok (.iconst 2, 1) := dk_5 (dk_at dksX0_reachOf_1 4 rfl rfl)
theorem dX0_reachOf_29 : decode cX0_reachOf 29 = .ok (.aload_n 0, 1) := dk_42 (dk_at dksX0_reachOf_1 5 rfl rfl)
theorem dX0_reachOf_30 : decode cX0_reachOf 30 = .ok (.getfield 47, 3) := dk_180 0 47 (dk_at dksX0_reachOf_1 6 rfl rfl)
theorem dX0_reachOf_33 : decode cX0_reachOf 33 = .ok (.getfield 160, 3) := dk_180 0 160 (dk_at dksX0_reachOf_1 9 rfl rfl)
theorem dX0_reachOf_36 : decode cX0_reachOf 36 = .ok (.iload_n 1, 1) := dk_27 (dk_at dksX0_reachOf_1 12 rfl rfl)
theorem dX0_reachOf_37 : decode cX0_reachOf 37 = .ok (.iaload, 1) := dk_46 (dk_at dksX0_reachOf_1 13 rfl rfl)
theorem dX0_reachOf_38 : decode cX0_reachOf 38 = .ok (.iastore, 1) := dk_79 (dk_at dksX0_reachOf_1 14 rfl rfl)
theorem dX0_reachOf_39 : decode cX0_reachOf 39 = .ok (.aload_n 0, 1) := dk_42 (dk_at dksX0_reachOf_1 15 rfl rfl)
theorem dX0_reachOf_40 : decode cX0_reachOf 40 = .ok (.getfield 107, 3) := dk_180 0 107 (dk_at dksX0_reachOf_1 16 rfl rfl)
theorem dX0_reachOf_43 : decode cX0_reachOf 43 = .ok (.iconst 3, 1) := dk_6 (dk_at dksX0_reachOf_1 19 rfl rfl)
theorem dX0_reachOf_44 : decode cX0_reachOf 44 = .ok (.aload_n 0, 1) := dk_42 (dk_at dksX0_reachOf_1 20 rfl rfl)
theorem dX0_reachOf_45 : decode cX0_reachOf 45 = .ok (.getfield 47, 3) := dk_180 0 47 (dk_at dksX0_reachOf_1 21 rfl rfl)
theorem dX0_reachOf_48 : decode cX0_reachOf 48 = .ok (.getfield 173, 3) := dk_180 0 173 (dk_at dksX0_reachOf_2 0 rfl rfl)
theorem dX0_reachOf_51 : decode cX0_reachOf 51 = .ok (.iload_n 1, 1) := dk_27 (dk_at dksX0_reachOf_2 3 rfl rfl)
theorem dX0_reachOf_52 : decode cX0_reachOf 52 = .ok (.iaload, 1) := dk_46 (dk_at dksX0_reachOf_2 4 rfl rfl)
theorem dX0_reachOf_53 : decode cX0_reachOf 53 = .ok (.iastore, 1) := dk_79 (dk_at dksX0_reachOf_2 5 rfl rfl)
theorem dX0_reachOf_54 : decode cX0_reachOf 54 = .ok (.aload_n 0, 1) := dk_42 (dk_at dksX0_reachOf_2 6 rfl rfl)
theorem dX0_reachOf_55 : decode cX0_reachOf 55 = .ok (.getfield 107, 3) := dk_180 0 107 (dk_at dksX0_reachOf_2 7 rfl rfl)
theorem dX0_reachOf_58 : decode cX0_reachOf 58 = .ok (.iconst 4, 1) := dk_7 (dk_at dksX0_reachOf_2 10 rfl rfl)
theorem dX0_reachOf_59 : decode cX0_reachOf 59 = .ok (.iload_n 1, 1) := dk_27 (dk_at dksX0_reachOf_2 11 rfl rfl)
theorem dX0_reachOf_60 : decode cX0_reachOf 60 = .ok (.iastore, 1) := dk_79 (dk_at dksX0_reachOf_2 12 rfl rfl)
theorem dX0_reachOf_61 : decode cX0_reachOf 61 = .ok (.iconst 0, 1) := dk_3 (dk_at dksX0_reachOf_2 13 rfl rfl)
theorem dX0_reachOf_62 : decode cX0_reachOf 62 = .ok (.istore_n 2, 1) := dk_61 (dk_at dksX0_reachOf_2 14 rfl rfl)
theorem dX0_reachOf_63 : decode cX0_reachOf 63 = .ok (.iload_n 2, 1) := dk_28 (dk_at dksX0_reachOf_2 15 rfl rfl)
theorem dX0_reachOf_64 : decode cX0_reachOf 64 = .ok (.aload_n 0, 1) := dk_42 (dk_at dksX0_reachOf_2 16 rfl rfl)
theorem dX0_reachOf_65 : decode cX0_reachOf 65 = .ok (.getfield 47, 3) := dk_180 0 47 (dk_at dksX0_reachOf_2 17 rfl rfl)
theorem dX0_reachOf_68 : decode cX0_reachOf 68 = .ok (.getfield 347, 3) := dk_180 1 91 (dk_at dksX0_reachOf_2 20 rfl rfl)
theorem dX0_reachOf_71 : decode cX0_reachOf 71 = .ok (.arraylength, 1) := dk_190 (dk_at dksX0_reachOf_2 23 rfl rfl)
theorem dX0_reachOf_72 : decode cX0_reachOf 72 = .ok (.if_icmp .ge 66, 3) := dk_162 0 66 (dk_at dksX0_reachOf_3 0 rfl rfl)
theorem dX0_reachOf_75 : decode cX0_reachOf 75 = .ok (.aload_n 0, 1) := dk_42 (dk_at dksX0_reachOf_3 3 rfl rfl)
theorem dX0_reachOf_76 : decode cX0_reachOf 76 = .ok (.getfield 47, 3) := dk_180 0 47 (dk_at dksX0_reachOf_3 4 rfl rfl)
theorem dX0_reachOf_79 : decode cX0_reachOf 79 = .ok (.getfield 347, 3) := dk_180 1 91 (dk_at dksX0_reachOf_3 7 rfl rfl)
theorem dX0_reachOf_82 : decode cX0_reachOf 82 = .ok (.iload_n 2, 1) := dk_28 (dk_at dksX0_reachOf_3 10 rfl rfl)
theorem dX0_reachOf_83 : decode cX0_reachOf 83 = .ok (.aaload, 1) := dk_50 (dk_at dksX0_reachOf_3 11 rfl rfl)
theorem dX0_reachOf_84 : decode cX0_reachOf 84 = .ok (.astore_n 3, 1) := dk_78 (dk_at dksX0_reachOf_3 12 rfl rfl)
theorem dX0_reachOf_85 : decode cX0_reachOf 85 = .ok (.aload_n 3, 1) := dk_45 (dk_at dksX0_reachOf_3 13 rfl rfl)
theorem dX0_reachOf_86 : decode cX0_reachOf 86 = .ok (.aload_n 0, 1) := dk_42 (dk_at dksX0_reachOf_3 14 rfl rfl)
theorem dX0_reachOf_87 : decode cX0_reachOf 87 = .ok (.getfield 47, 3) := dk_180 0 47 (dk_at dksX0_reachOf_3 15 rfl rfl)
theorem dX0_reachOf_90 : decode cX0_reachOf 90 = .ok (.getfield 157, 3) := dk_180 0 157 (dk_at dksX0_reachOf_3 18 rfl rfl)
theorem dX0_reachOf_93 : decode cX0_reachOf 93 = .ok (.iload_n 1, 1) := dk_27 (dk_at dksX0_reachOf_3 21 rfl rfl)
theorem dX0_reachOf_94 : decode cX0_reachOf 94 = .ok (.iaload, 1) := dk_46 (dk_at dksX0_reachOf_3 22 rfl rfl)
theorem dX0_reachOf_95 : decode cX0_reachOf 95 = .ok (.aload_n 0, 1) := dk_42 (dk_at dksX0_reachOf_3 23 rfl rfl)
theorem dX0_reachOf_96 : decode cX0_reachOf 96 = .ok (.getfield 107, 3) := dk_180 0 107 (dk_at dksX0_reachOf_4 0 rfl rfl)
theorem dX0_reachOf_99 : decode cX0_reachOf 99 = .ok (.invokevirtual 354, 3) := dk_182 1 98 (dk_at dksX0_reachOf_4 3 rfl rfl)
theorem dX0_reachOf_102 : decode cX0_reachOf 102 = .ok (.ifCond .ne 6, 3) := dk_154 0 6 (dk_at dksX0_reachOf_4 6 rfl rfl)
theorem dX0_reachOf_105 : decode cX0_reachOf 105 = .ok (.goto 27, 3) := dk_167 0 27 (dk_at dksX0_reachOf_4 9 rfl rfl)
theorem dX0_reachOf_108 : decode cX0_reachOf 108 = .ok (.aload_n 3, 1) := dk_45 (dk_at dksX0_reachOf_4 12 rfl rfl)
theorem dX0_reachOf_109 : decode cX0_reachOf 109 = .ok (.getfield 358, 3) := dk_180 1 102 (dk_at dksX0_reachOf_4 13 rfl rfl)
theorem dX0_reachOf_112 : decode cX0_reachOf 112 = .ok (.iconst 2, 1) := dk_5 (dk_at dksX0_reachOf_4 16 rfl rfl)
theorem dX0_reachOf_113 : decode cX0_reachOf 113 = .ok (.if_icmp .ne 7, 3) := dk_160 0 7 (dk_at dksX0_reachOf_4 17 rfl rfl)
theorem dX0_reachOf_116 : decode cX0_reachOf 116 = .ok (.iconst (-1), 1) := dk_2 (dk_at dksX0_reachOf_4 20 rfl rfl)
theorem dX0_reachOf_117 : decode cX0_reachOf 117 = .ok (.goto 14, 3) := dk_167 0 14 (dk_at dksX0_reachOf_4 21 rfl rfl)
theorem dX0_reachOf_120 : decode cX0_reachOf 120 = .ok (.aload_n 3, 1) := dk_45 (dk_at dksX0_reachOf_5 0 rfl rfl)
theorem dX0_reachOf_121 : decode cX0_reachOf 121 = .ok (.aload_n 0, 1) := dk_42 (dk_at dksX0_reachOf_5 1 rfl rfl)
theorem dX0_reachOf_122 : decode cX0_reachOf 122 = .ok (.getfield 47, 3) := dk_180 0 47 (dk_at dksX0_reachOf_5 2 rfl rfl)
theorem dX0_reachOf_125 : decode cX0_reachOf 125 = .ok (.getfield 186, 3) := dk_180 0 186 (dk_at dksX0_reachOf_5 5 rfl rfl)
theorem dX0_reachOf_128 : decode cX0_reachOf 128 = .ok (.invokevirtual 361, 3) := dk_182 1 105 (dk_at dksX0_reachOf_5 8 rfl rfl)
theorem dX0_reachOf_131 : decode cX0_reachOf 131 = .ok (.ireturn, 1) := dk_172 (dk_at dksX0_reachOf_5 11 rfl rfl)
theorem dX0_reachOf_132 : decode cX0_reachOf 132 = .ok (.iinc 2 1, 3) := dk_132 2 1 (dk_at dksX0_reachOf_5 12 rfl rfl)
theorem dX0_reachOf_135 : decode cX0_reachOf 135 = .ok (.goto (-72), 3) := dk_167 255 184 (dk_at dksX0_reachOf_5 15 rfl rfl)
theorem dX0_reachOf_138 : decode cX0_reachOf 138 = .ok (.aload_n 0, 1) := dk_42 (dk_at dksX0_reachOf_5 18 rfl rfl)
theorem dX0_reachOf_139 : decode cX0_reachOf 139 = .ok (.getfield 47, 3) := dk_180 0 47 (dk_at dksX0_reachOf_5 19 rfl rfl)
theorem dX0_reachOf_142 : decode cX0_reachOf 142 = .ok (.getfield 186, 3) := dk_180 0 186 (dk_at dksX0_reachOf_6 0 rfl rfl)
theorem dX0_reachOf_145 : decode cX0_reachOf 145 = .ok (.ireturn, 1) := dk_172 (dk_at dksX0_reachOf_6 3 rfl rfl)
abbrev cX0_isOf : ByteArray := prog_1_method_4_code
def yX0_isOf : MethodName := ⟨RX0, "isOf", "(II)Z"⟩
def dkwX0_isOf_1 : List UInt8 := [26, 8, 160, 0, 7, 4, 167, 0, 4, 3, 172]
abbrev dktX0_isOf_1 : List UInt8 := dkwX0_isOf_1 ++ []
def dkwX0_isOf_0 : List UInt8 := [27, 153, 0, 28, 27, 26, 159, 0, 23, 27, 5, 160, 0, 8, 26, 6, 159, 0, 13, 27, 7, 160, 0, 12]
abbrev dktX0_isOf_0 : List UInt8 := dkwX0_isOf_0 ++ dktX0_isOf_1
theorem dksX0_isOf_0 : cX0_isOf.data.toList.drop 0 = dktX0_isOf_0 := by decide +kernel
theorem dksX0_isOf_1 : cX0_isOf.data.toList.drop 24 = dktX0_isOf_1 := dk_seg dksX0_isOf_0 24 rfl rfl
theorem dX0_isOf_0 : decode cX0_isOf 0 = .ok (.iload_n 1, 1) := dk_27 (dk_at dksX0_isOf_0 0 rfl rfl)
theorem dX0_isOf_1 : decode cX0_isOf 1 = .ok (.ifCond .eq 28, 3) := dk_153 0 28 (dk_at dksX0_isOf_0 1 rfl rfl)
theorem dX0_isOf_4 : decode cX0_isOf 4 = .ok (.iload_n 1, 1) := dk_27 (dk_at dksX0_isOf_0 4 rfl rfl)
theorem dX0_isOf_5 : decode cX0_isOf 5 = .ok (.iload_n 0, 1) := dk_26 (dk_at dksX0_isOf_0 5 rfl rfl)
theorem dX0_isOf_6 : decode cX0_isOf 6 = .ok (.if_icmp .eq 23, 3) := dk_159 0 23 (dk_at dksX0_isOf_0 6 rfl rfl)
theorem dX0_isOf_9 : decode cX0_isOf 9 = .ok (.iload_n 1, 1) := dk_27 (dk_at dksX0_isOf_0 9 rfl rfl)
theorem dX0_isOf_10 : decode cX0_isOf 10 = .ok (.iconst 2, 1) := dk_5 (dk_at dksX0_isOf_0 10 rfl rfl)
theorem dX0_isOf_11 : decode cX0_isOf 11 = .ok (.if_icmp .ne 8, 3) := dk_160 0 8 (dk_at dksX0_isOf_0 11 rfl rfl)
theorem dX0_isOf_14 : decode cX0_isOf 14 = .ok (.iload_n 0, 1) := dk_26 (dk_at dksX0_isOf_0 14 rfl rfl)
theorem dX0_isOf_15 : decode cX0_isOf 15 = .ok (.iconst 3, 1) := dk_6 (dk_at dksX0_isOf_0 15 rfl rfl)
theorem dX0_isOf_16 : decode cX0_isOf 16 = .ok (.if_icmp .eq 13, 3) := dk_159 0 13 (dk_at dksX0_isOf_0 16 rfl rfl)
theorem dX0_isOf_19 : decode cX0_isOf 19 = .ok (.iload_n 1, 1) := dk_27 (dk_at dksX0_isOf_0 19 rfl rfl)
theorem dX0_isOf_20 : decode cX0_isOf 20 = .ok (.iconst 4, 1) := dk_7 (dk_at dksX0_isOf_0 20 rfl rfl)
theorem dX0_isOf_21 : decode cX0_isOf 21 = .ok (.if_icmp .ne 12, 3) := dk_160 0 12 (dk_at dksX0_isOf_0 21 rfl rfl)
theorem dX0_isOf_24 : decode cX0_isOf 24 = .ok (.iload_n 0, 1) := dk_26 (dk_at dksX0_isOf_1 0 rfl rfl)
theorem dX0_isOf_25 : decode cX0_isOf 25 = .ok (.iconst 5, 1) := dk_8 (dk_at dksX0_isOf_1 1 rfl rfl)
theorem dX0_isOf_26 : decode cX0_isOf 26 = .ok (.if_icmp .ne 7, 3) := dk_160 0 7 (dk_at dksX0_isOf_1 2 rfl rfl)
theorem dX0_isOf_29 : decode cX0_isOf 29 = .ok (.iconst 1, 1) := dk_4 (dk_at dksX0_isOf_1 5 rfl rfl)
theorem dX0_isOf_30 : decode cX0_isOf 30 = .ok (.goto 4, 3) := dk_167 0 4 (dk_at dksX0_isOf_1 6 rfl rfl)
theorem dX0_isOf_33 : decode cX0_isOf 33 = .ok (.iconst 0, 1) := dk_3 (dk_at dksX0_isOf_1 9 rfl rfl)
theorem dX0_isOf_34 : decode cX0_isOf 34 = .ok (.ireturn, 1) := dk_172 (dk_at dksX0_isOf_1 10 rfl rfl)
abbrev cX0_dueOf : ByteArray := prog_1_method_16_code
def yX0_dueOf : MethodName := ⟨RX0, "dueOf", "(I)I"⟩
def dkwX0_dueOf_1 : List UInt8 := [182, 0, 213, 96, 172]
abbrev dktX0_dueOf_1 : List UInt8 := dkwX0_dueOf_1 ++ []
def dkwX0_dueOf_0 : List UInt8 := [42, 180, 0, 47, 180, 0, 201, 27, 46, 42, 180, 0, 59, 42, 180, 0, 47, 180, 0, 198, 27, 46, 50]
abbrev dktX0_dueOf_0 : List UInt8 := dkwX0_dueOf_0 ++ dktX0_dueOf_1
theorem dksX0_dueOf_0 : cX0_dueOf.data.toList.drop 0 = dktX0_dueOf_0 := by decide +kernel
theorem dksX0_dueOf_1 : cX0_dueOf.data.toList.drop 23 = dktX0_dueOf_1 := dk_seg dksX0_dueOf_0 23 rfl rfl
theorem dX0_dueOf_0 : decode cX0_dueOf 0 = .ok (.aload_n 0, 1) := dk_42 (dk_at dksX0_dueOf_0 0 rfl rfl)
theorem dX0_dueOf_1 : decode cX0_dueOf 1 = .ok (.getfield 47, 3) := dk_180 0 47 (dk_at dksX0_dueOf_0 1 rfl rfl)
theorem dX0_dueOf_4 : decode cX0_dueOf 4 = .ok (.getfield 201, 3) := dk_180 0 201 (dk_at dksX0_dueOf_0 4 rfl rfl)
theorem dX0_dueOf_7 : decode cX0_dueOf 7 = .ok (.iload_n 1, 1) := dk_27 (dk_at dksX0_dueOf_0 7 rfl rfl)
theorem dX0_dueOf_8 : decode cX0_dueOf 8 = .ok (.iaload, 1) := dk_46 (dk_at dksX0_dueOf_0 8 rfl rfl)
theorem dX0_dueOf_9 : decode cX0_dueOf 9 = .ok (.aload_n 0, 1) := dk_42 (dk_at dksX0_dueOf_0 9 rfl rfl)
theorem dX0_dueOf_10 : decode cX0_dueOf 10 = .ok (.getfield 59, 3) := dk_180 0 59 (dk_at dksX0_dueOf_0 10 rfl rfl)
theorem dX0_dueOf_13 : decode cX0_dueOf 13 = .ok (.aload_n 0, 1) := dk_42 (dk_at dksX0_dueOf_0 13 rfl rfl)
theorem dX0_dueOf_14 : decode cX0_dueOf 14 = .ok (.getfield 47, 3) := dk_180 0 47 (dk_at dksX0_dueOf_0 14 rfl rfl)
theorem dX0_dueOf_17 : decode cX0_dueOf 17 = .ok (.getfield 198, 3) := dk_180 0 198 (dk_at dksX0_dueOf_0 17 rfl rfl)
theorem dX0_dueOf_20 : decode cX0_dueOf 20 = .ok (.iload_n 1, 1) := dk_27 (dk_at dksX0_dueOf_0 20 rfl rfl)
theorem dX0_dueOf_21 : decode cX0_dueOf 21 = .ok (.iaload, 1) := dk_46 (dk_at dksX0_dueOf_0 21 rfl rfl)
theorem dX0_dueOf_22 : decode cX0_dueOf 22 = .ok (.aaload, 1) := dk_50 (dk_at dksX0_dueOf_0 22 rfl rfl)
theorem dX0_dueOf_23 : decode cX0_dueOf 23 = .ok (.invokevirtual 213, 3) := dk_182 0 213 (dk_at dksX0_dueOf_1 0 rfl rfl)
theorem dX0_dueOf_26 : decode cX0_dueOf 26 = .ok (.iadd, 1) := dk_96 (dk_at dksX0_dueOf_1 3 rfl rfl)
theorem dX0_dueOf_27 : decode cX0_dueOf 27 = .ok (.ireturn, 1) := dk_172 (dk_at dksX0_dueOf_1 4 rfl rfl)
abbrev cX0_change : ByteArray := prog_1_method_13_code
def yX0_change : MethodName := ⟨RX0, "change", "(III)I"⟩
def dkwX0_change_2 : List UInt8 := [58, 4, 25, 4, 27, 46, 54, 5, 25, 4, 27, 29, 79, 42, 27, 182, 0, 175, 21, 5, 172]
abbrev dktX0_change_2 : List UInt8 := dkwX0_change_2 ++ []
def dkwX0_change_1 : List UInt8 := [2, 172, 28, 4, 160, 0, 13, 42, 180, 0, 47, 180, 0, 160, 167, 0, 10, 42, 180, 0, 47, 180, 0, 173]
abbrev dktX0_change_1 : List UInt8 := dkwX0_change_1 ++ dktX0_change_2
def dkwX0_change_0 : List UInt8 := [42, 27, 182, 0, 179, 153, 0, 19, 28, 4, 5, 184, 0, 150, 153, 0, 10, 29, 184, 0, 170, 154, 0, 5]
abbrev dktX0_change_0 : List UInt8 := dkwX0_change_0 ++ dktX0_change_1
theorem dksX0_change_0 : cX0_change.data.toList.drop 0 = dktX0_change_0 := by decide +kernel
theorem dksX0_change_1 : cX0_change.data.toList.drop 24 = dktX0_change_1 := dk_seg dksX0_change_0 24 rfl rfl
theorem dksX0_change_2 : cX0_change.data.toList.drop 48 = dktX0_change_2 := dk_seg dksX0_change_1 24 rfl rfl
theorem dX0_change_0 : decode cX0_change 0 = .ok (.aload_n 0, 1) := dk_42 (dk_at dksX0_change_0 0 rfl rfl)
theorem dX0_change_1 : decode cX0_change 1 = .ok (.iload_n 1, 1) := dk_27 (dk_at dksX0_change_0 1 rfl rfl)
theorem dX0_change_2 : decode cX0_change 2 = .ok (.invokevirtual 179, 3) := dk_182 0 179 (dk_at dksX0_change_0 2 rfl rfl)
theorem dX0_change_5 : decode cX0_change 5 = .ok (.ifCond .eq 19, 3) := dk_153 0 19 (dk_at dksX0_change_0 5 rfl rfl)
theorem dX0_change_8 : decode cX0_change 8 = .ok (.iload_n 2, 1) := dk_28 (dk_at dksX0_change_0 8 rfl rfl)
theorem dX0_change_9 : decode cX0_change 9 = .ok (.iconst 1, 1) := dk_4 (dk_at dksX0_change_0 9 rfl rfl)
theorem dX0_change_10 : decode cX0_change 10 = .ok (.iconst 2, 1) := dk_5 (dk_at dksX0_change_0 10 rfl rfl)
theorem dX0_change_11 : decode cX0_change 11 = .ok (.invokestatic 150, 3) := dk_184 0 150 (dk_at dksX0_change_0 11 rfl rfl)
theorem dX0_change_14 : decode cX0_change 14 = .ok (.ifCond .eq 10, 3) := dk_153 0 10 (dk_at dksX0_change_0 14 rfl rfl)
theorem dX0_change_17 : decode cX0_change 17 = .ok (.iload_n 3, 1) := dk_29 (dk_at dksX0_change_0 17 rfl rfl)
theorem dX0_change_18 : decode cX0_change 18 = .ok (.invokestatic 170, 3) := dk_184 0 170 (dk_at dksX0_change_0 18 rfl rfl)
theorem dX0_change_21 : decode cX0_change 21 = .ok (.ifCond .ne 5, 3) := dk_154 0 5 (dk_at dksX0_change_0 21 rfl rfl)
theorem dX0_change_24 : decode cX0_change 24 = .ok (.iconst (-1), 1) := dk_2 (dk_at dksX0_change_1 0 rfl rfl)
theorem dX0_change_25 : decode cX0_change 25 = .ok (.ireturn, 1) := dk_172 (dk_at dksX0_change_1 1 rfl rfl)
theorem dX0_change_26 : decode cX0_change 26 = .ok (.iload_n 2, 1) := dk_28 (dk_at dksX0_change_1 2 rfl rfl)
theorem dX0_change_27 : decode cX0_change 27 = .ok (.iconst 1, 1) := dk_4 (dk_at dksX0_change_1 3 rfl rfl)
theorem dX0_change_28 : decode cX0_change 28 = .ok (.if_icmp .ne 13, 3) := dk_160 0 13 (dk_at dksX0_change_1 4 rfl rfl)
theorem dX0_change_31 : decode cX0_change 31 = .ok (.aload_n 0, 1) := dk_42 (dk_at dksX0_change_1 7 rfl rfl)
theorem dX0_change_32 : decode cX0_change 32 = .ok (.getfield 47, 3) := dk_180 0 47 (dk_at dksX0_change_1 8 rfl rfl)
theorem dX0_change_35 : decode cX0_change 35 = .ok (.getfield 160, 3) := dk_180 0 160 (dk_at dksX0_change_1 11 rfl rfl)
theorem dX0_change_38 : decode cX0_change 38 = .ok (.goto 10, 3) := dk_167 0 10 (dk_at dksX0_change_1 14 rfl rfl)
theorem dX0_change_41 : decode cX0_change 41 = .ok (.aload_n 0, 1) := dk_42 (dk_at dksX0_change_1 17 rfl rfl)
theorem dX0_change_42 : decode cX0_change 42 = .ok (.getfield 47, 3) := dk_180 0 47 (dk_at dksX0_change_1 18 rfl rfl)
theorem dX0_change_45 : decode cX0_change 45 = .ok (.getfield 173, 3) := dk_180 0 173 (dk_at dksX0_change_1 21 rfl rfl)
theorem dX0_change_48 : decode cX0_change 48 = .ok (.astore 4, 2) := dk_58 4 (dk_at dksX0_change_2 0 rfl rfl)
theorem dX0_change_50 : decode cX0_change 50 = .ok (.aload 4, 2) := dk_25 4 (dk_at dksX0_change_2 2 rfl rfl)
theorem dX0_change_52 : decode cX0_change 52 = .ok (.iload_n 1, 1) := dk_27 (dk_at dksX0_change_2 4 rfl rfl)
theorem dX0_change_53 : decode cX0_change 53 = .ok (.iaload, 1) := dk_46 (dk_at dksX0_change_2 5 rfl rfl)
theorem dX0_change_54 : decode cX0_change 54 = .ok (.istore 5, 2) := dk_54 5 (dk_at dksX0_change_2 6 rfl rfl)
theorem dX0_change_56 : decode cX0_change 56 = .ok (.aload 4, 2) := dk_25 4 (dk_at dksX0_change_2 8 rfl rfl)
theorem dX0_change_58 : decode cX0_change 58 = .ok (.iload_n 1, 1) := dk_27 (dk_at dksX0_change_2 10 rfl rfl)
theorem dX0_change_59 : decode cX0_change 59 = .ok (.iload_n 3, 1) := dk_29 (dk_at dksX0_change_2 11 rfl rfl)
theorem dX0_change_60 : decode cX0_change 60 = .ok (.iastore, 1) := dk_79 (dk_at dksX0_change_2 12 rfl rfl)
theorem dX0_change_61 : decode cX0_change 61 = .ok (.aload_n 0, 1) := dk_42 (dk_at dksX0_change_2 13 rfl rfl)
theorem dX0_change_62 : decode cX0_change 62 = .ok (.iload_n 1, 1) := dk_27 (dk_at dksX0_change_2 14 rfl rfl)
theorem dX0_change_63 : decode cX0_change 63 = .ok (.invokevirtual 175, 3) := dk_182 0 175 (dk_at dksX0_change_2 15 rfl rfl)
theorem dX0_change_66 : decode cX0_change 66 = .ok (.iload 5, 2) := dk_21 5 (dk_at dksX0_change_2 18 rfl rfl)
theorem dX0_change_68 : decode cX0_change 68 = .ok (.ireturn, 1) := dk_172 (dk_at dksX0_change_2 20 rfl rfl)
abbrev cX0_remake : ByteArray := prog_1_method_14_code
def yX0_remake : MethodName := ⟨RX0, "remake", "(II)I"⟩
def dkwX0_remake_1 : List UInt8 := [27, 46, 62, 42, 180, 0, 47, 180, 0, 157, 27, 28, 79, 42, 27, 182, 0, 175, 29, 172]
abbrev dktX0_remake_1 : List UInt8 := dkwX0_remake_1 ++ []
def dkwX0_remake_0 : List UInt8 := [42, 27, 182, 0, 179, 153, 0, 10, 28, 184, 0, 166, 154, 0, 5, 2, 172, 42, 180, 0, 47, 180, 0, 157]
abbrev dktX0_remake_0 : List UInt8 := dkwX0_remake_0 ++ dktX0_remake_1
theorem dksX0_remake_0 : cX0_remake.data.toList.drop 0 = dktX0_remake_0 := by decide +kernel
theorem dksX0_remake_1 : cX0_remake.data.toList.drop 24 = dktX0_remake_1 := dk_seg dksX0_remake_0 24 rfl rfl
theorem dX0_remake_0 : decode cX0_remake 0 = .ok (.aload_n 0, 1) := dk_42 (dk_at dksX0_remake_0 0 rfl rfl)
theorem dX0_remake_1 : decode cX0_remake 1 = .ok (.iload_n 1, 1) := dk_27 (dk_at dksX0_remake_0 1 rfl rfl)
theorem dX0_remake_2 : decode cX0_remake 2 = .ok (.invokevirtual 179, 3) := dk_182 0 179 (dk_at dksX0_remake_0 2 rfl rfl)
theorem dX0_remake_5 : decode cX0_remake 5 = .ok (.ifCond .eq 10, 3) := dk_153 0 10 (dk_at dksX0_remake_0 5 rfl rfl)
theorem dX0_remake_8 : decode cX0_remake 8 = .ok (.iload_n 2, 1) := dk_28 (dk_at dksX0_remake_0 8 rfl rfl)
theorem dX0_remake_9 : decode cX0_remake 9 = .ok (.invokestatic 166, 3) := dk_184 0 166 (dk_at dksX0_remake_0 9 rfl rfl)
theorem dX0_remake_12 : decode cX0_remake 12 = .ok (.ifCond .ne 5, 3) := dk_154 0 5 (dk_at dksX0_remake_0 12 rfl rfl)
theorem dX0_remake_15 : decode cX0_remake 15 = .ok (.iconst (-1), 1) := dk_2 (dk_at dksX0_remake_0 15 rfl rfl)
theorem dX0_remake_16 : decode cX0_remake 16 = .ok (.ireturn, 1) := dk_172 (dk_at dksX0_remake_0 16 rfl rfl)
theorem dX0_remake_17 : decode cX0_remake 17 = .ok (.aload_n 0, 1) := dk_42 (dk_at dksX0_remake_0 17 rfl rfl)
theorem dX0_remake_18 : decode cX0_remake 18 = .ok (.getfield 47, 3) := dk_180 0 47 (dk_at dksX0_remake_0 18 rfl rfl)
theorem dX0_remake_21 : decode cX0_remake 21 = .ok (.getfield 157, 3) := dk_180 0 157 (dk_at dksX0_remake_0 21 rfl rfl)
theorem dX0_remake_24 : decode cX0_remake 24 = .ok (.iload_n 1, 1) := dk_27 (dk_at dksX0_remake_1 0 rfl rfl)
theorem dX0_remake_25 : decode cX0_remake 25 = .ok (.iaload, 1) := dk_46 (dk_at dksX0_remake_1 1 rfl rfl)
theorem dX0_remake_26 : decode cX0_remake 26 = .ok (.istore_n 3, 1) := dk_62 (dk_at dksX0_remake_1 2 rfl rfl)
theorem dX0_remake_27 : decode cX0_remake 27 = .ok (.aload_n 0, 1) := dk_42 (dk_at dksX0_remake_1 3 rfl rfl)
theorem dX0_remake_28 : decode cX0_remake 28 = .ok (.getfield 47, 3) := dk_180 0 47 (dk_at dksX0_remake_1 4 rfl rfl)
theorem dX0_remake_31 : decode cX0_remake 31 = .ok (.getfield 157, 3) := dk_180 0 157 (dk_at dksX0_remake_1 7 rfl rfl)
theorem dX0_remake_34 : decode cX0_remake 34 = .ok (.iload_n 1, 1) := dk_27 (dk_at dksX0_remake_1 10 rfl rfl)
theorem dX0_remake_35 : decode cX0_remake 35 = .ok (.iload_n 2, 1) := dk_28 (dk_at dksX0_remake_1 11 rfl rfl)
theorem dX0_remake_36 : decode cX0_remake 36 = .ok (.iastore, 1) := dk_79 (dk_at dksX0_remake_1 12 rfl rfl)
theorem dX0_remake_37 : decode cX0_remake 37 = .ok (.aload_n 0, 1) := dk_42 (dk_at dksX0_remake_1 13 rfl rfl)
theorem dX0_remake_38 : decode cX0_remake 38 = .ok (.iload_n 1, 1) := dk_27 (dk_at dksX0_remake_1 14 rfl rfl)
theorem dX0_remake_39 : decode cX0_remake 39 = .ok (.invokevirtual 175, 3) := dk_182 0 175 (dk_at dksX0_remake_1 15 rfl rfl)
theorem dX0_remake_42 : decode cX0_remake 42 = .ok (.iload_n 3, 1) := dk_29 (dk_at dksX0_remake_1 18 rfl rfl)
theorem dX0_remake_43 : decode cX0_remake 43 = .ok (.ireturn, 1) := dk_172 (dk_at dksX0_remake_1 19 rfl rfl)
abbrev cX0_deed : ByteArray := prog_1_method_15_code
def yX0_deed : MethodName := ⟨RX0, "deed", "(IIII)I"⟩
def dkwX0_deed_6 : List UInt8 := [180, 0, 47, 89, 180, 0, 154, 4, 96, 181, 0, 154, 21, 5, 172]
abbrev dktX0_deed_6 : List UInt8 := dkwX0_deed_6 ++ []
def dkwX0_deed_5 : List UInt8 := [180, 0, 47, 180, 0, 207, 21, 5, 21, 4, 79, 42, 180, 0, 47, 180, 0, 210, 21, 5, 3, 79, 42]
abbrev dktX0_deed_5 : List UInt8 := dkwX0_deed_5 ++ dktX0_deed_6
def dkwX0_deed_4 : List UInt8 := [180, 0, 47, 180, 0, 201, 21, 5, 28, 79, 42, 180, 0, 47, 180, 0, 204, 21, 5, 29, 79, 42]
abbrev dktX0_deed_4 : List UInt8 := dkwX0_deed_4 ++ dktX0_deed_5
def dkwX0_deed_3 : List UInt8 := [172, 42, 180, 0, 47, 180, 0, 154, 54, 5, 42, 180, 0, 47, 180, 0, 198, 21, 5, 27, 79, 42]
abbrev dktX0_deed_3 : List UInt8 := dkwX0_deed_3 ++ dktX0_deed_4
def dkwX0_deed_2 : List UInt8 := [180, 0, 154, 16, 10, 160, 0, 6, 16, 254, 172, 28, 42, 180, 0, 47, 180, 0, 186, 162, 0, 6, 16, 252]
abbrev dktX0_deed_2 : List UInt8 := dkwX0_deed_2 ++ dktX0_deed_3
def dkwX0_deed_1 : List UInt8 := [153, 0, 18, 21, 4, 2, 159, 0, 14, 42, 21, 4, 182, 0, 195, 154, 0, 5, 2, 172, 42, 180, 0, 47]
abbrev dktX0_deed_1 : List UInt8 := dkwX0_deed_1 ++ dktX0_deed_2
def dkwX0_deed_0 : List UInt8 := [42, 27, 182, 0, 179, 153, 0, 35, 28, 3, 16, 15, 184, 0, 150, 153, 0, 25, 29, 184, 0, 170]
abbrev dktX0_deed_0 : List UInt8 := dkwX0_deed_0 ++ dktX0_deed_1
theorem dksX0_deed_0 : cX0_deed.data.toList.drop 0 = dktX0_deed_0 := by decide +kernel
theorem dksX0_deed_1 : cX0_deed.data.toList.drop 22 = dktX0_deed_1 := dk_seg dksX0_deed_0 22 rfl rfl
theorem dksX0_deed_2 : cX0_deed.data.toList.drop 46 = dktX0_deed_2 := dk_seg dksX0_deed_1 24 rfl rfl
theorem dksX0_deed_3 : cX0_deed.data.toList.drop 70 = dktX0_deed_3 := dk_seg dksX0_deed_2 24 rfl rfl
theorem dksX0_deed_4 : cX0_deed.data.toList.drop 92 = dktX0_deed_4 := dk_seg dksX0_deed_3 22 rfl rfl
theorem dksX0_deed_5 : cX0_deed.data.toList.drop 114 = dktX0_deed_5 := dk_seg dksX0_deed_4 22 rfl rfl
theorem dksX0_deed_6 : cX0_deed.data.toList.drop 137 = dktX0_deed_6 := dk_seg dksX0_deed_5 23 rfl rfl
theorem dX0_deed_0 : decode cX0_deed 0 = .ok (.aload_n 0, 1) := dk_42 (dk_at dksX0_deed_0 0 rfl rfl)
theorem dX0_deed_1 : decode cX0_deed 1 = .ok (.iload_n 1, 1) := dk_27 (dk_at dksX0_deed_0 1 rfl rfl)
theorem dX0_deed_2 : decode cX0_deed 2 = .ok (.invokevirtual 179, 3) := dk_182 0 179 (dk_at dksX0_deed_0 2 rfl rfl)
theorem dX0_deed_5 : decode cX0_deed 5 = .ok (.ifCond .eq 35, 3) := dk_153 0 35 (dk_at dksX0_deed_0 5 rfl rfl)
theorem dX0_deed_8 : decode cX0_deed 8 = .ok (.iload_n 2, 1) := dk_28 (dk_at dksX0_deed_0 8 rfl rfl)
theorem dX0_deed_9 : decode cX0_deed 9 = .ok (.iconst 0, 1) := dk_3 (dk_at dksX0_deed_0 9 rfl rfl)
theorem dX0_deed_10 : decode cX0_deed 10 = .ok (.bipush 15, 2) := dk_16 15 (dk_at dksX0_deed_0 10 rfl rfl)
theorem dX0_deed_12 : decode cX0_deed 12 = .ok (.invokestatic 150, 3) := dk_184 0 150 (dk_at dksX0_deed_0 12 rfl rfl)
theorem dX0_deed_15 : decode cX0_deed 15 = .ok (.ifCond .eq 25, 3) := dk_153 0 25 (dk_at dksX0_deed_0 15 rfl rfl)
theorem dX0_deed_18 : decode cX0_deed 18 = .ok (.iload_n 3, 1) := dk_29 (dk_at dksX0_deed_0 18 rfl rfl)
theorem dX0_deed_19 : decode cX0_deed 19 = .ok (.invokestatic 170, 3) := dk_184 0 170 (dk_at dksX0_deed_0 19 rfl rfl)
theorem dX0_deed_22 : decode cX0_deed 22 = .ok (.ifCond .eq 18, 3) := dk_153 0 18 (dk_at dksX0_deed_1 0 rfl rfl)
theorem dX0_deed_25 : decode cX0_deed 25 = .ok (.iload 4, 2) := dk_21 4 (dk_at dksX0_deed_1 3 rfl rfl)
theorem dX0_deed_27 : decode cX0_deed 27 = .ok (.iconst (-1), 1) := dk_2 (dk_at dksX0_deed_1 5 rfl rfl)
theorem dX0_deed_28 : decode cX0_deed 28 = .ok (.if_icmp .eq 14, 3) := dk_159 0 14 (dk_at dksX0_deed_1 6 rfl rfl)
theorem dX0_deed_31 : decode cX0_deed 31 = .ok (.aload_n 0, 1) := dk_42 (dk_at dksX0_deed_1 9 rfl rfl)
theorem dX0_deed_32 : decode cX0_deed 32 = .ok (.iload 4, 2) := dk_21 4 (dk_at dksX0_deed_1 10 rfl rfl)
theorem dX0_deed_34 : decode cX0_deed 34 = .ok (.invokevirtual 195, 3) := dk_182 0 195 (dk_at dksX0_deed_1 12 rfl rfl)
theorem dX0_deed_37 : decode cX0_deed 37 = .ok (.ifCond .ne 5, 3) := dk_154 0 5 (dk_at dksX0_deed_1 15 rfl rfl)
theorem dX0_deed_40 : decode cX0_deed 40 = .ok (.iconst (-1), 1) := dk_2 (dk_at dksX0_deed_1 18 rfl rfl)
theorem dX0_deed_41 : decode cX0_deed 41 = .ok (.ireturn, 1) := dk_172 (dk_at dksX0_deed_1 19 rfl rfl)
theorem dX0_deed_42 : decode cX0_deed 42 = .ok (.aload_n 0, 1) := dk_42 (dk_at dksX0_deed_1 20 rfl rfl)
theorem dX0_deed_43 : decode cX0_deed 43 = .ok (.getfield 47, 3) := dk_180 0 47 (dk_at dksX0_deed_1 21 rfl rfl)
theorem dX0_deed_46 : decode cX0_deed 46 = .ok (.getfield 154, 3) := dk_180 0 154 (dk_at dksX0_deed_2 0 rfl rfl)
theorem dX0_deed_49 : decode cX0_deed 49 = .ok (.bipush 10, 2) := dk_16 10 (dk_at dksX0_deed_2 3 rfl rfl)
theorem dX0_deed_51 : decode cX0_deed 51 = .ok (.if_icmp .ne 6, 3) := dk_160 0 6 (dk_at dksX0_deed_2 5 rfl rfl)
theorem dX0_deed_54 : decode cX0_deed 54 = .ok (.bipush (-2), 2) := dk_16 254 (dk_at dksX0_deed_2 8 rfl rfl)
theorem dX0_deed_56 : decode cX0_deed 56 = .ok (.ireturn, 1) := dk_172 (dk_at dksX0_deed_2 10 rfl rfl)
theorem dX0_deed_57 : decode cX0_deed 57 = .ok (.iload_n 2, 1) := dk_28 (dk_at dksX0_deed_2 11 rfl rfl)
theorem dX0_deed_58 : decode cX0_deed 58 = .ok (.aload_n 0, 1) := dk_42 (dk_at dksX0_deed_2 12 rfl rfl)
theorem dX0_deed_59 : decode cX0_deed 59 = .ok (.getfield 47, 3) := dk_180 0 47 (dk_at dksX0_deed_2 13 rfl rfl)
theorem dX0_deed_62 : decode cX0_deed 62 = .ok (.getfield 186, 3) := dk_180 0 186 (dk_at dksX0_deed_2 16 rfl rfl)
theorem dX0_deed_65 : decode cX0_deed 65 = .ok (.if_icmp .ge 6, 3) := dk_162 0 6 (dk_at dksX0_deed_2 19 rfl rfl)
theorem dX0_deed_68 : decode cX0_deed 68 = .ok (.bipush (-4), 2) := dk_16 252 (dk_at dksX0_deed_2 22 rfl rfl)
theorem dX0_deed_70 : decode cX0_deed 70 = .ok (.ireturn, 1) := dk_172 (dk_at dksX0_deed_3 0 rfl rfl)
theorem dX0_deed_71 : decode cX0_deed 71 = .ok (.aload_n 0, 1) := dk_42 (dk_at dksX0_deed_3 1 rfl rfl)
theorem dX0_deed_72 : decode cX0_deed 72 = .ok (.getfield 47, 3) := dk_180 0 47 (dk_at dksX0_deed_3 2 rfl rfl)
theorem dX0_deed_75 : decode cX0_deed 75 = .ok (.getfield 154, 3) := dk_180 0 154 (dk_at dksX0_deed_3 5 rfl rfl)
theorem dX0_deed_78 : decode cX0_deed 78 = .ok (.istore 5, 2) := dk_54 5 (dk_at dksX0_deed_3 8 rfl rfl)
theorem dX0_deed_80 : decode cX0_deed 80 = .ok (.aload_n 0, 1) := dk_42 (dk_at dksX0_deed_3 10 rfl rfl)
theorem dX0_deed_81 : decode cX0_deed 81 = .ok (.getfield 47, 3) := dk_180 0 47 (dk_at dksX0_deed_3 11 rfl rfl)
theorem dX0_deed_84 : decode cX0_deed 84 = .ok (.getfield 198, 3) := dk_180 0 198 (dk_at dksX0_deed_3 14 rfl rfl)
theorem dX0_deed_87 : decode cX0_deed 87 = .ok (.iload 5, 2) := dk_21 5 (dk_at dksX0_deed_3 17 rfl rfl)
theorem dX0_deed_89 : decode cX0_deed 89 = .ok (.iload_n 1, 1) := dk_27 (dk_at dksX0_deed_3 19 rfl rfl)
theorem dX0_deed_90 : decode cX0_deed 90 = .ok (.iastore, 1) := dk_79 (dk_at dksX0_deed_3 20 rfl rfl)
theorem dX0_deed_91 : decode cX0_deed 91 = .ok (.aload_n 0, 1) := dk_42 (dk_at dksX0_deed_3 21 rfl rfl)
theorem dX0_deed_92 : decode cX0_deed 92 = .ok (.getfield 47, 3) := dk_180 0 47 (dk_at dksX0_deed_4 0 rfl rfl)
theorem dX0_deed_95 : decode cX0_deed 95 = .ok (.getfield 201, 3) := dk_180 0 201 (dk_at dksX0_deed_4 3 rfl rfl)
theorem dX0_deed_98 : decode cX0_deed 98 = .ok (.iload 5, 2) := dk_21 5 (dk_at dksX0_deed_4 6 rfl rfl)
theorem dX0_deed_100 : decode cX0_deed 100 = .ok (.iload_n 2, 1) := dk_28 (dk_at dksX0_deed_4 8 rfl rfl)
theorem dX0_deed_101 : decode cX0_deed 101 = .ok (.iastore, 1) := dk_79 (dk_at dksX0_deed_4 9 rfl rfl)
theorem dX0_deed_102 : decode cX0_deed 102 = .ok (.aload_n 0, 1) := dk_42 (dk_at dksX0_deed_4 10 rfl rfl)
theorem dX0_deed_103 : decode cX0_deed 103 = .ok (.getfield 47, 3) := dk_180 0 47 (dk_at dksX0_deed_4 11 rfl rfl)
theorem dX0_deed_106 : decode cX0_deed 106 = .ok (.getfield 204, 3) := dk_180 0 204 (dk_at dksX0_deed_4 14 rfl rfl)
theorem dX0_deed_109 : decode cX0_deed 109 = .ok (.iload 5, 2) := dk_21 5 (dk_at dksX0_deed_4 17 rfl rfl)
theorem dX0_deed_111 : decode cX0_deed 111 = .ok (.iload_n 3, 1) := dk_29 (dk_at dksX0_deed_4 19 rfl rfl)
theorem dX0_deed_112 : decode cX0_deed 112 = .ok (.iastore, 1) := dk_79 (dk_at dksX0_deed_4 20 rfl rfl)
theorem dX0_deed_113 : decode cX0_deed 113 = .ok (.aload_n 0, 1) := dk_42 (dk_at dksX0_deed_4 21 rfl rfl)
theorem dX0_deed_114 : decode cX0_deed 114 = .ok (.getfield 47, 3) := dk_180 0 47 (dk_at dksX0_deed_5 0 rfl rfl)
theorem dX0_deed_117 : decode cX0_deed 117 = .ok (.getfield 207, 3) := dk_180 0 207 (dk_at dksX0_deed_5 3 rfl rfl)
theorem dX0_deed_120 : decode cX0_deed 120 = .ok (.iload 5, 2) := dk_21 5 (dk_at dksX0_deed_5 6 rfl rfl)
theorem dX0_deed_122 : decode cX0_deed 122 = .ok (.iload 4, 2) := dk_21 4 (dk_at dksX0_deed_5 8 rfl rfl)
theorem dX0_deed_124 : decode cX0_deed 124 = .ok (.iastore, 1) := dk_79 (dk_at dksX0_deed_5 10 rfl rfl)
theorem dX0_deed_125 : decode cX0_deed 125 = .ok (.aload_n 0, 1) := dk_42 (dk_at dksX0_deed_5 11 rfl rfl)
theorem dX0_deed_126 : decode cX0_deed 126 = .ok (.getfield 47, 3) := dk_180 0 47 (dk_at dksX0_deed_5 12 rfl rfl)
theorem dX0_deed_129 : decode cX0_deed 129 = .ok (.getfield 210, 3) := dk_180 0 210 (dk_at dksX0_deed_5 15 rfl rfl)
theorem dX0_deed_132 : decode cX0_deed 132 = .ok (.iload 5, 2) := dk_21 5 (dk_at dksX0_deed_5 18 rfl rfl)
theorem dX0_deed_134 : decode cX0_deed 134 = .ok (.iconst 0, 1) := dk_3 (dk_at dksX0_deed_5 20 rfl rfl)
theorem dX0_deed_135 : decode cX0_deed 135 = .ok (.iastore, 1) := dk_79 (dk_at dksX0_deed_5 21 rfl rfl)
theorem dX0_deed_136 : decode cX0_deed 136 = .ok (.aload_n 0, 1) := dk_42 (dk_at dksX0_deed_5 22 rfl rfl)
theorem dX0_deed_137 : decode cX0_deed 137 = .ok (.getfield 47, 3) := dk_180 0 47 (dk_at dksX0_deed_6 0 rfl rfl)
theorem dX0_deed_140 : decode cX0_deed 140 = .ok (.dup, 1) := dk_89 (dk_at dksX0_deed_6 3 rfl rfl)
theorem dX0_deed_141 : decode cX0_deed 141 = .ok (.getfield 154, 3) := dk_180 0 154 (dk_at dksX0_deed_6 4 rfl rfl)
theorem dX0_deed_144 : decode cX0_deed 144 = .ok (.iconst 1, 1) := dk_4 (dk_at dksX0_deed_6 7 rfl rfl)
theorem dX0_deed_145 : decode cX0_deed 145 = .ok (.iadd, 1) := dk_96 (dk_at dksX0_deed_6 8 rfl rfl)
theorem dX0_deed_146 : decode cX0_deed 146 = .ok (.putfield 154, 3) := dk_181 0 154 (dk_at dksX0_deed_6 9 rfl rfl)
theorem dX0_deed_149 : decode cX0_deed 149 = .ok (.iload 5, 2) := dk_21 5 (dk_at dksX0_deed_6 12 rfl rfl)
theorem dX0_deed_151 : decode cX0_deed 151 = .ok (.ireturn, 1) := dk_172 (dk_at dksX0_deed_6 14 rfl rfl)
abbrev cX0_isDeed : ByteArray := prog_1_method_7_code
def yX0_isDeed : MethodName := ⟨RX0, "isDeed", "(I)Z"⟩
def dkwX0_isDeed_0 : List UInt8 := [27, 3, 42, 180, 0, 47, 180, 0, 154, 4, 100, 184, 0, 150, 172]
abbrev dktX0_isDeed_0 : List UInt8 := dkwX0_isDeed_0 ++ []
theorem dksX0_isDeed_0 : cX0_isDeed.data.toList.drop 0 = dktX0_isDeed_0 := by decide +kernel
theorem dX0_isDeed_0 : decode cX0_isDeed 0 = .ok (.iload_n 1, 1) := dk_27 (dk_at dksX0_isDeed_0 0 rfl rfl)
theorem dX0_isDeed_1 : decode cX0_isDeed 1 = .ok (.iconst 0, 1) := dk_3 (dk_at dksX0_isDeed_0 1 rfl rfl)
theorem dX0_isDeed_2 : decode cX0_isDeed 2 = .ok (.aload_n 0, 1) := dk_42 (dk_at dksX0_isDeed_0 2 rfl rfl)
theorem dX0_isDeed_3 : decode cX0_isDeed 3 = .ok (.getfield 47, 3) := dk_180 0 47 (dk_at dksX0_isDeed_0 3 rfl rfl)
theorem dX0_isDeed_6 : decode cX0_isDeed 6 = .ok (.getfield 154, 3) := dk_180 0 154 (dk_at dksX0_isDeed_0 6 rfl rfl)
theorem dX0_isDeed_9 : decode cX0_isDeed 9 = .ok (.iconst 1, 1) := dk_4 (dk_at dksX0_isDeed_0 9 rfl rfl)
theorem dX0_isDeed_10 : decode cX0_isDeed 10 = .ok (.isub, 1) := dk_100 (dk_at dksX0_isDeed_0 10 rfl rfl)
theorem dX0_isDeed_11 : decode cX0_isDeed 11 = .ok (.invokestatic 150, 3) := dk_184 0 150 (dk_at dksX0_isDeed_0 11 rfl rfl)
theorem dX0_isDeed_14 : decode cX0_isDeed 14 = .ok (.ireturn, 1) := dk_172 (dk_at dksX0_isDeed_0 14 rfl rfl)
abbrev cX0_deedOf : ByteArray := prog_1_method_17_code
def yX0_deedOf : MethodName := ⟨RX0, "deedOf", "(II)I"⟩
def dkwX0_deedOf_4 : List UInt8 := [46, 172, 42, 27, 182, 0, 217, 172, 2, 172]
abbrev dktX0_deedOf_4 : List UInt8 := dkwX0_deedOf_4 ++ []
def dkwX0_deedOf_3 : List UInt8 := [180, 0, 204, 27, 46, 172, 42, 180, 0, 47, 180, 0, 207, 27, 46, 172, 42, 180, 0, 47, 180, 0, 210, 27]
abbrev dktX0_deedOf_3 : List UInt8 := dkwX0_deedOf_3 ++ dktX0_deedOf_4
def dkwX0_deedOf_2 : List UInt8 := [42, 180, 0, 47, 180, 0, 198, 27, 46, 172, 42, 180, 0, 47, 180, 0, 201, 27, 46, 172, 42, 180, 0, 47]
abbrev dktX0_deedOf_2 : List UInt8 := dkwX0_deedOf_2 ++ dktX0_deedOf_3
def dkwX0_deedOf_1 : List UInt8 := [170, 0, 0, 0, 93, 0, 0, 0, 0, 0, 0, 0, 5, 0, 0, 0, 37, 0, 0, 0, 47, 0, 0, 0, 57, 0, 0, 0, 67, 0, 0, 0, 77, 0, 0, 0, 87]
abbrev dktX0_deedOf_1 : List UInt8 := dkwX0_deedOf_1 ++ dktX0_deedOf_2
def dkwX0_deedOf_0 : List UInt8 := [42, 27, 182, 0, 195, 154, 0, 5, 2, 172, 28]
abbrev dktX0_deedOf_0 : List UInt8 := dkwX0_deedOf_0 ++ dktX0_deedOf_1
theorem dksX0_deedOf_0 : cX0_deedOf.data.toList.drop 0 = dktX0_deedOf_0 := by decide +kernel
theorem dksX0_deedOf_1 : cX0_deedOf.data.toList.drop 11 = dktX0_deedOf_1 := dk_seg dksX0_deedOf_0 11 rfl rfl
theorem dksX0_deedOf_2 : cX0_deedOf.data.toList.drop 48 = dktX0_deedOf_2 := dk_seg dksX0_deedOf_1 37 rfl rfl
theorem dksX0_deedOf_3 : cX0_deedOf.data.toList.drop 72 = dktX0_deedOf_3 := dk_seg dksX0_deedOf_2 24 rfl rfl
theorem dksX0_deedOf_4 : cX0_deedOf.data.toList.drop 96 = dktX0_deedOf_4 := dk_seg dksX0_deedOf_3 24 rfl rfl
theorem dX0_deedOf_0 : decode cX0_deedOf 0 = .ok (.aload_n 0, 1) := dk_42 (dk_at dksX0_deedOf_0 0 rfl rfl)
theorem dX0_deedOf_1 : decode cX0_deedOf 1 = .ok (.iload_n 1, 1) := dk_27 (dk_at dksX0_deedOf_0 1 rfl rfl)
theorem dX0_deedOf_2 : decode cX0_deedOf 2 = .ok (.invokevirtual 195, 3) := dk_182 0 195 (dk_at dksX0_deedOf_0 2 rfl rfl)
theorem dX0_deedOf_5 : decode cX0_deedOf 5 = .ok (.ifCond .ne 5, 3) := dk_154 0 5 (dk_at dksX0_deedOf_0 5 rfl rfl)
theorem dX0_deedOf_8 : decode cX0_deedOf 8 = .ok (.iconst (-1), 1) := dk_2 (dk_at dksX0_deedOf_0 8 rfl rfl)
theorem dX0_deedOf_9 : decode cX0_deedOf 9 = .ok (.ireturn, 1) := dk_172 (dk_at dksX0_deedOf_0 9 rfl rfl)
theorem dX0_deedOf_10 : decode cX0_deedOf 10 = .ok (.iload_n 2, 1) := dk_28 (dk_at dksX0_deedOf_0 10 rfl rfl)
theorem dX0_deedOf_11 : decode cX0_deedOf 11 = .ok (.tableswitch 93 0 5 #[37, 47, 57, 67, 77, 87], 37) := by decide +kernel
theorem dX0_deedOf_48 : decode cX0_deedOf 48 = .ok (.aload_n 0, 1) := dk_42 (dk_at dksX0_deedOf_2 0 rfl rfl)
theorem dX0_deedOf_49 : decode cX0_deedOf 49 = .ok (.getfield 47, 3) := dk_180 0 47 (dk_at dksX0_deedOf_2 1 rfl rfl)
theorem dX0_deedOf_52 : decode cX0_deedOf 52 = .ok (.getfield 198, 3) := dk_180 0 198 (dk_at dksX0_deedOf_2 4 rfl rfl)
theorem dX0_deedOf_55 : decode cX0_deedOf 55 = .ok (.iload_n 1, 1) := dk_27 (dk_at dksX0_deedOf_2 7 rfl rfl)
theorem dX0_deedOf_56 : decode cX0_deedOf 56 = .ok (.iaload, 1) := dk_46 (dk_at dksX0_deedOf_2 8 rfl rfl)
theorem dX0_deedOf_57 : decode cX0_deedOf 57 = .ok (.ireturn, 1) := dk_172 (dk_at dksX0_deedOf_2 9 rfl rfl)
theorem dX0_deedOf_58 : decode cX0_deedOf 58 = .ok (.aload_n 0, 1) := dk_42 (dk_at dksX0_deedOf_2 10 rfl rfl)
theorem dX0_deedOf_59 : decode cX0_deedOf 59 = .ok (.getfield 47, 3) := dk_180 0 47 (dk_at dksX0_deedOf_2 11 rfl rfl)
theorem dX0_deedOf_62 : decode cX0_deedOf 62 = .ok (.getfield 201, 3) := dk_180 0 201 (dk_at dksX0_deedOf_2 14 rfl rfl)
theorem dX0_deedOf_65 : decode cX0_deedOf 65 = .ok (.iload_n 1, 1) := dk_27 (dk_at dksX0_deedOf_2 17 rfl rfl)
theorem dX0_deedOf_66 : decode cX0_deedOf 66 = .ok (.iaload, 1) := dk_46 (dk_at dksX0_deedOf_2 18 rfl rfl)
theorem dX0_deedOf_67 : decode cX0_deedOf 67 = .ok (.ireturn, 1) := dk_172 (dk_at dksX0_deedOf_2 19 rfl rfl)
theorem dX0_deedOf_68 : decode cX0_deedOf 68 = .ok (.aload_n 0, 1) := dk_42 (dk_at dksX0_deedOf_2 20 rfl rfl)
theorem dX0_deedOf_69 : decode cX0_deedOf 69 = .ok (.getfield 47, 3) := dk_180 0 47 (dk_at dksX0_deedOf_2 21 rfl rfl)
theorem dX0_deedOf_72 : decode cX0_deedOf 72 = .ok (.getfield 204, 3) := dk_180 0 204 (dk_at dksX0_deedOf_3 0 rfl rfl)
theorem dX0_deedOf_75 : decode cX0_deedOf 75 = .ok (.iload_n 1, 1) := dk_27 (dk_at dksX0_deedOf_3 3 rfl rfl)
theorem dX0_deedOf_76 : decode cX0_deedOf 76 = .ok (.iaload, 1) := dk_46 (dk_at dksX0_deedOf_3 4 rfl rfl)
theorem dX0_deedOf_77 : decode cX0_deedOf 77 = .ok (.ireturn, 1) := dk_172 (dk_at dksX0_deedOf_3 5 rfl rfl)
theorem dX0_deedOf_78 : decode cX0_deedOf 78 = .ok (.aload_n 0, 1) := dk_42 (dk_at dksX0_deedOf_3 6 rfl rfl)
theorem dX0_deedOf_79 : decode cX0_deedOf 79 = .ok (.getfield 47, 3) := dk_180 0 47 (dk_at dksX0_deedOf_3 7 rfl rfl)
theorem dX0_deedOf_82 : decode cX0_deedOf 82 = .ok (.getfield 207, 3) := dk_180 0 207 (dk_at dksX0_deedOf_3 10 rfl rfl)
theorem dX0_deedOf_85 : decode cX0_deedOf 85 = .ok (.iload_n 1, 1) := dk_27 (dk_at dksX0_deedOf_3 13 rfl rfl)
theorem dX0_deedOf_86 : decode cX0_deedOf 86 = .ok (.iaload, 1) := dk_46 (dk_at dksX0_deedOf_3 14 rfl rfl)
theorem dX0_deedOf_87 : decode cX0_deedOf 87 = .ok (.ireturn, 1) := dk_172 (dk_at dksX0_deedOf_3 15 rfl rfl)
theorem dX0_deedOf_88 : decode cX0_deedOf 88 = .ok (.aload_n 0, 1) := dk_42 (dk_at dksX0_deedOf_3 16 rfl rfl)
theorem dX0_deedOf_89 : decode cX0_deedOf 89 = .ok (.getfield 47, 3) := dk_180 0 47 (dk_at dksX0_deedOf_3 17 rfl rfl)
theorem dX0_deedOf_92 : decode cX0_deedOf 92 = .ok (.getfield 210, 3) := dk_180 0 210 (dk_at dksX0_deedOf_3 20 rfl rfl)
theorem dX0_deedOf_95 : decode cX0_deedOf 95 = .ok (.iload_n 1, 1) := dk_27 (dk_at dksX0_deedOf_3 23 rfl rfl)
theorem dX0_deedOf_96 : decode cX0_deedOf 96 = .ok (.iaload, 1) := dk_46 (dk_at dksX0_deedOf_4 0 rfl rfl)
theorem dX0_deedOf_97 : decode cX0_deedOf 97 = .ok (.ireturn, 1) := dk_172 (dk_at dksX0_deedOf_4 1 rfl rfl)
theorem dX0_deedOf_98 : decode cX0_deedOf 98 = .ok (.aload_n 0, 1) := dk_42 (dk_at dksX0_deedOf_4 2 rfl rfl)
theorem dX0_deedOf_99 : decode cX0_deedOf 99 = .ok (.iload_n 1, 1) := dk_27 (dk_at dksX0_deedOf_4 3 rfl rfl)
theorem dX0_deedOf_100 : decode cX0_deedOf 100 = .ok (.invokevirtual 217, 3) := dk_182 0 217 (dk_at dksX0_deedOf_4 4 rfl rfl)
theorem dX0_deedOf_103 : decode cX0_deedOf 103 = .ok (.ireturn, 1) := dk_172 (dk_at dksX0_deedOf_4 7 rfl rfl)
theorem dX0_deedOf_104 : decode cX0_deedOf 104 = .ok (.iconst (-1), 1) := dk_2 (dk_at dksX0_deedOf_4 8 rfl rfl)
theorem dX0_deedOf_105 : decode cX0_deedOf 105 = .ok (.ireturn, 1) := dk_172 (dk_at dksX0_deedOf_4 9 rfl rfl)
abbrev cX0_ends : ByteArray := prog_1_method_18_code
def yX0_ends : MethodName := ⟨RX0, "ends", "(I)I"⟩
def dkwX0_ends_1 : List UInt8 := [16, 252, 172, 42, 180, 0, 47, 180, 0, 220, 61, 42, 180, 0, 47, 27, 181, 0, 220, 28, 172]
abbrev dktX0_ends_1 : List UInt8 := dkwX0_ends_1 ++ []
def dkwX0_ends_0 : List UInt8 := [27, 4, 16, 16, 184, 0, 150, 154, 0, 5, 2, 172, 27, 42, 180, 0, 47, 180, 0, 186, 162, 0, 6]
abbrev dktX0_ends_0 : List UInt8 := dkwX0_ends_0 ++ dktX0_ends_1
theorem dksX0_ends_0 : cX0_ends.data.toList.drop 0 = dktX0_ends_0 := by decide +kernel
theorem dksX0_ends_1 : cX0_ends.data.toList.drop 23 = dktX0_ends_1 := dk_seg dksX0_ends_0 23 rfl rfl
theorem dX0_ends_0 : decode cX0_ends 0 = .ok (.iload_n 1, 1) := dk_27 (dk_at dksX0_ends_0 0 rfl rfl)
theorem dX0_ends_1 : decode cX0_ends 1 = .ok (.iconst 1, 1) := dk_4 (dk_at dksX0_ends_0 1 rfl rfl)
theorem dX0_ends_2 : decode cX0_ends 2 = .ok (.bipush 16, 2) := dk_16 16 (dk_at dksX0_ends_0 2 rfl rfl)
theorem dX0_ends_4 : decode cX0_ends 4 = .ok (.invokestatic 150, 3) := dk_184 0 150 (dk_at dksX0_ends_0 4 rfl rfl)
theorem dX0_ends_7 : decode cX0_ends 7 = .ok (.ifCond .ne 5, 3) := dk_154 0 5 (dk_at dksX0_ends_0 7 rfl rfl)
theorem dX0_ends_10 : decode cX0_ends 10 = .ok (.iconst (-1), 1) := dk_2 (dk_at dksX0_ends_0 10 rfl rfl)
theorem dX0_ends_11 : decode cX0_ends 11 = .ok (.ireturn, 1) := dk_172 (dk_at dksX0_ends_0 11 rfl rfl)
theorem dX0_ends_12 : decode cX0_ends 12 = .ok (.iload_n 1, 1) := dk_27 (dk_at dksX0_ends_0 12 rfl rfl)
theorem dX0_ends_13 : decode cX0_ends 13 = .ok (.aload_n 0, 1) := dk_42 (dk_at dksX0_ends_0 13 rfl rfl)
theorem dX0_ends_14 : decode cX0_ends 14 = .ok (.getfield 47, 3) := dk_180 0 47 (dk_at dksX0_ends_0 14 rfl rfl)
theorem dX0_ends_17 : decode cX0_ends 17 = .ok (.getfield 186, 3) := dk_180 0 186 (dk_at dksX0_ends_0 17 rfl rfl)
theorem dX0_ends_20 : decode cX0_ends 20 = .ok (.if_icmp .ge 6, 3) := dk_162 0 6 (dk_at dksX0_ends_0 20 rfl rfl)
theorem dX0_ends_23 : decode cX0_ends 23 = .ok (.bipush (-4), 2) := dk_16 252 (dk_at dksX0_ends_1 0 rfl rfl)
theorem dX0_ends_25 : decode cX0_ends 25 = .ok (.ireturn, 1) := dk_172 (dk_at dksX0_ends_1 2 rfl rfl)
theorem dX0_ends_26 : decode cX0_ends 26 = .ok (.aload_n 0, 1) := dk_42 (dk_at dksX0_ends_1 3 rfl rfl)
theorem dX0_ends_27 : decode cX0_ends 27 = .ok (.getfield 47, 3) := dk_180 0 47 (dk_at dksX0_ends_1 4 rfl rfl)
theorem dX0_ends_30 : decode cX0_ends 30 = .ok (.getfield 220, 3) := dk_180 0 220 (dk_at dksX0_ends_1 7 rfl rfl)
theorem dX0_ends_33 : decode cX0_ends 33 = .ok (.istore_n 2, 1) := dk_61 (dk_at dksX0_ends_1 10 rfl rfl)
theorem dX0_ends_34 : decode cX0_ends 34 = .ok (.aload_n 0, 1) := dk_42 (dk_at dksX0_ends_1 11 rfl rfl)
theorem dX0_ends_35 : decode cX0_ends 35 = .ok (.getfield 47, 3) := dk_180 0 47 (dk_at dksX0_ends_1 12 rfl rfl)
theorem dX0_ends_38 : decode cX0_ends 38 = .ok (.iload_n 1, 1) := dk_27 (dk_at dksX0_ends_1 15 rfl rfl)
theorem dX0_ends_39 : decode cX0_ends 39 = .ok (.putfield 220, 3) := dk_181 0 220 (dk_at dksX0_ends_1 16 rfl rfl)
theorem dX0_ends_42 : decode cX0_ends 42 = .ok (.iload_n 2, 1) := dk_28 (dk_at dksX0_ends_1 19 rfl rfl)
theorem dX0_ends_43 : decode cX0_ends 43 = .ok (.ireturn, 1) := dk_172 (dk_at dksX0_ends_1 20 rfl rfl)
abbrev cX0_anew : ByteArray := prog_1_method_19_code
def yX0_anew : MethodName := ⟨RX0, "anew", "()I"⟩
def dkwX0_anew_2 : List UInt8 := [132, 2, 1, 167, 255, 232, 27, 172]
abbrev dktX0_anew_2 : List UInt8 := dkwX0_anew_2 ++ []
def dkwX0_anew_1 : List UInt8 := [3, 61, 28, 42, 180, 0, 47, 180, 0, 154, 162, 0, 19, 42, 180, 0, 47, 180, 0, 210, 28, 3, 79]
abbrev dktX0_anew_1 : List UInt8 := dkwX0_anew_1 ++ dktX0_anew_2
def dkwX0_anew_0 : List UInt8 := [42, 180, 0, 47, 180, 0, 186, 60, 42, 180, 0, 47, 3, 181, 0, 186, 42, 180, 0, 47, 3, 181, 0, 223]
abbrev dktX0_anew_0 : List UInt8 := dkwX0_anew_0 ++ dktX0_anew_1
theorem dksX0_anew_0 : cX0_anew.data.toList.drop 0 = dktX0_anew_0 := by decide +kernel
theorem dksX0_anew_1 : cX0_anew.data.toList.drop 24 = dktX0_anew_1 := dk_seg dksX0_anew_0 24 rfl rfl
theorem dksX0_anew_2 : cX0_anew.data.toList.drop 47 = dktX0_anew_2 := dk_seg dksX0_anew_1 23 rfl rfl
theorem dX0_anew_0 : decode cX0_anew 0 = .ok (.aload_n 0, 1) := dk_42 (dk_at dksX0_anew_0 0 rfl rfl)
theorem dX0_anew_1 : decode cX0_anew 1 = .ok (.getfield 47, 3) := dk_180 0 47 (dk_at dksX0_anew_0 1 rfl rfl)
theorem dX0_anew_4 : decode cX0_anew 4 = .ok (.getfield 186, 3) := dk_180 0 186 (dk_at dksX0_anew_0 4 rfl rfl)
theorem dX0_anew_7 : decode cX0_anew 7 = .ok (.istore_n 1, 1) := dk_60 (dk_at dksX0_anew_0 7 rfl rfl)
theorem dX0_anew_8 : decode cX0_anew 8 = .ok (.aload_n 0, 1) := dk_42 (dk_at dksX0_anew_0 8 rfl rfl)
theorem dX0_anew_9 : decode cX0_anew 9 = .ok (.getfield 47, 3) := dk_180 0 47 (dk_at dksX0_anew_0 9 rfl rfl)
theorem dX0_anew_12 : decode cX0_anew 12 = .ok (.iconst 0, 1) := dk_3 (dk_at dksX0_anew_0 12 rfl rfl)
theorem dX0_anew_13 : decode cX0_anew 13 = .ok (.putfield 186, 3) := dk_181 0 186 (dk_at dksX0_anew_0 13 rfl rfl)
theorem dX0_anew_16 : decode cX0_anew 16 = .ok (.aload_n 0, 1) := dk_42 (dk_at dksX0_anew_0 16 rfl rfl)
theorem dX0_anew_17 : decode cX0_anew 17 = .ok (.getfield 47, 3) := dk_180 0 47 (dk_at dksX0_anew_0 17 rfl rfl)
theorem dX0_anew_20 : decode cX0_anew 20 = .ok (.iconst 0, 1) := dk_3 (dk_at dksX0_anew_0 20 rfl rfl)
theorem dX0_anew_21 : decode cX0_anew 21 = .ok (.putfield 223, 3) := dk_181 0 223 (dk_at dksX0_anew_0 21 rfl rfl)
theorem dX0_anew_24 : decode cX0_anew 24 = .ok (.iconst 0, 1) := dk_3 (dk_at dksX0_anew_1 0 rfl rfl)
theorem dX0_anew_25 : decode cX0_anew 25 = .ok (.istore_n 2, 1) := dk_61 (dk_at dksX0_anew_1 1 rfl rfl)
theorem dX0_anew_26 : decode cX0_anew 26 = .ok (.iload_n 2, 1) := dk_28 (dk_at dksX0_anew_1 2 rfl rfl)
theorem dX0_anew_27 : decode cX0_anew 27 = .ok (.aload_n 0, 1) := dk_42 (dk_at dksX0_anew_1 3 rfl rfl)
theorem dX0_anew_28 : decode cX0_anew 28 = .ok (.getfield 47, 3) := dk_180 0 47 (dk_at dksX0_anew_1 4 rfl rfl)
theorem dX0_anew_31 : decode cX0_anew 31 = .ok (.getfield 154, 3) := dk_180 0 154 (dk_at dksX0_anew_1 7 rfl rfl)
theorem dX0_anew_34 : decode cX0_anew 34 = .ok (.if_icmp .ge 19, 3) := dk_162 0 19 (dk_at dksX0_anew_1 10 rfl rfl)
theorem dX0_anew_37 : decode cX0_anew 37 = .ok (.aload_n 0, 1) := dk_42 (dk_at dksX0_anew_1 13 rfl rfl)
theorem dX0_anew_38 : decode cX0_anew 38 = .ok (.getfield 47, 3) := dk_180 0 47 (dk_at dksX0_anew_1 14 rfl rfl)
theorem dX0_anew_41 : decode cX0_anew 41 = .ok (.getfield 210, 3) := dk_180 0 210 (dk_at dksX0_anew_1 17 rfl rfl)
theorem dX0_anew_44 : decode cX0_anew 44 = .ok (.iload_n 2, 1) := dk_28 (dk_at dksX0_anew_1 20 rfl rfl)
theorem dX0_anew_45 : decode cX0_anew 45 = .ok (.iconst 0, 1) := dk_3 (dk_at dksX0_anew_1 21 rfl rfl)
theorem dX0_anew_46 : decode cX0_anew 46 = .ok (.iastore, 1) := dk_79 (dk_at dksX0_anew_1 22 rfl rfl)
theorem dX0_anew_47 : decode cX0_anew 47 = .ok (.iinc 2 1, 3) := dk_132 2 1 (dk_at dksX0_anew_2 0 rfl rfl)
theorem dX0_anew_50 : decode cX0_anew 50 = .ok (.goto (-24), 3) := dk_167 255 232 (dk_at dksX0_anew_2 3 rfl rfl)
theorem dX0_anew_53 : decode cX0_anew 53 = .ok (.iload_n 1, 1) := dk_27 (dk_at dksX0_anew_2 6 rfl rfl)
theorem dX0_anew_54 : decode cX0_anew 54 = .ok (.ireturn, 1) := dk_172 (dk_at dksX0_anew_2 7 rfl rfl)
abbrev cX0_state : ByteArray := prog_1_method_20_code
def yX0_state : MethodName := ⟨RX0, "state", "(I)I"⟩
def dkwX0_state_3 : List UInt8 := [42, 180, 0, 47, 182, 0, 226, 153, 0, 7, 4, 167, 0, 4, 3, 172, 2, 172]
abbrev dktX0_state_3 : List UInt8 := dkwX0_state_3 ++ []
def dkwX0_state_2 : List UInt8 := [42, 180, 0, 47, 180, 0, 186, 172, 42, 180, 0, 47, 180, 0, 220, 172, 42, 180, 0, 47, 180, 0, 223, 172]
abbrev dktX0_state_2 : List UInt8 := dkwX0_state_2 ++ dktX0_state_3
def dkwX0_state_1 : List UInt8 := [170, 0, 0, 0, 0, 0, 71, 0, 0, 0, 0, 0, 0, 0, 3, 0, 0, 0, 31, 0, 0, 0, 39, 0, 0, 0, 47, 0, 0, 0, 55]
abbrev dktX0_state_1 : List UInt8 := dkwX0_state_1 ++ dktX0_state_2
def dkwX0_state_0 : List UInt8 := [27]
abbrev dktX0_state_0 : List UInt8 := dkwX0_state_0 ++ dktX0_state_1
theorem dksX0_state_0 : cX0_state.data.toList.drop 0 = dktX0_state_0 := by decide +kernel
theorem dksX0_state_1 : cX0_state.data.toList.drop 1 = dktX0_state_1 := dk_seg dksX0_state_0 1 rfl rfl
theorem dksX0_state_2 : cX0_state.data.toList.drop 32 = dktX0_state_2 := dk_seg dksX0_state_1 31 rfl rfl
theorem dksX0_state_3 : cX0_state.data.toList.drop 56 = dktX0_state_3 := dk_seg dksX0_state_2 24 rfl rfl
theorem dX0_state_0 : decode cX0_state 0 = .ok (.iload_n 1, 1) := dk_27 (dk_at dksX0_state_0 0 rfl rfl)
theorem dX0_state_1 : decode cX0_state 1 = .ok (.tableswitch 71 0 3 #[31, 39, 47, 55], 31) := by decide +kernel
theorem dX0_state_32 : decode cX0_state 32 = .ok (.aload_n 0, 1) := dk_42 (dk_at dksX0_state_2 0 rfl rfl)
theorem dX0_state_33 : decode cX0_state 33 = .ok (.getfield 47, 3) := dk_180 0 47 (dk_at dksX0_state_2 1 rfl rfl)
theorem dX0_state_36 : decode cX0_state 36 = .ok (.getfield 186, 3) := dk_180 0 186 (dk_at dksX0_state_2 4 rfl rfl)
theorem dX0_state_39 : decode cX0_state 39 = .ok (.ireturn, 1) := dk_172 (dk_at dksX0_state_2 7 rfl rfl)
theorem dX0_state_40 : decode cX0_state 40 = .ok (.aload_n 0, 1) := dk_42 (dk_at dksX0_state_2 8 rfl rfl)
theorem dX0_state_41 : decode cX0_state 41 = .ok (.getfield 47, 3) := dk_180 0 47 (dk_at dksX0_state_2 9 rfl rfl)
theorem dX0_state_44 : decode cX0_state 44 = .ok (.getfield 220, 3) := dk_180 0 220 (dk_at dksX0_state_2 12 rfl rfl)
theorem dX0_state_47 : decode cX0_state 47 = .ok (.ireturn, 1) := dk_172 (dk_at dksX0_state_2 15 rfl rfl)
theorem dX0_state_48 : decode cX0_state 48 = .ok (.aload_n 0, 1) := dk_42 (dk_at dksX0_state_2 16 rfl rfl)
theorem dX0_state_49 : decode cX0_state 49 = .ok (.getfield 47, 3) := dk_180 0 47 (dk_at dksX0_state_2 17 rfl rfl)
theorem dX0_state_52 : decode cX0_state 52 = .ok (.getfield 223, 3) := dk_180 0 223 (dk_at dksX0_state_2 20 rfl rfl)
theorem dX0_state_55 : decode cX0_state 55 = .ok (.ireturn, 1) := dk_172 (dk_at dksX0_state_2 23 rfl rfl)
theorem dX0_state_56 : decode cX0_state 56 = .ok (.aload_n 0, 1) := dk_42 (dk_at dksX0_state_3 0 rfl rfl)
theorem dX0_state_57 : decode cX0_state 57 = .ok (.getfield 47, 3) := dk_180 0 47 (dk_at dksX0_state_3 1 rfl rfl)
theorem dX0_state_60 : decode cX0_state 60 = .ok (.invokevirtual 226, 3) := dk_182 0 226 (dk_at dksX0_state_3 4 rfl rfl)
theorem dX0_state_63 : decode cX0_state 63 = .ok (.ifCond .eq 7, 3) := dk_153 0 7 (dk_at dksX0_state_3 7 rfl rfl)
theorem dX0_state_66 : decode cX0_state 66 = .ok (.iconst 1, 1) := dk_4 (dk_at dksX0_state_3 10 rfl rfl)
theorem dX0_state_67 : decode cX0_state 67 = .ok (.goto 4, 3) := dk_167 0 4 (dk_at dksX0_state_3 11 rfl rfl)
theorem dX0_state_70 : decode cX0_state 70 = .ok (.iconst 0, 1) := dk_3 (dk_at dksX0_state_3 14 rfl rfl)
theorem dX0_state_71 : decode cX0_state 71 = .ok (.ireturn, 1) := dk_172 (dk_at dksX0_state_3 15 rfl rfl)
theorem dX0_state_72 : decode cX0_state 72 = .ok (.iconst (-1), 1) := dk_2 (dk_at dksX0_state_3 16 rfl rfl)
theorem dX0_state_73 : decode cX0_state 73 = .ok (.ireturn, 1) := dk_172 (dk_at dksX0_state_3 17 rfl rfl)
abbrev cX0_feed : ByteArray := prog_1_method_21_code
def yX0_feed : MethodName := ⟨RX0, "feed", "(JI)I"⟩
def dkwX0_feed_3 : List UInt8 := [181, 0, 230, 42, 180, 0, 230, 172]
abbrev dktX0_feed_3 : List UInt8 := dkwX0_feed_3 ++ []
def dkwX0_feed_2 : List UInt8 := [16, 8, 21, 4, 104, 123, 136, 145, 84, 132, 4, 1, 167, 255, 226, 42, 89, 180, 0, 230, 29, 96]
abbrev dktX0_feed_2 : List UInt8 := dkwX0_feed_2 ++ dktX0_feed_3
def dkwX0_feed_1 : List UInt8 := [16, 254, 172, 3, 54, 4, 21, 4, 29, 162, 0, 30, 42, 180, 0, 103, 42, 180, 0, 230, 21, 4, 96, 31]
abbrev dktX0_feed_1 : List UInt8 := dkwX0_feed_1 ++ dktX0_feed_2
def dkwX0_feed_0 : List UInt8 := [29, 4, 16, 8, 184, 0, 150, 154, 0, 5, 2, 172, 42, 180, 0, 230, 29, 96, 17, 0, 200, 164, 0, 6]
abbrev dktX0_feed_0 : List UInt8 := dkwX0_feed_0 ++ dktX0_feed_1
theorem dksX0_feed_0 : cX0_feed.data.toList.drop 0 = dktX0_feed_0 := by decide +kernel
theorem dksX0_feed_1 : cX0_feed.data.toList.drop 24 = dktX0_feed_1 := dk_seg dksX0_feed_0 24 rfl rfl
theorem dksX0_feed_2 : cX0_feed.data.toList.drop 48 = dktX0_feed_2 := dk_seg dksX0_feed_1 24 rfl rfl
theorem dksX0_feed_3 : cX0_feed.data.toList.drop 70 = dktX0_feed_3 := dk_seg dksX0_feed_2 22 rfl rfl
theorem dX0_feed_0 : decode cX0_feed 0 = .ok (.iload_n 3, 1) := dk_29 (dk_at dksX0_feed_0 0 rfl rfl)
theorem dX0_feed_1 : decode cX0_feed 1 = .ok (.iconst 1, 1) := dk_4 (dk_at dksX0_feed_0 1 rfl rfl)
theorem dX0_feed_2 : decode cX0_feed 2 = .ok (.bipush 8, 2) := dk_16 8 (dk_at dksX0_feed_0 2 rfl rfl)
theorem dX0_feed_4 : decode cX0_feed 4 = .ok (.invokestatic 150, 3) := dk_184 0 150 (dk_at dksX0_feed_0 4 rfl rfl)
theorem dX0_feed_7 : decode cX0_feed 7 = .ok (.ifCond .ne 5, 3) := dk_154 0 5 (dk_at dksX0_feed_0 7 rfl rfl)
theorem dX0_feed_10 : decode cX0_feed 10 = .ok (.iconst (-1), 1) := dk_2 (dk_at dksX0_feed_0 10 rfl rfl)
theorem dX0_feed_11 : decode cX0_feed 11 = .ok (.ireturn, 1) := dk_172 (dk_at dksX0_feed_0 11 rfl rfl)
theorem dX0_feed_12 : decode cX0_feed 12 = .ok (.aload_n 0, 1) := dk_42 (dk_at dksX0_feed_0 12 rfl rfl)
theorem dX0_feed_13 : decode cX0_feed 13 = .ok (.getfield 230, 3) := dk_180 0 230 (dk_at dksX0_feed_0 13 rfl rfl)
theorem dX0_feed_16 : decode cX0_feed 16 = .ok (.iload_n 3, 1) := dk_29 (dk_at dksX0_feed_0 16 rfl rfl)
theorem dX0_feed_17 : decode cX0_feed 17 = .ok (.iadd, 1) := dk_96 (dk_at dksX0_feed_0 17 rfl rfl)
theorem dX0_feed_18 : decode cX0_feed 18 = .ok (.sipush 200, 3) := dk_17 0 200 (dk_at dksX0_feed_0 18 rfl rfl)
theorem dX0_feed_21 : decode cX0_feed 21 = .ok (.if_icmp .le 6, 3) := dk_164 0 6 (dk_at dksX0_feed_0 21 rfl rfl)
theorem dX0_feed_24 : decode cX0_feed 24 = .ok (.bipush (-2), 2) := dk_16 254 (dk_at dksX0_feed_1 0 rfl rfl)
theorem dX0_feed_26 : decode cX0_feed 26 = .ok (.ireturn, 1) := dk_172 (dk_at dksX0_feed_1 2 rfl rfl)
theorem dX0_feed_27 : decode cX0_feed 27 = .ok (.iconst 0, 1) := dk_3 (dk_at dksX0_feed_1 3 rfl rfl)
theorem dX0_feed_28 : decode cX0_feed 28 = .ok (.istore 4, 2) := dk_54 4 (dk_at dksX0_feed_1 4 rfl rfl)
theorem dX0_feed_30 : decode cX0_feed 30 = .ok (.iload 4, 2) := dk_21 4 (dk_at dksX0_feed_1 6 rfl rfl)
theorem dX0_feed_32 : decode cX0_feed 32 = .ok (.iload_n 3, 1) := dk_29 (dk_at dksX0_feed_1 8 rfl rfl)
theorem dX0_feed_33 : decode cX0_feed 33 = .ok (.if_icmp .ge 30, 3) := dk_162 0 30 (dk_at dksX0_feed_1 9 rfl rfl)
theorem dX0_feed_36 : decode cX0_feed 36 = .ok (.aload_n 0, 1) := dk_42 (dk_at dksX0_feed_1 12 rfl rfl)
theorem dX0_feed_37 : decode cX0_feed 37 = .ok (.getfield 103, 3) := dk_180 0 103 (dk_at dksX0_feed_1 13 rfl rfl)
theorem dX0_feed_40 : decode cX0_feed 40 = .ok (.aload_n 0, 1) := dk_42 (dk_at dksX0_feed_1 16 rfl rfl)
theorem dX0_feed_41 : decode cX0_feed 41 = .ok (.getfield 230, 3) := dk_180 0 230 (dk_at dksX0_feed_1 17 rfl rfl)
theorem dX0_feed_44 : decode cX0_feed 44 = .ok (.iload 4, 2) := dk_21 4 (dk_at dksX0_feed_1 20 rfl rfl)
theorem dX0_feed_46 : decode cX0_feed 46 = .ok (.iadd, 1) := dk_96 (dk_at dksX0_feed_1 22 rfl rfl)
theorem dX0_feed_47 : decode cX0_feed 47 = .ok (.lload_n 1, 1) := dk_31 (dk_at dksX0_feed_1 23 rfl rfl)
theorem dX0_feed_48 : decode cX0_feed 48 = .ok (.bipush 8, 2) := dk_16 8 (dk_at dksX0_feed_2 0 rfl rfl)
theorem dX0_feed_50 : decode cX0_feed 50 = .ok (.iload 4, 2) := dk_21 4 (dk_at dksX0_feed_2 2 rfl rfl)
theorem dX0_feed_52 : decode cX0_feed 52 = .ok (.imul, 1) := dk_104 (dk_at dksX0_feed_2 4 rfl rfl)
theorem dX0_feed_53 : decode cX0_feed 53 = .ok (.lshr, 1) := dk_123 (dk_at dksX0_feed_2 5 rfl rfl)
theorem dX0_feed_54 : decode cX0_feed 54 = .ok (.l2i, 1) := dk_136 (dk_at dksX0_feed_2 6 rfl rfl)
theorem dX0_feed_55 : decode cX0_feed 55 = .ok (.i2b, 1) := dk_145 (dk_at dksX0_feed_2 7 rfl rfl)
theorem dX0_feed_56 : decode cX0_feed 56 = .ok (.bastore, 1) := dk_84 (dk_at dksX0_feed_2 8 rfl rfl)
theorem dX0_feed_57 : decode cX0_feed 57 = .ok (.iinc 4 1, 3) := dk_132 4 1 (dk_at dksX0_feed_2 9 rfl rfl)
theorem dX0_feed_60 : decode cX0_feed 60 = .ok (.goto (-30), 3) := dk_167 255 226 (dk_at dksX0_feed_2 12 rfl rfl)
theorem dX0_feed_63 : decode cX0_feed 63 = .ok (.aload_n 0, 1) := dk_42 (dk_at dksX0_feed_2 15 rfl rfl)
theorem dX0_feed_64 : decode cX0_feed 64 = .ok (.dup, 1) := dk_89 (dk_at dksX0_feed_2 16 rfl rfl)
theorem dX0_feed_65 : decode cX0_feed 65 = .ok (.getfield 230, 3) := dk_180 0 230 (dk_at dksX0_feed_2 17 rfl rfl)
theorem dX0_feed_68 : decode cX0_feed 68 = .ok (.iload_n 3, 1) := dk_29 (dk_at dksX0_feed_2 20 rfl rfl)
theorem dX0_feed_69 : decode cX0_feed 69 = .ok (.iadd, 1) := dk_96 (dk_at dksX0_feed_2 21 rfl rfl)
theorem dX0_feed_70 : decode cX0_feed 70 = .ok (.putfield 230, 3) := dk_181 0 230 (dk_at dksX0_feed_3 0 rfl rfl)
theorem dX0_feed_73 : decode cX0_feed 73 = .ok (.aload_n 0, 1) := dk_42 (dk_at dksX0_feed_3 3 rfl rfl)
theorem dX0_feed_74 : decode cX0_feed 74 = .ok (.getfield 230, 3) := dk_180 0 230 (dk_at dksX0_feed_3 4 rfl rfl)
theorem dX0_feed_77 : decode cX0_feed 77 = .ok (.ireturn, 1) := dk_172 (dk_at dksX0_feed_3 7 rfl rfl)
abbrev cX0_rules : ByteArray := prog_1_method_38_code
def yX0_rules : MethodName := ⟨RX0, "rules", "()I"⟩
def dkwX0_rules_2 : List UInt8 := [181, 0, 230, 45, 191]
abbrev dktX0_rules_2 : List UInt8 := dkwX0_rules_2 ++ []
def dkwX0_rules_1 : List UInt8 := [181, 0, 230, 27, 172, 76, 16, 156, 43, 180, 1, 95, 100, 61, 42, 3, 181, 0, 230, 28, 172, 78, 42, 3]
abbrev dktX0_rules_1 : List UInt8 := dkwX0_rules_1 ++ dktX0_rules_2
def dkwX0_rules_0 : List UInt8 := [42, 180, 0, 47, 42, 182, 1, 87, 181, 1, 91, 42, 180, 0, 47, 180, 1, 91, 190, 60, 42, 3]
abbrev dktX0_rules_0 : List UInt8 := dkwX0_rules_0 ++ dktX0_rules_1
theorem dksX0_rules_0 : cX0_rules.data.toList.drop 0 = dktX0_rules_0 := by decide +kernel
theorem dksX0_rules_1 : cX0_rules.data.toList.drop 22 = dktX0_rules_1 := dk_seg dksX0_rules_0 22 rfl rfl
theorem dksX0_rules_2 : cX0_rules.data.toList.drop 46 = dktX0_rules_2 := dk_seg dksX0_rules_1 24 rfl rfl
theorem dX0_rules_0 : decode cX0_rules 0 = .ok (.aload_n 0, 1) := dk_42 (dk_at dksX0_rules_0 0 rfl rfl)
theorem dX0_rules_1 : decode cX0_rules 1 = .ok (.getfield 47, 3) := dk_180 0 47 (dk_at dksX0_rules_0 1 rfl rfl)
theorem dX0_rules_4 : decode cX0_rules 4 = .ok (.aload_n 0, 1) := dk_42 (dk_at dksX0_rules_0 4 rfl rfl)
theorem dX0_rules_5 : decode cX0_rules 5 = .ok (.invokevirtual 343, 3) := dk_182 1 87 (dk_at dksX0_rules_0 5 rfl rfl)
theorem dX0_rules_8 : decode cX0_rules 8 = .ok (.putfield 347, 3) := dk_181 1 91 (dk_at dksX0_rules_0 8 rfl rfl)
theorem dX0_rules_11 : decode cX0_rules 11 = .ok (.aload_n 0, 1) := dk_42 (dk_at dksX0_rules_0 11 rfl rfl)
theorem dX0_rules_12 : decode cX0_rules 12 = .ok (.getfield 47, 3) := dk_180 0 47 (dk_at dksX0_rules_0 12 rfl rfl)
theorem dX0_rules_15 : decode cX0_rules 15 = .ok (.getfield 347, 3) := dk_180 1 91 (dk_at dksX0_rules_0 15 rfl rfl)
theorem dX0_rules_18 : decode cX0_rules 18 = .ok (.arraylength, 1) := dk_190 (dk_at dksX0_rules_0 18 rfl rfl)
theorem dX0_rules_19 : decode cX0_rules 19 = .ok (.istore_n 1, 1) := dk_60 (dk_at dksX0_rules_0 19 rfl rfl)
theorem dX0_rules_20 : decode cX0_rules 20 = .ok (.aload_n 0, 1) := dk_42 (dk_at dksX0_rules_0 20 rfl rfl)
theorem dX0_rules_21 : decode cX0_rules 21 = .ok (.iconst 0, 1) := dk_3 (dk_at dksX0_rules_0 21 rfl rfl)
theorem dX0_rules_22 : decode cX0_rules 22 = .ok (.putfield 230, 3) := dk_181 0 230 (dk_at dksX0_rules_1 0 rfl rfl)
theorem dX0_rules_25 : decode cX0_rules 25 = .ok (.iload_n 1, 1) := dk_27 (dk_at dksX0_rules_1 3 rfl rfl)
theorem dX0_rules_26 : decode cX0_rules 26 = .ok (.ireturn, 1) := dk_172 (dk_at dksX0_rules_1 4 rfl rfl)
theorem dX0_rules_27 : decode cX0_rules 27 = .ok (.astore_n 1, 1) := dk_76 (dk_at dksX0_rules_1 5 rfl rfl)
theorem dX0_rules_28 : decode cX0_rules 28 = .ok (.bipush (-100), 2) := dk_16 156 (dk_at dksX0_rules_1 6 rfl rfl)
theorem dX0_rules_30 : decode cX0_rules 30 = .ok (.aload_n 1, 1) := dk_43 (dk_at dksX0_rules_1 8 rfl rfl)
theorem dX0_rules_31 : decode cX0_rules 31 = .ok (.getfield 351, 3) := dk_180 1 95 (dk_at dksX0_rules_1 9 rfl rfl)
theorem dX0_rules_34 : decode cX0_rules 34 = .ok (.isub, 1) := dk_100 (dk_at dksX0_rules_1 12 rfl rfl)
theorem dX0_rules_35 : decode cX0_rules 35 = .ok (.istore_n 2, 1) := dk_61 (dk_at dksX0_rules_1 13 rfl rfl)
theorem dX0_rules_36 : decode cX0_rules 36 = .ok (.aload_n 0, 1) := dk_42 (dk_at dksX0_rules_1 14 rfl rfl)
theorem dX0_rules_37 : decode cX0_rules 37 = .ok (.iconst 0, 1) := dk_3 (dk_at dksX0_rules_1 15 rfl rfl)
theorem dX0_rules_38 : decode cX0_rules 38 = .ok (.putfield 230, 3) := dk_181 0 230 (dk_at dksX0_rules_1 16 rfl rfl)
theorem dX0_rules_41 : decode cX0_rules 41 = .ok (.iload_n 2, 1) := dk_28 (dk_at dksX0_rules_1 19 rfl rfl)
theorem dX0_rules_42 : decode cX0_rules 42 = .ok (.ireturn, 1) := dk_172 (dk_at dksX0_rules_1 20 rfl rfl)
theorem dX0_rules_43 : decode cX0_rules 43 = .ok (.astore_n 3, 1) := dk_78 (dk_at dksX0_rules_1 21 rfl rfl)
theorem dX0_rules_44 : decode cX0_rules 44 = .ok (.aload_n 0, 1) := dk_42 (dk_at dksX0_rules_1 22 rfl rfl)
theorem dX0_rules_45 : decode cX0_rules 45 = .ok (.iconst 0, 1) := dk_3 (dk_at dksX0_rules_1 23 rfl rfl)
theorem dX0_rules_46 : decode cX0_rules 46 = .ok (.putfield 230, 3) := dk_181 0 230 (dk_at dksX0_rules_2 0 rfl rfl)
theorem dX0_rules_49 : decode cX0_rules 49 = .ok (.aload_n 3, 1) := dk_45 (dk_at dksX0_rules_2 3 rfl rfl)
theorem dX0_rules_50 : decode cX0_rules 50 = .ok (.athrow, 1) := dk_191 (dk_at dksX0_rules_2 4 rfl rfl)
abbrev cX0_allRules : ByteArray := prog_1_method_37_code
def yX0_allRules : MethodName := ⟨RX0, "allRules", "()[LLeftUndoes$Rule;"⟩
def dkwX0_allRules_2 : List UInt8 := [132, 2, 1, 167, 255, 224, 28, 189, 1, 72, 78, 43, 3, 45, 3, 28, 184, 1, 81, 45, 176]
abbrev dktX0_allRules_2 : List UInt8 := dkwX0_allRules_2 ++ []
def dkwX0_allRules_1 : List UInt8 := [180, 0, 230, 162, 0, 27, 28, 16, 8, 160, 0, 8, 42, 182, 1, 5, 191, 43, 28, 42, 182, 1, 77, 83]
abbrev dktX0_allRules_1 : List UInt8 := dkwX0_allRules_1 ++ dktX0_allRules_2
def dkwX0_allRules_0 : List UInt8 := [16, 8, 189, 1, 72, 76, 3, 61, 42, 3, 181, 0, 233, 42, 182, 0, 255, 42, 180, 0, 234, 42]
abbrev dktX0_allRules_0 : List UInt8 := dkwX0_allRules_0 ++ dktX0_allRules_1
theorem dksX0_allRules_0 : cX0_allRules.data.toList.drop 0 = dktX0_allRules_0 := by decide +kernel
theorem dksX0_allRules_1 : cX0_allRules.data.toList.drop 22 = dktX0_allRules_1 := dk_seg dksX0_allRules_0 22 rfl rfl
theorem dksX0_allRules_2 : cX0_allRules.data.toList.drop 46 = dktX0_allRules_2 := dk_seg dksX0_allRules_1 24 rfl rfl
theorem dX0_allRules_0 : decode cX0_allRules 0 = .ok (.bipush 8, 2) := dk_16 8 (dk_at dksX0_allRules_0 0 rfl rfl)
theorem dX0_allRules_2 : decode cX0_allRules 2 = .ok (.anewarray 328, 3) := dk_189 1 72 (dk_at dksX0_allRules_0 2 rfl rfl)
theorem dX0_allRules_5 : decode cX0_allRules 5 = .ok (.astore_n 1, 1) := dk_76 (dk_at dksX0_allRules_0 5 rfl rfl)
theorem dX0_allRules_6 : decode cX0_allRules 6 = .ok (.iconst 0, 1) := dk_3 (dk_at dksX0_allRules_0 6 rfl rfl)
theorem dX0_allRules_7 : decode cX0_allRules 7 = .ok (.istore_n 2, 1) := dk_61 (dk_at dksX0_allRules_0 7 rfl rfl)
theorem dX0_allRules_8 : decode cX0_allRules 8 = .ok (.aload_n 0, 1) := dk_42 (dk_at dksX0_allRules_0 8 rfl rfl)
theorem dX0_allRules_9 : decode cX0_allRules 9 = .ok (.iconst 0, 1) := dk_3 (dk_at dksX0_allRules_0 9 rfl rfl)
theorem dX0_allRules_10 : decode cX0_allRules 10 = .ok (.putfield 233, 3) := dk_181 0 233 (dk_at dksX0_allRules_0 10 rfl rfl)
theorem dX0_allRules_13 : decode cX0_allRules 13 = .ok (.aload_n 0, 1) := dk_42 (dk_at dksX0_allRules_0 13 rfl rfl)
theorem dX0_allRules_14 : decode cX0_allRules 14 = .ok (.invokevirtual 255, 3) := dk_182 0 255 (dk_at dksX0_allRules_0 14 rfl rfl)
theorem dX0_allRules_17 : decode cX0_allRules 17 = .ok (.aload_n 0, 1) := dk_42 (dk_at dksX0_allRules_0 17 rfl rfl)
theorem dX0_allRules_18 : decode cX0_allRules 18 = .ok (.getfield 234, 3) := dk_180 0 234 (dk_at dksX0_allRules_0 18 rfl rfl)
theorem dX0_allRules_21 : decode cX0_allRules 21 = .ok (.aload_n 0, 1) := dk_42 (dk_at dksX0_allRules_0 21 rfl rfl)
theorem dX0_allRules_22 : decode cX0_allRules 22 = .ok (.getfield 230, 3) := dk_180 0 230 (dk_at dksX0_allRules_1 0 rfl rfl)
theorem dX0_allRules_25 : decode cX0_allRules 25 = .ok (.if_icmp .ge 27, 3) := dk_162 0 27 (dk_at dksX0_allRules_1 3 rfl rfl)
theorem dX0_allRules_28 : decode cX0_allRules 28 = .ok (.iload_n 2, 1) := dk_28 (dk_at dksX0_allRules_1 6 rfl rfl)
theorem dX0_allRules_29 : decode cX0_allRules 29 = .ok (.bipush 8, 2) := dk_16 8 (dk_at dksX0_allRules_1 7 rfl rfl)
theorem dX0_allRules_31 : decode cX0_allRules 31 = .ok (.if_icmp .ne 8, 3) := dk_160 0 8 (dk_at dksX0_allRules_1 9 rfl rfl)
theorem dX0_allRules_34 : decode cX0_allRules 34 = .ok (.aload_n 0, 1) := dk_42 (dk_at dksX0_allRules_1 12 rfl rfl)
theorem dX0_allRules_35 : decode cX0_allRules 35 = .ok (.invokevirtual 261, 3) := dk_182 1 5 (dk_at dksX0_allRules_1 13 rfl rfl)
theorem dX0_allRules_38 : decode cX0_allRules 38 = .ok (.athrow, 1) := dk_191 (dk_at dksX0_allRules_1 16 rfl rfl)
theorem dX0_allRules_39 : decode cX0_allRules 39 = .ok (.aload_n 1, 1) := dk_43 (dk_at dksX0_allRules_1 17 rfl rfl)
theorem dX0_allRules_40 : decode cX0_allRules 40 = .ok (.iload_n 2, 1) := dk_28 (dk_at dksX0_allRules_1 18 rfl rfl)
theorem dX0_allRules_41 : decode cX0_allRules 41 = .ok (.aload_n 0, 1) := dk_42 (dk_at dksX0_allRules_1 19 rfl rfl)
theorem dX0_allRules_42 : decode cX0_allRules 42 = .ok (.invokevirtual 333, 3) := dk_182 1 77 (dk_at dksX0_allRules_1 20 rfl rfl)
theorem dX0_allRules_45 : decode cX0_allRules 45 = .ok (.aastore, 1) := dk_83 (dk_at dksX0_allRules_1 23 rfl rfl)
theorem dX0_allRules_46 : decode cX0_allRules 46 = .ok (.iinc 2 1, 3) := dk_132 2 1 (dk_at dksX0_allRules_2 0 rfl rfl)
theorem dX0_allRules_49 : decode cX0_allRules 49 = .ok (.goto (-32), 3) := dk_167 255 224 (dk_at dksX0_allRules_2 3 rfl rfl)
theorem dX0_allRules_52 : decode cX0_allRules 52 = .ok (.iload_n 2, 1) := dk_28 (dk_at dksX0_allRules_2 6 rfl rfl)
theorem dX0_allRules_53 : decode cX0_allRules 53 = .ok (.anewarray 328, 3) := dk_189 1 72 (dk_at dksX0_allRules_2 7 rfl rfl)
theorem dX0_allRules_56 : decode cX0_allRules 56 = .ok (.astore_n 3, 1) := dk_78 (dk_at dksX0_allRules_2 10 rfl rfl)
theorem dX0_allRules_57 : decode cX0_allRules 57 = .ok (.aload_n 1, 1) := dk_43 (dk_at dksX0_allRules_2 11 rfl rfl)
theorem dX0_allRules_58 : decode cX0_allRules 58 = .ok (.iconst 0, 1) := dk_3 (dk_at dksX0_allRules_2 12 rfl rfl)
theorem dX0_allRules_59 : decode cX0_allRules 59 = .ok (.aload_n 3, 1) := dk_45 (dk_at dksX0_allRules_2 13 rfl rfl)
theorem dX0_allRules_60 : decode cX0_allRules 60 = .ok (.iconst 0, 1) := dk_3 (dk_at dksX0_allRules_2 14 rfl rfl)
theorem dX0_allRules_61 : decode cX0_allRules 61 = .ok (.iload_n 2, 1) := dk_28 (dk_at dksX0_allRules_2 15 rfl rfl)
theorem dX0_allRules_62 : decode cX0_allRules 62 = .ok (.invokestatic 337, 3) := dk_184 1 81 (dk_at dksX0_allRules_2 16 rfl rfl)
theorem dX0_allRules_65 : decode cX0_allRules 65 = .ok (.aload_n 3, 1) := dk_45 (dk_at dksX0_allRules_2 19 rfl rfl)
theorem dX0_allRules_66 : decode cX0_allRules 66 = .ok (.areturn, 1) := dk_176 (dk_at dksX0_allRules_2 20 rfl rfl)
abbrev cX0_next : ByteArray := prog_1_method_24_code
def yX0_next : MethodName := ⟨RX0, "next", "()V"⟩
def dkwX0_next_6 : List UInt8 := [132, 1, 1, 167, 255, 213, 42, 27, 181, 0, 233, 177]
abbrev dktX0_next_6 : List UInt8 := dkwX0_next_6 ++ []
def dkwX0_next_5 : List UInt8 := [184, 0, 237, 154, 0, 19, 29, 153, 0, 21, 42, 180, 0, 103, 27, 51, 184, 0, 240, 153, 0, 9]
abbrev dktX0_next_5 : List UInt8 := dkwX0_next_5 ++ dktX0_next_6
def dkwX0_next_4 : List UInt8 := [162, 0, 6, 132, 1, 1, 27, 42, 180, 0, 230, 162, 0, 41, 28, 153, 0, 15, 42, 180, 0, 103, 27, 51]
abbrev dktX0_next_4 : List UInt8 := dkwX0_next_4 ++ dktX0_next_5
def dkwX0_next_3 : List UInt8 := [180, 0, 103, 27, 51, 184, 0, 240, 153, 0, 7, 4, 167, 0, 4, 3, 62, 27, 42, 180, 0, 230]
abbrev dktX0_next_3 : List UInt8 := dkwX0_next_3 ++ dktX0_next_4
def dkwX0_next_2 : List UInt8 := [51, 184, 0, 237, 153, 0, 7, 4, 167, 0, 4, 3, 61, 27, 42, 180, 0, 230, 162, 0, 19, 42]
abbrev dktX0_next_2 : List UInt8 := dkwX0_next_2 ++ dktX0_next_3
def dkwX0_next_1 : List UInt8 := [132, 1, 1, 167, 255, 234, 42, 27, 181, 0, 234, 27, 42, 180, 0, 230, 162, 0, 19, 42, 180, 0, 103, 27]
abbrev dktX0_next_1 : List UInt8 := dkwX0_next_1 ++ dktX0_next_2
def dkwX0_next_0 : List UInt8 := [42, 180, 0, 233, 60, 27, 42, 180, 0, 230, 162, 0, 20, 42, 180, 0, 103, 27, 51, 16, 32, 160, 0, 9]
abbrev dktX0_next_0 : List UInt8 := dkwX0_next_0 ++ dktX0_next_1
theorem dksX0_next_0 : cX0_next.data.toList.drop 0 = dktX0_next_0 := by decide +kernel
theorem dksX0_next_1 : cX0_next.data.toList.drop 24 = dktX0_next_1 := dk_seg dksX0_next_0 24 rfl rfl
theorem dksX0_next_2 : cX0_next.data.toList.drop 48 = dktX0_next_2 := dk_seg dksX0_next_1 24 rfl rfl
theorem dksX0_next_3 : cX0_next.data.toList.drop 70 = dktX0_next_3 := dk_seg dksX0_next_2 22 rfl rfl
theorem dksX0_next_4 : cX0_next.data.toList.drop 92 = dktX0_next_4 := dk_seg dksX0_next_3 22 rfl rfl
theorem dksX0_next_5 : cX0_next.data.toList.drop 116 = dktX0_next_5 := dk_seg dksX0_next_4 24 rfl rfl
theorem dksX0_next_6 : cX0_next.data.toList.drop 138 = dktX0_next_6 := dk_seg dksX0_next_5 22 rfl rfl
theorem dX0_next_0 : decode cX0_next 0 = .ok (.aload_n 0, 1) := dk_42 (dk_at dksX0_next_0 0 rfl rfl)
theorem dX0_next_1 : decode cX0_next 1 = .ok (.getfield 233, 3) := dk_180 0 233 (dk_at dksX0_next_0 1 rfl rfl)
theorem dX0_next_4 : decode cX0_next 4 = .ok (.istore_n 1, 1) := dk_60 (dk_at dksX0_next_0 4 rfl rfl)
theorem dX0_next_5 : decode cX0_next 5 = .ok (.iload_n 1, 1) := dk_27 (dk_at dksX0_next_0 5 rfl rfl)
theorem dX0_next_6 : decode cX0_next 6 = .ok (.aload_n 0, 1) := dk_42 (dk_at dksX0_next_0 6 rfl rfl)
theorem dX0_next_7 : decode cX0_next 7 = .ok (.getfield 230, 3) := dk_180 0 230 (dk_at dksX0_next_0 7 rfl rfl)
theorem dX0_next_10 : decode cX0_next 10 = .ok (.if_icmp .ge 20, 3) := dk_162 0 20 (dk_at dksX0_next_0 10 rfl rfl)
theorem dX0_next_13 : decode cX0_next 13 = .ok (.aload_n 0, 1) := dk_42 (dk_at dksX0_next_0 13 rfl rfl)
theorem dX0_next_14 : decode cX0_next 14 = .ok (.getfield 103, 3) := dk_180 0 103 (dk_at dksX0_next_0 14 rfl rfl)
theorem dX0_next_17 : decode cX0_next 17 = .ok (.iload_n 1, 1) := dk_27 (dk_at dksX0_next_0 17 rfl rfl)
theorem dX0_next_18 : decode cX0_next 18 = .ok (.baload, 1) := dk_51 (dk_at dksX0_next_0 18 rfl rfl)
theorem dX0_next_19 : decode cX0_next 19 = .ok (.bipush 32, 2) := dk_16 32 (dk_at dksX0_next_0 19 rfl rfl)
theorem dX0_next_21 : decode cX0_next 21 = .ok (.if_icmp .ne 9, 3) := dk_160 0 9 (dk_at dksX0_next_0 21 rfl rfl)
theorem dX0_next_24 : decode cX0_next 24 = .ok (.iinc 1 1, 3) := dk_132 1 1 (dk_at dksX0_next_1 0 rfl rfl)
theorem dX0_next_27 : decode cX0_next 27 = .ok (.goto (-22), 3) := dk_167 255 234 (dk_at dksX0_next_1 3 rfl rfl)
theorem dX0_next_30 : decode cX0_next 30 = .ok (.aload_n 0, 1) := dk_42 (dk_at dksX0_next_1 6 rfl rfl)
theorem dX0_next_31 : decode cX0_next 31 = .ok (.iload_n 1, 1) := dk_27 (dk_at dksX0_next_1 7 rfl rfl)
theorem dX0_next_32 : decode cX0_next 32 = .ok (.putfield 234, 3) := dk_181 0 234 (dk_at dksX0_next_1 8 rfl rfl)
theorem dX0_next_35 : decode cX0_next 35 = .ok (.iload_n 1, 1) := dk_27 (dk_at dksX0_next_1 11 rfl rfl)
theorem dX0_next_36 : decode cX0_next 36 = .ok (.aload_n 0, 1) := dk_42 (dk_at dksX0_next_1 12 rfl rfl)
theorem dX0_next_37 : decode cX0_next 37 = .ok (.getfield 230, 3) := dk_180 0 230 (dk_at dksX0_next_1 13 rfl rfl)
theorem dX0_next_40 : decode cX0_next 40 = .ok (.if_icmp .ge 19, 3) := dk_162 0 19 (dk_at dksX0_next_1 16 rfl rfl)
theorem dX0_next_43 : decode cX0_next 43 = .ok (.aload_n 0, 1) := dk_42 (dk_at dksX0_next_1 19 rfl rfl)
theorem dX0_next_44 : decode cX0_next 44 = .ok (.getfield 103, 3) := dk_180 0 103 (dk_at dksX0_next_1 20 rfl rfl)
theorem dX0_next_47 : decode cX0_next 47 = .ok (.iload_n 1, 1) := dk_27 (dk_at dksX0_next_1 23 rfl rfl)
theorem dX0_next_48 : decode cX0_next 48 = .ok (.baload, 1) := dk_51 (dk_at dksX0_next_2 0 rfl rfl)
theorem dX0_next_49 : decode cX0_next 49 = .ok (.invokestatic 237, 3) := dk_184 0 237 (dk_at dksX0_next_2 1 rfl rfl)
theorem dX0_next_52 : decode cX0_next 52 = .ok (.ifCond .eq 7, 3) := dk_153 0 7 (dk_at dksX0_next_2 4 rfl rfl)
theorem dX0_next_55 : decode cX0_next 55 = .ok (.iconst 1, 1) := dk_4 (dk_at dksX0_next_2 7 rfl rfl)
theorem dX0_next_56 : decode cX0_next 56 = .ok (.goto 4, 3) := dk_167 0 4 (dk_at dksX0_next_2 8 rfl rfl)
theorem dX0_next_59 : decode cX0_next 59 = .ok (.iconst 0, 1) := dk_3 (dk_at dksX0_next_2 11 rfl rfl)
theorem dX0_next_60 : decode cX0_next 60 = .ok (.istore_n 2, 1) := dk_61 (dk_at dksX0_next_2 12 rfl rfl)
theorem dX0_next_61 : decode cX0_next 61 = .ok (.iload_n 1, 1) := dk_27 (dk_at dksX0_next_2 13 rfl rfl)
theorem dX0_next_62 : decode cX0_next 62 = .ok (.aload_n 0, 1) := dk_42 (dk_at dksX0_next_2 14 rfl rfl)
theorem dX0_next_63 : decode cX0_next 63 = .ok (.getfield 230, 3) := dk_180 0 230 (dk_at dksX0_next_2 15 rfl rfl)
theorem dX0_next_66 : decode cX0_next 66 = .ok (.if_icmp .ge 19, 3) := dk_162 0 19 (dk_at dksX0_next_2 18 rfl rfl)
theorem dX0_next_69 : decode cX0_next 69 = .ok (.aload_n 0, 1) := dk_42 (dk_at dksX0_next_2 21 rfl rfl)
theorem dX0_next_70 : decode cX0_next 70 = .ok (.getfield 103, 3) := dk_180 0 103 (dk_at dksX0_next_3 0 rfl rfl)
theorem dX0_next_73 : decode cX0_next 73 = .ok (.iload_n 1, 1) := dk_27 (dk_at dksX0_next_3 3 rfl rfl)
theorem dX0_next_74 : decode cX0_next 74 = .ok (.baload, 1) := dk_51 (dk_at dksX0_next_3 4 rfl rfl)
theorem dX0_next_75 : decode cX0_next 75 = .ok (.invokestatic 240, 3) := dk_184 0 240 (dk_at dksX0_next_3 5 rfl rfl)
theorem dX0_next_78 : decode cX0_next 78 = .ok (.ifCond .eq 7, 3) := dk_153 0 7 (dk_at dksX0_next_3 8 rfl rfl)
theorem dX0_next_81 : decode cX0_next 81 = .ok (.iconst 1, 1) := dk_4 (dk_at dksX0_next_3 11 rfl rfl)
theorem dX0_next_82 : decode cX0_next 82 = .ok (.goto 4, 3) := dk_167 0 4 (dk_at dksX0_next_3 12 rfl rfl)
theorem dX0_next_85 : decode cX0_next 85 = .ok (.iconst 0, 1) := dk_3 (dk_at dksX0_next_3 15 rfl rfl)
theorem dX0_next_86 : decode cX0_next 86 = .ok (.istore_n 3, 1) := dk_62 (dk_at dksX0_next_3 16 rfl rfl)
theorem dX0_next_87 : decode cX0_next 87 = .ok (.iload_n 1, 1) := dk_27 (dk_at dksX0_next_3 17 rfl rfl)
theorem dX0_next_88 : decode cX0_next 88 = .ok (.aload_n 0, 1) := dk_42 (dk_at dksX0_next_3 18 rfl rfl)
theorem dX0_next_89 : decode cX0_next 89 = .ok (.getfield 230, 3) := dk_180 0 230 (dk_at dksX0_next_3 19 rfl rfl)
theorem dX0_next_92 : decode cX0_next 92 = .ok (.if_icmp .ge 6, 3) := dk_162 0 6 (dk_at dksX0_next_4 0 rfl rfl)
theorem dX0_next_95 : decode cX0_next 95 = .ok (.iinc 1 1, 3) := dk_132 1 1 (dk_at dksX0_next_4 3 rfl rfl)
theorem dX0_next_98 : decode cX0_next 98 = .ok (.iload_n 1, 1) := dk_27 (dk_at dksX0_next_4 6 rfl rfl)
theorem dX0_next_99 : decode cX0_next 99 = .ok (.aload_n 0, 1) := dk_42 (dk_at dksX0_next_4 7 rfl rfl)
theorem dX0_next_100 : decode cX0_next 100 = .ok (.getfield 230, 3) := dk_180 0 230 (dk_at dksX0_next_4 8 rfl rfl)
theorem dX0_next_103 : decode cX0_next 103 = .ok (.if_icmp .ge 41, 3) := dk_162 0 41 (dk_at dksX0_next_4 11 rfl rfl)
theorem dX0_next_106 : decode cX0_next 106 = .ok (.iload_n 2, 1) := dk_28 (dk_at dksX0_next_4 14 rfl rfl)
theorem dX0_next_107 : decode cX0_next 107 = .ok (.ifCond .eq 15, 3) := dk_153 0 15 (dk_at dksX0_next_4 15 rfl rfl)
theorem dX0_next_110 : decode cX0_next 110 = .ok (.aload_n 0, 1) := dk_42 (dk_at dksX0_next_4 18 rfl rfl)
theorem dX0_next_111 : decode cX0_next 111 = .ok (.getfield 103, 3) := dk_180 0 103 (dk_at dksX0_next_4 19 rfl rfl)
theorem dX0_next_114 : decode cX0_next 114 = .ok (.iload_n 1, 1) := dk_27 (dk_at dksX0_next_4 22 rfl rfl)
theorem dX0_next_115 : decode cX0_next 115 = .ok (.baload, 1) := dk_51 (dk_at dksX0_next_4 23 rfl rfl)
theorem dX0_next_116 : decode cX0_next 116 = .ok (.invokestatic 237, 3) := dk_184 0 237 (dk_at dksX0_next_5 0 rfl rfl)
theorem dX0_next_119 : decode cX0_next 119 = .ok (.ifCond .ne 19, 3) := dk_154 0 19 (dk_at dksX0_next_5 3 rfl rfl)
theorem dX0_next_122 : decode cX0_next 122 = .ok (.iload_n 3, 1) := dk_29 (dk_at dksX0_next_5 6 rfl rfl)
theorem dX0_next_123 : decode cX0_next 123 = .ok (.ifCond .eq 21, 3) := dk_153 0 21 (dk_at dksX0_next_5 7 rfl rfl)
theorem dX0_next_126 : decode cX0_next 126 = .ok (.aload_n 0, 1) := dk_42 (dk_at dksX0_next_5 10 rfl rfl)
theorem dX0_next_127 : decode cX0_next 127 = .ok (.getfield 103, 3) := dk_180 0 103 (dk_at dksX0_next_5 11 rfl rfl)
theorem dX0_next_130 : decode cX0_next 130 = .ok (.iload_n 1, 1) := dk_27 (dk_at dksX0_next_5 14 rfl rfl)
theorem dX0_next_131 : decode cX0_next 131 = .ok (.baload, 1) := dk_51 (dk_at dksX0_next_5 15 rfl rfl)
theorem dX0_next_132 : decode cX0_next 132 = .ok (.invokestatic 240, 3) := dk_184 0 240 (dk_at dksX0_next_5 16 rfl rfl)
theorem dX0_next_135 : decode cX0_next 135 = .ok (.ifCond .eq 9, 3) := dk_153 0 9 (dk_at dksX0_next_5 19 rfl rfl)
theorem dX0_next_138 : decode cX0_next 138 = .ok (.iinc 1 1, 3) := dk_132 1 1 (dk_at dksX0_next_6 0 rfl rfl)
theorem dX0_next_141 : decode cX0_next 141 = .ok (.goto (-43), 3) := dk_167 255 213 (dk_at dksX0_next_6 3 rfl rfl)
theorem dX0_next_144 : decode cX0_next 144 = .ok (.aload_n 0, 1) := dk_42 (dk_at dksX0_next_6 6 rfl rfl)
theorem dX0_next_145 : decode cX0_next 145 = .ok (.iload_n 1, 1) := dk_27 (dk_at dksX0_next_6 7 rfl rfl)
theorem dX0_next_146 : decode cX0_next 146 = .ok (.putfield 233, 3) := dk_181 0 233 (dk_at dksX0_next_6 8 rfl rfl)
theorem dX0_next_149 : decode cX0_next 149 = .ok (.return_, 1) := dk_177 (dk_at dksX0_next_6 11 rfl rfl)
abbrev cX0_isLetter : ByteArray := prog_1_method_23_code
def yX0_isLetter : MethodName := ⟨RX0, "isLetter", "(I)Z"⟩
def dkwX0_isLetter_0 : List UInt8 := [26, 16, 97, 161, 0, 13, 26, 16, 122, 163, 0, 7, 4, 167, 0, 4, 3, 172]
abbrev dktX0_isLetter_0 : List UInt8 := dkwX0_isLetter_0 ++ []
theorem dksX0_isLetter_0 : cX0_isLetter.data.toList.drop 0 = dktX0_isLetter_0 := by decide +kernel
theorem dX0_isLetter_0 : decode cX0_isLetter 0 = .ok (.iload_n 0, 1) := dk_26 (dk_at dksX0_isLetter_0 0 rfl rfl)
theorem dX0_isLetter_1 : decode cX0_isLetter 1 = .ok (.bipush 97, 2) := dk_16 97 (dk_at dksX0_isLetter_0 1 rfl rfl)
theorem dX0_isLetter_3 : decode cX0_isLetter 3 = .ok (.if_icmp .lt 13, 3) := dk_161 0 13 (dk_at dksX0_isLetter_0 3 rfl rfl)
theorem dX0_isLetter_6 : decode cX0_isLetter 6 = .ok (.iload_n 0, 1) := dk_26 (dk_at dksX0_isLetter_0 6 rfl rfl)
theorem dX0_isLetter_7 : decode cX0_isLetter 7 = .ok (.bipush 122, 2) := dk_16 122 (dk_at dksX0_isLetter_0 7 rfl rfl)
theorem dX0_isLetter_9 : decode cX0_isLetter 9 = .ok (.if_icmp .gt 7, 3) := dk_163 0 7 (dk_at dksX0_isLetter_0 9 rfl rfl)
theorem dX0_isLetter_12 : decode cX0_isLetter 12 = .ok (.iconst 1, 1) := dk_4 (dk_at dksX0_isLetter_0 12 rfl rfl)
theorem dX0_isLetter_13 : decode cX0_isLetter 13 = .ok (.goto 4, 3) := dk_167 0 4 (dk_at dksX0_isLetter_0 13 rfl rfl)
theorem dX0_isLetter_16 : decode cX0_isLetter 16 = .ok (.iconst 0, 1) := dk_3 (dk_at dksX0_isLetter_0 16 rfl rfl)
theorem dX0_isLetter_17 : decode cX0_isLetter 17 = .ok (.ireturn, 1) := dk_172 (dk_at dksX0_isLetter_0 17 rfl rfl)
abbrev cX0_isDigit : ByteArray := prog_1_method_22_code
def yX0_isDigit : MethodName := ⟨RX0, "isDigit", "(I)Z"⟩
def dkwX0_isDigit_0 : List UInt8 := [26, 16, 48, 161, 0, 13, 26, 16, 57, 163, 0, 7, 4, 167, 0, 4, 3, 172]
abbrev dktX0_isDigit_0 : List UInt8 := dkwX0_isDigit_0 ++ []
theorem dksX0_isDigit_0 : cX0_isDigit.data.toList.drop 0 = dktX0_isDigit_0 := by decide +kernel
theorem dX0_isDigit_0 : decode cX0_isDigit 0 = .ok (.iload_n 0, 1) := dk_26 (dk_at dksX0_isDigit_0 0 rfl rfl)
theorem dX0_isDigit_1 : decode cX0_isDigit 1 = .ok (.bipush 48, 2) := dk_16 48 (dk_at dksX0_isDigit_0 1 rfl rfl)
theorem dX0_isDigit_3 : decode cX0_isDigit 3 = .ok (.if_icmp .lt 13, 3) := dk_161 0 13 (dk_at dksX0_isDigit_0 3 rfl rfl)
theorem dX0_isDigit_6 : decode cX0_isDigit 6 = .ok (.iload_n 0, 1) := dk_26 (dk_at dksX0_isDigit_0 6 rfl rfl)
theorem dX0_isDigit_7 : decode cX0_isDigit 7 = .ok (.bipush 57, 2) := dk_16 57 (dk_at dksX0_isDigit_0 7 rfl rfl)
theorem dX0_isDigit_9 : decode cX0_isDigit 9 = .ok (.if_icmp .gt 7, 3) := dk_163 0 7 (dk_at dksX0_isDigit_0 9 rfl rfl)
theorem dX0_isDigit_12 : decode cX0_isDigit 12 = .ok (.iconst 1, 1) := dk_4 (dk_at dksX0_isDigit_0 12 rfl rfl)
theorem dX0_isDigit_13 : decode cX0_isDigit 13 = .ok (.goto 4, 3) := dk_167 0 4 (dk_at dksX0_isDigit_0 13 rfl rfl)
theorem dX0_isDigit_16 : decode cX0_isDigit 16 = .ok (.iconst 0, 1) := dk_3 (dk_at dksX0_isDigit_0 16 rfl rfl)
theorem dX0_isDigit_17 : decode cX0_isDigit 17 = .ok (.ireturn, 1) := dk_172 (dk_at dksX0_isDigit_0 17 rfl rfl)
abbrev cX0_faultHere : ByteArray := prog_1_method_25_code
def yX0_faultHere : MethodName := ⟨RX0, "faultHere", "()LLeftUndoes$Refusal;"⟩
def dkwX0_faultHere_0 : List UInt8 := [42, 180, 0, 40, 42, 180, 0, 234, 182, 0, 243, 176]
abbrev dktX0_faultHere_0 : List UInt8 := dkwX0_faultHere_0 ++ []
theorem dksX0_faultHere_0 : cX0_faultHere.data.toList.drop 0 = dktX0_faultHere_0 := by decide +kernel
theorem dX0_faultHere_0 : decode cX0_faultHere 0 = .ok (.aload_n 0, 1) := dk_42 (dk_at dksX0_faultHere_0 0 rfl rfl)
theorem dX0_faultHere_1 : decode cX0_faultHere 1 = .ok (.getfield 40, 3) := dk_180 0 40 (dk_at dksX0_faultHere_0 1 rfl rfl)
theorem dX0_faultHere_4 : decode cX0_faultHere 4 = .ok (.aload_n 0, 1) := dk_42 (dk_at dksX0_faultHere_0 4 rfl rfl)
theorem dX0_faultHere_5 : decode cX0_faultHere 5 = .ok (.getfield 234, 3) := dk_180 0 234 (dk_at dksX0_faultHere_0 5 rfl rfl)
theorem dX0_faultHere_8 : decode cX0_faultHere 8 = .ok (.invokevirtual 243, 3) := dk_182 0 243 (dk_at dksX0_faultHere_0 8 rfl rfl)
theorem dX0_faultHere_11 : decode cX0_faultHere 11 = .ok (.areturn, 1) := dk_176 (dk_at dksX0_faultHere_0 11 rfl rfl)
abbrev cX0_rule : ByteArray := prog_1_method_36_code
def yX0_rule : MethodName := ⟨RX0, "rule", "()LLeftUndoes$Rule;"⟩
def dkwX0_rule_4 : List UInt8 := [176]
abbrev dktX0_rule_4 : List UInt8 := dkwX0_rule_4 ++ []
def dkwX0_rule_3 : List UInt8 := [182, 1, 67, 54, 4, 42, 19, 1, 70, 182, 1, 37, 187, 1, 72, 89, 27, 44, 29, 21, 4, 183, 1, 74]
abbrev dktX0_rule_3 : List UInt8 := dkwX0_rule_3 ++ dktX0_rule_4
def dkwX0_rule_2 : List UInt8 := [62, 29, 156, 0, 8, 42, 182, 1, 5, 191, 29, 5, 160, 0, 7, 3, 167, 0, 9, 42, 16, 99]
abbrev dktX0_rule_2 : List UInt8 := dkwX0_rule_2 ++ dktX0_rule_3
def dkwX0_rule_1 : List UInt8 := [182, 1, 2, 153, 0, 11, 42, 3, 182, 1, 32, 167, 0, 4, 1, 77, 42, 42, 180, 0, 87, 182, 1, 9]
abbrev dktX0_rule_1 : List UInt8 := dkwX0_rule_1 ++ dktX0_rule_2
def dkwX0_rule_0 : List UInt8 := [42, 42, 180, 0, 77, 182, 1, 9, 60, 27, 156, 0, 8, 42, 182, 1, 5, 191, 42, 19, 1, 65]
abbrev dktX0_rule_0 : List UInt8 := dkwX0_rule_0 ++ dktX0_rule_1
theorem dksX0_rule_0 : cX0_rule.data.toList.drop 0 = dktX0_rule_0 := by decide +kernel
theorem dksX0_rule_1 : cX0_rule.data.toList.drop 22 = dktX0_rule_1 := dk_seg dksX0_rule_0 22 rfl rfl
theorem dksX0_rule_2 : cX0_rule.data.toList.drop 46 = dktX0_rule_2 := dk_seg dksX0_rule_1 24 rfl rfl
theorem dksX0_rule_3 : cX0_rule.data.toList.drop 68 = dktX0_rule_3 := dk_seg dksX0_rule_2 22 rfl rfl
theorem dksX0_rule_4 : cX0_rule.data.toList.drop 92 = dktX0_rule_4 := dk_seg dksX0_rule_3 24 rfl rfl
theorem dX0_rule_0 : decode cX0_rule 0 = .ok (.aload_n 0, 1) := dk_42 (dk_at dksX0_rule_0 0 rfl rfl)
theorem dX0_rule_1 : decode cX0_rule 1 = .ok (.aload_n 0, 1) := dk_42 (dk_at dksX0_rule_0 1 rfl rfl)
theorem dX0_rule_2 : decode cX0_rule 2 = .ok (.getfield 77, 3) := dk_180 0 77 (dk_at dksX0_rule_0 2 rfl rfl)
theorem dX0_rule_5 : decode cX0_rule 5 = .ok (.invokevirtual 265, 3) := dk_182 1 9 (dk_at dksX0_rule_0 5 rfl rfl)
theorem dX0_rule_8 : decode cX0_rule 8 = .ok (.istore_n 1, 1) := dk_60 (dk_at dksX0_rule_0 8 rfl rfl)
theorem dX0_rule_9 : decode cX0_rule 9 = .ok (.iload_n 1, 1) := dk_27 (dk_at dksX0_rule_0 9 rfl rfl)
theorem dX0_rule_10 : decode cX0_rule 10 = .ok (.ifCond .ge 8, 3) := dk_156 0 8 (dk_at dksX0_rule_0 10 rfl rfl)
theorem dX0_rule_13 : decode cX0_rule 13 = .ok (.aload_n 0, 1) := dk_42 (dk_at dksX0_rule_0 13 rfl rfl)
theorem dX0_rule_14 : decode cX0_rule 14 = .ok (.invokevirtual 261, 3) := dk_182 1 5 (dk_at dksX0_rule_0 14 rfl rfl)
theorem dX0_rule_17 : decode cX0_rule 17 = .ok (.athrow, 1) := dk_191 (dk_at dksX0_rule_0 17 rfl rfl)
theorem dX0_rule_18 : decode cX0_rule 18 = .ok (.aload_n 0, 1) := dk_42 (dk_at dksX0_rule_0 18 rfl rfl)
theorem dX0_rule_19 : decode cX0_rule 19 = .ok (.ldc_w 321, 3) := dk_19 1 65 (dk_at dksX0_rule_0 19 rfl rfl)
theorem dX0_rule_22 : decode cX0_rule 22 = .ok (.invokevirtual 258, 3) := dk_182 1 2 (dk_at dksX0_rule_1 0 rfl rfl)
theorem dX0_rule_25 : decode cX0_rule 25 = .ok (.ifCond .eq 11, 3) := dk_153 0 11 (dk_at dksX0_rule_1 3 rfl rfl)
theorem dX0_rule_28 : decode cX0_rule 28 = .ok (.aload_n 0, 1) := dk_42 (dk_at dksX0_rule_1 6 rfl rfl)
theorem dX0_rule_29 : decode cX0_rule 29 = .ok (.iconst 0, 1) := dk_3 (dk_at dksX0_rule_1 7 rfl rfl)
theorem dX0_rule_30 : decode cX0_rule 30 = .ok (.invokevirtual 288, 3) := dk_182 1 32 (dk_at dksX0_rule_1 8 rfl rfl)
theorem dX0_rule_33 : decode cX0_rule 33 = .ok (.goto 4, 3) := dk_167 0 4 (dk_at dksX0_rule_1 11 rfl rfl)
theorem dX0_rule_36 : decode cX0_rule 36 = .ok (.aconst_null, 1) := dk_1 (dk_at dksX0_rule_1 14 rfl rfl)
theorem dX0_rule_37 : decode cX0_rule 37 = .ok (.astore_n 2, 1) := dk_77 (dk_at dksX0_rule_1 15 rfl rfl)
theorem dX0_rule_38 : decode cX0_rule 38 = .ok (.aload_n 0, 1) := dk_42 (dk_at dksX0_rule_1 16 rfl rfl)
theorem dX0_rule_39 : decode cX0_rule 39 = .ok (.aload_n 0, 1) := dk_42 (dk_at dksX0_rule_1 17 rfl rfl)
theorem dX0_rule_40 : decode cX0_rule 40 = .ok (.getfield 87, 3) := dk_180 0 87 (dk_at dksX0_rule_1 18 rfl rfl)
theorem dX0_rule_43 : decode cX0_rule 43 = .ok (.invokevirtual 265, 3) := dk_182 1 9 (dk_at dksX0_rule_1 21 rfl rfl)
theorem dX0_rule_46 : decode cX0_rule 46 = .ok (.istore_n 3, 1) := dk_62 (dk_at dksX0_rule_2 0 rfl rfl)
theorem dX0_rule_47 : decode cX0_rule 47 = .ok (.iload_n 3, 1) := dk_29 (dk_at dksX0_rule_2 1 rfl rfl)
theorem dX0_rule_48 : decode cX0_rule 48 = .ok (.ifCond .ge 8, 3) := dk_156 0 8 (dk_at dksX0_rule_2 2 rfl rfl)
theorem dX0_rule_51 : decode cX0_rule 51 = .ok (.aload_n 0, 1) := dk_42 (dk_at dksX0_rule_2 5 rfl rfl)
theorem dX0_rule_52 : decode cX0_rule 52 = .ok (.invokevirtual 261, 3) := dk_182 1 5 (dk_at dksX0_rule_2 6 rfl rfl)
theorem dX0_rule_55 : decode cX0_rule 55 = .ok (.athrow, 1) := dk_191 (dk_at dksX0_rule_2 9 rfl rfl)
theorem dX0_rule_56 : decode cX0_rule 56 = .ok (.iload_n 3, 1) := dk_29 (dk_at dksX0_rule_2 10 rfl rfl)
theorem dX0_rule_57 : decode cX0_rule 57 = .ok (.iconst 2, 1) := dk_5 (dk_at dksX0_rule_2 11 rfl rfl)
theorem dX0_rule_58 : decode cX0_rule 58 = .ok (.if_icmp .ne 7, 3) := dk_160 0 7 (dk_at dksX0_rule_2 12 rfl rfl)
theorem dX0_rule_61 : decode cX0_rule 61 = .ok (.iconst 0, 1) := dk_3 (dk_at dksX0_rule_2 15 rfl rfl)
theorem dX0_rule_62 : decode cX0_rule 62 = .ok (.goto 9, 3) := dk_167 0 9 (dk_at dksX0_rule_2 16 rfl rfl)
theorem dX0_rule_65 : decode cX0_rule 65 = .ok (.aload_n 0, 1) := dk_42 (dk_at dksX0_rule_2 19 rfl rfl)
theorem dX0_rule_66 : decode cX0_rule 66 = .ok (.bipush 99, 2) := dk_16 99 (dk_at dksX0_rule_2 20 rfl rfl)
theorem dX0_rule_68 : decode cX0_rule 68 = .ok (.invokevirtual 323, 3) := dk_182 1 67 (dk_at dksX0_rule_3 0 rfl rfl)
theorem dX0_rule_71 : decode cX0_rule 71 = .ok (.istore 4, 2) := dk_54 4 (dk_at dksX0_rule_3 3 rfl rfl)
theorem dX0_rule_73 : decode cX0_rule 73 = .ok (.aload_n 0, 1) := dk_42 (dk_at dksX0_rule_3 5 rfl rfl)
theorem dX0_rule_74 : decode cX0_rule 74 = .ok (.ldc_w 326, 3) := dk_19 1 70 (dk_at dksX0_rule_3 6 rfl rfl)
theorem dX0_rule_77 : decode cX0_rule 77 = .ok (.invokevirtual 293, 3) := dk_182 1 37 (dk_at dksX0_rule_3 9 rfl rfl)
theorem dX0_rule_80 : decode cX0_rule 80 = .ok (.new 328, 3) := dk_187 1 72 (dk_at dksX0_rule_3 12 rfl rfl)
theorem dX0_rule_83 : decode cX0_rule 83 = .ok (.dup, 1) := dk_89 (dk_at dksX0_rule_3 15 rfl rfl)
theorem dX0_rule_84 : decode cX0_rule 84 = .ok (.iload_n 1, 1) := dk_27 (dk_at dksX0_rule_3 16 rfl rfl)
theorem dX0_rule_85 : decode cX0_rule 85 = .ok (.aload_n 2, 1) := dk_44 (dk_at dksX0_rule_3 17 rfl rfl)
theorem dX0_rule_86 : decode cX0_rule 86 = .ok (.iload_n 3, 1) := dk_29 (dk_at dksX0_rule_3 18 rfl rfl)
theorem dX0_rule_87 : decode cX0_rule 87 = .ok (.iload 4, 2) := dk_21 4 (dk_at dksX0_rule_3 19 rfl rfl)
theorem dX0_rule_89 : decode cX0_rule 89 = .ok (.invokespecial 330, 3) := dk_183 1 74 (dk_at dksX0_rule_3 21 rfl rfl)
theorem dX0_rule_92 : decode cX0_rule 92 = .ok (.areturn, 1) := dk_176 (dk_at dksX0_rule_4 0 rfl rfl)
abbrev cX0_nameOf : ByteArray := prog_1_method_30_code
def yX0_nameOf : MethodName := ⟨RX0, "nameOf", "([Ljava/lang/String;)I"⟩
def dkwX0_nameOf_1 : List UInt8 := [167, 255, 239, 28, 155, 0, 7, 42, 182, 0, 255, 28, 172]
abbrev dktX0_nameOf_1 : List UInt8 := dkwX0_nameOf_1 ++ []
def dkwX0_nameOf_0 : List UInt8 := [43, 190, 4, 100, 61, 28, 155, 0, 19, 42, 43, 28, 50, 182, 0, 251, 154, 0, 9, 132, 2, 255]
abbrev dktX0_nameOf_0 : List UInt8 := dkwX0_nameOf_0 ++ dktX0_nameOf_1
theorem dksX0_nameOf_0 : cX0_nameOf.data.toList.drop 0 = dktX0_nameOf_0 := by decide +kernel
theorem dksX0_nameOf_1 : cX0_nameOf.data.toList.drop 22 = dktX0_nameOf_1 := dk_seg dksX0_nameOf_0 22 rfl rfl
theorem dX0_nameOf_0 : decode cX0_nameOf 0 = .ok (.aload_n 1, 1) := dk_43 (dk_at dksX0_nameOf_0 0 rfl rfl)
theorem dX0_nameOf_1 : decode cX0_nameOf 1 = .ok (.arraylength, 1) := dk_190 (dk_at dksX0_nameOf_0 1 rfl rfl)
theorem dX0_nameOf_2 : decode cX0_nameOf 2 = .ok (.iconst 1, 1) := dk_4 (dk_at dksX0_nameOf_0 2 rfl rfl)
theorem dX0_nameOf_3 : decode cX0_nameOf 3 = .ok (.isub, 1) := dk_100 (dk_at dksX0_nameOf_0 3 rfl rfl)
theorem dX0_nameOf_4 : decode cX0_nameOf 4 = .ok (.istore_n 2, 1) := dk_61 (dk_at dksX0_nameOf_0 4 rfl rfl)
theorem dX0_nameOf_5 : decode cX0_nameOf 5 = .ok (.iload_n 2, 1) := dk_28 (dk_at dksX0_nameOf_0 5 rfl rfl)
theorem dX0_nameOf_6 : decode cX0_nameOf 6 = .ok (.ifCond .lt 19, 3) := dk_155 0 19 (dk_at dksX0_nameOf_0 6 rfl rfl)
theorem dX0_nameOf_9 : decode cX0_nameOf 9 = .ok (.aload_n 0, 1) := dk_42 (dk_at dksX0_nameOf_0 9 rfl rfl)
theorem dX0_nameOf_10 : decode cX0_nameOf 10 = .ok (.aload_n 1, 1) := dk_43 (dk_at dksX0_nameOf_0 10 rfl rfl)
theorem dX0_nameOf_11 : decode cX0_nameOf 11 = .ok (.iload_n 2, 1) := dk_28 (dk_at dksX0_nameOf_0 11 rfl rfl)
theorem dX0_nameOf_12 : decode cX0_nameOf 12 = .ok (.aaload, 1) := dk_50 (dk_at dksX0_nameOf_0 12 rfl rfl)
theorem dX0_nameOf_13 : decode cX0_nameOf 13 = .ok (.invokevirtual 251, 3) := dk_182 0 251 (dk_at dksX0_nameOf_0 13 rfl rfl)
theorem dX0_nameOf_16 : decode cX0_nameOf 16 = .ok (.ifCond .ne 9, 3) := dk_154 0 9 (dk_at dksX0_nameOf_0 16 rfl rfl)
theorem dX0_nameOf_19 : decode cX0_nameOf 19 = .ok (.iinc 2 (-1), 3) := dk_132 2 255 (dk_at dksX0_nameOf_0 19 rfl rfl)
theorem dX0_nameOf_22 : decode cX0_nameOf 22 = .ok (.goto (-17), 3) := dk_167 255 239 (dk_at dksX0_nameOf_1 0 rfl rfl)
theorem dX0_nameOf_25 : decode cX0_nameOf 25 = .ok (.iload_n 2, 1) := dk_28 (dk_at dksX0_nameOf_1 3 rfl rfl)
theorem dX0_nameOf_26 : decode cX0_nameOf 26 = .ok (.ifCond .lt 7, 3) := dk_155 0 7 (dk_at dksX0_nameOf_1 4 rfl rfl)
theorem dX0_nameOf_29 : decode cX0_nameOf 29 = .ok (.aload_n 0, 1) := dk_42 (dk_at dksX0_nameOf_1 7 rfl rfl)
theorem dX0_nameOf_30 : decode cX0_nameOf 30 = .ok (.invokevirtual 255, 3) := dk_182 0 255 (dk_at dksX0_nameOf_1 8 rfl rfl)
theorem dX0_nameOf_33 : decode cX0_nameOf 33 = .ok (.iload_n 2, 1) := dk_28 (dk_at dksX0_nameOf_1 11 rfl rfl)
theorem dX0_nameOf_34 : decode cX0_nameOf 34 = .ok (.ireturn, 1) := dk_172 (dk_at dksX0_nameOf_1 12 rfl rfl)
abbrev cX0_isName : ByteArray := prog_1_method_26_code
def yX0_isName : MethodName := ⟨RX0, "isName", "(Ljava/lang/String;)Z"⟩
def dkwX0_isName_2 : List UInt8 := [159, 0, 5, 3, 172, 132, 2, 1, 167, 255, 224, 4, 172]
abbrev dktX0_isName_2 : List UInt8 := dkwX0_isName_2 ++ []
def dkwX0_isName_1 : List UInt8 := [182, 0, 244, 162, 0, 30, 42, 180, 0, 103, 42, 180, 0, 234, 28, 96, 51, 43, 28, 182, 0, 247]
abbrev dktX0_isName_1 : List UInt8 := dkwX0_isName_1 ++ dktX0_isName_2
def dkwX0_isName_0 : List UInt8 := [42, 180, 0, 233, 42, 180, 0, 234, 100, 43, 182, 0, 244, 159, 0, 5, 3, 172, 3, 61, 28, 43]
abbrev dktX0_isName_0 : List UInt8 := dkwX0_isName_0 ++ dktX0_isName_1
theorem dksX0_isName_0 : cX0_isName.data.toList.drop 0 = dktX0_isName_0 := by decide +kernel
theorem dksX0_isName_1 : cX0_isName.data.toList.drop 22 = dktX0_isName_1 := dk_seg dksX0_isName_0 22 rfl rfl
theorem dksX0_isName_2 : cX0_isName.data.toList.drop 44 = dktX0_isName_2 := dk_seg dksX0_isName_1 22 rfl rfl
theorem dX0_isName_0 : decode cX0_isName 0 = .ok (.aload_n 0, 1) := dk_42 (dk_at dksX0_isName_0 0 rfl rfl)
theorem dX0_isName_1 : decode cX0_isName 1 = .ok (.getfield 233, 3) := dk_180 0 233 (dk_at dksX0_isName_0 1 rfl rfl)
theorem dX0_isName_4 : decode cX0_isName 4 = .ok (.aload_n 0, 1) := dk_42 (dk_at dksX0_isName_0 4 rfl rfl)
theorem dX0_isName_5 : decode cX0_isName 5 = .ok (.getfield 234, 3) := dk_180 0 234 (dk_at dksX0_isName_0 5 rfl rfl)
theorem dX0_isName_8 : decode cX0_isName 8 = .ok (.isub, 1) := dk_100 (dk_at dksX0_isName_0 8 rfl rfl)
theorem dX0_isName_9 : decode cX0_isName 9 = .ok (.aload_n 1, 1) := dk_43 (dk_at dksX0_isName_0 9 rfl rfl)
theorem dX0_isName_10 : decode cX0_isName 10 = .ok (.invokevirtual 244, 3) := dk_182 0 244 (dk_at dksX0_isName_0 10 rfl rfl)
theorem dX0_isName_13 : decode cX0_isName 13 = .ok (.if_icmp .eq 5, 3) := dk_159 0 5 (dk_at dksX0_isName_0 13 rfl rfl)
theorem dX0_isName_16 : decode cX0_isName 16 = .ok (.iconst 0, 1) := dk_3 (dk_at dksX0_isName_0 16 rfl rfl)
theorem dX0_isName_17 : decode cX0_isName 17 = .ok (.ireturn, 1) := dk_172 (dk_at dksX0_isName_0 17 rfl rfl)
theorem dX0_isName_18 : decode cX0_isName 18 = .ok (.iconst 0, 1) := dk_3 (dk_at dksX0_isName_0 18 rfl rfl)
theorem dX0_isName_19 : decode cX0_isName 19 = .ok (.istore_n 2, 1) := dk_61 (dk_at dksX0_isName_0 19 rfl rfl)
theorem dX0_isName_20 : decode cX0_isName 20 = .ok (.iload_n 2, 1) := dk_28 (dk_at dksX0_isName_0 20 rfl rfl)
theorem dX0_isName_21 : decode cX0_isName 21 = .ok (.aload_n 1, 1) := dk_43 (dk_at dksX0_isName_0 21 rfl rfl)
theorem dX0_isName_22 : decode cX0_isName 22 = .ok (.invokevirtual 244, 3) := dk_182 0 244 (dk_at dksX0_isName_1 0 rfl rfl)
theorem dX0_isName_25 : decode cX0_isName 25 = .ok (.if_icmp .ge 30, 3) := dk_162 0 30 (dk_at dksX0_isName_1 3 rfl rfl)
theorem dX0_isName_28 : decode cX0_isName 28 = .ok (.aload_n 0, 1) := dk_42 (dk_at dksX0_isName_1 6 rfl rfl)
theorem dX0_isName_29 : decode cX0_isName 29 = .ok (.getfield 103, 3) := dk_180 0 103 (dk_at dksX0_isName_1 7 rfl rfl)
theorem dX0_isName_32 : decode cX0_isName 32 = .ok (.aload_n 0, 1) := dk_42 (dk_at dksX0_isName_1 10 rfl rfl)
theorem dX0_isName_33 : decode cX0_isName 33 = .ok (.getfield 234, 3) := dk_180 0 234 (dk_at dksX0_isName_1 11 rfl rfl)
theorem dX0_isName_36 : decode cX0_isName 36 = .ok (.iload_n 2, 1) := dk_28 (dk_at dksX0_isName_1 14 rfl rfl)
theorem dX0_isName_37 : decode cX0_isName 37 = .ok (.iadd, 1) := dk_96 (dk_at dksX0_isName_1 15 rfl rfl)
theorem dX0_isName_38 : decode cX0_isName 38 = .ok (.baload, 1) := dk_51 (dk_at dksX0_isName_1 16 rfl rfl)
theorem dX0_isName_39 : decode cX0_isName 39 = .ok (.aload_n 1, 1) := dk_43 (dk_at dksX0_isName_1 17 rfl rfl)
theorem dX0_isName_40 : decode cX0_isName 40 = .ok (.iload_n 2, 1) := dk_28 (dk_at dksX0_isName_1 18 rfl rfl)
theorem dX0_isName_41 : decode cX0_isName 41 = .ok (.invokevirtual 247, 3) := dk_182 0 247 (dk_at dksX0_isName_1 19 rfl rfl)
theorem dX0_isName_44 : decode cX0_isName 44 = .ok (.if_icmp .eq 5, 3) := dk_159 0 5 (dk_at dksX0_isName_2 0 rfl rfl)
theorem dX0_isName_47 : decode cX0_isName 47 = .ok (.iconst 0, 1) := dk_3 (dk_at dksX0_isName_2 3 rfl rfl)
theorem dX0_isName_48 : decode cX0_isName 48 = .ok (.ireturn, 1) := dk_172 (dk_at dksX0_isName_2 4 rfl rfl)
theorem dX0_isName_49 : decode cX0_isName 49 = .ok (.iinc 2 1, 3) := dk_132 2 1 (dk_at dksX0_isName_2 5 rfl rfl)
theorem dX0_isName_52 : decode cX0_isName 52 = .ok (.goto (-32), 3) := dk_167 255 224 (dk_at dksX0_isName_2 8 rfl rfl)
theorem dX0_isName_55 : decode cX0_isName 55 = .ok (.iconst 1, 1) := dk_4 (dk_at dksX0_isName_2 11 rfl rfl)
theorem dX0_isName_56 : decode cX0_isName 56 = .ok (.ireturn, 1) := dk_172 (dk_at dksX0_isName_2 12 rfl rfl)
abbrev cX0_goesOn : ByteArray := prog_1_method_27_code
def yX0_goesOn : MethodName := ⟨RX0, "goesOn", "(Ljava/lang/String;)Z"⟩
def dkwX0_goesOn_0 : List UInt8 := [42, 43, 182, 0, 251, 154, 0, 5, 3, 172, 42, 182, 0, 255, 4, 172]
abbrev dktX0_goesOn_0 : List UInt8 := dkwX0_goesOn_0 ++ []
theorem dksX0_goesOn_0 : cX0_goesOn.data.toList.drop 0 = dktX0_goesOn_0 := by decide +kernel
theorem dX0_goesOn_0 : decode cX0_goesOn 0 = .ok (.aload_n 0, 1) := dk_42 (dk_at dksX0_goesOn_0 0 rfl rfl)
theorem dX0_goesOn_1 : decode cX0_goesOn 1 = .ok (.aload_n 1, 1) := dk_43 (dk_at dksX0_goesOn_0 1 rfl rfl)
theorem dX0_goesOn_2 : decode cX0_goesOn 2 = .ok (.invokevirtual 251, 3) := dk_182 0 251 (dk_at dksX0_goesOn_0 2 rfl rfl)
theorem dX0_goesOn_5 : decode cX0_goesOn 5 = .ok (.ifCond .ne 5, 3) := dk_154 0 5 (dk_at dksX0_goesOn_0 5 rfl rfl)
theorem dX0_goesOn_8 : decode cX0_goesOn 8 = .ok (.iconst 0, 1) := dk_3 (dk_at dksX0_goesOn_0 8 rfl rfl)
theorem dX0_goesOn_9 : decode cX0_goesOn 9 = .ok (.ireturn, 1) := dk_172 (dk_at dksX0_goesOn_0 9 rfl rfl)
theorem dX0_goesOn_10 : decode cX0_goesOn 10 = .ok (.aload_n 0, 1) := dk_42 (dk_at dksX0_goesOn_0 10 rfl rfl)
theorem dX0_goesOn_11 : decode cX0_goesOn 11 = .ok (.invokevirtual 255, 3) := dk_182 0 255 (dk_at dksX0_goesOn_0 11 rfl rfl)
theorem dX0_goesOn_14 : decode cX0_goesOn 14 = .ok (.iconst 1, 1) := dk_4 (dk_at dksX0_goesOn_0 14 rfl rfl)
theorem dX0_goesOn_15 : decode cX0_goesOn 15 = .ok (.ireturn, 1) := dk_172 (dk_at dksX0_goesOn_0 15 rfl rfl)
abbrev cX0_cond : ByteArray := prog_1_method_34_code
def yX0_cond : MethodName := ⟨RX0, "cond", "(I)LLeftUndoes$Cond;"⟩
def dkwX0_cond_1 : List UInt8 := [182, 1, 57, 183, 1, 64, 77, 167, 255, 232, 44, 176]
abbrev dktX0_cond_1 : List UInt8 := dkwX0_cond_1 ++ []
def dkwX0_cond_0 : List UInt8 := [42, 27, 182, 1, 57, 77, 42, 19, 1, 60, 182, 1, 2, 153, 0, 20, 187, 1, 62, 89, 44, 42, 27]
abbrev dktX0_cond_0 : List UInt8 := dkwX0_cond_0 ++ dktX0_cond_1
theorem dksX0_cond_0 : cX0_cond.data.toList.drop 0 = dktX0_cond_0 := by decide +kernel
theorem dksX0_cond_1 : cX0_cond.data.toList.drop 23 = dktX0_cond_1 := dk_seg dksX0_cond_0 23 rfl rfl
theorem dX0_cond_0 : decode cX0_cond 0 = .ok (.aload_n 0, 1) := dk_42 (dk_at dksX0_cond_0 0 rfl rfl)
theorem dX0_cond_1 : decode cX0_cond 1 = .ok (.iload_n 1, 1) := dk_27 (dk_at dksX0_cond_0 1 rfl rfl)
theorem dX0_cond_2 : decode cX0_cond 2 = .ok (.invokevirtual 313, 3) := dk_182 1 57 (dk_at dksX0_cond_0 2 rfl rfl)
theorem dX0_cond_5 : decode cX0_cond 5 = .ok (.astore_n 2, 1) := dk_77 (dk_at dksX0_cond_0 5 rfl rfl)
theorem dX0_cond_6 : decode cX0_cond 6 = .ok (.aload_n 0, 1) := dk_42 (dk_at dksX0_cond_0 6 rfl rfl)
theorem dX0_cond_7 : decode cX0_cond 7 = .ok (.ldc_w 316, 3) := dk_19 1 60 (dk_at dksX0_cond_0 7 rfl rfl)
theorem dX0_cond_10 : decode cX0_cond 10 = .ok (.invokevirtual 258, 3) := dk_182 1 2 (dk_at dksX0_cond_0 10 rfl rfl)
theorem dX0_cond_13 : decode cX0_cond 13 = .ok (.ifCond .eq 20, 3) := dk_153 0 20 (dk_at dksX0_cond_0 13 rfl rfl)
theorem dX0_cond_16 : decode cX0_cond 16 = .ok (.new 318, 3) := dk_187 1 62 (dk_at dksX0_cond_0 16 rfl rfl)
theorem dX0_cond_19 : decode cX0_cond 19 = .ok (.dup, 1) := dk_89 (dk_at dksX0_cond_0 19 rfl rfl)
theorem dX0_cond_20 : decode cX0_cond 20 = .ok (.aload_n 2, 1) := dk_44 (dk_at dksX0_cond_0 20 rfl rfl)
theorem dX0_cond_21 : decode cX0_cond 21 = .ok (.aload_n 0, 1) := dk_42 (dk_at dksX0_cond_0 21 rfl rfl)
theorem dX0_cond_22 : decode cX0_cond 22 = .ok (.iload_n 1, 1) := dk_27 (dk_at dksX0_cond_0 22 rfl rfl)
theorem dX0_cond_23 : decode cX0_cond 23 = .ok (.invokevirtual 313, 3) := dk_182 1 57 (dk_at dksX0_cond_1 0 rfl rfl)
theorem dX0_cond_26 : decode cX0_cond 26 = .ok (.invokespecial 320, 3) := dk_183 1 64 (dk_at dksX0_cond_1 3 rfl rfl)
theorem dX0_cond_29 : decode cX0_cond 29 = .ok (.astore_n 2, 1) := dk_77 (dk_at dksX0_cond_1 6 rfl rfl)
theorem dX0_cond_30 : decode cX0_cond 30 = .ok (.goto (-24), 3) := dk_167 255 232 (dk_at dksX0_cond_1 7 rfl rfl)
theorem dX0_cond_33 : decode cX0_cond 33 = .ok (.aload_n 2, 1) := dk_44 (dk_at dksX0_cond_1 10 rfl rfl)
theorem dX0_cond_34 : decode cX0_cond 34 = .ok (.areturn, 1) := dk_176 (dk_at dksX0_cond_1 11 rfl rfl)
abbrev cX0_all : ByteArray := prog_1_method_33_code
def yX0_all : MethodName := ⟨RX0, "all", "(I)LLeftUndoes$Cond;"⟩
def dkwX0_all_1 : List UInt8 := [182, 1, 23, 183, 1, 54, 77, 167, 255, 232, 44, 176]
abbrev dktX0_all_1 : List UInt8 := dkwX0_all_1 ++ []
def dkwX0_all_0 : List UInt8 := [42, 27, 182, 1, 23, 77, 42, 19, 1, 50, 182, 1, 2, 153, 0, 20, 187, 1, 52, 89, 44, 42, 27]
abbrev dktX0_all_0 : List UInt8 := dkwX0_all_0 ++ dktX0_all_1
theorem dksX0_all_0 : cX0_all.data.toList.drop 0 = dktX0_all_0 := by decide +kernel
theorem dksX0_all_1 : cX0_all.data.toList.drop 23 = dktX0_all_1 := dk_seg dksX0_all_0 23 rfl rfl
theorem dX0_all_0 : decode cX0_all 0 = .ok (.aload_n 0, 1) := dk_42 (dk_at dksX0_all_0 0 rfl rfl)
theorem dX0_all_1 : decode cX0_all 1 = .ok (.iload_n 1, 1) := dk_27 (dk_at dksX0_all_0 1 rfl rfl)
theorem dX0_all_2 : decode cX0_all 2 = .ok (.invokevirtual 279, 3) := dk_182 1 23 (dk_at dksX0_all_0 2 rfl rfl)
theorem dX0_all_5 : decode cX0_all 5 = .ok (.astore_n 2, 1) := dk_77 (dk_at dksX0_all_0 5 rfl rfl)
theorem dX0_all_6 : decode cX0_all 6 = .ok (.aload_n 0, 1) := dk_42 (dk_at dksX0_all_0 6 rfl rfl)
theorem dX0_all_7 : decode cX0_all 7 = .ok (.ldc_w 306, 3) := dk_19 1 50 (dk_at dksX0_all_0 7 rfl rfl)
theorem dX0_all_10 : decode cX0_all 10 = .ok (.invokevirtual 258, 3) := dk_182 1 2 (dk_at dksX0_all_0 10 rfl rfl)
theorem dX0_all_13 : decode cX0_all 13 = .ok (.ifCond .eq 20, 3) := dk_153 0 20 (dk_at dksX0_all_0 13 rfl rfl)
theorem dX0_all_16 : decode cX0_all 16 = .ok (.new 308, 3) := dk_187 1 52 (dk_at dksX0_all_0 16 rfl rfl)
theorem dX0_all_19 : decode cX0_all 19 = .ok (.dup, 1) := dk_89 (dk_at dksX0_all_0 19 rfl rfl)
theorem dX0_all_20 : decode cX0_all 20 = .ok (.aload_n 2, 1) := dk_44 (dk_at dksX0_all_0 20 rfl rfl)
theorem dX0_all_21 : decode cX0_all 21 = .ok (.aload_n 0, 1) := dk_42 (dk_at dksX0_all_0 21 rfl rfl)
theorem dX0_all_22 : decode cX0_all 22 = .ok (.iload_n 1, 1) := dk_27 (dk_at dksX0_all_0 22 rfl rfl)
theorem dX0_all_23 : decode cX0_all 23 = .ok (.invokevirtual 279, 3) := dk_182 1 23 (dk_at dksX0_all_1 0 rfl rfl)
theorem dX0_all_26 : decode cX0_all 26 = .ok (.invokespecial 310, 3) := dk_183 1 54 (dk_at dksX0_all_1 3 rfl rfl)
theorem dX0_all_29 : decode cX0_all 29 = .ok (.astore_n 2, 1) := dk_77 (dk_at dksX0_all_1 6 rfl rfl)
theorem dX0_all_30 : decode cX0_all 30 = .ok (.goto (-24), 3) := dk_167 255 232 (dk_at dksX0_all_1 7 rfl rfl)
theorem dX0_all_33 : decode cX0_all 33 = .ok (.aload_n 2, 1) := dk_44 (dk_at dksX0_all_1 10 rfl rfl)
theorem dX0_all_34 : decode cX0_all 34 = .ok (.areturn, 1) := dk_176 (dk_at dksX0_all_1 11 rfl rfl)
abbrev cX0_oneOf : ByteArray := prog_1_method_32_code
def yX0_oneOf : MethodName := ⟨RX0, "oneOf", "(I)LLeftUndoes$Cond;"⟩
def dkwX0_oneOf_5 : List UInt8 := [44, 29, 42, 182, 1, 41, 183, 1, 47, 176]
abbrev dktX0_oneOf_5 : List UInt8 := dkwX0_oneOf_5 ++ []
def dkwX0_oneOf_4 : List UInt8 := [16, 61, 159, 0, 14, 29, 16, 62, 159, 0, 8, 42, 182, 1, 5, 191, 42, 182, 0, 255, 187, 1, 45, 89]
abbrev dktX0_oneOf_4 : List UInt8 := dkwX0_oneOf_4 ++ dktX0_oneOf_5
def dkwX0_oneOf_3 : List UInt8 := [160, 0, 15, 42, 180, 0, 103, 42, 180, 0, 234, 51, 167, 0, 4, 2, 62, 29, 16, 60, 159, 0, 20, 29]
abbrev dktX0_oneOf_3 : List UInt8 := dkwX0_oneOf_3 ++ dktX0_oneOf_4
def dkwX0_oneOf_2 : List UInt8 := [19, 1, 35, 182, 1, 37, 44, 176, 42, 182, 1, 41, 77, 42, 180, 0, 233, 42, 180, 0, 234, 100, 4]
abbrev dktX0_oneOf_2 : List UInt8 := dkwX0_oneOf_2 ++ dktX0_oneOf_3
def dkwX0_oneOf_1 : List UInt8 := [6, 162, 0, 30, 42, 19, 1, 30, 182, 1, 2, 153, 0, 20, 42, 27, 4, 96, 182, 1, 32, 77, 42]
abbrev dktX0_oneOf_1 : List UInt8 := dkwX0_oneOf_1 ++ dktX0_oneOf_2
def dkwX0_oneOf_0 : List UInt8 := [42, 19, 1, 19, 182, 1, 2, 153, 0, 16, 187, 1, 21, 89, 42, 27, 182, 1, 23, 183, 1, 27, 176, 27]
abbrev dktX0_oneOf_0 : List UInt8 := dkwX0_oneOf_0 ++ dktX0_oneOf_1
theorem dksX0_oneOf_0 : cX0_oneOf.data.toList.drop 0 = dktX0_oneOf_0 := by decide +kernel
theorem dksX0_oneOf_1 : cX0_oneOf.data.toList.drop 24 = dktX0_oneOf_1 := dk_seg dksX0_oneOf_0 24 rfl rfl
theorem dksX0_oneOf_2 : cX0_oneOf.data.toList.drop 47 = dktX0_oneOf_2 := dk_seg dksX0_oneOf_1 23 rfl rfl
theorem dksX0_oneOf_3 : cX0_oneOf.data.toList.drop 70 = dktX0_oneOf_3 := dk_seg dksX0_oneOf_2 23 rfl rfl
theorem dksX0_oneOf_4 : cX0_oneOf.data.toList.drop 94 = dktX0_oneOf_4 := dk_seg dksX0_oneOf_3 24 rfl rfl
theorem dksX0_oneOf_5 : cX0_oneOf.data.toList.drop 118 = dktX0_oneOf_5 := dk_seg dksX0_oneOf_4 24 rfl rfl
theorem dX0_oneOf_0 : decode cX0_oneOf 0 = .ok (.aload_n 0, 1) := dk_42 (dk_at dksX0_oneOf_0 0 rfl rfl)
theorem dX0_oneOf_1 : decode cX0_oneOf 1 = .ok (.ldc_w 275, 3) := dk_19 1 19 (dk_at dksX0_oneOf_0 1 rfl rfl)
theorem dX0_oneOf_4 : decode cX0_oneOf 4 = .ok (.invokevirtual 258, 3) := dk_182 1 2 (dk_at dksX0_oneOf_0 4 rfl rfl)
theorem dX0_oneOf_7 : decode cX0_oneOf 7 = .ok (.ifCond .eq 16, 3) := dk_153 0 16 (dk_at dksX0_oneOf_0 7 rfl rfl)
theorem dX0_oneOf_10 : decode cX0_oneOf 10 = .ok (.new 277, 3) := dk_187 1 21 (dk_at dksX0_oneOf_0 10 rfl rfl)
theorem dX0_oneOf_13 : decode cX0_oneOf 13 = .ok (.dup, 1) := dk_89 (dk_at dksX0_oneOf_0 13 rfl rfl)
theorem dX0_oneOf_14 : decode cX0_oneOf 14 = .ok (.aload_n 0, 1) := dk_42 (dk_at dksX0_oneOf_0 14 rfl rfl)
theorem dX0_oneOf_15 : decode cX0_oneOf 15 = .ok (.iload_n 1, 1) := dk_27 (dk_at dksX0_oneOf_0 15 rfl rfl)
theorem dX0_oneOf_16 : decode cX0_oneOf 16 = .ok (.invokevirtual 279, 3) := dk_182 1 23 (dk_at dksX0_oneOf_0 16 rfl rfl)
theorem dX0_oneOf_19 : decode cX0_oneOf 19 = .ok (.invokespecial 283, 3) := dk_183 1 27 (dk_at dksX0_oneOf_0 19 rfl rfl)
theorem dX0_oneOf_22 : decode cX0_oneOf 22 = .ok (.areturn, 1) := dk_176 (dk_at dksX0_oneOf_0 22 rfl rfl)
theorem dX0_oneOf_23 : decode cX0_oneOf 23 = .ok (.iload_n 1, 1) := dk_27 (dk_at dksX0_oneOf_0 23 rfl rfl)
theorem dX0_oneOf_24 : decode cX0_oneOf 24 = .ok (.iconst 3, 1) := dk_6 (dk_at dksX0_oneOf_1 0 rfl rfl)
theorem dX0_oneOf_25 : decode cX0_oneOf 25 = .ok (.if_icmp .ge 30, 3) := dk_162 0 30 (dk_at dksX0_oneOf_1 1 rfl rfl)
theorem dX0_oneOf_28 : decode cX0_oneOf 28 = .ok (.aload_n 0, 1) := dk_42 (dk_at dksX0_oneOf_1 4 rfl rfl)
theorem dX0_oneOf_29 : decode cX0_oneOf 29 = .ok (.ldc_w 286, 3) := dk_19 1 30 (dk_at dksX0_oneOf_1 5 rfl rfl)
theorem dX0_oneOf_32 : decode cX0_oneOf 32 = .ok (.invokevirtual 258, 3) := dk_182 1 2 (dk_at dksX0_oneOf_1 8 rfl rfl)
theorem dX0_oneOf_35 : decode cX0_oneOf 35 = .ok (.ifCond .eq 20, 3) := dk_153 0 20 (dk_at dksX0_oneOf_1 11 rfl rfl)
theorem dX0_oneOf_38 : decode cX0_oneOf 38 = .ok (.aload_n 0, 1) := dk_42 (dk_at dksX0_oneOf_1 14 rfl rfl)
theorem dX0_oneOf_39 : decode cX0_oneOf 39 = .ok (.iload_n 1, 1) := dk_27 (dk_at dksX0_oneOf_1 15 rfl rfl)
theorem dX0_oneOf_40 : decode cX0_oneOf 40 = .ok (.iconst 1, 1) := dk_4 (dk_at dksX0_oneOf_1 16 rfl rfl)
theorem dX0_oneOf_41 : decode cX0_oneOf 41 = .ok (.iadd, 1) := dk_96 (dk_at dksX0_oneOf_1 17 rfl rfl)
theorem dX0_oneOf_42 : decode cX0_oneOf 42 = .ok (.invokevirtual 288, 3) := dk_182 1 32 (dk_at dksX0_oneOf_1 18 rfl rfl)
theorem dX0_oneOf_45 : decode cX0_oneOf 45 = .ok (.astore_n 2, 1) := dk_77 (dk_at dksX0_oneOf_1 21 rfl rfl)
theorem dX0_oneOf_46 : decode cX0_oneOf 46 = .ok (.aload_n 0, 1) := dk_42 (dk_at dksX0_oneOf_1 22 rfl rfl)
theorem dX0_oneOf_47 : decode cX0_oneOf 47 = .ok (.ldc_w 291, 3) := dk_19 1 35 (dk_at dksX0_oneOf_2 0 rfl rfl)
theorem dX0_oneOf_50 : decode cX0_oneOf 50 = .ok (.invokevirtual 293, 3) := dk_182 1 37 (dk_at dksX0_oneOf_2 3 rfl rfl)
theorem dX0_oneOf_53 : decode cX0_oneOf 53 = .ok (.aload_n 2, 1) := dk_44 (dk_at dksX0_oneOf_2 6 rfl rfl)
theorem dX0_oneOf_54 : decode cX0_oneOf 54 = .ok (.areturn, 1) := dk_176 (dk_at dksX0_oneOf_2 7 rfl rfl)
theorem dX0_oneOf_55 : decode cX0_oneOf 55 = .ok (.aload_n 0, 1) := dk_42 (dk_at dksX0_oneOf_2 8 rfl rfl)
theorem dX0_oneOf_56 : decode cX0_oneOf 56 = .ok (.invokevirtual 297, 3) := dk_182 1 41 (dk_at dksX0_oneOf_2 9 rfl rfl)
theorem dX0_oneOf_59 : decode cX0_oneOf 59 = .ok (.astore_n 2, 1) := dk_77 (dk_at dksX0_oneOf_2 12 rfl rfl)
theorem dX0_oneOf_60 : decode cX0_oneOf 60 = .ok (.aload_n 0, 1) := dk_42 (dk_at dksX0_oneOf_2 13 rfl rfl)
theorem dX0_oneOf_61 : decode cX0_oneOf 61 = .ok (.getfield 233, 3) := dk_180 0 233 (dk_at dksX0_oneOf_2 14 rfl rfl)
theorem dX0_oneOf_64 : decode cX0_oneOf 64 = .ok (.aload_n 0, 1) := dk_42 (dk_at dksX0_oneOf_2 17 rfl rfl)
theorem dX0_oneOf_65 : decode cX0_oneOf 65 = .ok (.getfield 234, 3) := dk_180 0 234 (dk_at dksX0_oneOf_2 18 rfl rfl)
theorem dX0_oneOf_68 : decode cX0_oneOf 68 = .ok (.isub, 1) := dk_100 (dk_at dksX0_oneOf_2 21 rfl rfl)
theorem dX0_oneOf_69 : decode cX0_oneOf 69 = .ok (.iconst 1, 1) := dk_4 (dk_at dksX0_oneOf_2 22 rfl rfl)
theorem dX0_oneOf_70 : decode cX0_oneOf 70 = .ok (.if_icmp .ne 15, 3) := dk_160 0 15 (dk_at dksX0_oneOf_3 0 rfl rfl)
theorem dX0_oneOf_73 : decode cX0_oneOf 73 = .ok (.aload_n 0, 1) := dk_42 (dk_at dksX0_oneOf_3 3 rfl rfl)
theorem dX0_oneOf_74 : decode cX0_oneOf 74 = .ok (.getfield 103, 3) := dk_180 0 103 (dk_at dksX0_oneOf_3 4 rfl rfl)
theorem dX0_oneOf_77 : decode cX0_oneOf 77 = .ok (.aload_n 0, 1) := dk_42 (dk_at dksX0_oneOf_3 7 rfl rfl)
theorem dX0_oneOf_78 : decode cX0_oneOf 78 = .ok (.getfield 234, 3) := dk_180 0 234 (dk_at dksX0_oneOf_3 8 rfl rfl)
theorem dX0_oneOf_81 : decode cX0_oneOf 81 = .ok (.baload, 1) := dk_51 (dk_at dksX0_oneOf_3 11 rfl rfl)
theorem dX0_oneOf_82 : decode cX0_oneOf 82 = .ok (.goto 4, 3) := dk_167 0 4 (dk_at dksX0_oneOf_3 12 rfl rfl)
theorem dX0_oneOf_85 : decode cX0_oneOf 85 = .ok (.iconst (-1), 1) := dk_2 (dk_at dksX0_oneOf_3 15 rfl rfl)
theorem dX0_oneOf_86 : decode cX0_oneOf 86 = .ok (.istore_n 3, 1) := dk_62 (dk_at dksX0_oneOf_3 16 rfl rfl)
theorem dX0_oneOf_87 : decode cX0_oneOf 87 = .ok (.iload_n 3, 1) := dk_29 (dk_at dksX0_oneOf_3 17 rfl rfl)
theorem dX0_oneOf_88 : decode cX0_oneOf 88 = .ok (.bipush 60, 2) := dk_16 60 (dk_at dksX0_oneOf_3 18 rfl rfl)
theorem dX0_oneOf_90 : decode cX0_oneOf 90 = .ok (.if_icmp .eq 20, 3) := dk_159 0 20 (dk_at dksX0_oneOf_3 20 rfl rfl)
theorem dX0_oneOf_93 : decode cX0_oneOf 93 = .ok (.iload_n 3, 1) := dk_29 (dk_at dksX0_oneOf_3 23 rfl rfl)
theorem dX0_oneOf_94 : decode cX0_oneOf 94 = .ok (.bipush 61, 2) := dk_16 61 (dk_at dksX0_oneOf_4 0 rfl rfl)
theorem dX0_oneOf_96 : decode cX0_oneOf 96 = .ok (.if_icmp .eq 14, 3) := dk_159 0 14 (dk_at dksX0_oneOf_4 2 rfl rfl)
theorem dX0_oneOf_99 : decode cX0_oneOf 99 = .ok (.iload_n 3, 1) := dk_29 (dk_at dksX0_oneOf_4 5 rfl rfl)
theorem dX0_oneOf_100 : decode cX0_oneOf 100 = .ok (.bipush 62, 2) := dk_16 62 (dk_at dksX0_oneOf_4 6 rfl rfl)
theorem dX0_oneOf_102 : decode cX0_oneOf 102 = .ok (.if_icmp .eq 8, 3) := dk_159 0 8 (dk_at dksX0_oneOf_4 8 rfl rfl)
theorem dX0_oneOf_105 : decode cX0_oneOf 105 = .ok (.aload_n 0, 1) := dk_42 (dk_at dksX0_oneOf_4 11 rfl rfl)
theorem dX0_oneOf_106 : decode cX0_oneOf 106 = .ok (.invokevirtual 261, 3) := dk_182 1 5 (dk_at dksX0_oneOf_4 12 rfl rfl)
theorem dX0_oneOf_109 : decode cX0_oneOf 109 = .ok (.athrow, 1) := dk_191 (dk_at dksX0_oneOf_4 15 rfl rfl)
theorem dX0_oneOf_110 : decode cX0_oneOf 110 = .ok (.aload_n 0, 1) := dk_42 (dk_at dksX0_oneOf_4 16 rfl rfl)
theorem dX0_oneOf_111 : decode cX0_oneOf 111 = .ok (.invokevirtual 255, 3) := dk_182 0 255 (dk_at dksX0_oneOf_4 17 rfl rfl)
theorem dX0_oneOf_114 : decode cX0_oneOf 114 = .ok (.new 301, 3) := dk_187 1 45 (dk_at dksX0_oneOf_4 20 rfl rfl)
theorem dX0_oneOf_117 : decode cX0_oneOf 117 = .ok (.dup, 1) := dk_89 (dk_at dksX0_oneOf_4 23 rfl rfl)
theorem dX0_oneOf_118 : decode cX0_oneOf 118 = .ok (.aload_n 2, 1) := dk_44 (dk_at dksX0_oneOf_5 0 rfl rfl)
theorem dX0_oneOf_119 : decode cX0_oneOf 119 = .ok (.iload_n 3, 1) := dk_29 (dk_at dksX0_oneOf_5 1 rfl rfl)
theorem dX0_oneOf_120 : decode cX0_oneOf 120 = .ok (.aload_n 0, 1) := dk_42 (dk_at dksX0_oneOf_5 2 rfl rfl)
theorem dX0_oneOf_121 : decode cX0_oneOf 121 = .ok (.invokevirtual 297, 3) := dk_182 1 41 (dk_at dksX0_oneOf_5 3 rfl rfl)
theorem dX0_oneOf_124 : decode cX0_oneOf 124 = .ok (.invokespecial 303, 3) := dk_183 1 47 (dk_at dksX0_oneOf_5 6 rfl rfl)
theorem dX0_oneOf_127 : decode cX0_oneOf 127 = .ok (.areturn, 1) := dk_176 (dk_at dksX0_oneOf_5 9 rfl rfl)
abbrev cX0_want : ByteArray := prog_1_method_28_code
def yX0_want : MethodName := ⟨RX0, "want", "(Ljava/lang/String;)V"⟩
def dkwX0_want_0 : List UInt8 := [42, 43, 182, 1, 2, 154, 0, 8, 42, 182, 1, 5, 191, 177]
abbrev dktX0_want_0 : List UInt8 := dkwX0_want_0 ++ []
theorem dksX0_want_0 : cX0_want.data.toList.drop 0 = dktX0_want_0 := by decide +kernel
theorem dX0_want_0 : decode cX0_want 0 = .ok (.aload_n 0, 1) := dk_42 (dk_at dksX0_want_0 0 rfl rfl)
theorem dX0_want_1 : decode cX0_want 1 = .ok (.aload_n 1, 1) := dk_43 (dk_at dksX0_want_0 1 rfl rfl)
theorem dX0_want_2 : decode cX0_want 2 = .ok (.invokevirtual 258, 3) := dk_182 1 2 (dk_at dksX0_want_0 2 rfl rfl)
theorem dX0_want_5 : decode cX0_want 5 = .ok (.ifCond .ne 8, 3) := dk_154 0 8 (dk_at dksX0_want_0 5 rfl rfl)
theorem dX0_want_8 : decode cX0_want 8 = .ok (.aload_n 0, 1) := dk_42 (dk_at dksX0_want_0 8 rfl rfl)
theorem dX0_want_9 : decode cX0_want 9 = .ok (.invokevirtual 261, 3) := dk_182 1 5 (dk_at dksX0_want_0 9 rfl rfl)
theorem dX0_want_12 : decode cX0_want 12 = .ok (.athrow, 1) := dk_191 (dk_at dksX0_want_0 12 rfl rfl)
theorem dX0_want_13 : decode cX0_want 13 = .ok (.return_, 1) := dk_177 (dk_at dksX0_want_0 13 rfl rfl)
abbrev cX0_value : ByteArray := prog_1_method_31_code
def yX0_value : MethodName := ⟨RX0, "value", "()LLeftUndoes$Value;"⟩
def dkwX0_value_1 : List UInt8 := [167, 0, 15, 187, 1, 13, 89, 2, 42, 182, 1, 16, 183, 1, 15, 176]
abbrev dktX0_value_1 : List UInt8 := dkwX0_value_1 ++ []
def dkwX0_value_0 : List UInt8 := [42, 42, 180, 0, 100, 182, 1, 9, 60, 27, 155, 0, 15, 187, 1, 13, 89, 27, 3, 183, 1, 15]
abbrev dktX0_value_0 : List UInt8 := dkwX0_value_0 ++ dktX0_value_1
theorem dksX0_value_0 : cX0_value.data.toList.drop 0 = dktX0_value_0 := by decide +kernel
theorem dksX0_value_1 : cX0_value.data.toList.drop 22 = dktX0_value_1 := dk_seg dksX0_value_0 22 rfl rfl
theorem dX0_value_0 : decode cX0_value 0 = .ok (.aload_n 0, 1) := dk_42 (dk_at dksX0_value_0 0 rfl rfl)
theorem dX0_value_1 : decode cX0_value 1 = .ok (.aload_n 0, 1) := dk_42 (dk_at dksX0_value_0 1 rfl rfl)
theorem dX0_value_2 : decode cX0_value 2 = .ok (.getfield 100, 3) := dk_180 0 100 (dk_at dksX0_value_0 2 rfl rfl)
theorem dX0_value_5 : decode cX0_value 5 = .ok (.invokevirtual 265, 3) := dk_182 1 9 (dk_at dksX0_value_0 5 rfl rfl)
theorem dX0_value_8 : decode cX0_value 8 = .ok (.istore_n 1, 1) := dk_60 (dk_at dksX0_value_0 8 rfl rfl)
theorem dX0_value_9 : decode cX0_value 9 = .ok (.iload_n 1, 1) := dk_27 (dk_at dksX0_value_0 9 rfl rfl)
theorem dX0_value_10 : decode cX0_value 10 = .ok (.ifCond .lt 15, 3) := dk_155 0 15 (dk_at dksX0_value_0 10 rfl rfl)
theorem dX0_value_13 : decode cX0_value 13 = .ok (.new 269, 3) := dk_187 1 13 (dk_at dksX0_value_0 13 rfl rfl)
theorem dX0_value_16 : decode cX0_value 16 = .ok (.dup, 1) := dk_89 (dk_at dksX0_value_0 16 rfl rfl)
theorem dX0_value_17 : decode cX0_value 17 = .ok (.iload_n 1, 1) := dk_27 (dk_at dksX0_value_0 17 rfl rfl)
theorem dX0_value_18 : decode cX0_value 18 = .ok (.iconst 0, 1) := dk_3 (dk_at dksX0_value_0 18 rfl rfl)
theorem dX0_value_19 : decode cX0_value 19 = .ok (.invokespecial 271, 3) := dk_183 1 15 (dk_at dksX0_value_0 19 rfl rfl)
theorem dX0_value_22 : decode cX0_value 22 = .ok (.goto 15, 3) := dk_167 0 15 (dk_at dksX0_value_1 0 rfl rfl)
theorem dX0_value_25 : decode cX0_value 25 = .ok (.new 269, 3) := dk_187 1 13 (dk_at dksX0_value_1 3 rfl rfl)
theorem dX0_value_28 : decode cX0_value 28 = .ok (.dup, 1) := dk_89 (dk_at dksX0_value_1 6 rfl rfl)
theorem dX0_value_29 : decode cX0_value 29 = .ok (.iconst (-1), 1) := dk_2 (dk_at dksX0_value_1 7 rfl rfl)
theorem dX0_value_30 : decode cX0_value 30 = .ok (.aload_n 0, 1) := dk_42 (dk_at dksX0_value_1 8 rfl rfl)
theorem dX0_value_31 : decode cX0_value 31 = .ok (.invokevirtual 272, 3) := dk_182 1 16 (dk_at dksX0_value_1 9 rfl rfl)
theorem dX0_value_34 : decode cX0_value 34 = .ok (.invokespecial 271, 3) := dk_183 1 15 (dk_at dksX0_value_1 12 rfl rfl)
theorem dX0_value_37 : decode cX0_value 37 = .ok (.areturn, 1) := dk_176 (dk_at dksX0_value_1 15 rfl rfl)
abbrev cX0_figure : ByteArray := prog_1_method_29_code
def yX0_figure : MethodName := ⟨RX0, "figure", "()I"⟩
def dkwX0_figure_3 : List UInt8 := [132, 3, 1, 167, 255, 230, 42, 182, 0, 255, 28, 172]
abbrev dktX0_figure_3 : List UInt8 := dkwX0_figure_3 ++ []
def dkwX0_figure_2 : List UInt8 := [42, 180, 0, 233, 162, 0, 24, 16, 10, 28, 104, 42, 180, 0, 103, 29, 51, 96, 16, 48, 100, 61]
abbrev dktX0_figure_2 : List UInt8 := dkwX0_figure_2 ++ dktX0_figure_3
def dkwX0_figure_1 : List UInt8 := [42, 180, 0, 234, 51, 184, 0, 240, 154, 0, 8, 42, 182, 1, 5, 191, 3, 61, 42, 180, 0, 234, 62, 29]
abbrev dktX0_figure_1 : List UInt8 := dkwX0_figure_1 ++ dktX0_figure_2
def dkwX0_figure_0 : List UInt8 := [42, 180, 0, 233, 42, 180, 0, 234, 100, 60, 27, 4, 161, 0, 23, 27, 7, 163, 0, 18, 42, 180, 0, 103]
abbrev dktX0_figure_0 : List UInt8 := dkwX0_figure_0 ++ dktX0_figure_1
theorem dksX0_figure_0 : cX0_figure.data.toList.drop 0 = dktX0_figure_0 := by decide +kernel
theorem dksX0_figure_1 : cX0_figure.data.toList.drop 24 = dktX0_figure_1 := dk_seg dksX0_figure_0 24 rfl rfl
theorem dksX0_figure_2 : cX0_figure.data.toList.drop 48 = dktX0_figure_2 := dk_seg dksX0_figure_1 24 rfl rfl
theorem dksX0_figure_3 : cX0_figure.data.toList.drop 70 = dktX0_figure_3 := dk_seg dksX0_figure_2 22 rfl rfl
theorem dX0_figure_0 : decode cX0_figure 0 = .ok (.aload_n 0, 1) := dk_42 (dk_at dksX0_figure_0 0 rfl rfl)
theorem dX0_figure_1 : decode cX0_figure 1 = .ok (.getfield 233, 3) := dk_180 0 233 (dk_at dksX0_figure_0 1 rfl rfl)
theorem dX0_figure_4 : decode cX0_figure 4 = .ok (.aload_n 0, 1) := dk_42 (dk_at dksX0_figure_0 4 rfl rfl)
theorem dX0_figure_5 : decode cX0_figure 5 = .ok (.getfield 234, 3) := dk_180 0 234 (dk_at dksX0_figure_0 5 rfl rfl)
theorem dX0_figure_8 : decode cX0_figure 8 = .ok (.isub, 1) := dk_100 (dk_at dksX0_figure_0 8 rfl rfl)
theorem dX0_figure_9 : decode cX0_figure 9 = .ok (.istore_n 1, 1) := dk_60 (dk_at dksX0_figure_0 9 rfl rfl)
theorem dX0_figure_10 : decode cX0_figure 10 = .ok (.iload_n 1, 1) := dk_27 (dk_at dksX0_figure_0 10 rfl rfl)
theorem dX0_figure_11 : decode cX0_figure 11 = .ok (.iconst 1, 1) := dk_4 (dk_at dksX0_figure_0 11 rfl rfl)
theorem dX0_figure_12 : decode cX0_figure 12 = .ok (.if_icmp .lt 23, 3) := dk_161 0 23 (dk_at dksX0_figure_0 12 rfl rfl)
theorem dX0_figure_15 : decode cX0_figure 15 = .ok (.iload_n 1, 1) := dk_27 (dk_at dksX0_figure_0 15 rfl rfl)
theorem dX0_figure_16 : decode cX0_figure 16 = .ok (.iconst 4, 1) := dk_7 (dk_at dksX0_figure_0 16 rfl rfl)
theorem dX0_figure_17 : decode cX0_figure 17 = .ok (.if_icmp .gt 18, 3) := dk_163 0 18 (dk_at dksX0_figure_0 17 rfl rfl)
theorem dX0_figure_20 : decode cX0_figure 20 = .ok (.aload_n 0, 1) := dk_42 (dk_at dksX0_figure_0 20 rfl rfl)
theorem dX0_figure_21 : decode cX0_figure 21 = .ok (.getfield 103, 3) := dk_180 0 103 (dk_at dksX0_figure_0 21 rfl rfl)
theorem dX0_figure_24 : decode cX0_figure 24 = .ok (.aload_n 0, 1) := dk_42 (dk_at dksX0_figure_1 0 rfl rfl)
theorem dX0_figure_25 : decode cX0_figure 25 = .ok (.getfield 234, 3) := dk_180 0 234 (dk_at dksX0_figure_1 1 rfl rfl)
theorem dX0_figure_28 : decode cX0_figure 28 = .ok (.baload, 1) := dk_51 (dk_at dksX0_figure_1 4 rfl rfl)
theorem dX0_figure_29 : decode cX0_figure 29 = .ok (.invokestatic 240, 3) := dk_184 0 240 (dk_at dksX0_figure_1 5 rfl rfl)
theorem dX0_figure_32 : decode cX0_figure 32 = .ok (.ifCond .ne 8, 3) := dk_154 0 8 (dk_at dksX0_figure_1 8 rfl rfl)
theorem dX0_figure_35 : decode cX0_figure 35 = .ok (.aload_n 0, 1) := dk_42 (dk_at dksX0_figure_1 11 rfl rfl)
theorem dX0_figure_36 : decode cX0_figure 36 = .ok (.invokevirtual 261, 3) := dk_182 1 5 (dk_at dksX0_figure_1 12 rfl rfl)
theorem dX0_figure_39 : decode cX0_figure 39 = .ok (.athrow, 1) := dk_191 (dk_at dksX0_figure_1 15 rfl rfl)
theorem dX0_figure_40 : decode cX0_figure 40 = .ok (.iconst 0, 1) := dk_3 (dk_at dksX0_figure_1 16 rfl rfl)
theorem dX0_figure_41 : decode cX0_figure 41 = .ok (.istore_n 2, 1) := dk_61 (dk_at dksX0_figure_1 17 rfl rfl)
theorem dX0_figure_42 : decode cX0_figure 42 = .ok (.aload_n 0, 1) := dk_42 (dk_at dksX0_figure_1 18 rfl rfl)
theorem dX0_figure_43 : decode cX0_figure 43 = .ok (.getfield 234, 3) := dk_180 0 234 (dk_at dksX0_figure_1 19 rfl rfl)
theorem dX0_figure_46 : decode cX0_figure 46 = .ok (.istore_n 3, 1) := dk_62 (dk_at dksX0_figure_1 22 rfl rfl)
theorem dX0_figure_47 : decode cX0_figure 47 = .ok (.iload_n 3, 1) := dk_29 (dk_at dksX0_figure_1 23 rfl rfl)
theorem dX0_figure_48 : decode cX0_figure 48 = .ok (.aload_n 0, 1) := dk_42 (dk_at dksX0_figure_2 0 rfl rfl)
theorem dX0_figure_49 : decode cX0_figure 49 = .ok (.getfield 233, 3) := dk_180 0 233 (dk_at dksX0_figure_2 1 rfl rfl)
theorem dX0_figure_52 : decode cX0_figure 52 = .ok (.if_icmp .ge 24, 3) := dk_162 0 24 (dk_at dksX0_figure_2 4 rfl rfl)
theorem dX0_figure_55 : decode cX0_figure 55 = .ok (.bipush 10, 2) := dk_16 10 (dk_at dksX0_figure_2 7 rfl rfl)
theorem dX0_figure_57 : decode cX0_figure 57 = .ok (.iload_n 2, 1) := dk_28 (dk_at dksX0_figure_2 9 rfl rfl)
theorem dX0_figure_58 : decode cX0_figure 58 = .ok (.imul, 1) := dk_104 (dk_at dksX0_figure_2 10 rfl rfl)
theorem dX0_figure_59 : decode cX0_figure 59 = .ok (.aload_n 0, 1) := dk_42 (dk_at dksX0_figure_2 11 rfl rfl)
theorem dX0_figure_60 : decode cX0_figure 60 = .ok (.getfield 103, 3) := dk_180 0 103 (dk_at dksX0_figure_2 12 rfl rfl)
theorem dX0_figure_63 : decode cX0_figure 63 = .ok (.iload_n 3, 1) := dk_29 (dk_at dksX0_figure_2 15 rfl rfl)
theorem dX0_figure_64 : decode cX0_figure 64 = .ok (.baload, 1) := dk_51 (dk_at dksX0_figure_2 16 rfl rfl)
theorem dX0_figure_65 : decode cX0_figure 65 = .ok (.iadd, 1) := dk_96 (dk_at dksX0_figure_2 17 rfl rfl)
theorem dX0_figure_66 : decode cX0_figure 66 = .ok (.bipush 48, 2) := dk_16 48 (dk_at dksX0_figure_2 18 rfl rfl)
theorem dX0_figure_68 : decode cX0_figure 68 = .ok (.isub, 1) := dk_100 (dk_at dksX0_figure_2 20 rfl rfl)
theorem dX0_figure_69 : decode cX0_figure 69 = .ok (.istore_n 2, 1) := dk_61 (dk_at dksX0_figure_2 21 rfl rfl)
theorem dX0_figure_70 : decode cX0_figure 70 = .ok (.iinc 3 1, 3) := dk_132 3 1 (dk_at dksX0_figure_3 0 rfl rfl)
theorem dX0_figure_73 : decode cX0_figure 73 = .ok (.goto (-26), 3) := dk_167 255 230 (dk_at dksX0_figure_3 3 rfl rfl)
theorem dX0_figure_76 : decode cX0_figure 76 = .ok (.aload_n 0, 1) := dk_42 (dk_at dksX0_figure_3 6 rfl rfl)
theorem dX0_figure_77 : decode cX0_figure 77 = .ok (.invokevirtual 255, 3) := dk_182 0 255 (dk_at dksX0_figure_3 7 rfl rfl)
theorem dX0_figure_80 : decode cX0_figure 80 = .ok (.iload_n 2, 1) := dk_28 (dk_at dksX0_figure_3 10 rfl rfl)
theorem dX0_figure_81 : decode cX0_figure 81 = .ok (.ireturn, 1) := dk_172 (dk_at dksX0_figure_3 11 rfl rfl)
abbrev cX0_upTo : ByteArray := prog_1_method_35_code
def yX0_upTo : MethodName := ⟨RX0, "upTo", "(I)I"⟩
def dkwX0_upTo_1 : List UInt8 := [29, 172]
abbrev dktX0_upTo_1 : List UInt8 := dkwX0_upTo_1 ++ []
def dkwX0_upTo_0 : List UInt8 := [42, 180, 0, 234, 61, 42, 182, 1, 16, 62, 29, 27, 164, 0, 12, 42, 180, 0, 40, 28, 182, 0, 243, 191]
abbrev dktX0_upTo_0 : List UInt8 := dkwX0_upTo_0 ++ dktX0_upTo_1
theorem dksX0_upTo_0 : cX0_upTo.data.toList.drop 0 = dktX0_upTo_0 := by decide +kernel
theorem dksX0_upTo_1 : cX0_upTo.data.toList.drop 24 = dktX0_upTo_1 := dk_seg dksX0_upTo_0 24 rfl rfl
theorem dX0_upTo_0 : decode cX0_upTo 0 = .ok (.aload_n 0, 1) := dk_42 (dk_at dksX0_upTo_0 0 rfl rfl)
theorem dX0_upTo_1 : decode cX0_upTo 1 = .ok (.getfield 234, 3) := dk_180 0 234 (dk_at dksX0_upTo_0 1 rfl rfl)
theorem dX0_upTo_4 : decode cX0_upTo 4 = .ok (.istore_n 2, 1) := dk_61 (dk_at dksX0_upTo_0 4 rfl rfl)
theorem dX0_upTo_5 : decode cX0_upTo 5 = .ok (.aload_n 0, 1) := dk_42 (dk_at dksX0_upTo_0 5 rfl rfl)
theorem dX0_upTo_6 : decode cX0_upTo 6 = .ok (.invokevirtual 272, 3) := dk_182 1 16 (dk_at dksX0_upTo_0 6 rfl rfl)
theorem dX0_upTo_9 : decode cX0_upTo 9 = .ok (.istore_n 3, 1) := dk_62 (dk_at dksX0_upTo_0 9 rfl rfl)
theorem dX0_upTo_10 : decode cX0_upTo 10 = .ok (.iload_n 3, 1) := dk_29 (dk_at dksX0_upTo_0 10 rfl rfl)
theorem dX0_upTo_11 : decode cX0_upTo 11 = .ok (.iload_n 1, 1) := dk_27 (dk_at dksX0_upTo_0 11 rfl rfl)
theorem dX0_upTo_12 : decode cX0_upTo 12 = .ok (.if_icmp .le 12, 3) := dk_164 0 12 (dk_at dksX0_upTo_0 12 rfl rfl)
theorem dX0_upTo_15 : decode cX0_upTo 15 = .ok (.aload_n 0, 1) := dk_42 (dk_at dksX0_upTo_0 15 rfl rfl)
theorem dX0_upTo_16 : decode cX0_upTo 16 = .ok (.getfield 40, 3) := dk_180 0 40 (dk_at dksX0_upTo_0 16 rfl rfl)
theorem dX0_upTo_19 : decode cX0_upTo 19 = .ok (.iload_n 2, 1) := dk_28 (dk_at dksX0_upTo_0 19 rfl rfl)
theorem dX0_upTo_20 : decode cX0_upTo 20 = .ok (.invokevirtual 243, 3) := dk_182 0 243 (dk_at dksX0_upTo_0 20 rfl rfl)
theorem dX0_upTo_23 : decode cX0_upTo 23 = .ok (.athrow, 1) := dk_191 (dk_at dksX0_upTo_0 23 rfl rfl)
theorem dX0_upTo_24 : decode cX0_upTo 24 = .ok (.iload_n 3, 1) := dk_29 (dk_at dksX0_upTo_1 0 rfl rfl)
theorem dX0_upTo_25 : decode cX0_upTo 25 = .ok (.ireturn, 1) := dk_172 (dk_at dksX0_upTo_1 1 rfl rfl)
abbrev cX0_year : ByteArray := prog_1_method_49_code
def yX0_year : MethodName := ⟨RX0, "year", "()I"⟩
def dkwX0_year_0 : List UInt8 := [42, 180, 0, 47, 182, 0, 226, 153, 0, 8, 16, 252, 167, 0, 8, 42, 2, 182, 1, 124, 172]
abbrev dktX0_year_0 : List UInt8 := dkwX0_year_0 ++ []
theorem dksX0_year_0 : cX0_year.data.toList.drop 0 = dktX0_year_0 := by decide +kernel
theorem dX0_year_0 : decode cX0_year 0 = .ok (.aload_n 0, 1) := dk_42 (dk_at dksX0_year_0 0 rfl rfl)
theorem dX0_year_1 : decode cX0_year 1 = .ok (.getfield 47, 3) := dk_180 0 47 (dk_at dksX0_year_0 1 rfl rfl)
theorem dX0_year_4 : decode cX0_year 4 = .ok (.invokevirtual 226, 3) := dk_182 0 226 (dk_at dksX0_year_0 4 rfl rfl)
theorem dX0_year_7 : decode cX0_year 7 = .ok (.ifCond .eq 8, 3) := dk_153 0 8 (dk_at dksX0_year_0 7 rfl rfl)
theorem dX0_year_10 : decode cX0_year 10 = .ok (.bipush (-4), 2) := dk_16 252 (dk_at dksX0_year_0 10 rfl rfl)
theorem dX0_year_12 : decode cX0_year 12 = .ok (.goto 8, 3) := dk_167 0 8 (dk_at dksX0_year_0 12 rfl rfl)
theorem dX0_year_15 : decode cX0_year 15 = .ok (.aload_n 0, 1) := dk_42 (dk_at dksX0_year_0 15 rfl rfl)
theorem dX0_year_16 : decode cX0_year 16 = .ok (.iconst (-1), 1) := dk_2 (dk_at dksX0_year_0 16 rfl rfl)
theorem dX0_year_17 : decode cX0_year 17 = .ok (.invokevirtual 380, 3) := dk_182 1 124 (dk_at dksX0_year_0 17 rfl rfl)
theorem dX0_year_20 : decode cX0_year 20 = .ok (.ireturn, 1) := dk_172 (dk_at dksX0_year_0 20 rfl rfl)
abbrev cX0_goes : ByteArray := prog_1_method_48_code
def yX0_goes : MethodName := ⟨RX0, "goes", "(I)I"⟩
def dkwX0_goes_0 : List UInt8 := [42, 27, 182, 1, 121, 61, 42, 180, 0, 47, 89, 180, 0, 223, 28, 96, 181, 0, 223, 28, 172]
abbrev dktX0_goes_0 : List UInt8 := dkwX0_goes_0 ++ []
theorem dksX0_goes_0 : cX0_goes.data.toList.drop 0 = dktX0_goes_0 := by decide +kernel
theorem dX0_goes_0 : decode cX0_goes 0 = .ok (.aload_n 0, 1) := dk_42 (dk_at dksX0_goes_0 0 rfl rfl)
theorem dX0_goes_1 : decode cX0_goes 1 = .ok (.iload_n 1, 1) := dk_27 (dk_at dksX0_goes_0 1 rfl rfl)
theorem dX0_goes_2 : decode cX0_goes 2 = .ok (.invokevirtual 377, 3) := dk_182 1 121 (dk_at dksX0_goes_0 2 rfl rfl)
theorem dX0_goes_5 : decode cX0_goes 5 = .ok (.istore_n 2, 1) := dk_61 (dk_at dksX0_goes_0 5 rfl rfl)
theorem dX0_goes_6 : decode cX0_goes 6 = .ok (.aload_n 0, 1) := dk_42 (dk_at dksX0_goes_0 6 rfl rfl)
theorem dX0_goes_7 : decode cX0_goes 7 = .ok (.getfield 47, 3) := dk_180 0 47 (dk_at dksX0_goes_0 7 rfl rfl)
theorem dX0_goes_10 : decode cX0_goes 10 = .ok (.dup, 1) := dk_89 (dk_at dksX0_goes_0 10 rfl rfl)
theorem dX0_goes_11 : decode cX0_goes 11 = .ok (.getfield 223, 3) := dk_180 0 223 (dk_at dksX0_goes_0 11 rfl rfl)
theorem dX0_goes_14 : decode cX0_goes 14 = .ok (.iload_n 2, 1) := dk_28 (dk_at dksX0_goes_0 14 rfl rfl)
theorem dX0_goes_15 : decode cX0_goes 15 = .ok (.iadd, 1) := dk_96 (dk_at dksX0_goes_0 15 rfl rfl)
theorem dX0_goes_16 : decode cX0_goes 16 = .ok (.putfield 223, 3) := dk_181 0 223 (dk_at dksX0_goes_0 16 rfl rfl)
theorem dX0_goes_19 : decode cX0_goes 19 = .ok (.iload_n 2, 1) := dk_28 (dk_at dksX0_goes_0 19 rfl rfl)
theorem dX0_goes_20 : decode cX0_goes 20 = .ok (.ireturn, 1) := dk_172 (dk_at dksX0_goes_0 20 rfl rfl)
abbrev cX0_passes : ByteArray := prog_1_method_46_code
def yX0_passes : MethodName := ⟨RX0, "passes", "(I)I"⟩
def dkwX0_passes_5 : List UInt8 := [180, 0, 186, 4, 96, 181, 0, 186, 28, 172]
abbrev dktX0_passes_5 : List UInt8 := dkwX0_passes_5 ++ []
def dkwX0_passes_4 : List UInt8 := [180, 0, 204, 29, 46, 167, 0, 4, 3, 96, 61, 132, 3, 1, 167, 255, 198, 42, 180, 0, 47, 89]
abbrev dktX0_passes_4 : List UInt8 := dkwX0_passes_4 ++ dktX0_passes_5
def dkwX0_passes_3 : List UInt8 := [46, 4, 160, 0, 30, 42, 29, 42, 180, 0, 47, 180, 0, 186, 182, 1, 117, 154, 0, 15, 42, 180, 0, 47]
abbrev dktX0_passes_3 : List UInt8 := dkwX0_passes_3 ++ dktX0_passes_4
def dkwX0_passes_2 : List UInt8 := [3, 61, 3, 62, 29, 42, 180, 0, 47, 180, 0, 154, 162, 0, 53, 28, 42, 180, 0, 47, 180, 0, 210, 29]
abbrev dktX0_passes_2 : List UInt8 := dkwX0_passes_2 ++ dktX0_passes_3
def dkwX0_passes_1 : List UInt8 := [167, 0, 8, 42, 28, 182, 0, 192, 62, 29, 155, 0, 8, 42, 29, 182, 1, 114, 132, 2, 1, 167, 255, 217]
abbrev dktX0_passes_1 : List UInt8 := dkwX0_passes_1 ++ dktX0_passes_2
def dkwX0_passes_0 : List UInt8 := [42, 182, 1, 111, 3, 61, 28, 42, 180, 0, 47, 180, 0, 146, 162, 0, 34, 28, 27, 160, 0, 8, 16, 253]
abbrev dktX0_passes_0 : List UInt8 := dkwX0_passes_0 ++ dktX0_passes_1
theorem dksX0_passes_0 : cX0_passes.data.toList.drop 0 = dktX0_passes_0 := by decide +kernel
theorem dksX0_passes_1 : cX0_passes.data.toList.drop 24 = dktX0_passes_1 := dk_seg dksX0_passes_0 24 rfl rfl
theorem dksX0_passes_2 : cX0_passes.data.toList.drop 48 = dktX0_passes_2 := dk_seg dksX0_passes_1 24 rfl rfl
theorem dksX0_passes_3 : cX0_passes.data.toList.drop 72 = dktX0_passes_3 := dk_seg dksX0_passes_2 24 rfl rfl
theorem dksX0_passes_4 : cX0_passes.data.toList.drop 96 = dktX0_passes_4 := dk_seg dksX0_passes_3 24 rfl rfl
theorem dksX0_passes_5 : cX0_passes.data.toList.drop 118 = dktX0_passes_5 := dk_seg dksX0_passes_4 22 rfl rfl
theorem dX0_passes_0 : decode cX0_passes 0 = .ok (.aload_n 0, 1) := dk_42 (dk_at dksX0_passes_0 0 rfl rfl)
theorem dX0_passes_1 : decode cX0_passes 1 = .ok (.invokevirtual 367, 3) := dk_182 1 111 (dk_at dksX0_passes_0 1 rfl rfl)
theorem dX0_passes_4 : decode cX0_passes 4 = .ok (.iconst 0, 1) := dk_3 (dk_at dksX0_passes_0 4 rfl rfl)
theorem dX0_passes_5 : decode cX0_passes 5 = .ok (.istore_n 2, 1) := dk_61 (dk_at dksX0_passes_0 5 rfl rfl)
theorem dX0_passes_6 : decode cX0_passes 6 = .ok (.iload_n 2, 1) := dk_28 (dk_at dksX0_passes_0 6 rfl rfl)
theorem dX0_passes_7 : decode cX0_passes 7 = .ok (.aload_n 0, 1) := dk_42 (dk_at dksX0_passes_0 7 rfl rfl)
theorem dX0_passes_8 : decode cX0_passes 8 = .ok (.getfield 47, 3) := dk_180 0 47 (dk_at dksX0_passes_0 8 rfl rfl)
theorem dX0_passes_11 : decode cX0_passes 11 = .ok (.getfield 146, 3) := dk_180 0 146 (dk_at dksX0_passes_0 11 rfl rfl)
theorem dX0_passes_14 : decode cX0_passes 14 = .ok (.if_icmp .ge 34, 3) := dk_162 0 34 (dk_at dksX0_passes_0 14 rfl rfl)
theorem dX0_passes_17 : decode cX0_passes 17 = .ok (.iload_n 2, 1) := dk_28 (dk_at dksX0_passes_0 17 rfl rfl)
theorem dX0_passes_18 : decode cX0_passes 18 = .ok (.iload_n 1, 1) := dk_27 (dk_at dksX0_passes_0 18 rfl rfl)
theorem dX0_passes_19 : decode cX0_passes 19 = .ok (.if_icmp .ne 8, 3) := dk_160 0 8 (dk_at dksX0_passes_0 19 rfl rfl)
theorem dX0_passes_22 : decode cX0_passes 22 = .ok (.bipush (-3), 2) := dk_16 253 (dk_at dksX0_passes_0 22 rfl rfl)
theorem dX0_passes_24 : decode cX0_passes 24 = .ok (.goto 8, 3) := dk_167 0 8 (dk_at dksX0_passes_1 0 rfl rfl)
theorem dX0_passes_27 : decode cX0_passes 27 = .ok (.aload_n 0, 1) := dk_42 (dk_at dksX0_passes_1 3 rfl rfl)
theorem dX0_passes_28 : decode cX0_passes 28 = .ok (.iload_n 2, 1) := dk_28 (dk_at dksX0_passes_1 4 rfl rfl)
theorem dX0_passes_29 : decode cX0_passes 29 = .ok (.invokevirtual 192, 3) := dk_182 0 192 (dk_at dksX0_passes_1 5 rfl rfl)
theorem dX0_passes_32 : decode cX0_passes 32 = .ok (.istore_n 3, 1) := dk_62 (dk_at dksX0_passes_1 8 rfl rfl)
theorem dX0_passes_33 : decode cX0_passes 33 = .ok (.iload_n 3, 1) := dk_29 (dk_at dksX0_passes_1 9 rfl rfl)
theorem dX0_passes_34 : decode cX0_passes 34 = .ok (.ifCond .lt 8, 3) := dk_155 0 8 (dk_at dksX0_passes_1 10 rfl rfl)
theorem dX0_passes_37 : decode cX0_passes 37 = .ok (.aload_n 0, 1) := dk_42 (dk_at dksX0_passes_1 13 rfl rfl)
theorem dX0_passes_38 : decode cX0_passes 38 = .ok (.iload_n 3, 1) := dk_29 (dk_at dksX0_passes_1 14 rfl rfl)
theorem dX0_passes_39 : decode cX0_passes 39 = .ok (.invokevirtual 370, 3) := dk_182 1 114 (dk_at dksX0_passes_1 15 rfl rfl)
theorem dX0_passes_42 : decode cX0_passes 42 = .ok (.iinc 2 1, 3) := dk_132 2 1 (dk_at dksX0_passes_1 18 rfl rfl)
theorem dX0_passes_45 : decode cX0_passes 45 = .ok (.goto (-39), 3) := dk_167 255 217 (dk_at dksX0_passes_1 21 rfl rfl)
theorem dX0_passes_48 : decode cX0_passes 48 = .ok (.iconst 0, 1) := dk_3 (dk_at dksX0_passes_2 0 rfl rfl)
theorem dX0_passes_49 : decode cX0_passes 49 = .ok (.istore_n 2, 1) := dk_61 (dk_at dksX0_passes_2 1 rfl rfl)
theorem dX0_passes_50 : decode cX0_passes 50 = .ok (.iconst 0, 1) := dk_3 (dk_at dksX0_passes_2 2 rfl rfl)
theorem dX0_passes_51 : decode cX0_passes 51 = .ok (.istore_n 3, 1) := dk_62 (dk_at dksX0_passes_2 3 rfl rfl)
theorem dX0_passes_52 : decode cX0_passes 52 = .ok (.iload_n 3, 1) := dk_29 (dk_at dksX0_passes_2 4 rfl rfl)
theorem dX0_passes_53 : decode cX0_passes 53 = .ok (.aload_n 0, 1) := dk_42 (dk_at dksX0_passes_2 5 rfl rfl)
theorem dX0_passes_54 : decode cX0_passes 54 = .ok (.getfield 47, 3) := dk_180 0 47 (dk_at dksX0_passes_2 6 rfl rfl)
theorem dX0_passes_57 : decode cX0_passes 57 = .ok (.getfield 154, 3) := dk_180 0 154 (dk_at dksX0_passes_2 9 rfl rfl)
theorem dX0_passes_60 : decode cX0_passes 60 = .ok (.if_icmp .ge 53, 3) := dk_162 0 53 (dk_at dksX0_passes_2 12 rfl rfl)
theorem dX0_passes_63 : decode cX0_passes 63 = .ok (.iload_n 2, 1) := dk_28 (dk_at dksX0_passes_2 15 rfl rfl)
theorem dX0_passes_64 : decode cX0_passes 64 = .ok (.aload_n 0, 1) := dk_42 (dk_at dksX0_passes_2 16 rfl rfl)
theorem dX0_passes_65 : decode cX0_passes 65 = .ok (.getfield 47, 3) := dk_180 0 47 (dk_at dksX0_passes_2 17 rfl rfl)
theorem dX0_passes_68 : decode cX0_passes 68 = .ok (.getfield 210, 3) := dk_180 0 210 (dk_at dksX0_passes_2 20 rfl rfl)
theorem dX0_passes_71 : decode cX0_passes 71 = .ok (.iload_n 3, 1) := dk_29 (dk_at dksX0_passes_2 23 rfl rfl)
theorem dX0_passes_72 : decode cX0_passes 72 = .ok (.iaload, 1) := dk_46 (dk_at dksX0_passes_3 0 rfl rfl)
theorem dX0_passes_73 : decode cX0_passes 73 = .ok (.iconst 1, 1) := dk_4 (dk_at dksX0_passes_3 1 rfl rfl)
theorem dX0_passes_74 : decode cX0_passes 74 = .ok (.if_icmp .ne 30, 3) := dk_160 0 30 (dk_at dksX0_passes_3 2 rfl rfl)
theorem dX0_passes_77 : decode cX0_passes 77 = .ok (.aload_n 0, 1) := dk_42 (dk_at dksX0_passes_3 5 rfl rfl)
theorem dX0_passes_78 : decode cX0_passes 78 = .ok (.iload_n 3, 1) := dk_29 (dk_at dksX0_passes_3 6 rfl rfl)
theorem dX0_passes_79 : decode cX0_passes 79 = .ok (.aload_n 0, 1) := dk_42 (dk_at dksX0_passes_3 7 rfl rfl)
theorem dX0_passes_80 : decode cX0_passes 80 = .ok (.getfield 47, 3) := dk_180 0 47 (dk_at dksX0_passes_3 8 rfl rfl)
theorem dX0_passes_83 : decode cX0_passes 83 = .ok (.getfield 186, 3) := dk_180 0 186 (dk_at dksX0_passes_3 11 rfl rfl)
theorem dX0_passes_86 : decode cX0_passes 86 = .ok (.invokevirtual 373, 3) := dk_182 1 117 (dk_at dksX0_passes_3 14 rfl rfl)
theorem dX0_passes_89 : decode cX0_passes 89 = .ok (.ifCond .ne 15, 3) := dk_154 0 15 (dk_at dksX0_passes_3 17 rfl rfl)
theorem dX0_passes_92 : decode cX0_passes 92 = .ok (.aload_n 0, 1) := dk_42 (dk_at dksX0_passes_3 20 rfl rfl)
theorem dX0_passes_93 : decode cX0_passes 93 = .ok (.getfield 47, 3) := dk_180 0 47 (dk_at dksX0_passes_3 21 rfl rfl)
theorem dX0_passes_96 : decode cX0_passes 96 = .ok (.getfield 204, 3) := dk_180 0 204 (dk_at dksX0_passes_4 0 rfl rfl)
theorem dX0_passes_99 : decode cX0_passes 99 = .ok (.iload_n 3, 1) := dk_29 (dk_at dksX0_passes_4 3 rfl rfl)
theorem dX0_passes_100 : decode cX0_passes 100 = .ok (.iaload, 1) := dk_46 (dk_at dksX0_passes_4 4 rfl rfl)
theorem dX0_passes_101 : decode cX0_passes 101 = .ok (.goto 4, 3) := dk_167 0 4 (dk_at dksX0_passes_4 5 rfl rfl)
theorem dX0_passes_104 : decode cX0_passes 104 = .ok (.iconst 0, 1) := dk_3 (dk_at dksX0_passes_4 8 rfl rfl)
theorem dX0_passes_105 : decode cX0_passes 105 = .ok (.iadd, 1) := dk_96 (dk_at dksX0_passes_4 9 rfl rfl)
theorem dX0_passes_106 : decode cX0_passes 106 = .ok (.istore_n 2, 1) := dk_61 (dk_at dksX0_passes_4 10 rfl rfl)
theorem dX0_passes_107 : decode cX0_passes 107 = .ok (.iinc 3 1, 3) := dk_132 3 1 (dk_at dksX0_passes_4 11 rfl rfl)
theorem dX0_passes_110 : decode cX0_passes 110 = .ok (.goto (-58), 3) := dk_167 255 198 (dk_at dksX0_passes_4 14 rfl rfl)
theorem dX0_passes_113 : decode cX0_passes 113 = .ok (.aload_n 0, 1) := dk_42 (dk_at dksX0_passes_4 17 rfl rfl)
theorem dX0_passes_114 : decode cX0_passes 114 = .ok (.getfield 47, 3) := dk_180 0 47 (dk_at dksX0_passes_4 18 rfl rfl)
theorem dX0_passes_117 : decode cX0_passes 117 = .ok (.dup, 1) := dk_89 (dk_at dksX0_passes_4 21 rfl rfl)
theorem dX0_passes_118 : decode cX0_passes 118 = .ok (.getfield 186, 3) := dk_180 0 186 (dk_at dksX0_passes_5 0 rfl rfl)
theorem dX0_passes_121 : decode cX0_passes 121 = .ok (.iconst 1, 1) := dk_4 (dk_at dksX0_passes_5 3 rfl rfl)
theorem dX0_passes_122 : decode cX0_passes 122 = .ok (.iadd, 1) := dk_96 (dk_at dksX0_passes_5 4 rfl rfl)
theorem dX0_passes_123 : decode cX0_passes 123 = .ok (.putfield 186, 3) := dk_181 0 186 (dk_at dksX0_passes_5 5 rfl rfl)
theorem dX0_passes_126 : decode cX0_passes 126 = .ok (.iload_n 2, 1) := dk_28 (dk_at dksX0_passes_5 8 rfl rfl)
theorem dX0_passes_127 : decode cX0_passes 127 = .ok (.ireturn, 1) := dk_172 (dk_at dksX0_passes_5 9 rfl rfl)
abbrev cX0_rightHands : ByteArray := prog_1_method_43_code
def yX0_rightHands : MethodName := ⟨RX0, "rightHands", "()V"⟩
def dkwX0_rightHands_4 : List UInt8 := [132, 1, 1, 167, 255, 161, 177]
abbrev dktX0_rightHands_4 : List UInt8 := dkwX0_rightHands_4 ++ []
def dkwX0_rightHands_3 : List UInt8 := [180, 0, 210, 42, 180, 0, 47, 180, 0, 207, 27, 46, 46, 4, 160, 0, 7, 4, 167, 0, 4, 7, 79]
abbrev dktX0_rightHands_3 : List UInt8 := dkwX0_rightHands_3 ++ dktX0_rightHands_4
def dkwX0_rightHands_2 : List UInt8 := [42, 180, 0, 47, 180, 0, 210, 27, 42, 180, 0, 47, 180, 0, 207, 27, 46, 155, 0, 24, 42, 180, 0, 47]
abbrev dktX0_rightHands_2 : List UInt8 := dkwX0_rightHands_2 ++ dktX0_rightHands_3
def dkwX0_rightHands_1 : List UInt8 := [180, 0, 47, 180, 0, 186, 160, 0, 65, 42, 180, 0, 47, 180, 0, 210, 27, 46, 153, 0, 6, 167, 0, 50]
abbrev dktX0_rightHands_1 : List UInt8 := dkwX0_rightHands_1 ++ dktX0_rightHands_2
def dkwX0_rightHands_0 : List UInt8 := [3, 60, 27, 42, 180, 0, 47, 180, 0, 154, 162, 0, 90, 42, 180, 0, 47, 180, 0, 201, 27, 46, 42]
abbrev dktX0_rightHands_0 : List UInt8 := dkwX0_rightHands_0 ++ dktX0_rightHands_1
theorem dksX0_rightHands_0 : cX0_rightHands.data.toList.drop 0 = dktX0_rightHands_0 := by decide +kernel
theorem dksX0_rightHands_1 : cX0_rightHands.data.toList.drop 23 = dktX0_rightHands_1 := dk_seg dksX0_rightHands_0 23 rfl rfl
theorem dksX0_rightHands_2 : cX0_rightHands.data.toList.drop 47 = dktX0_rightHands_2 := dk_seg dksX0_rightHands_1 24 rfl rfl
theorem dksX0_rightHands_3 : cX0_rightHands.data.toList.drop 71 = dktX0_rightHands_3 := dk_seg dksX0_rightHands_2 24 rfl rfl
theorem dksX0_rightHands_4 : cX0_rightHands.data.toList.drop 94 = dktX0_rightHands_4 := dk_seg dksX0_rightHands_3 23 rfl rfl
theorem dX0_rightHands_0 : decode cX0_rightHands 0 = .ok (.iconst 0, 1) := dk_3 (dk_at dksX0_rightHands_0 0 rfl rfl)
theorem dX0_rightHands_1 : decode cX0_rightHands 1 = .ok (.istore_n 1, 1) := dk_60 (dk_at dksX0_rightHands_0 1 rfl rfl)
theorem dX0_rightHands_2 : decode cX0_rightHands 2 = .ok (.iload_n 1, 1) := dk_27 (dk_at dksX0_rightHands_0 2 rfl rfl)
theorem dX0_rightHands_3 : decode cX0_rightHands 3 = .ok (.aload_n 0, 1) := dk_42 (dk_at dksX0_rightHands_0 3 rfl rfl)
theorem dX0_rightHands_4 : decode cX0_rightHands 4 = .ok (.getfield 47, 3) := dk_180 0 47 (dk_at dksX0_rightHands_0 4 rfl rfl)
theorem dX0_rightHands_7 : decode cX0_rightHands 7 = .ok (.getfield 154, 3) := dk_180 0 154 (dk_at dksX0_rightHands_0 7 rfl rfl)
theorem dX0_rightHands_10 : decode cX0_rightHands 10 = .ok (.if_icmp .ge 90, 3) := dk_162 0 90 (dk_at dksX0_rightHands_0 10 rfl rfl)
theorem dX0_rightHands_13 : decode cX0_rightHands 13 = .ok (.aload_n 0, 1) := dk_42 (dk_at dksX0_rightHands_0 13 rfl rfl)
theorem dX0_rightHands_14 : decode cX0_rightHands 14 = .ok (.getfield 47, 3) := dk_180 0 47 (dk_at dksX0_rightHands_0 14 rfl rfl)
theorem dX0_rightHands_17 : decode cX0_rightHands 17 = .ok (.getfield 201, 3) := dk_180 0 201 (dk_at dksX0_rightHands_0 17 rfl rfl)
theorem dX0_rightHands_20 : decode cX0_rightHands 20 = .ok (.iload_n 1, 1) := dk_27 (dk_at dksX0_rightHands_0 20 rfl rfl)
theorem dX0_rightHands_21 : decode cX0_rightHands 21 = .ok (.iaload, 1) := dk_46 (dk_at dksX0_rightHands_0 21 rfl rfl)
theorem dX0_rightHands_22 : decode cX0_rightHands 22 = .ok (.aload_n 0, 1) := dk_42 (dk_at dksX0_rightHands_0 22 rfl rfl)
theorem dX0_rightHands_23 : decode cX0_rightHands 23 = .ok (.getfield 47, 3) := dk_180 0 47 (dk_at dksX0_rightHands_1 0 rfl rfl)
theorem dX0_rightHands_26 : decode cX0_rightHands 26 = .ok (.getfield 186, 3) := dk_180 0 186 (dk_at dksX0_rightHands_1 3 rfl rfl)
theorem dX0_rightHands_29 : decode cX0_rightHands 29 = .ok (.if_icmp .ne 65, 3) := dk_160 0 65 (dk_at dksX0_rightHands_1 6 rfl rfl)
theorem dX0_rightHands_32 : decode cX0_rightHands 32 = .ok (.aload_n 0, 1) := dk_42 (dk_at dksX0_rightHands_1 9 rfl rfl)
theorem dX0_rightHands_33 : decode cX0_rightHands 33 = .ok (.getfield 47, 3) := dk_180 0 47 (dk_at dksX0_rightHands_1 10 rfl rfl)
theorem dX0_rightHands_36 : decode cX0_rightHands 36 = .ok (.getfield 210, 3) := dk_180 0 210 (dk_at dksX0_rightHands_1 13 rfl rfl)
theorem dX0_rightHands_39 : decode cX0_rightHands 39 = .ok (.iload_n 1, 1) := dk_27 (dk_at dksX0_rightHands_1 16 rfl rfl)
theorem dX0_rightHands_40 : decode cX0_rightHands 40 = .ok (.iaload, 1) := dk_46 (dk_at dksX0_rightHands_1 17 rfl rfl)
theorem dX0_rightHands_41 : decode cX0_rightHands 41 = .ok (.ifCond .eq 6, 3) := dk_153 0 6 (dk_at dksX0_rightHands_1 18 rfl rfl)
theorem dX0_rightHands_44 : decode cX0_rightHands 44 = .ok (.goto 50, 3) := dk_167 0 50 (dk_at dksX0_rightHands_1 21 rfl rfl)
theorem dX0_rightHands_47 : decode cX0_rightHands 47 = .ok (.aload_n 0, 1) := dk_42 (dk_at dksX0_rightHands_2 0 rfl rfl)
theorem dX0_rightHands_48 : decode cX0_rightHands 48 = .ok (.getfield 47, 3) := dk_180 0 47 (dk_at dksX0_rightHands_2 1 rfl rfl)
theorem dX0_rightHands_51 : decode cX0_rightHands 51 = .ok (.getfield 210, 3) := dk_180 0 210 (dk_at dksX0_rightHands_2 4 rfl rfl)
theorem dX0_rightHands_54 : decode cX0_rightHands 54 = .ok (.iload_n 1, 1) := dk_27 (dk_at dksX0_rightHands_2 7 rfl rfl)
theorem dX0_rightHands_55 : decode cX0_rightHands 55 = .ok (.aload_n 0, 1) := dk_42 (dk_at dksX0_rightHands_2 8 rfl rfl)
theorem dX0_rightHands_56 : decode cX0_rightHands 56 = .ok (.getfield 47, 3) := dk_180 0 47 (dk_at dksX0_rightHands_2 9 rfl rfl)
theorem dX0_rightHands_59 : decode cX0_rightHands 59 = .ok (.getfield 207, 3) := dk_180 0 207 (dk_at dksX0_rightHands_2 12 rfl rfl)
theorem dX0_rightHands_62 : decode cX0_rightHands 62 = .ok (.iload_n 1, 1) := dk_27 (dk_at dksX0_rightHands_2 15 rfl rfl)
theorem dX0_rightHands_63 : decode cX0_rightHands 63 = .ok (.iaload, 1) := dk_46 (dk_at dksX0_rightHands_2 16 rfl rfl)
theorem dX0_rightHands_64 : decode cX0_rightHands 64 = .ok (.ifCond .lt 24, 3) := dk_155 0 24 (dk_at dksX0_rightHands_2 17 rfl rfl)
theorem dX0_rightHands_67 : decode cX0_rightHands 67 = .ok (.aload_n 0, 1) := dk_42 (dk_at dksX0_rightHands_2 20 rfl rfl)
theorem dX0_rightHands_68 : decode cX0_rightHands 68 = .ok (.getfield 47, 3) := dk_180 0 47 (dk_at dksX0_rightHands_2 21 rfl rfl)
theorem dX0_rightHands_71 : decode cX0_rightHands 71 = .ok (.getfield 210, 3) := dk_180 0 210 (dk_at dksX0_rightHands_3 0 rfl rfl)
theorem dX0_rightHands_74 : decode cX0_rightHands 74 = .ok (.aload_n 0, 1) := dk_42 (dk_at dksX0_rightHands_3 3 rfl rfl)
theorem dX0_rightHands_75 : decode cX0_rightHands 75 = .ok (.getfield 47, 3) := dk_180 0 47 (dk_at dksX0_rightHands_3 4 rfl rfl)
theorem dX0_rightHands_78 : decode cX0_rightHands 78 = .ok (.getfield 207, 3) := dk_180 0 207 (dk_at dksX0_rightHands_3 7 rfl rfl)
theorem dX0_rightHands_81 : decode cX0_rightHands 81 = .ok (.iload_n 1, 1) := dk_27 (dk_at dksX0_rightHands_3 10 rfl rfl)
theorem dX0_rightHands_82 : decode cX0_rightHands 82 = .ok (.iaload, 1) := dk_46 (dk_at dksX0_rightHands_3 11 rfl rfl)
theorem dX0_rightHands_83 : decode cX0_rightHands 83 = .ok (.iaload, 1) := dk_46 (dk_at dksX0_rightHands_3 12 rfl rfl)
theorem dX0_rightHands_84 : decode cX0_rightHands 84 = .ok (.iconst 1, 1) := dk_4 (dk_at dksX0_rightHands_3 13 rfl rfl)
theorem dX0_rightHands_85 : decode cX0_rightHands 85 = .ok (.if_icmp .ne 7, 3) := dk_160 0 7 (dk_at dksX0_rightHands_3 14 rfl rfl)
theorem dX0_rightHands_88 : decode cX0_rightHands 88 = .ok (.iconst 1, 1) := dk_4 (dk_at dksX0_rightHands_3 17 rfl rfl)
theorem dX0_rightHands_89 : decode cX0_rightHands 89 = .ok (.goto 4, 3) := dk_167 0 4 (dk_at dksX0_rightHands_3 18 rfl rfl)
theorem dX0_rightHands_92 : decode cX0_rightHands 92 = .ok (.iconst 4, 1) := dk_7 (dk_at dksX0_rightHands_3 21 rfl rfl)
theorem dX0_rightHands_93 : decode cX0_rightHands 93 = .ok (.iastore, 1) := dk_79 (dk_at dksX0_rightHands_3 22 rfl rfl)
theorem dX0_rightHands_94 : decode cX0_rightHands 94 = .ok (.iinc 1 1, 3) := dk_132 1 1 (dk_at dksX0_rightHands_4 0 rfl rfl)
theorem dX0_rightHands_97 : decode cX0_rightHands 97 = .ok (.goto (-95), 3) := dk_167 255 161 (dk_at dksX0_rightHands_4 3 rfl rfl)
theorem dX0_rightHands_100 : decode cX0_rightHands 100 = .ok (.return_, 1) := dk_177 (dk_at dksX0_rightHands_4 6 rfl rfl)
abbrev cX0_undo : ByteArray := prog_1_method_42_code
def yX0_undo : MethodName := ⟨RX0, "undo", "(I)V"⟩
def dkwX0_undo_5 : List UInt8 := [167, 255, 155, 177]
abbrev dktX0_undo_5 : List UInt8 := dkwX0_undo_5 ++ []
def dkwX0_undo_4 : List UInt8 := [21, 4, 153, 0, 7, 6, 167, 0, 12, 42, 180, 0, 47, 180, 0, 210, 28, 46, 79, 132, 2, 1]
abbrev dktX0_undo_4 : List UInt8 := dkwX0_undo_4 ++ dktX0_undo_5
def dkwX0_undo_3 : List UInt8 := [180, 0, 210, 29, 46, 6, 160, 0, 7, 4, 167, 0, 4, 3, 54, 4, 42, 180, 0, 47, 180, 0, 210, 28]
abbrev dktX0_undo_3 : List UInt8 := dkwX0_undo_3 ++ dktX0_undo_4
def dkwX0_undo_2 : List UInt8 := [28, 46, 4, 160, 0, 33, 42, 180, 0, 47, 180, 0, 210, 29, 46, 5, 159, 0, 16, 42, 180, 0, 47]
abbrev dktX0_undo_2 : List UInt8 := dkwX0_undo_2 ++ dktX0_undo_3
def dkwX0_undo_1 : List UInt8 := [162, 0, 96, 42, 180, 0, 47, 180, 0, 207, 28, 46, 62, 29, 155, 0, 46, 42, 180, 0, 47, 180, 0, 210]
abbrev dktX0_undo_1 : List UInt8 := dkwX0_undo_1 ++ dktX0_undo_2
def dkwX0_undo_0 : List UInt8 := [42, 180, 0, 47, 180, 0, 210, 27, 5, 79, 27, 4, 96, 61, 28, 42, 180, 0, 47, 180, 0, 154]
abbrev dktX0_undo_0 : List UInt8 := dkwX0_undo_0 ++ dktX0_undo_1
theorem dksX0_undo_0 : cX0_undo.data.toList.drop 0 = dktX0_undo_0 := by decide +kernel
theorem dksX0_undo_1 : cX0_undo.data.toList.drop 22 = dktX0_undo_1 := dk_seg dksX0_undo_0 22 rfl rfl
theorem dksX0_undo_2 : cX0_undo.data.toList.drop 46 = dktX0_undo_2 := dk_seg dksX0_undo_1 24 rfl rfl
theorem dksX0_undo_3 : cX0_undo.data.toList.drop 69 = dktX0_undo_3 := dk_seg dksX0_undo_2 23 rfl rfl
theorem dksX0_undo_4 : cX0_undo.data.toList.drop 93 = dktX0_undo_4 := dk_seg dksX0_undo_3 24 rfl rfl
theorem dksX0_undo_5 : cX0_undo.data.toList.drop 115 = dktX0_undo_5 := dk_seg dksX0_undo_4 22 rfl rfl
theorem dX0_undo_0 : decode cX0_undo 0 = .ok (.aload_n 0, 1) := dk_42 (dk_at dksX0_undo_0 0 rfl rfl)
theorem dX0_undo_1 : decode cX0_undo 1 = .ok (.getfield 47, 3) := dk_180 0 47 (dk_at dksX0_undo_0 1 rfl rfl)
theorem dX0_undo_4 : decode cX0_undo 4 = .ok (.getfield 210, 3) := dk_180 0 210 (dk_at dksX0_undo_0 4 rfl rfl)
theorem dX0_undo_7 : decode cX0_undo 7 = .ok (.iload_n 1, 1) := dk_27 (dk_at dksX0_undo_0 7 rfl rfl)
theorem dX0_undo_8 : decode cX0_undo 8 = .ok (.iconst 2, 1) := dk_5 (dk_at dksX0_undo_0 8 rfl rfl)
theorem dX0_undo_9 : decode cX0_undo 9 = .ok (.iastore, 1) := dk_79 (dk_at dksX0_undo_0 9 rfl rfl)
theorem dX0_undo_10 : decode cX0_undo 10 = .ok (.iload_n 1, 1) := dk_27 (dk_at dksX0_undo_0 10 rfl rfl)
theorem dX0_undo_11 : decode cX0_undo 11 = .ok (.iconst 1, 1) := dk_4 (dk_at dksX0_undo_0 11 rfl rfl)
theorem dX0_undo_12 : decode cX0_undo 12 = .ok (.iadd, 1) := dk_96 (dk_at dksX0_undo_0 12 rfl rfl)
theorem dX0_undo_13 : decode cX0_undo 13 = .ok (.istore_n 2, 1) := dk_61 (dk_at dksX0_undo_0 13 rfl rfl)
theorem dX0_undo_14 : decode cX0_undo 14 = .ok (.iload_n 2, 1) := dk_28 (dk_at dksX0_undo_0 14 rfl rfl)
theorem dX0_undo_15 : decode cX0_undo 15 = .ok (.aload_n 0, 1) := dk_42 (dk_at dksX0_undo_0 15 rfl rfl)
theorem dX0_undo_16 : decode cX0_undo 16 = .ok (.getfield 47, 3) := dk_180 0 47 (dk_at dksX0_undo_0 16 rfl rfl)
theorem dX0_undo_19 : decode cX0_undo 19 = .ok (.getfield 154, 3) := dk_180 0 154 (dk_at dksX0_undo_0 19 rfl rfl)
theorem dX0_undo_22 : decode cX0_undo 22 = .ok (.if_icmp .ge 96, 3) := dk_162 0 96 (dk_at dksX0_undo_1 0 rfl rfl)
theorem dX0_undo_25 : decode cX0_undo 25 = .ok (.aload_n 0, 1) := dk_42 (dk_at dksX0_undo_1 3 rfl rfl)
theorem dX0_undo_26 : decode cX0_undo 26 = .ok (.getfield 47, 3) := dk_180 0 47 (dk_at dksX0_undo_1 4 rfl rfl)
theorem dX0_undo_29 : decode cX0_undo 29 = .ok (.getfield 207, 3) := dk_180 0 207 (dk_at dksX0_undo_1 7 rfl rfl)
theorem dX0_undo_32 : decode cX0_undo 32 = .ok (.iload_n 2, 1) := dk_28 (dk_at dksX0_undo_1 10 rfl rfl)
theorem dX0_undo_33 : decode cX0_undo 33 = .ok (.iaload, 1) := dk_46 (dk_at dksX0_undo_1 11 rfl rfl)
theorem dX0_undo_34 : decode cX0_undo 34 = .ok (.istore_n 3, 1) := dk_62 (dk_at dksX0_undo_1 12 rfl rfl)
theorem dX0_undo_35 : decode cX0_undo 35 = .ok (.iload_n 3, 1) := dk_29 (dk_at dksX0_undo_1 13 rfl rfl)
theorem dX0_undo_36 : decode cX0_undo 36 = .ok (.ifCond .lt 46, 3) := dk_155 0 46 (dk_at dksX0_undo_1 14 rfl rfl)
theorem dX0_undo_39 : decode cX0_undo 39 = .ok (.aload_n 0, 1) := dk_42 (dk_at dksX0_undo_1 17 rfl rfl)
theorem dX0_undo_40 : decode cX0_undo 40 = .ok (.getfield 47, 3) := dk_180 0 47 (dk_at dksX0_undo_1 18 rfl rfl)
theorem dX0_undo_43 : decode cX0_undo 43 = .ok (.getfield 210, 3) := dk_180 0 210 (dk_at dksX0_undo_1 21 rfl rfl)
theorem dX0_undo_46 : decode cX0_undo 46 = .ok (.iload_n 2, 1) := dk_28 (dk_at dksX0_undo_2 0 rfl rfl)
theorem dX0_undo_47 : decode cX0_undo 47 = .ok (.iaload, 1) := dk_46 (dk_at dksX0_undo_2 1 rfl rfl)
theorem dX0_undo_48 : decode cX0_undo 48 = .ok (.iconst 1, 1) := dk_4 (dk_at dksX0_undo_2 2 rfl rfl)
theorem dX0_undo_49 : decode cX0_undo 49 = .ok (.if_icmp .ne 33, 3) := dk_160 0 33 (dk_at dksX0_undo_2 3 rfl rfl)
theorem dX0_undo_52 : decode cX0_undo 52 = .ok (.aload_n 0, 1) := dk_42 (dk_at dksX0_undo_2 6 rfl rfl)
theorem dX0_undo_53 : decode cX0_undo 53 = .ok (.getfield 47, 3) := dk_180 0 47 (dk_at dksX0_undo_2 7 rfl rfl)
theorem dX0_undo_56 : decode cX0_undo 56 = .ok (.getfield 210, 3) := dk_180 0 210 (dk_at dksX0_undo_2 10 rfl rfl)
theorem dX0_undo_59 : decode cX0_undo 59 = .ok (.iload_n 3, 1) := dk_29 (dk_at dksX0_undo_2 13 rfl rfl)
theorem dX0_undo_60 : decode cX0_undo 60 = .ok (.iaload, 1) := dk_46 (dk_at dksX0_undo_2 14 rfl rfl)
theorem dX0_undo_61 : decode cX0_undo 61 = .ok (.iconst 2, 1) := dk_5 (dk_at dksX0_undo_2 15 rfl rfl)
theorem dX0_undo_62 : decode cX0_undo 62 = .ok (.if_icmp .eq 16, 3) := dk_159 0 16 (dk_at dksX0_undo_2 16 rfl rfl)
theorem dX0_undo_65 : decode cX0_undo 65 = .ok (.aload_n 0, 1) := dk_42 (dk_at dksX0_undo_2 19 rfl rfl)
theorem dX0_undo_66 : decode cX0_undo 66 = .ok (.getfield 47, 3) := dk_180 0 47 (dk_at dksX0_undo_2 20 rfl rfl)
theorem dX0_undo_69 : decode cX0_undo 69 = .ok (.getfield 210, 3) := dk_180 0 210 (dk_at dksX0_undo_3 0 rfl rfl)
theorem dX0_undo_72 : decode cX0_undo 72 = .ok (.iload_n 3, 1) := dk_29 (dk_at dksX0_undo_3 3 rfl rfl)
theorem dX0_undo_73 : decode cX0_undo 73 = .ok (.iaload, 1) := dk_46 (dk_at dksX0_undo_3 4 rfl rfl)
theorem dX0_undo_74 : decode cX0_undo 74 = .ok (.iconst 3, 1) := dk_6 (dk_at dksX0_undo_3 5 rfl rfl)
theorem dX0_undo_75 : decode cX0_undo 75 = .ok (.if_icmp .ne 7, 3) := dk_160 0 7 (dk_at dksX0_undo_3 6 rfl rfl)
theorem dX0_undo_78 : decode cX0_undo 78 = .ok (.iconst 1, 1) := dk_4 (dk_at dksX0_undo_3 9 rfl rfl)
theorem dX0_undo_79 : decode cX0_undo 79 = .ok (.goto 4, 3) := dk_167 0 4 (dk_at dksX0_undo_3 10 rfl rfl)
theorem dX0_undo_82 : decode cX0_undo 82 = .ok (.iconst 0, 1) := dk_3 (dk_at dksX0_undo_3 13 rfl rfl)
theorem dX0_undo_83 : decode cX0_undo 83 = .ok (.istore 4, 2) := dk_54 4 (dk_at dksX0_undo_3 14 rfl rfl)
theorem dX0_undo_85 : decode cX0_undo 85 = .ok (.aload_n 0, 1) := dk_42 (dk_at dksX0_undo_3 16 rfl rfl)
theorem dX0_undo_86 : decode cX0_undo 86 = .ok (.getfield 47, 3) := dk_180 0 47 (dk_at dksX0_undo_3 17 rfl rfl)
theorem dX0_undo_89 : decode cX0_undo 89 = .ok (.getfield 210, 3) := dk_180 0 210 (dk_at dksX0_undo_3 20 rfl rfl)
theorem dX0_undo_92 : decode cX0_undo 92 = .ok (.iload_n 2, 1) := dk_28 (dk_at dksX0_undo_3 23 rfl rfl)
theorem dX0_undo_93 : decode cX0_undo 93 = .ok (.iload 4, 2) := dk_21 4 (dk_at dksX0_undo_4 0 rfl rfl)
theorem dX0_undo_95 : decode cX0_undo 95 = .ok (.ifCond .eq 7, 3) := dk_153 0 7 (dk_at dksX0_undo_4 2 rfl rfl)
theorem dX0_undo_98 : decode cX0_undo 98 = .ok (.iconst 3, 1) := dk_6 (dk_at dksX0_undo_4 5 rfl rfl)
theorem dX0_undo_99 : decode cX0_undo 99 = .ok (.goto 12, 3) := dk_167 0 12 (dk_at dksX0_undo_4 6 rfl rfl)
theorem dX0_undo_102 : decode cX0_undo 102 = .ok (.aload_n 0, 1) := dk_42 (dk_at dksX0_undo_4 9 rfl rfl)
theorem dX0_undo_103 : decode cX0_undo 103 = .ok (.getfield 47, 3) := dk_180 0 47 (dk_at dksX0_undo_4 10 rfl rfl)
theorem dX0_undo_106 : decode cX0_undo 106 = .ok (.getfield 210, 3) := dk_180 0 210 (dk_at dksX0_undo_4 13 rfl rfl)
theorem dX0_undo_109 : decode cX0_undo 109 = .ok (.iload_n 2, 1) := dk_28 (dk_at dksX0_undo_4 16 rfl rfl)
theorem dX0_undo_110 : decode cX0_undo 110 = .ok (.iaload, 1) := dk_46 (dk_at dksX0_undo_4 17 rfl rfl)
theorem dX0_undo_111 : decode cX0_undo 111 = .ok (.iastore, 1) := dk_79 (dk_at dksX0_undo_4 18 rfl rfl)
theorem dX0_undo_112 : decode cX0_undo 112 = .ok (.iinc 2 1, 3) := dk_132 2 1 (dk_at dksX0_undo_4 19 rfl rfl)
theorem dX0_undo_115 : decode cX0_undo 115 = .ok (.goto (-101), 3) := dk_167 255 155 (dk_at dksX0_undo_5 0 rfl rfl)
theorem dX0_undo_118 : decode cX0_undo 118 = .ok (.return_, 1) := dk_177 (dk_at dksX0_undo_5 3 rfl rfl)
abbrev cX0_isOverdue : ByteArray := prog_1_method_44_code
def yX0_isOverdue : MethodName := ⟨RX0, "isOverdue", "(II)Z"⟩
def dkwX0_isOverdue_1 : List UInt8 := [167, 0, 4, 3, 172]
abbrev dktX0_isOverdue_1 : List UInt8 := dkwX0_isOverdue_1 ++ []
def dkwX0_isOverdue_0 : List UInt8 := [42, 180, 0, 47, 180, 0, 210, 27, 46, 4, 160, 0, 16, 42, 27, 182, 0, 217, 28, 162, 0, 7, 4]
abbrev dktX0_isOverdue_0 : List UInt8 := dkwX0_isOverdue_0 ++ dktX0_isOverdue_1
theorem dksX0_isOverdue_0 : cX0_isOverdue.data.toList.drop 0 = dktX0_isOverdue_0 := by decide +kernel
theorem dksX0_isOverdue_1 : cX0_isOverdue.data.toList.drop 23 = dktX0_isOverdue_1 := dk_seg dksX0_isOverdue_0 23 rfl rfl
theorem dX0_isOverdue_0 : decode cX0_isOverdue 0 = .ok (.aload_n 0, 1) := dk_42 (dk_at dksX0_isOverdue_0 0 rfl rfl)
theorem dX0_isOverdue_1 : decode cX0_isOverdue 1 = .ok (.getfield 47, 3) := dk_180 0 47 (dk_at dksX0_isOverdue_0 1 rfl rfl)
theorem dX0_isOverdue_4 : decode cX0_isOverdue 4 = .ok (.getfield 210, 3) := dk_180 0 210 (dk_at dksX0_isOverdue_0 4 rfl rfl)
theorem dX0_isOverdue_7 : decode cX0_isOverdue 7 = .ok (.iload_n 1, 1) := dk_27 (dk_at dksX0_isOverdue_0 7 rfl rfl)
theorem dX0_isOverdue_8 : decode cX0_isOverdue 8 = .ok (.iaload, 1) := dk_46 (dk_at dksX0_isOverdue_0 8 rfl rfl)
theorem dX0_isOverdue_9 : decode cX0_isOverdue 9 = .ok (.iconst 1, 1) := dk_4 (dk_at dksX0_isOverdue_0 9 rfl rfl)
theorem dX0_isOverdue_10 : decode cX0_isOverdue 10 = .ok (.if_icmp .ne 16, 3) := dk_160 0 16 (dk_at dksX0_isOverdue_0 10 rfl rfl)
theorem dX0_isOverdue_13 : decode cX0_isOverdue 13 = .ok (.aload_n 0, 1) := dk_42 (dk_at dksX0_isOverdue_0 13 rfl rfl)
theorem dX0_isOverdue_14 : decode cX0_isOverdue 14 = .ok (.iload_n 1, 1) := dk_27 (dk_at dksX0_isOverdue_0 14 rfl rfl)
theorem dX0_isOverdue_15 : decode cX0_isOverdue 15 = .ok (.invokevirtual 217, 3) := dk_182 0 217 (dk_at dksX0_isOverdue_0 15 rfl rfl)
theorem dX0_isOverdue_18 : decode cX0_isOverdue 18 = .ok (.iload_n 2, 1) := dk_28 (dk_at dksX0_isOverdue_0 18 rfl rfl)
theorem dX0_isOverdue_19 : decode cX0_isOverdue 19 = .ok (.if_icmp .ge 7, 3) := dk_162 0 7 (dk_at dksX0_isOverdue_0 19 rfl rfl)
theorem dX0_isOverdue_22 : decode cX0_isOverdue 22 = .ok (.iconst 1, 1) := dk_4 (dk_at dksX0_isOverdue_0 22 rfl rfl)
theorem dX0_isOverdue_23 : decode cX0_isOverdue 23 = .ok (.goto 4, 3) := dk_167 0 4 (dk_at dksX0_isOverdue_1 0 rfl rfl)
theorem dX0_isOverdue_26 : decode cX0_isOverdue 26 = .ok (.iconst 0, 1) := dk_3 (dk_at dksX0_isOverdue_1 3 rfl rfl)
theorem dX0_isOverdue_27 : decode cX0_isOverdue 27 = .ok (.ireturn, 1) := dk_172 (dk_at dksX0_isOverdue_1 4 rfl rfl)
abbrev cX0_standing : ByteArray := prog_1_method_51_code
def yX0_standing : MethodName := ⟨RX0, "standing", "(I)I"⟩
def dkwX0_standing_0 : List UInt8 := [27, 3, 7, 184, 0, 150, 153, 0, 11, 42, 27, 182, 1, 127, 167, 0, 4, 2, 172]
abbrev dktX0_standing_0 : List UInt8 := dkwX0_standing_0 ++ []
theorem dksX0_standing_0 : cX0_standing.data.toList.drop 0 = dktX0_standing_0 := by decide +kernel
theorem dX0_standing_0 : decode cX0_standing 0 = .ok (.iload_n 1, 1) := dk_27 (dk_at dksX0_standing_0 0 rfl rfl)
theorem dX0_standing_1 : decode cX0_standing 1 = .ok (.iconst 0, 1) := dk_3 (dk_at dksX0_standing_0 1 rfl rfl)
theorem dX0_standing_2 : decode cX0_standing 2 = .ok (.iconst 4, 1) := dk_7 (dk_at dksX0_standing_0 2 rfl rfl)
theorem dX0_standing_3 : decode cX0_standing 3 = .ok (.invokestatic 150, 3) := dk_184 0 150 (dk_at dksX0_standing_0 3 rfl rfl)
theorem dX0_standing_6 : decode cX0_standing 6 = .ok (.ifCond .eq 11, 3) := dk_153 0 11 (dk_at dksX0_standing_0 6 rfl rfl)
theorem dX0_standing_9 : decode cX0_standing 9 = .ok (.aload_n 0, 1) := dk_42 (dk_at dksX0_standing_0 9 rfl rfl)
theorem dX0_standing_10 : decode cX0_standing 10 = .ok (.iload_n 1, 1) := dk_27 (dk_at dksX0_standing_0 10 rfl rfl)
theorem dX0_standing_11 : decode cX0_standing 11 = .ok (.invokevirtual 383, 3) := dk_182 1 127 (dk_at dksX0_standing_0 11 rfl rfl)
theorem dX0_standing_14 : decode cX0_standing 14 = .ok (.goto 4, 3) := dk_167 0 4 (dk_at dksX0_standing_0 14 rfl rfl)
theorem dX0_standing_17 : decode cX0_standing 17 = .ok (.iconst (-1), 1) := dk_2 (dk_at dksX0_standing_0 17 rfl rfl)
theorem dX0_standing_18 : decode cX0_standing 18 = .ok (.ireturn, 1) := dk_172 (dk_at dksX0_standing_0 18 rfl rfl)
abbrev cX0_setOf : ByteArray := prog_1_method_50_code
def yX0_setOf : MethodName := ⟨RX0, "setOf", "(I)I"⟩
def dkwX0_setOf_1 : List UInt8 := [46, 27, 160, 0, 9, 4, 29, 120, 167, 0, 4, 3, 128, 61, 132, 3, 1, 167, 255, 219, 28, 172]
abbrev dktX0_setOf_1 : List UInt8 := dkwX0_setOf_1 ++ []
def dkwX0_setOf_0 : List UInt8 := [3, 61, 3, 62, 29, 42, 180, 0, 47, 180, 0, 154, 162, 0, 32, 28, 42, 180, 0, 47, 180, 0, 210, 29]
abbrev dktX0_setOf_0 : List UInt8 := dkwX0_setOf_0 ++ dktX0_setOf_1
theorem dksX0_setOf_0 : cX0_setOf.data.toList.drop 0 = dktX0_setOf_0 := by decide +kernel
theorem dksX0_setOf_1 : cX0_setOf.data.toList.drop 24 = dktX0_setOf_1 := dk_seg dksX0_setOf_0 24 rfl rfl
theorem dX0_setOf_0 : decode cX0_setOf 0 = .ok (.iconst 0, 1) := dk_3 (dk_at dksX0_setOf_0 0 rfl rfl)
theorem dX0_setOf_1 : decode cX0_setOf 1 = .ok (.istore_n 2, 1) := dk_61 (dk_at dksX0_setOf_0 1 rfl rfl)
theorem dX0_setOf_2 : decode cX0_setOf 2 = .ok (.iconst 0, 1) := dk_3 (dk_at dksX0_setOf_0 2 rfl rfl)
theorem dX0_setOf_3 : decode cX0_setOf 3 = .ok (.istore_n 3, 1) := dk_62 (dk_at dksX0_setOf_0 3 rfl rfl)
theorem dX0_setOf_4 : decode cX0_setOf 4 = .ok (.iload_n 3, 1) := dk_29 (dk_at dksX0_setOf_0 4 rfl rfl)
theorem dX0_setOf_5 : decode cX0_setOf 5 = .ok (.aload_n 0, 1) := dk_42 (dk_at dksX0_setOf_0 5 rfl rfl)
theorem dX0_setOf_6 : decode cX0_setOf 6 = .ok (.getfield 47, 3) := dk_180 0 47 (dk_at dksX0_setOf_0 6 rfl rfl)
theorem dX0_setOf_9 : decode cX0_setOf 9 = .ok (.getfield 154, 3) := dk_180 0 154 (dk_at dksX0_setOf_0 9 rfl rfl)
theorem dX0_setOf_12 : decode cX0_setOf 12 = .ok (.if_icmp .ge 32, 3) := dk_162 0 32 (dk_at dksX0_setOf_0 12 rfl rfl)
theorem dX0_setOf_15 : decode cX0_setOf 15 = .ok (.iload_n 2, 1) := dk_28 (dk_at dksX0_setOf_0 15 rfl rfl)
theorem dX0_setOf_16 : decode cX0_setOf 16 = .ok (.aload_n 0, 1) := dk_42 (dk_at dksX0_setOf_0 16 rfl rfl)
theorem dX0_setOf_17 : decode cX0_setOf 17 = .ok (.getfield 47, 3) := dk_180 0 47 (dk_at dksX0_setOf_0 17 rfl rfl)
theorem dX0_setOf_20 : decode cX0_setOf 20 = .ok (.getfield 210, 3) := dk_180 0 210 (dk_at dksX0_setOf_0 20 rfl rfl)
theorem dX0_setOf_23 : decode cX0_setOf 23 = .ok (.iload_n 3, 1) := dk_29 (dk_at dksX0_setOf_0 23 rfl rfl)
theorem dX0_setOf_24 : decode cX0_setOf 24 = .ok (.iaload, 1) := dk_46 (dk_at dksX0_setOf_1 0 rfl rfl)
theorem dX0_setOf_25 : decode cX0_setOf 25 = .ok (.iload_n 1, 1) := dk_27 (dk_at dksX0_setOf_1 1 rfl rfl)
theorem dX0_setOf_26 : decode cX0_setOf 26 = .ok (.if_icmp .ne 9, 3) := dk_160 0 9 (dk_at dksX0_setOf_1 2 rfl rfl)
theorem dX0_setOf_29 : decode cX0_setOf 29 = .ok (.iconst 1, 1) := dk_4 (dk_at dksX0_setOf_1 5 rfl rfl)
theorem dX0_setOf_30 : decode cX0_setOf 30 = .ok (.iload_n 3, 1) := dk_29 (dk_at dksX0_setOf_1 6 rfl rfl)
theorem dX0_setOf_31 : decode cX0_setOf 31 = .ok (.ishl, 1) := dk_120 (dk_at dksX0_setOf_1 7 rfl rfl)
theorem dX0_setOf_32 : decode cX0_setOf 32 = .ok (.goto 4, 3) := dk_167 0 4 (dk_at dksX0_setOf_1 8 rfl rfl)
theorem dX0_setOf_35 : decode cX0_setOf 35 = .ok (.iconst 0, 1) := dk_3 (dk_at dksX0_setOf_1 11 rfl rfl)
theorem dX0_setOf_36 : decode cX0_setOf 36 = .ok (.ior, 1) := dk_128 (dk_at dksX0_setOf_1 12 rfl rfl)
theorem dX0_setOf_37 : decode cX0_setOf 37 = .ok (.istore_n 2, 1) := dk_61 (dk_at dksX0_setOf_1 13 rfl rfl)
theorem dX0_setOf_38 : decode cX0_setOf 38 = .ok (.iinc 3 1, 3) := dk_132 3 1 (dk_at dksX0_setOf_1 14 rfl rfl)
theorem dX0_setOf_41 : decode cX0_setOf 41 = .ok (.goto (-37), 3) := dk_167 255 219 (dk_at dksX0_setOf_1 17 rfl rfl)
theorem dX0_setOf_44 : decode cX0_setOf 44 = .ok (.iload_n 2, 1) := dk_28 (dk_at dksX0_setOf_1 20 rfl rfl)
theorem dX0_setOf_45 : decode cX0_setOf 45 = .ok (.ireturn, 1) := dk_172 (dk_at dksX0_setOf_1 21 rfl rfl)
abbrev cX0_leaves : ByteArray := prog_1_method_54_code
def yX0_leaves : MethodName := ⟨RX0, "leaves", "(I)I"⟩
def dkwX0_leaves_2 : List UInt8 := [180, 0, 54, 182, 1, 130, 29, 172]
abbrev dktX0_leaves_2 : List UInt8 := dkwX0_leaves_2 ++ []
def dkwX0_leaves_1 : List UInt8 := [182, 1, 134, 61, 28, 156, 0, 7, 3, 167, 0, 8, 42, 27, 182, 0, 182, 62, 42, 180, 0, 47, 42]
abbrev dktX0_leaves_1 : List UInt8 := dkwX0_leaves_1 ++ dktX0_leaves_2
def dkwX0_leaves_0 : List UInt8 := [42, 27, 182, 0, 179, 154, 0, 5, 2, 172, 42, 180, 0, 54, 42, 180, 0, 47, 182, 1, 130, 42, 16, 16]
abbrev dktX0_leaves_0 : List UInt8 := dkwX0_leaves_0 ++ dktX0_leaves_1
theorem dksX0_leaves_0 : cX0_leaves.data.toList.drop 0 = dktX0_leaves_0 := by decide +kernel
theorem dksX0_leaves_1 : cX0_leaves.data.toList.drop 24 = dktX0_leaves_1 := dk_seg dksX0_leaves_0 24 rfl rfl
theorem dksX0_leaves_2 : cX0_leaves.data.toList.drop 47 = dktX0_leaves_2 := dk_seg dksX0_leaves_1 23 rfl rfl
theorem dX0_leaves_0 : decode cX0_leaves 0 = .ok (.aload_n 0, 1) := dk_42 (dk_at dksX0_leaves_0 0 rfl rfl)
theorem dX0_leaves_1 : decode cX0_leaves 1 = .ok (.iload_n 1, 1) := dk_27 (dk_at dksX0_leaves_0 1 rfl rfl)
theorem dX0_leaves_2 : decode cX0_leaves 2 = .ok (.invokevirtual 179, 3) := dk_182 0 179 (dk_at dksX0_leaves_0 2 rfl rfl)
theorem dX0_leaves_5 : decode cX0_leaves 5 = .ok (.ifCond .ne 5, 3) := dk_154 0 5 (dk_at dksX0_leaves_0 5 rfl rfl)
theorem dX0_leaves_8 : decode cX0_leaves 8 = .ok (.iconst (-1), 1) := dk_2 (dk_at dksX0_leaves_0 8 rfl rfl)
theorem dX0_leaves_9 : decode cX0_leaves 9 = .ok (.ireturn, 1) := dk_172 (dk_at dksX0_leaves_0 9 rfl rfl)
theorem dX0_leaves_10 : decode cX0_leaves 10 = .ok (.aload_n 0, 1) := dk_42 (dk_at dksX0_leaves_0 10 rfl rfl)
theorem dX0_leaves_11 : decode cX0_leaves 11 = .ok (.getfield 54, 3) := dk_180 0 54 (dk_at dksX0_leaves_0 11 rfl rfl)
theorem dX0_leaves_14 : decode cX0_leaves 14 = .ok (.aload_n 0, 1) := dk_42 (dk_at dksX0_leaves_0 14 rfl rfl)
theorem dX0_leaves_15 : decode cX0_leaves 15 = .ok (.getfield 47, 3) := dk_180 0 47 (dk_at dksX0_leaves_0 15 rfl rfl)
theorem dX0_leaves_18 : decode cX0_leaves 18 = .ok (.invokevirtual 386, 3) := dk_182 1 130 (dk_at dksX0_leaves_0 18 rfl rfl)
theorem dX0_leaves_21 : decode cX0_leaves 21 = .ok (.aload_n 0, 1) := dk_42 (dk_at dksX0_leaves_0 21 rfl rfl)
theorem dX0_leaves_22 : decode cX0_leaves 22 = .ok (.bipush 16, 2) := dk_16 16 (dk_at dksX0_leaves_0 22 rfl rfl)
theorem dX0_leaves_24 : decode cX0_leaves 24 = .ok (.invokevirtual 390, 3) := dk_182 1 134 (dk_at dksX0_leaves_1 0 rfl rfl)
theorem dX0_leaves_27 : decode cX0_leaves 27 = .ok (.istore_n 2, 1) := dk_61 (dk_at dksX0_leaves_1 3 rfl rfl)
theorem dX0_leaves_28 : decode cX0_leaves 28 = .ok (.iload_n 2, 1) := dk_28 (dk_at dksX0_leaves_1 4 rfl rfl)
theorem dX0_leaves_29 : decode cX0_leaves 29 = .ok (.ifCond .ge 7, 3) := dk_156 0 7 (dk_at dksX0_leaves_1 5 rfl rfl)
theorem dX0_leaves_32 : decode cX0_leaves 32 = .ok (.iconst 0, 1) := dk_3 (dk_at dksX0_leaves_1 8 rfl rfl)
theorem dX0_leaves_33 : decode cX0_leaves 33 = .ok (.goto 8, 3) := dk_167 0 8 (dk_at dksX0_leaves_1 9 rfl rfl)
theorem dX0_leaves_36 : decode cX0_leaves 36 = .ok (.aload_n 0, 1) := dk_42 (dk_at dksX0_leaves_1 12 rfl rfl)
theorem dX0_leaves_37 : decode cX0_leaves 37 = .ok (.iload_n 1, 1) := dk_27 (dk_at dksX0_leaves_1 13 rfl rfl)
theorem dX0_leaves_38 : decode cX0_leaves 38 = .ok (.invokevirtual 182, 3) := dk_182 0 182 (dk_at dksX0_leaves_1 14 rfl rfl)
theorem dX0_leaves_41 : decode cX0_leaves 41 = .ok (.istore_n 3, 1) := dk_62 (dk_at dksX0_leaves_1 17 rfl rfl)
theorem dX0_leaves_42 : decode cX0_leaves 42 = .ok (.aload_n 0, 1) := dk_42 (dk_at dksX0_leaves_1 18 rfl rfl)
theorem dX0_leaves_43 : decode cX0_leaves 43 = .ok (.getfield 47, 3) := dk_180 0 47 (dk_at dksX0_leaves_1 19 rfl rfl)
theorem dX0_leaves_46 : decode cX0_leaves 46 = .ok (.aload_n 0, 1) := dk_42 (dk_at dksX0_leaves_1 22 rfl rfl)
theorem dX0_leaves_47 : decode cX0_leaves 47 = .ok (.getfield 54, 3) := dk_180 0 54 (dk_at dksX0_leaves_2 0 rfl rfl)
theorem dX0_leaves_50 : decode cX0_leaves 50 = .ok (.invokevirtual 386, 3) := dk_182 1 130 (dk_at dksX0_leaves_2 3 rfl rfl)
theorem dX0_leaves_53 : decode cX0_leaves 53 = .ok (.iload_n 3, 1) := dk_29 (dk_at dksX0_leaves_2 6 rfl rfl)
theorem dX0_leaves_54 : decode cX0_leaves 54 = .ok (.ireturn, 1) := dk_172 (dk_at dksX0_leaves_2 7 rfl rfl)
abbrev cX0_runs : ByteArray := prog_1_method_52_code
def yX0_runs : MethodName := ⟨RX0, "runs", "(I)I"⟩
def dkwX0_runs_1 : List UInt8 := [182, 1, 121, 96, 61, 132, 3, 1, 167, 255, 230, 28, 172]
abbrev dktX0_runs_1 : List UInt8 := dkwX0_runs_1 ++ []
def dkwX0_runs_0 : List UInt8 := [3, 61, 3, 62, 29, 27, 162, 0, 27, 42, 180, 0, 47, 182, 0, 226, 154, 0, 17, 28, 42, 2]
abbrev dktX0_runs_0 : List UInt8 := dkwX0_runs_0 ++ dktX0_runs_1
theorem dksX0_runs_0 : cX0_runs.data.toList.drop 0 = dktX0_runs_0 := by decide +kernel
theorem dksX0_runs_1 : cX0_runs.data.toList.drop 22 = dktX0_runs_1 := dk_seg dksX0_runs_0 22 rfl rfl
theorem dX0_runs_0 : decode cX0_runs 0 = .ok (.iconst 0, 1) := dk_3 (dk_at dksX0_runs_0 0 rfl rfl)
theorem dX0_runs_1 : decode cX0_runs 1 = .ok (.istore_n 2, 1) := dk_61 (dk_at dksX0_runs_0 1 rfl rfl)
theorem dX0_runs_2 : decode cX0_runs 2 = .ok (.iconst 0, 1) := dk_3 (dk_at dksX0_runs_0 2 rfl rfl)
theorem dX0_runs_3 : decode cX0_runs 3 = .ok (.istore_n 3, 1) := dk_62 (dk_at dksX0_runs_0 3 rfl rfl)
theorem dX0_runs_4 : decode cX0_runs 4 = .ok (.iload_n 3, 1) := dk_29 (dk_at dksX0_runs_0 4 rfl rfl)
theorem dX0_runs_5 : decode cX0_runs 5 = .ok (.iload_n 1, 1) := dk_27 (dk_at dksX0_runs_0 5 rfl rfl)
theorem dX0_runs_6 : decode cX0_runs 6 = .ok (.if_icmp .ge 27, 3) := dk_162 0 27 (dk_at dksX0_runs_0 6 rfl rfl)
theorem dX0_runs_9 : decode cX0_runs 9 = .ok (.aload_n 0, 1) := dk_42 (dk_at dksX0_runs_0 9 rfl rfl)
theorem dX0_runs_10 : decode cX0_runs 10 = .ok (.getfield 47, 3) := dk_180 0 47 (dk_at dksX0_runs_0 10 rfl rfl)
theorem dX0_runs_13 : decode cX0_runs 13 = .ok (.invokevirtual 226, 3) := dk_182 0 226 (dk_at dksX0_runs_0 13 rfl rfl)
theorem dX0_runs_16 : decode cX0_runs 16 = .ok (.ifCond .ne 17, 3) := dk_154 0 17 (dk_at dksX0_runs_0 16 rfl rfl)
theorem dX0_runs_19 : decode cX0_runs 19 = .ok (.iload_n 2, 1) := dk_28 (dk_at dksX0_runs_0 19 rfl rfl)
theorem dX0_runs_20 : decode cX0_runs 20 = .ok (.aload_n 0, 1) := dk_42 (dk_at dksX0_runs_0 20 rfl rfl)
theorem dX0_runs_21 : decode cX0_runs 21 = .ok (.iconst (-1), 1) := dk_2 (dk_at dksX0_runs_0 21 rfl rfl)
theorem dX0_runs_22 : decode cX0_runs 22 = .ok (.invokevirtual 377, 3) := dk_182 1 121 (dk_at dksX0_runs_1 0 rfl rfl)
theorem dX0_runs_25 : decode cX0_runs 25 = .ok (.iadd, 1) := dk_96 (dk_at dksX0_runs_1 3 rfl rfl)
theorem dX0_runs_26 : decode cX0_runs 26 = .ok (.istore_n 2, 1) := dk_61 (dk_at dksX0_runs_1 4 rfl rfl)
theorem dX0_runs_27 : decode cX0_runs 27 = .ok (.iinc 3 1, 3) := dk_132 3 1 (dk_at dksX0_runs_1 5 rfl rfl)
theorem dX0_runs_30 : decode cX0_runs 30 = .ok (.goto (-26), 3) := dk_167 255 230 (dk_at dksX0_runs_1 8 rfl rfl)
theorem dX0_runs_33 : decode cX0_runs 33 = .ok (.iload_n 2, 1) := dk_28 (dk_at dksX0_runs_1 11 rfl rfl)
theorem dX0_runs_34 : decode cX0_runs 34 = .ok (.ireturn, 1) := dk_172 (dk_at dksX0_runs_1 12 rfl rfl)
abbrev cX0_on : ByteArray := prog_1_method_55_code
def yX0_on : MethodName := ⟨RX0, "on", "(I)I"⟩
def dkwX0_on_1 : List UInt8 := [27, 182, 1, 134, 61, 42, 180, 0, 47, 42, 180, 0, 54, 182, 1, 130, 28, 172]
abbrev dktX0_on_1 : List UInt8 := dkwX0_on_1 ++ []
def dkwX0_on_0 : List UInt8 := [27, 3, 16, 16, 184, 0, 150, 154, 0, 5, 2, 172, 42, 180, 0, 54, 42, 180, 0, 47, 182, 1, 130, 42]
abbrev dktX0_on_0 : List UInt8 := dkwX0_on_0 ++ dktX0_on_1
theorem dksX0_on_0 : cX0_on.data.toList.drop 0 = dktX0_on_0 := by decide +kernel
theorem dksX0_on_1 : cX0_on.data.toList.drop 24 = dktX0_on_1 := dk_seg dksX0_on_0 24 rfl rfl
theorem dX0_on_0 : decode cX0_on 0 = .ok (.iload_n 1, 1) := dk_27 (dk_at dksX0_on_0 0 rfl rfl)
theorem dX0_on_1 : decode cX0_on 1 = .ok (.iconst 0, 1) := dk_3 (dk_at dksX0_on_0 1 rfl rfl)
theorem dX0_on_2 : decode cX0_on 2 = .ok (.bipush 16, 2) := dk_16 16 (dk_at dksX0_on_0 2 rfl rfl)
theorem dX0_on_4 : decode cX0_on 4 = .ok (.invokestatic 150, 3) := dk_184 0 150 (dk_at dksX0_on_0 4 rfl rfl)
theorem dX0_on_7 : decode cX0_on 7 = .ok (.ifCond .ne 5, 3) := dk_154 0 5 (dk_at dksX0_on_0 7 rfl rfl)
theorem dX0_on_10 : decode cX0_on 10 = .ok (.iconst (-1), 1) := dk_2 (dk_at dksX0_on_0 10 rfl rfl)
theorem dX0_on_11 : decode cX0_on 11 = .ok (.ireturn, 1) := dk_172 (dk_at dksX0_on_0 11 rfl rfl)
theorem dX0_on_12 : decode cX0_on 12 = .ok (.aload_n 0, 1) := dk_42 (dk_at dksX0_on_0 12 rfl rfl)
theorem dX0_on_13 : decode cX0_on 13 = .ok (.getfield 54, 3) := dk_180 0 54 (dk_at dksX0_on_0 13 rfl rfl)
theorem dX0_on_16 : decode cX0_on 16 = .ok (.aload_n 0, 1) := dk_42 (dk_at dksX0_on_0 16 rfl rfl)
theorem dX0_on_17 : decode cX0_on 17 = .ok (.getfield 47, 3) := dk_180 0 47 (dk_at dksX0_on_0 17 rfl rfl)
theorem dX0_on_20 : decode cX0_on 20 = .ok (.invokevirtual 386, 3) := dk_182 1 130 (dk_at dksX0_on_0 20 rfl rfl)
theorem dX0_on_23 : decode cX0_on 23 = .ok (.aload_n 0, 1) := dk_42 (dk_at dksX0_on_0 23 rfl rfl)
theorem dX0_on_24 : decode cX0_on 24 = .ok (.iload_n 1, 1) := dk_27 (dk_at dksX0_on_1 0 rfl rfl)
theorem dX0_on_25 : decode cX0_on 25 = .ok (.invokevirtual 390, 3) := dk_182 1 134 (dk_at dksX0_on_1 1 rfl rfl)
theorem dX0_on_28 : decode cX0_on 28 = .ok (.istore_n 2, 1) := dk_61 (dk_at dksX0_on_1 4 rfl rfl)
theorem dX0_on_29 : decode cX0_on 29 = .ok (.aload_n 0, 1) := dk_42 (dk_at dksX0_on_1 5 rfl rfl)
theorem dX0_on_30 : decode cX0_on 30 = .ok (.getfield 47, 3) := dk_180 0 47 (dk_at dksX0_on_1 6 rfl rfl)
theorem dX0_on_33 : decode cX0_on 33 = .ok (.aload_n 0, 1) := dk_42 (dk_at dksX0_on_1 9 rfl rfl)
theorem dX0_on_34 : decode cX0_on 34 = .ok (.getfield 54, 3) := dk_180 0 54 (dk_at dksX0_on_1 10 rfl rfl)
theorem dX0_on_37 : decode cX0_on 37 = .ok (.invokevirtual 386, 3) := dk_182 1 130 (dk_at dksX0_on_1 13 rfl rfl)
theorem dX0_on_40 : decode cX0_on 40 = .ok (.iload_n 2, 1) := dk_28 (dk_at dksX0_on_1 16 rfl rfl)
theorem dX0_on_41 : decode cX0_on 41 = .ok (.ireturn, 1) := dk_172 (dk_at dksX0_on_1 17 rfl rfl)
abbrev cX0_until : ByteArray := prog_1_method_56_code
def yX0_until : MethodName := ⟨RX0, "until", "(I)I"⟩
def dkwX0_until_6 : List UInt8 := [180, 0, 54, 182, 1, 130, 28, 172]
abbrev dktX0_until_6 : List UInt8 := dkwX0_until_6 ++ []
def dkwX0_until_5 : List UInt8 := [42, 180, 0, 47, 180, 0, 186, 4, 100, 167, 0, 5, 16, 253, 61, 167, 255, 179, 42, 180, 0, 47, 42]
abbrev dktX0_until_5 : List UInt8 := dkwX0_until_5 ++ dktX0_until_6
def dkwX0_until_4 : List UInt8 := [180, 0, 47, 180, 0, 210, 27, 46, 6, 160, 0, 7, 4, 167, 0, 4, 3, 54, 4, 21, 4, 153, 0, 15]
abbrev dktX0_until_4 : List UInt8 := dkwX0_until_4 ++ dktX0_until_5
def dkwX0_until_3 : List UInt8 := [182, 1, 121, 62, 29, 155, 0, 33, 42, 180, 0, 47, 180, 0, 210, 27, 46, 5, 159, 0, 16, 42]
abbrev dktX0_until_3 : List UInt8 := dkwX0_until_3 ++ dktX0_until_4
def dkwX0_until_2 : List UInt8 := [182, 1, 130, 16, 253, 61, 42, 180, 0, 47, 182, 0, 226, 154, 0, 73, 28, 156, 0, 69, 42, 2]
abbrev dktX0_until_2 : List UInt8 := dkwX0_until_2 ++ dktX0_until_3
def dkwX0_until_1 : List UInt8 := [180, 0, 47, 180, 0, 210, 27, 46, 6, 160, 0, 6, 16, 253, 172, 42, 180, 0, 54, 42, 180, 0, 47]
abbrev dktX0_until_1 : List UInt8 := dkwX0_until_1 ++ dktX0_until_2
def dkwX0_until_0 : List UInt8 := [42, 27, 182, 0, 195, 154, 0, 5, 2, 172, 42, 180, 0, 47, 180, 0, 210, 27, 46, 5, 159, 0, 16, 42]
abbrev dktX0_until_0 : List UInt8 := dkwX0_until_0 ++ dktX0_until_1
theorem dksX0_until_0 : cX0_until.data.toList.drop 0 = dktX0_until_0 := by decide +kernel
theorem dksX0_until_1 : cX0_until.data.toList.drop 24 = dktX0_until_1 := dk_seg dksX0_until_0 24 rfl rfl
theorem dksX0_until_2 : cX0_until.data.toList.drop 47 = dktX0_until_2 := dk_seg dksX0_until_1 23 rfl rfl
theorem dksX0_until_3 : cX0_until.data.toList.drop 69 = dktX0_until_3 := dk_seg dksX0_until_2 22 rfl rfl
theorem dksX0_until_4 : cX0_until.data.toList.drop 91 = dktX0_until_4 := dk_seg dksX0_until_3 22 rfl rfl
theorem dksX0_until_5 : cX0_until.data.toList.drop 115 = dktX0_until_5 := dk_seg dksX0_until_4 24 rfl rfl
theorem dksX0_until_6 : cX0_until.data.toList.drop 138 = dktX0_until_6 := dk_seg dksX0_until_5 23 rfl rfl
theorem dX0_until_0 : decode cX0_until 0 = .ok (.aload_n 0, 1) := dk_42 (dk_at dksX0_until_0 0 rfl rfl)
theorem dX0_until_1 : decode cX0_until 1 = .ok (.iload_n 1, 1) := dk_27 (dk_at dksX0_until_0 1 rfl rfl)
theorem dX0_until_2 : decode cX0_until 2 = .ok (.invokevirtual 195, 3) := dk_182 0 195 (dk_at dksX0_until_0 2 rfl rfl)
theorem dX0_until_5 : decode cX0_until 5 = .ok (.ifCond .ne 5, 3) := dk_154 0 5 (dk_at dksX0_until_0 5 rfl rfl)
theorem dX0_until_8 : decode cX0_until 8 = .ok (.iconst (-1), 1) := dk_2 (dk_at dksX0_until_0 8 rfl rfl)
theorem dX0_until_9 : decode cX0_until 9 = .ok (.ireturn, 1) := dk_172 (dk_at dksX0_until_0 9 rfl rfl)
theorem dX0_until_10 : decode cX0_until 10 = .ok (.aload_n 0, 1) := dk_42 (dk_at dksX0_until_0 10 rfl rfl)
theorem dX0_until_11 : decode cX0_until 11 = .ok (.getfield 47, 3) := dk_180 0 47 (dk_at dksX0_until_0 11 rfl rfl)
theorem dX0_until_14 : decode cX0_until 14 = .ok (.getfield 210, 3) := dk_180 0 210 (dk_at dksX0_until_0 14 rfl rfl)
theorem dX0_until_17 : decode cX0_until 17 = .ok (.iload_n 1, 1) := dk_27 (dk_at dksX0_until_0 17 rfl rfl)
theorem dX0_until_18 : decode cX0_until 18 = .ok (.iaload, 1) := dk_46 (dk_at dksX0_until_0 18 rfl rfl)
theorem dX0_until_19 : decode cX0_until 19 = .ok (.iconst 2, 1) := dk_5 (dk_at dksX0_until_0 19 rfl rfl)
theorem dX0_until_20 : decode cX0_until 20 = .ok (.if_icmp .eq 16, 3) := dk_159 0 16 (dk_at dksX0_until_0 20 rfl rfl)
theorem dX0_until_23 : decode cX0_until 23 = .ok (.aload_n 0, 1) := dk_42 (dk_at dksX0_until_0 23 rfl rfl)
theorem dX0_until_24 : decode cX0_until 24 = .ok (.getfield 47, 3) := dk_180 0 47 (dk_at dksX0_until_1 0 rfl rfl)
theorem dX0_until_27 : decode cX0_until 27 = .ok (.getfield 210, 3) := dk_180 0 210 (dk_at dksX0_until_1 3 rfl rfl)
theorem dX0_until_30 : decode cX0_until 30 = .ok (.iload_n 1, 1) := dk_27 (dk_at dksX0_until_1 6 rfl rfl)
theorem dX0_until_31 : decode cX0_until 31 = .ok (.iaload, 1) := dk_46 (dk_at dksX0_until_1 7 rfl rfl)
theorem dX0_until_32 : decode cX0_until 32 = .ok (.iconst 3, 1) := dk_6 (dk_at dksX0_until_1 8 rfl rfl)
theorem dX0_until_33 : decode cX0_until 33 = .ok (.if_icmp .ne 6, 3) := dk_160 0 6 (dk_at dksX0_until_1 9 rfl rfl)
theorem dX0_until_36 : decode cX0_until 36 = .ok (.bipush (-3), 2) := dk_16 253 (dk_at dksX0_until_1 12 rfl rfl)
theorem dX0_until_38 : decode cX0_until 38 = .ok (.ireturn, 1) := dk_172 (dk_at dksX0_until_1 14 rfl rfl)
theorem dX0_until_39 : decode cX0_until 39 = .ok (.aload_n 0, 1) := dk_42 (dk_at dksX0_until_1 15 rfl rfl)
theorem dX0_until_40 : decode cX0_until 40 = .ok (.getfield 54, 3) := dk_180 0 54 (dk_at dksX0_until_1 16 rfl rfl)
theorem dX0_until_43 : decode cX0_until 43 = .ok (.aload_n 0, 1) := dk_42 (dk_at dksX0_until_1 19 rfl rfl)
theorem dX0_until_44 : decode cX0_until 44 = .ok (.getfield 47, 3) := dk_180 0 47 (dk_at dksX0_until_1 20 rfl rfl)
theorem dX0_until_47 : decode cX0_until 47 = .ok (.invokevirtual 386, 3) := dk_182 1 130 (dk_at dksX0_until_2 0 rfl rfl)
theorem dX0_until_50 : decode cX0_until 50 = .ok (.bipush (-3), 2) := dk_16 253 (dk_at dksX0_until_2 3 rfl rfl)
theorem dX0_until_52 : decode cX0_until 52 = .ok (.istore_n 2, 1) := dk_61 (dk_at dksX0_until_2 5 rfl rfl)
theorem dX0_until_53 : decode cX0_until 53 = .ok (.aload_n 0, 1) := dk_42 (dk_at dksX0_until_2 6 rfl rfl)
theorem dX0_until_54 : decode cX0_until 54 = .ok (.getfield 47, 3) := dk_180 0 47 (dk_at dksX0_until_2 7 rfl rfl)
theorem dX0_until_57 : decode cX0_until 57 = .ok (.invokevirtual 226, 3) := dk_182 0 226 (dk_at dksX0_until_2 10 rfl rfl)
theorem dX0_until_60 : decode cX0_until 60 = .ok (.ifCond .ne 73, 3) := dk_154 0 73 (dk_at dksX0_until_2 13 rfl rfl)
theorem dX0_until_63 : decode cX0_until 63 = .ok (.iload_n 2, 1) := dk_28 (dk_at dksX0_until_2 16 rfl rfl)
theorem dX0_until_64 : decode cX0_until 64 = .ok (.ifCond .ge 69, 3) := dk_156 0 69 (dk_at dksX0_until_2 17 rfl rfl)
theorem dX0_until_67 : decode cX0_until 67 = .ok (.aload_n 0, 1) := dk_42 (dk_at dksX0_until_2 20 rfl rfl)
theorem dX0_until_68 : decode cX0_until 68 = .ok (.iconst (-1), 1) := dk_2 (dk_at dksX0_until_2 21 rfl rfl)
theorem dX0_until_69 : decode cX0_until 69 = .ok (.invokevirtual 377, 3) := dk_182 1 121 (dk_at dksX0_until_3 0 rfl rfl)
theorem dX0_until_72 : decode cX0_until 72 = .ok (.istore_n 3, 1) := dk_62 (dk_at dksX0_until_3 3 rfl rfl)
theorem dX0_until_73 : decode cX0_until 73 = .ok (.iload_n 3, 1) := dk_29 (dk_at dksX0_until_3 4 rfl rfl)
theorem dX0_until_74 : decode cX0_until 74 = .ok (.ifCond .lt 33, 3) := dk_155 0 33 (dk_at dksX0_until_3 5 rfl rfl)
theorem dX0_until_77 : decode cX0_until 77 = .ok (.aload_n 0, 1) := dk_42 (dk_at dksX0_until_3 8 rfl rfl)
theorem dX0_until_78 : decode cX0_until 78 = .ok (.getfield 47, 3) := dk_180 0 47 (dk_at dksX0_until_3 9 rfl rfl)
theorem dX0_until_81 : decode cX0_until 81 = .ok (.getfield 210, 3) := dk_180 0 210 (dk_at dksX0_until_3 12 rfl rfl)
theorem dX0_until_84 : decode cX0_until 84 = .ok (.iload_n 1, 1) := dk_27 (dk_at dksX0_until_3 15 rfl rfl)
theorem dX0_until_85 : decode cX0_until 85 = .ok (.iaload, 1) := dk_46 (dk_at dksX0_until_3 16 rfl rfl)
theorem dX0_until_86 : decode cX0_until 86 = .ok (.iconst 2, 1) := dk_5 (dk_at dksX0_until_3 17 rfl rfl)
theorem dX0_until_87 : decode cX0_until 87 = .ok (.if_icmp .eq 16, 3) := dk_159 0 16 (dk_at dksX0_until_3 18 rfl rfl)
theorem dX0_until_90 : decode cX0_until 90 = .ok (.aload_n 0, 1) := dk_42 (dk_at dksX0_until_3 21 rfl rfl)
theorem dX0_until_91 : decode cX0_until 91 = .ok (.getfield 47, 3) := dk_180 0 47 (dk_at dksX0_until_4 0 rfl rfl)
theorem dX0_until_94 : decode cX0_until 94 = .ok (.getfield 210, 3) := dk_180 0 210 (dk_at dksX0_until_4 3 rfl rfl)
theorem dX0_until_97 : decode cX0_until 97 = .ok (.iload_n 1, 1) := dk_27 (dk_at dksX0_until_4 6 rfl rfl)
theorem dX0_until_98 : decode cX0_until 98 = .ok (.iaload, 1) := dk_46 (dk_at dksX0_until_4 7 rfl rfl)
theorem dX0_until_99 : decode cX0_until 99 = .ok (.iconst 3, 1) := dk_6 (dk_at dksX0_until_4 8 rfl rfl)
theorem dX0_until_100 : decode cX0_until 100 = .ok (.if_icmp .ne 7, 3) := dk_160 0 7 (dk_at dksX0_until_4 9 rfl rfl)
theorem dX0_until_103 : decode cX0_until 103 = .ok (.iconst 1, 1) := dk_4 (dk_at dksX0_until_4 12 rfl rfl)
theorem dX0_until_104 : decode cX0_until 104 = .ok (.goto 4, 3) := dk_167 0 4 (dk_at dksX0_until_4 13 rfl rfl)
theorem dX0_until_107 : decode cX0_until 107 = .ok (.iconst 0, 1) := dk_3 (dk_at dksX0_until_4 16 rfl rfl)
theorem dX0_until_108 : decode cX0_until 108 = .ok (.istore 4, 2) := dk_54 4 (dk_at dksX0_until_4 17 rfl rfl)
theorem dX0_until_110 : decode cX0_until 110 = .ok (.iload 4, 2) := dk_21 4 (dk_at dksX0_until_4 19 rfl rfl)
theorem dX0_until_112 : decode cX0_until 112 = .ok (.ifCond .eq 15, 3) := dk_153 0 15 (dk_at dksX0_until_4 21 rfl rfl)
theorem dX0_until_115 : decode cX0_until 115 = .ok (.aload_n 0, 1) := dk_42 (dk_at dksX0_until_5 0 rfl rfl)
theorem dX0_until_116 : decode cX0_until 116 = .ok (.getfield 47, 3) := dk_180 0 47 (dk_at dksX0_until_5 1 rfl rfl)
theorem dX0_until_119 : decode cX0_until 119 = .ok (.getfield 186, 3) := dk_180 0 186 (dk_at dksX0_until_5 4 rfl rfl)
theorem dX0_until_122 : decode cX0_until 122 = .ok (.iconst 1, 1) := dk_4 (dk_at dksX0_until_5 7 rfl rfl)
theorem dX0_until_123 : decode cX0_until 123 = .ok (.isub, 1) := dk_100 (dk_at dksX0_until_5 8 rfl rfl)
theorem dX0_until_124 : decode cX0_until 124 = .ok (.goto 5, 3) := dk_167 0 5 (dk_at dksX0_until_5 9 rfl rfl)
theorem dX0_until_127 : decode cX0_until 127 = .ok (.bipush (-3), 2) := dk_16 253 (dk_at dksX0_until_5 12 rfl rfl)
theorem dX0_until_129 : decode cX0_until 129 = .ok (.istore_n 2, 1) := dk_61 (dk_at dksX0_until_5 14 rfl rfl)
theorem dX0_until_130 : decode cX0_until 130 = .ok (.goto (-77), 3) := dk_167 255 179 (dk_at dksX0_until_5 15 rfl rfl)
theorem dX0_until_133 : decode cX0_until 133 = .ok (.aload_n 0, 1) := dk_42 (dk_at dksX0_until_5 18 rfl rfl)
theorem dX0_until_134 : decode cX0_until 134 = .ok (.getfield 47, 3) := dk_180 0 47 (dk_at dksX0_until_5 19 rfl rfl)
theorem dX0_until_137 : decode cX0_until 137 = .ok (.aload_n 0, 1) := dk_42 (dk_at dksX0_until_5 22 rfl rfl)
theorem dX0_until_138 : decode cX0_until 138 = .ok (.getfield 54, 3) := dk_180 0 54 (dk_at dksX0_until_6 0 rfl rfl)
theorem dX0_until_141 : decode cX0_until 141 = .ok (.invokevirtual 386, 3) := dk_182 1 130 (dk_at dksX0_until_6 3 rfl rfl)
theorem dX0_until_144 : decode cX0_until 144 = .ok (.iload_n 2, 1) := dk_28 (dk_at dksX0_until_6 6 rfl rfl)
theorem dX0_until_145 : decode cX0_until 145 = .ok (.ireturn, 1) := dk_172 (dk_at dksX0_until_6 7 rfl rfl)
abbrev cX0_overdue : ByteArray := prog_1_method_58_code
def yX0_overdue : MethodName := ⟨RX0, "overdue", "()I"⟩
theorem dX0_overdue_0 : decode cX0_overdue 0 = .ok (.aload_n 0, 1) := by decide +kernel
theorem dX0_overdue_1 : decode cX0_overdue 1 = .ok (.invokevirtual 393, 3) := by decide +kernel
theorem dX0_overdue_4 : decode cX0_overdue 4 = .ok (.ireturn, 1) := by decide +kernel
abbrev cX0_lateSet : ByteArray := prog_1_method_57_code
def yX0_lateSet : MethodName := ⟨RX0, "lateSet", "()I"⟩
def dkwX0_lateSet_3 : List UInt8 := [132, 3, 1, 167, 255, 203, 42, 180, 0, 47, 42, 180, 0, 54, 182, 1, 130, 28, 172]
abbrev dktX0_lateSet_3 : List UInt8 := dkwX0_lateSet_3 ++ []
def dkwX0_lateSet_2 : List UInt8 := [100, 182, 1, 117, 153, 0, 17, 4, 42, 180, 0, 47, 180, 0, 198, 29, 46, 120, 167, 0, 4, 3, 128, 61]
abbrev dktX0_lateSet_2 : List UInt8 := dkwX0_lateSet_2 ++ dktX0_lateSet_3
def dkwX0_lateSet_1 : List UInt8 := [180, 0, 47, 180, 0, 154, 162, 0, 48, 28, 27, 155, 0, 34, 42, 29, 42, 180, 0, 47, 180, 0, 220, 4]
abbrev dktX0_lateSet_1 : List UInt8 := dkwX0_lateSet_1 ++ dktX0_lateSet_2
def dkwX0_lateSet_0 : List UInt8 := [42, 180, 0, 54, 42, 180, 0, 47, 182, 1, 130, 42, 16, 16, 182, 1, 134, 60, 3, 61, 3, 62, 29, 42]
abbrev dktX0_lateSet_0 : List UInt8 := dkwX0_lateSet_0 ++ dktX0_lateSet_1
theorem dksX0_lateSet_0 : cX0_lateSet.data.toList.drop 0 = dktX0_lateSet_0 := by decide +kernel
theorem dksX0_lateSet_1 : cX0_lateSet.data.toList.drop 24 = dktX0_lateSet_1 := dk_seg dksX0_lateSet_0 24 rfl rfl
theorem dksX0_lateSet_2 : cX0_lateSet.data.toList.drop 48 = dktX0_lateSet_2 := dk_seg dksX0_lateSet_1 24 rfl rfl
theorem dksX0_lateSet_3 : cX0_lateSet.data.toList.drop 72 = dktX0_lateSet_3 := dk_seg dksX0_lateSet_2 24 rfl rfl
theorem dX0_lateSet_0 : decode cX0_lateSet 0 = .ok (.aload_n 0, 1) := dk_42 (dk_at dksX0_lateSet_0 0 rfl rfl)
theorem dX0_lateSet_1 : decode cX0_lateSet 1 = .ok (.getfield 54, 3) := dk_180 0 54 (dk_at dksX0_lateSet_0 1 rfl rfl)
theorem dX0_lateSet_4 : decode cX0_lateSet 4 = .ok (.aload_n 0, 1) := dk_42 (dk_at dksX0_lateSet_0 4 rfl rfl)
theorem dX0_lateSet_5 : decode cX0_lateSet 5 = .ok (.getfield 47, 3) := dk_180 0 47 (dk_at dksX0_lateSet_0 5 rfl rfl)
theorem dX0_lateSet_8 : decode cX0_lateSet 8 = .ok (.invokevirtual 386, 3) := dk_182 1 130 (dk_at dksX0_lateSet_0 8 rfl rfl)
theorem dX0_lateSet_11 : decode cX0_lateSet 11 = .ok (.aload_n 0, 1) := dk_42 (dk_at dksX0_lateSet_0 11 rfl rfl)
theorem dX0_lateSet_12 : decode cX0_lateSet 12 = .ok (.bipush 16, 2) := dk_16 16 (dk_at dksX0_lateSet_0 12 rfl rfl)
theorem dX0_lateSet_14 : decode cX0_lateSet 14 = .ok (.invokevirtual 390, 3) := dk_182 1 134 (dk_at dksX0_lateSet_0 14 rfl rfl)
theorem dX0_lateSet_17 : decode cX0_lateSet 17 = .ok (.istore_n 1, 1) := dk_60 (dk_at dksX0_lateSet_0 17 rfl rfl)
theorem dX0_lateSet_18 : decode cX0_lateSet 18 = .ok (.iconst 0, 1) := dk_3 (dk_at dksX0_lateSet_0 18 rfl rfl)
theorem dX0_lateSet_19 : decode cX0_lateSet 19 = .ok (.istore_n 2, 1) := dk_61 (dk_at dksX0_lateSet_0 19 rfl rfl)
theorem dX0_lateSet_20 : decode cX0_lateSet 20 = .ok (.iconst 0, 1) := dk_3 (dk_at dksX0_lateSet_0 20 rfl rfl)
theorem dX0_lateSet_21 : decode cX0_lateSet 21 = .ok (.istore_n 3, 1) := dk_62 (dk_at dksX0_lateSet_0 21 rfl rfl)
theorem dX0_lateSet_22 : decode cX0_lateSet 22 = .ok (.iload_n 3, 1) := dk_29 (dk_at dksX0_lateSet_0 22 rfl rfl)
theorem dX0_lateSet_23 : decode cX0_lateSet 23 = .ok (.aload_n 0, 1) := dk_42 (dk_at dksX0_lateSet_0 23 rfl rfl)
theorem dX0_lateSet_24 : decode cX0_lateSet 24 = .ok (.getfield 47, 3) := dk_180 0 47 (dk_at dksX0_lateSet_1 0 rfl rfl)
theorem dX0_lateSet_27 : decode cX0_lateSet 27 = .ok (.getfield 154, 3) := dk_180 0 154 (dk_at dksX0_lateSet_1 3 rfl rfl)
theorem dX0_lateSet_30 : decode cX0_lateSet 30 = .ok (.if_icmp .ge 48, 3) := dk_162 0 48 (dk_at dksX0_lateSet_1 6 rfl rfl)
theorem dX0_lateSet_33 : decode cX0_lateSet 33 = .ok (.iload_n 2, 1) := dk_28 (dk_at dksX0_lateSet_1 9 rfl rfl)
theorem dX0_lateSet_34 : decode cX0_lateSet 34 = .ok (.iload_n 1, 1) := dk_27 (dk_at dksX0_lateSet_1 10 rfl rfl)
theorem dX0_lateSet_35 : decode cX0_lateSet 35 = .ok (.ifCond .lt 34, 3) := dk_155 0 34 (dk_at dksX0_lateSet_1 11 rfl rfl)
theorem dX0_lateSet_38 : decode cX0_lateSet 38 = .ok (.aload_n 0, 1) := dk_42 (dk_at dksX0_lateSet_1 14 rfl rfl)
theorem dX0_lateSet_39 : decode cX0_lateSet 39 = .ok (.iload_n 3, 1) := dk_29 (dk_at dksX0_lateSet_1 15 rfl rfl)
theorem dX0_lateSet_40 : decode cX0_lateSet 40 = .ok (.aload_n 0, 1) := dk_42 (dk_at dksX0_lateSet_1 16 rfl rfl)
theorem dX0_lateSet_41 : decode cX0_lateSet 41 = .ok (.getfield 47, 3) := dk_180 0 47 (dk_at dksX0_lateSet_1 17 rfl rfl)
theorem dX0_lateSet_44 : decode cX0_lateSet 44 = .ok (.getfield 220, 3) := dk_180 0 220 (dk_at dksX0_lateSet_1 20 rfl rfl)
theorem dX0_lateSet_47 : decode cX0_lateSet 47 = .ok (.iconst 1, 1) := dk_4 (dk_at dksX0_lateSet_1 23 rfl rfl)
theorem dX0_lateSet_48 : decode cX0_lateSet 48 = .ok (.isub, 1) := dk_100 (dk_at dksX0_lateSet_2 0 rfl rfl)
theorem dX0_lateSet_49 : decode cX0_lateSet 49 = .ok (.invokevirtual 373, 3) := dk_182 1 117 (dk_at dksX0_lateSet_2 1 rfl rfl)
theorem dX0_lateSet_52 : decode cX0_lateSet 52 = .ok (.ifCond .eq 17, 3) := dk_153 0 17 (dk_at dksX0_lateSet_2 4 rfl rfl)
theorem dX0_lateSet_55 : decode cX0_lateSet 55 = .ok (.iconst 1, 1) := dk_4 (dk_at dksX0_lateSet_2 7 rfl rfl)
theorem dX0_lateSet_56 : decode cX0_lateSet 56 = .ok (.aload_n 0, 1) := dk_42 (dk_at dksX0_lateSet_2 8 rfl rfl)
theorem dX0_lateSet_57 : decode cX0_lateSet 57 = .ok (.getfield 47, 3) := dk_180 0 47 (dk_at dksX0_lateSet_2 9 rfl rfl)
theorem dX0_lateSet_60 : decode cX0_lateSet 60 = .ok (.getfield 198, 3) := dk_180 0 198 (dk_at dksX0_lateSet_2 12 rfl rfl)
theorem dX0_lateSet_63 : decode cX0_lateSet 63 = .ok (.iload_n 3, 1) := dk_29 (dk_at dksX0_lateSet_2 15 rfl rfl)
theorem dX0_lateSet_64 : decode cX0_lateSet 64 = .ok (.iaload, 1) := dk_46 (dk_at dksX0_lateSet_2 16 rfl rfl)
theorem dX0_lateSet_65 : decode cX0_lateSet 65 = .ok (.ishl, 1) := dk_120 (dk_at dksX0_lateSet_2 17 rfl rfl)
theorem dX0_lateSet_66 : decode cX0_lateSet 66 = .ok (.goto 4, 3) := dk_167 0 4 (dk_at dksX0_lateSet_2 18 rfl rfl)
theorem dX0_lateSet_69 : decode cX0_lateSet 69 = .ok (.iconst 0, 1) := dk_3 (dk_at dksX0_lateSet_2 21 rfl rfl)
theorem dX0_lateSet_70 : decode cX0_lateSet 70 = .ok (.ior, 1) := dk_128 (dk_at dksX0_lateSet_2 22 rfl rfl)
theorem dX0_lateSet_71 : decode cX0_lateSet 71 = .ok (.istore_n 2, 1) := dk_61 (dk_at dksX0_lateSet_2 23 rfl rfl)
theorem dX0_lateSet_72 : decode cX0_lateSet 72 = .ok (.iinc 3 1, 3) := dk_132 3 1 (dk_at dksX0_lateSet_3 0 rfl rfl)
theorem dX0_lateSet_75 : decode cX0_lateSet 75 = .ok (.goto (-53), 3) := dk_167 255 203 (dk_at dksX0_lateSet_3 3 rfl rfl)
theorem dX0_lateSet_78 : decode cX0_lateSet 78 = .ok (.aload_n 0, 1) := dk_42 (dk_at dksX0_lateSet_3 6 rfl rfl)
theorem dX0_lateSet_79 : decode cX0_lateSet 79 = .ok (.getfield 47, 3) := dk_180 0 47 (dk_at dksX0_lateSet_3 7 rfl rfl)
theorem dX0_lateSet_82 : decode cX0_lateSet 82 = .ok (.aload_n 0, 1) := dk_42 (dk_at dksX0_lateSet_3 10 rfl rfl)
theorem dX0_lateSet_83 : decode cX0_lateSet 83 = .ok (.getfield 54, 3) := dk_180 0 54 (dk_at dksX0_lateSet_3 11 rfl rfl)
theorem dX0_lateSet_86 : decode cX0_lateSet 86 = .ok (.invokevirtual 386, 3) := dk_182 1 130 (dk_at dksX0_lateSet_3 14 rfl rfl)
theorem dX0_lateSet_89 : decode cX0_lateSet 89 = .ok (.iload_n 2, 1) := dk_28 (dk_at dksX0_lateSet_3 17 rfl rfl)
theorem dX0_lateSet_90 : decode cX0_lateSet 90 = .ok (.ireturn, 1) := dk_172 (dk_at dksX0_lateSet_3 18 rfl rfl)
abbrev cX0_falls : ByteArray := prog_1_method_59_code
def yX0_falls : MethodName := ⟨RX0, "falls", "(I)I"⟩
def dkwX0_falls_3 : List UInt8 := [172]
abbrev dktX0_falls_3 : List UInt8 := dkwX0_falls_3 ++ []
def dkwX0_falls_2 : List UInt8 := [28, 2, 130, 126, 62, 42, 180, 0, 111, 3, 42, 180, 0, 47, 180, 0, 210, 3, 16, 10, 184, 1, 81, 29]
abbrev dktX0_falls_2 : List UInt8 := dkwX0_falls_2 ++ dktX0_falls_3
def dkwX0_falls_1 : List UInt8 := [16, 252, 172, 42, 3, 182, 1, 140, 42, 6, 182, 1, 127, 61, 42, 27, 182, 1, 114, 42, 6, 182, 1, 127]
abbrev dktX0_falls_1 : List UInt8 := dkwX0_falls_1 ++ dktX0_falls_2
def dkwX0_falls_0 : List UInt8 := [42, 27, 182, 0, 195, 154, 0, 5, 2, 172, 42, 180, 0, 47, 180, 0, 210, 27, 46, 4, 159, 0, 6]
abbrev dktX0_falls_0 : List UInt8 := dkwX0_falls_0 ++ dktX0_falls_1
theorem dksX0_falls_0 : cX0_falls.data.toList.drop 0 = dktX0_falls_0 := by decide +kernel
theorem dksX0_falls_1 : cX0_falls.data.toList.drop 23 = dktX0_falls_1 := dk_seg dksX0_falls_0 23 rfl rfl
theorem dksX0_falls_2 : cX0_falls.data.toList.drop 47 = dktX0_falls_2 := dk_seg dksX0_falls_1 24 rfl rfl
theorem dksX0_falls_3 : cX0_falls.data.toList.drop 71 = dktX0_falls_3 := dk_seg dksX0_falls_2 24 rfl rfl
theorem dX0_falls_0 : decode cX0_falls 0 = .ok (.aload_n 0, 1) := dk_42 (dk_at dksX0_falls_0 0 rfl rfl)
theorem dX0_falls_1 : decode cX0_falls 1 = .ok (.iload_n 1, 1) := dk_27 (dk_at dksX0_falls_0 1 rfl rfl)
theorem dX0_falls_2 : decode cX0_falls 2 = .ok (.invokevirtual 195, 3) := dk_182 0 195 (dk_at dksX0_falls_0 2 rfl rfl)
theorem dX0_falls_5 : decode cX0_falls 5 = .ok (.ifCond .ne 5, 3) := dk_154 0 5 (dk_at dksX0_falls_0 5 rfl rfl)
theorem dX0_falls_8 : decode cX0_falls 8 = .ok (.iconst (-1), 1) := dk_2 (dk_at dksX0_falls_0 8 rfl rfl)
theorem dX0_falls_9 : decode cX0_falls 9 = .ok (.ireturn, 1) := dk_172 (dk_at dksX0_falls_0 9 rfl rfl)
theorem dX0_falls_10 : decode cX0_falls 10 = .ok (.aload_n 0, 1) := dk_42 (dk_at dksX0_falls_0 10 rfl rfl)
theorem dX0_falls_11 : decode cX0_falls 11 = .ok (.getfield 47, 3) := dk_180 0 47 (dk_at dksX0_falls_0 11 rfl rfl)
theorem dX0_falls_14 : decode cX0_falls 14 = .ok (.getfield 210, 3) := dk_180 0 210 (dk_at dksX0_falls_0 14 rfl rfl)
theorem dX0_falls_17 : decode cX0_falls 17 = .ok (.iload_n 1, 1) := dk_27 (dk_at dksX0_falls_0 17 rfl rfl)
theorem dX0_falls_18 : decode cX0_falls 18 = .ok (.iaload, 1) := dk_46 (dk_at dksX0_falls_0 18 rfl rfl)
theorem dX0_falls_19 : decode cX0_falls 19 = .ok (.iconst 1, 1) := dk_4 (dk_at dksX0_falls_0 19 rfl rfl)
theorem dX0_falls_20 : decode cX0_falls 20 = .ok (.if_icmp .eq 6, 3) := dk_159 0 6 (dk_at dksX0_falls_0 20 rfl rfl)
theorem dX0_falls_23 : decode cX0_falls 23 = .ok (.bipush (-4), 2) := dk_16 252 (dk_at dksX0_falls_1 0 rfl rfl)
theorem dX0_falls_25 : decode cX0_falls 25 = .ok (.ireturn, 1) := dk_172 (dk_at dksX0_falls_1 2 rfl rfl)
theorem dX0_falls_26 : decode cX0_falls 26 = .ok (.aload_n 0, 1) := dk_42 (dk_at dksX0_falls_1 3 rfl rfl)
theorem dX0_falls_27 : decode cX0_falls 27 = .ok (.iconst 0, 1) := dk_3 (dk_at dksX0_falls_1 4 rfl rfl)
theorem dX0_falls_28 : decode cX0_falls 28 = .ok (.invokevirtual 396, 3) := dk_182 1 140 (dk_at dksX0_falls_1 5 rfl rfl)
theorem dX0_falls_31 : decode cX0_falls 31 = .ok (.aload_n 0, 1) := dk_42 (dk_at dksX0_falls_1 8 rfl rfl)
theorem dX0_falls_32 : decode cX0_falls 32 = .ok (.iconst 3, 1) := dk_6 (dk_at dksX0_falls_1 9 rfl rfl)
theorem dX0_falls_33 : decode cX0_falls 33 = .ok (.invokevirtual 383, 3) := dk_182 1 127 (dk_at dksX0_falls_1 10 rfl rfl)
theorem dX0_falls_36 : decode cX0_falls 36 = .ok (.istore_n 2, 1) := dk_61 (dk_at dksX0_falls_1 13 rfl rfl)
theorem dX0_falls_37 : decode cX0_falls 37 = .ok (.aload_n 0, 1) := dk_42 (dk_at dksX0_falls_1 14 rfl rfl)
theorem dX0_falls_38 : decode cX0_falls 38 = .ok (.iload_n 1, 1) := dk_27 (dk_at dksX0_falls_1 15 rfl rfl)
theorem dX0_falls_39 : decode cX0_falls 39 = .ok (.invokevirtual 370, 3) := dk_182 1 114 (dk_at dksX0_falls_1 16 rfl rfl)
theorem dX0_falls_42 : decode cX0_falls 42 = .ok (.aload_n 0, 1) := dk_42 (dk_at dksX0_falls_1 19 rfl rfl)
theorem dX0_falls_43 : decode cX0_falls 43 = .ok (.iconst 3, 1) := dk_6 (dk_at dksX0_falls_1 20 rfl rfl)
theorem dX0_falls_44 : decode cX0_falls 44 = .ok (.invokevirtual 383, 3) := dk_182 1 127 (dk_at dksX0_falls_1 21 rfl rfl)
theorem dX0_falls_47 : decode cX0_falls 47 = .ok (.iload_n 2, 1) := dk_28 (dk_at dksX0_falls_2 0 rfl rfl)
theorem dX0_falls_48 : decode cX0_falls 48 = .ok (.iconst (-1), 1) := dk_2 (dk_at dksX0_falls_2 1 rfl rfl)
theorem dX0_falls_49 : decode cX0_falls 49 = .ok (.ixor, 1) := dk_130 (dk_at dksX0_falls_2 2 rfl rfl)
theorem dX0_falls_50 : decode cX0_falls 50 = .ok (.iand, 1) := dk_126 (dk_at dksX0_falls_2 3 rfl rfl)
theorem dX0_falls_51 : decode cX0_falls 51 = .ok (.istore_n 3, 1) := dk_62 (dk_at dksX0_falls_2 4 rfl rfl)
theorem dX0_falls_52 : decode cX0_falls 52 = .ok (.aload_n 0, 1) := dk_42 (dk_at dksX0_falls_2 5 rfl rfl)
theorem dX0_falls_53 : decode cX0_falls 53 = .ok (.getfield 111, 3) := dk_180 0 111 (dk_at dksX0_falls_2 6 rfl rfl)
theorem dX0_falls_56 : decode cX0_falls 56 = .ok (.iconst 0, 1) := dk_3 (dk_at dksX0_falls_2 9 rfl rfl)
theorem dX0_falls_57 : decode cX0_falls 57 = .ok (.aload_n 0, 1) := dk_42 (dk_at dksX0_falls_2 10 rfl rfl)
theorem dX0_falls_58 : decode cX0_falls 58 = .ok (.getfield 47, 3) := dk_180 0 47 (dk_at dksX0_falls_2 11 rfl rfl)
theorem dX0_falls_61 : decode cX0_falls 61 = .ok (.getfield 210, 3) := dk_180 0 210 (dk_at dksX0_falls_2 14 rfl rfl)
theorem dX0_falls_64 : decode cX0_falls 64 = .ok (.iconst 0, 1) := dk_3 (dk_at dksX0_falls_2 17 rfl rfl)
theorem dX0_falls_65 : decode cX0_falls 65 = .ok (.bipush 10, 2) := dk_16 10 (dk_at dksX0_falls_2 18 rfl rfl)
theorem dX0_falls_67 : decode cX0_falls 67 = .ok (.invokestatic 337, 3) := dk_184 1 81 (dk_at dksX0_falls_2 20 rfl rfl)
theorem dX0_falls_70 : decode cX0_falls 70 = .ok (.iload_n 3, 1) := dk_29 (dk_at dksX0_falls_2 23 rfl rfl)
theorem dX0_falls_71 : decode cX0_falls 71 = .ok (.ireturn, 1) := dk_172 (dk_at dksX0_falls_3 0 rfl rfl)
abbrev cX0_saves : ByteArray := prog_1_method_45_code
def yX0_saves : MethodName := ⟨RX0, "saves", "(I)V"⟩
def dkwX0_saves_0 : List UInt8 := [42, 180, 0, 47, 180, 0, 210, 3, 42, 180, 0, 111, 16, 10, 27, 104, 16, 10, 184, 1, 81, 177]
abbrev dktX0_saves_0 : List UInt8 := dkwX0_saves_0 ++ []
theorem dksX0_saves_0 : cX0_saves.data.toList.drop 0 = dktX0_saves_0 := by decide +kernel
theorem dX0_saves_0 : decode cX0_saves 0 = .ok (.aload_n 0, 1) := dk_42 (dk_at dksX0_saves_0 0 rfl rfl)
theorem dX0_saves_1 : decode cX0_saves 1 = .ok (.getfield 47, 3) := dk_180 0 47 (dk_at dksX0_saves_0 1 rfl rfl)
theorem dX0_saves_4 : decode cX0_saves 4 = .ok (.getfield 210, 3) := dk_180 0 210 (dk_at dksX0_saves_0 4 rfl rfl)
theorem dX0_saves_7 : decode cX0_saves 7 = .ok (.iconst 0, 1) := dk_3 (dk_at dksX0_saves_0 7 rfl rfl)
theorem dX0_saves_8 : decode cX0_saves 8 = .ok (.aload_n 0, 1) := dk_42 (dk_at dksX0_saves_0 8 rfl rfl)
theorem dX0_saves_9 : decode cX0_saves 9 = .ok (.getfield 111, 3) := dk_180 0 111 (dk_at dksX0_saves_0 9 rfl rfl)
theorem dX0_saves_12 : decode cX0_saves 12 = .ok (.bipush 10, 2) := dk_16 10 (dk_at dksX0_saves_0 12 rfl rfl)
theorem dX0_saves_14 : decode cX0_saves 14 = .ok (.iload_n 1, 1) := dk_27 (dk_at dksX0_saves_0 14 rfl rfl)
theorem dX0_saves_15 : decode cX0_saves 15 = .ok (.imul, 1) := dk_104 (dk_at dksX0_saves_0 15 rfl rfl)
theorem dX0_saves_16 : decode cX0_saves 16 = .ok (.bipush 10, 2) := dk_16 10 (dk_at dksX0_saves_0 16 rfl rfl)
theorem dX0_saves_18 : decode cX0_saves 18 = .ok (.invokestatic 337, 3) := dk_184 1 81 (dk_at dksX0_saves_0 18 rfl rfl)
theorem dX0_saves_21 : decode cX0_saves 21 = .ok (.return_, 1) := dk_177 (dk_at dksX0_saves_0 21 rfl rfl)
abbrev cX0_graceFor : ByteArray := prog_1_method_60_code
def yX0_graceFor : MethodName := ⟨RX0, "graceFor", "(I)I"⟩
def dkwX0_graceFor_5 : List UInt8 := [28, 79, 42, 27, 182, 0, 175, 25, 7, 191]
abbrev dktX0_graceFor_5 : List UInt8 := dkwX0_graceFor_5 ++ []
def dkwX0_graceFor_4 : List UInt8 := [180, 0, 160, 27, 28, 79, 42, 27, 182, 0, 175, 21, 5, 172, 58, 7, 42, 180, 0, 47, 180, 0, 160, 27]
abbrev dktX0_graceFor_4 : List UInt8 := dkwX0_graceFor_4 ++ dktX0_graceFor_5
def dkwX0_graceFor_3 : List UInt8 := [21, 4, 21, 6, 184, 1, 146, 54, 4, 132, 5, 1, 167, 255, 201, 29, 54, 5, 42, 180, 0, 47]
abbrev dktX0_graceFor_3 : List UInt8 := dkwX0_graceFor_3 ++ dktX0_graceFor_4
def dkwX0_graceFor_2 : List UInt8 := [27, 182, 0, 175, 42, 182, 1, 143, 54, 6, 21, 6, 21, 4, 164, 0, 8, 21, 5, 167, 0, 4, 29, 62]
abbrev dktX0_graceFor_2 : List UInt8 := dkwX0_graceFor_2 ++ dktX0_graceFor_3
def dkwX0_graceFor_1 : List UInt8 := [54, 4, 4, 54, 5, 21, 5, 16, 9, 163, 0, 54, 42, 180, 0, 47, 180, 0, 160, 27, 21, 5, 79, 42]
abbrev dktX0_graceFor_1 : List UInt8 := dkwX0_graceFor_1 ++ dktX0_graceFor_2
def dkwX0_graceFor_0 : List UInt8 := [42, 27, 182, 0, 179, 154, 0, 5, 2, 172, 42, 180, 0, 47, 180, 0, 160, 27, 46, 61, 4, 62, 2]
abbrev dktX0_graceFor_0 : List UInt8 := dkwX0_graceFor_0 ++ dktX0_graceFor_1
theorem dksX0_graceFor_0 : cX0_graceFor.data.toList.drop 0 = dktX0_graceFor_0 := by decide +kernel
theorem dksX0_graceFor_1 : cX0_graceFor.data.toList.drop 23 = dktX0_graceFor_1 := dk_seg dksX0_graceFor_0 23 rfl rfl
theorem dksX0_graceFor_2 : cX0_graceFor.data.toList.drop 47 = dktX0_graceFor_2 := dk_seg dksX0_graceFor_1 24 rfl rfl
theorem dksX0_graceFor_3 : cX0_graceFor.data.toList.drop 71 = dktX0_graceFor_3 := dk_seg dksX0_graceFor_2 24 rfl rfl
theorem dksX0_graceFor_4 : cX0_graceFor.data.toList.drop 93 = dktX0_graceFor_4 := dk_seg dksX0_graceFor_3 22 rfl rfl
theorem dksX0_graceFor_5 : cX0_graceFor.data.toList.drop 117 = dktX0_graceFor_5 := dk_seg dksX0_graceFor_4 24 rfl rfl
theorem dX0_graceFor_0 : decode cX0_graceFor 0 = .ok (.aload_n 0, 1) := dk_42 (dk_at dksX0_graceFor_0 0 rfl rfl)
theorem dX0_graceFor_1 : decode cX0_graceFor 1 = .ok (.iload_n 1, 1) := dk_27 (dk_at dksX0_graceFor_0 1 rfl rfl)
theorem dX0_graceFor_2 : decode cX0_graceFor 2 = .ok (.invokevirtual 179, 3) := dk_182 0 179 (dk_at dksX0_graceFor_0 2 rfl rfl)
theorem dX0_graceFor_5 : decode cX0_graceFor 5 = .ok (.ifCond .ne 5, 3) := dk_154 0 5 (dk_at dksX0_graceFor_0 5 rfl rfl)
theorem dX0_graceFor_8 : decode cX0_graceFor 8 = .ok (.iconst (-1), 1) := dk_2 (dk_at dksX0_graceFor_0 8 rfl rfl)
theorem dX0_graceFor_9 : decode cX0_graceFor 9 = .ok (.ireturn, 1) := dk_172 (dk_at dksX0_graceFor_0 9 rfl rfl)
theorem dX0_graceFor_10 : decode cX0_graceFor 10 = .ok (.aload_n 0, 1) := dk_42 (dk_at dksX0_graceFor_0 10 rfl rfl)
theorem dX0_graceFor_11 : decode cX0_graceFor 11 = .ok (.getfield 47, 3) := dk_180 0 47 (dk_at dksX0_graceFor_0 11 rfl rfl)
theorem dX0_graceFor_14 : decode cX0_graceFor 14 = .ok (.getfield 160, 3) := dk_180 0 160 (dk_at dksX0_graceFor_0 14 rfl rfl)
theorem dX0_graceFor_17 : decode cX0_graceFor 17 = .ok (.iload_n 1, 1) := dk_27 (dk_at dksX0_graceFor_0 17 rfl rfl)
theorem dX0_graceFor_18 : decode cX0_graceFor 18 = .ok (.iaload, 1) := dk_46 (dk_at dksX0_graceFor_0 18 rfl rfl)
theorem dX0_graceFor_19 : decode cX0_graceFor 19 = .ok (.istore_n 2, 1) := dk_61 (dk_at dksX0_graceFor_0 19 rfl rfl)
theorem dX0_graceFor_20 : decode cX0_graceFor 20 = .ok (.iconst 1, 1) := dk_4 (dk_at dksX0_graceFor_0 20 rfl rfl)
theorem dX0_graceFor_21 : decode cX0_graceFor 21 = .ok (.istore_n 3, 1) := dk_62 (dk_at dksX0_graceFor_0 21 rfl rfl)
theorem dX0_graceFor_22 : decode cX0_graceFor 22 = .ok (.iconst (-1), 1) := dk_2 (dk_at dksX0_graceFor_0 22 rfl rfl)
theorem dX0_graceFor_23 : decode cX0_graceFor 23 = .ok (.istore 4, 2) := dk_54 4 (dk_at dksX0_graceFor_1 0 rfl rfl)
theorem dX0_graceFor_25 : decode cX0_graceFor 25 = .ok (.iconst 1, 1) := dk_4 (dk_at dksX0_graceFor_1 2 rfl rfl)
theorem dX0_graceFor_26 : decode cX0_graceFor 26 = .ok (.istore 5, 2) := dk_54 5 (dk_at dksX0_graceFor_1 3 rfl rfl)
theorem dX0_graceFor_28 : decode cX0_graceFor 28 = .ok (.iload 5, 2) := dk_21 5 (dk_at dksX0_graceFor_1 5 rfl rfl)
theorem dX0_graceFor_30 : decode cX0_graceFor 30 = .ok (.bipush 9, 2) := dk_16 9 (dk_at dksX0_graceFor_1 7 rfl rfl)
theorem dX0_graceFor_32 : decode cX0_graceFor 32 = .ok (.if_icmp .gt 54, 3) := dk_163 0 54 (dk_at dksX0_graceFor_1 9 rfl rfl)
theorem dX0_graceFor_35 : decode cX0_graceFor 35 = .ok (.aload_n 0, 1) := dk_42 (dk_at dksX0_graceFor_1 12 rfl rfl)
theorem dX0_graceFor_36 : decode cX0_graceFor 36 = .ok (.getfield 47, 3) := dk_180 0 47 (dk_at dksX0_graceFor_1 13 rfl rfl)
theorem dX0_graceFor_39 : decode cX0_graceFor 39 = .ok (.getfield 160, 3) := dk_180 0 160 (dk_at dksX0_graceFor_1 16 rfl rfl)
theorem dX0_graceFor_42 : decode cX0_graceFor 42 = .ok (.iload_n 1, 1) := dk_27 (dk_at dksX0_graceFor_1 19 rfl rfl)
theorem dX0_graceFor_43 : decode cX0_graceFor 43 = .ok (.iload 5, 2) := dk_21 5 (dk_at dksX0_graceFor_1 20 rfl rfl)
theorem dX0_graceFor_45 : decode cX0_graceFor 45 = .ok (.iastore, 1) := dk_79 (dk_at dksX0_graceFor_1 22 rfl rfl)
theorem dX0_graceFor_46 : decode cX0_graceFor 46 = .ok (.aload_n 0, 1) := dk_42 (dk_at dksX0_graceFor_1 23 rfl rfl)
theorem dX0_graceFor_47 : decode cX0_graceFor 47 = .ok (.iload_n 1, 1) := dk_27 (dk_at dksX0_graceFor_2 0 rfl rfl)
theorem dX0_graceFor_48 : decode cX0_graceFor 48 = .ok (.invokevirtual 175, 3) := dk_182 0 175 (dk_at dksX0_graceFor_2 1 rfl rfl)
theorem dX0_graceFor_51 : decode cX0_graceFor 51 = .ok (.aload_n 0, 1) := dk_42 (dk_at dksX0_graceFor_2 4 rfl rfl)
theorem dX0_graceFor_52 : decode cX0_graceFor 52 = .ok (.invokevirtual 399, 3) := dk_182 1 143 (dk_at dksX0_graceFor_2 5 rfl rfl)
theorem dX0_graceFor_55 : decode cX0_graceFor 55 = .ok (.istore 6, 2) := dk_54 6 (dk_at dksX0_graceFor_2 8 rfl rfl)
theorem dX0_graceFor_57 : decode cX0_graceFor 57 = .ok (.iload 6, 2) := dk_21 6 (dk_at dksX0_graceFor_2 10 rfl rfl)
theorem dX0_graceFor_59 : decode cX0_graceFor 59 = .ok (.iload 4, 2) := dk_21 4 (dk_at dksX0_graceFor_2 12 rfl rfl)
theorem dX0_graceFor_61 : decode cX0_graceFor 61 = .ok (.if_icmp .le 8, 3) := dk_164 0 8 (dk_at dksX0_graceFor_2 14 rfl rfl)
theorem dX0_graceFor_64 : decode cX0_graceFor 64 = .ok (.iload 5, 2) := dk_21 5 (dk_at dksX0_graceFor_2 17 rfl rfl)
theorem dX0_graceFor_66 : decode cX0_graceFor 66 = .ok (.goto 4, 3) := dk_167 0 4 (dk_at dksX0_graceFor_2 19 rfl rfl)
theorem dX0_graceFor_69 : decode cX0_graceFor 69 = .ok (.iload_n 3, 1) := dk_29 (dk_at dksX0_graceFor_2 22 rfl rfl)
theorem dX0_graceFor_70 : decode cX0_graceFor 70 = .ok (.istore_n 3, 1) := dk_62 (dk_at dksX0_graceFor_2 23 rfl rfl)
theorem dX0_graceFor_71 : decode cX0_graceFor 71 = .ok (.iload 4, 2) := dk_21 4 (dk_at dksX0_graceFor_3 0 rfl rfl)
theorem dX0_graceFor_73 : decode cX0_graceFor 73 = .ok (.iload 6, 2) := dk_21 6 (dk_at dksX0_graceFor_3 2 rfl rfl)
theorem dX0_graceFor_75 : decode cX0_graceFor 75 = .ok (.invokestatic 402, 3) := dk_184 1 146 (dk_at dksX0_graceFor_3 4 rfl rfl)
theorem dX0_graceFor_78 : decode cX0_graceFor 78 = .ok (.istore 4, 2) := dk_54 4 (dk_at dksX0_graceFor_3 7 rfl rfl)
theorem dX0_graceFor_80 : decode cX0_graceFor 80 = .ok (.iinc 5 1, 3) := dk_132 5 1 (dk_at dksX0_graceFor_3 9 rfl rfl)
theorem dX0_graceFor_83 : decode cX0_graceFor 83 = .ok (.goto (-55), 3) := dk_167 255 201 (dk_at dksX0_graceFor_3 12 rfl rfl)
theorem dX0_graceFor_86 : decode cX0_graceFor 86 = .ok (.iload_n 3, 1) := dk_29 (dk_at dksX0_graceFor_3 15 rfl rfl)
theorem dX0_graceFor_87 : decode cX0_graceFor 87 = .ok (.istore 5, 2) := dk_54 5 (dk_at dksX0_graceFor_3 16 rfl rfl)
theorem dX0_graceFor_89 : decode cX0_graceFor 89 = .ok (.aload_n 0, 1) := dk_42 (dk_at dksX0_graceFor_3 18 rfl rfl)
theorem dX0_graceFor_90 : decode cX0_graceFor 90 = .ok (.getfield 47, 3) := dk_180 0 47 (dk_at dksX0_graceFor_3 19 rfl rfl)
theorem dX0_graceFor_93 : decode cX0_graceFor 93 = .ok (.getfield 160, 3) := dk_180 0 160 (dk_at dksX0_graceFor_4 0 rfl rfl)
theorem dX0_graceFor_96 : decode cX0_graceFor 96 = .ok (.iload_n 1, 1) := dk_27 (dk_at dksX0_graceFor_4 3 rfl rfl)
theorem dX0_graceFor_97 : decode cX0_graceFor 97 = .ok (.iload_n 2, 1) := dk_28 (dk_at dksX0_graceFor_4 4 rfl rfl)
theorem dX0_graceFor_98 : decode cX0_graceFor 98 = .ok (.iastore, 1) := dk_79 (dk_at dksX0_graceFor_4 5 rfl rfl)
theorem dX0_graceFor_99 : decode cX0_graceFor 99 = .ok (.aload_n 0, 1) := dk_42 (dk_at dksX0_graceFor_4 6 rfl rfl)
theorem dX0_graceFor_100 : decode cX0_graceFor 100 = .ok (.iload_n 1, 1) := dk_27 (dk_at dksX0_graceFor_4 7 rfl rfl)
theorem dX0_graceFor_101 : decode cX0_graceFor 101 = .ok (.invokevirtual 175, 3) := dk_182 0 175 (dk_at dksX0_graceFor_4 8 rfl rfl)
theorem dX0_graceFor_104 : decode cX0_graceFor 104 = .ok (.iload 5, 2) := dk_21 5 (dk_at dksX0_graceFor_4 11 rfl rfl)
theorem dX0_graceFor_106 : decode cX0_graceFor 106 = .ok (.ireturn, 1) := dk_172 (dk_at dksX0_graceFor_4 13 rfl rfl)
theorem dX0_graceFor_107 : decode cX0_graceFor 107 = .ok (.astore 7, 2) := dk_58 7 (dk_at dksX0_graceFor_4 14 rfl rfl)
theorem dX0_graceFor_109 : decode cX0_graceFor 109 = .ok (.aload_n 0, 1) := dk_42 (dk_at dksX0_graceFor_4 16 rfl rfl)
theorem dX0_graceFor_110 : decode cX0_graceFor 110 = .ok (.getfield 47, 3) := dk_180 0 47 (dk_at dksX0_graceFor_4 17 rfl rfl)
theorem dX0_graceFor_113 : decode cX0_graceFor 113 = .ok (.getfield 160, 3) := dk_180 0 160 (dk_at dksX0_graceFor_4 20 rfl rfl)
theorem dX0_graceFor_116 : decode cX0_graceFor 116 = .ok (.iload_n 1, 1) := dk_27 (dk_at dksX0_graceFor_4 23 rfl rfl)
theorem dX0_graceFor_117 : decode cX0_graceFor 117 = .ok (.iload_n 2, 1) := dk_28 (dk_at dksX0_graceFor_5 0 rfl rfl)
theorem dX0_graceFor_118 : decode cX0_graceFor 118 = .ok (.iastore, 1) := dk_79 (dk_at dksX0_graceFor_5 1 rfl rfl)
theorem dX0_graceFor_119 : decode cX0_graceFor 119 = .ok (.aload_n 0, 1) := dk_42 (dk_at dksX0_graceFor_5 2 rfl rfl)
theorem dX0_graceFor_120 : decode cX0_graceFor 120 = .ok (.iload_n 1, 1) := dk_27 (dk_at dksX0_graceFor_5 3 rfl rfl)
theorem dX0_graceFor_121 : decode cX0_graceFor 121 = .ok (.invokevirtual 175, 3) := dk_182 0 175 (dk_at dksX0_graceFor_5 4 rfl rfl)
theorem dX0_graceFor_124 : decode cX0_graceFor 124 = .ok (.aload 7, 2) := dk_25 7 (dk_at dksX0_graceFor_5 7 rfl rfl)
theorem dX0_graceFor_126 : decode cX0_graceFor 126 = .ok (.athrow, 1) := dk_191 (dk_at dksX0_graceFor_5 9 rfl rfl)
abbrev cX0_restWorth : ByteArray := prog_1_method_53_code
def yX0_restWorth : MethodName := ⟨RX0, "restWorth", "()I"⟩
def dkwX0_restWorth_1 : List UInt8 := [180, 0, 54, 182, 1, 130, 27, 172]
abbrev dktX0_restWorth_1 : List UInt8 := dkwX0_restWorth_1 ++ []
def dkwX0_restWorth_0 : List UInt8 := [42, 180, 0, 54, 42, 180, 0, 47, 182, 1, 130, 42, 16, 16, 182, 1, 134, 60, 42, 180, 0, 47, 42]
abbrev dktX0_restWorth_0 : List UInt8 := dkwX0_restWorth_0 ++ dktX0_restWorth_1
theorem dksX0_restWorth_0 : cX0_restWorth.data.toList.drop 0 = dktX0_restWorth_0 := by decide +kernel
theorem dksX0_restWorth_1 : cX0_restWorth.data.toList.drop 23 = dktX0_restWorth_1 := dk_seg dksX0_restWorth_0 23 rfl rfl
theorem dX0_restWorth_0 : decode cX0_restWorth 0 = .ok (.aload_n 0, 1) := dk_42 (dk_at dksX0_restWorth_0 0 rfl rfl)
theorem dX0_restWorth_1 : decode cX0_restWorth 1 = .ok (.getfield 54, 3) := dk_180 0 54 (dk_at dksX0_restWorth_0 1 rfl rfl)
theorem dX0_restWorth_4 : decode cX0_restWorth 4 = .ok (.aload_n 0, 1) := dk_42 (dk_at dksX0_restWorth_0 4 rfl rfl)
theorem dX0_restWorth_5 : decode cX0_restWorth 5 = .ok (.getfield 47, 3) := dk_180 0 47 (dk_at dksX0_restWorth_0 5 rfl rfl)
theorem dX0_restWorth_8 : decode cX0_restWorth 8 = .ok (.invokevirtual 386, 3) := dk_182 1 130 (dk_at dksX0_restWorth_0 8 rfl rfl)
theorem dX0_restWorth_11 : decode cX0_restWorth 11 = .ok (.aload_n 0, 1) := dk_42 (dk_at dksX0_restWorth_0 11 rfl rfl)
theorem dX0_restWorth_12 : decode cX0_restWorth 12 = .ok (.bipush 16, 2) := dk_16 16 (dk_at dksX0_restWorth_0 12 rfl rfl)
theorem dX0_restWorth_14 : decode cX0_restWorth 14 = .ok (.invokevirtual 390, 3) := dk_182 1 134 (dk_at dksX0_restWorth_0 14 rfl rfl)
theorem dX0_restWorth_17 : decode cX0_restWorth 17 = .ok (.istore_n 1, 1) := dk_60 (dk_at dksX0_restWorth_0 17 rfl rfl)
theorem dX0_restWorth_18 : decode cX0_restWorth 18 = .ok (.aload_n 0, 1) := dk_42 (dk_at dksX0_restWorth_0 18 rfl rfl)
theorem dX0_restWorth_19 : decode cX0_restWorth 19 = .ok (.getfield 47, 3) := dk_180 0 47 (dk_at dksX0_restWorth_0 19 rfl rfl)
theorem dX0_restWorth_22 : decode cX0_restWorth 22 = .ok (.aload_n 0, 1) := dk_42 (dk_at dksX0_restWorth_0 22 rfl rfl)
theorem dX0_restWorth_23 : decode cX0_restWorth 23 = .ok (.getfield 54, 3) := dk_180 0 54 (dk_at dksX0_restWorth_1 0 rfl rfl)
theorem dX0_restWorth_26 : decode cX0_restWorth 26 = .ok (.invokevirtual 386, 3) := dk_182 1 130 (dk_at dksX0_restWorth_1 3 rfl rfl)
theorem dX0_restWorth_29 : decode cX0_restWorth 29 = .ok (.iload_n 1, 1) := dk_27 (dk_at dksX0_restWorth_1 6 rfl rfl)
theorem dX0_restWorth_30 : decode cX0_restWorth 30 = .ok (.ireturn, 1) := dk_172 (dk_at dksX0_restWorth_1 7 rfl rfl)
abbrev cX0_strengthFor : ByteArray := prog_1_method_61_code
def yX0_strengthFor : MethodName := ⟨RX0, "strengthFor", "(I)I"⟩
def dkwX0_strengthFor_5 : List UInt8 := [25, 4, 191]
abbrev dktX0_strengthFor_5 : List UInt8 := dkwX0_strengthFor_5 ++ []
def dkwX0_strengthFor_4 : List UInt8 := [42, 180, 0, 47, 180, 0, 173, 27, 28, 79, 29, 172, 58, 4, 42, 180, 0, 47, 180, 0, 173, 27, 28, 79]
abbrev dktX0_strengthFor_4 : List UInt8 := dkwX0_strengthFor_4 ++ dktX0_strengthFor_5
def dkwX0_strengthFor_3 : List UInt8 := [27, 28, 79, 29, 172, 42, 180, 0, 47, 180, 0, 173, 27, 92, 46, 4, 96, 79, 167, 255, 196, 16, 253, 62]
abbrev dktX0_strengthFor_3 : List UInt8 := dkwX0_strengthFor_3 ++ dktX0_strengthFor_4
def dkwX0_strengthFor_2 : List UInt8 := [27, 122, 4, 126, 154, 0, 25, 42, 180, 0, 47, 180, 0, 173, 27, 46, 62, 42, 180, 0, 47, 180, 0, 173]
abbrev dktX0_strengthFor_2 : List UInt8 := dkwX0_strengthFor_2 ++ dktX0_strengthFor_3
def dkwX0_strengthFor_1 : List UInt8 := [180, 0, 173, 27, 4, 79, 42, 180, 0, 47, 180, 0, 173, 27, 46, 16, 9, 163, 0, 52, 42, 182, 1, 137]
abbrev dktX0_strengthFor_1 : List UInt8 := dkwX0_strengthFor_1 ++ dktX0_strengthFor_2
def dkwX0_strengthFor_0 : List UInt8 := [42, 27, 182, 0, 179, 154, 0, 5, 2, 172, 42, 180, 0, 47, 180, 0, 173, 27, 46, 61, 42, 180, 0, 47]
abbrev dktX0_strengthFor_0 : List UInt8 := dkwX0_strengthFor_0 ++ dktX0_strengthFor_1
theorem dksX0_strengthFor_0 : cX0_strengthFor.data.toList.drop 0 = dktX0_strengthFor_0 := by decide +kernel
theorem dksX0_strengthFor_1 : cX0_strengthFor.data.toList.drop 24 = dktX0_strengthFor_1 := dk_seg dksX0_strengthFor_0 24 rfl rfl
theorem dksX0_strengthFor_2 : cX0_strengthFor.data.toList.drop 48 = dktX0_strengthFor_2 := dk_seg dksX0_strengthFor_1 24 rfl rfl
theorem dksX0_strengthFor_3 : cX0_strengthFor.data.toList.drop 72 = dktX0_strengthFor_3 := dk_seg dksX0_strengthFor_2 24 rfl rfl
theorem dksX0_strengthFor_4 : cX0_strengthFor.data.toList.drop 96 = dktX0_strengthFor_4 := dk_seg dksX0_strengthFor_3 24 rfl rfl
theorem dksX0_strengthFor_5 : cX0_strengthFor.data.toList.drop 120 = dktX0_strengthFor_5 := dk_seg dksX0_strengthFor_4 24 rfl rfl
theorem dX0_strengthFor_0 : decode cX0_strengthFor 0 = .ok (.aload_n 0, 1) := dk_42 (dk_at dksX0_strengthFor_0 0 rfl rfl)
theorem dX0_strengthFor_1 : decode cX0_strengthFor 1 = .ok (.iload_n 1, 1) := dk_27 (dk_at dksX0_strengthFor_0 1 rfl rfl)
theorem dX0_strengthFor_2 : decode cX0_strengthFor 2 = .ok (.invokevirtual 179, 3) := dk_182 0 179 (dk_at dksX0_strengthFor_0 2 rfl rfl)
theorem dX0_strengthFor_5 : decode cX0_strengthFor 5 = .ok (.ifCond .ne 5, 3) := dk_154 0 5 (dk_at dksX0_strengthFor_0 5 rfl rfl)
theorem dX0_strengthFor_8 : decode cX0_strengthFor 8 = .ok (.iconst (-1), 1) := dk_2 (dk_at dksX0_strengthFor_0 8 rfl rfl)
theorem dX0_strengthFor_9 : decode cX0_strengthFor 9 = .ok (.ireturn, 1) := dk_172 (dk_at dksX0_strengthFor_0 9 rfl rfl)
theorem dX0_strengthFor_10 : decode cX0_strengthFor 10 = .ok (.aload_n 0, 1) := dk_42 (dk_at dksX0_strengthFor_0 10 rfl rfl)
theorem dX0_strengthFor_11 : decode cX0_strengthFor 11 = .ok (.getfield 47, 3) := dk_180 0 47 (dk_at dksX0_strengthFor_0 11 rfl rfl)
theorem dX0_strengthFor_14 : decode cX0_strengthFor 14 = .ok (.getfield 173, 3) := dk_180 0 173 (dk_at dksX0_strengthFor_0 14 rfl rfl)
theorem dX0_strengthFor_17 : decode cX0_strengthFor 17 = .ok (.iload_n 1, 1) := dk_27 (dk_at dksX0_strengthFor_0 17 rfl rfl)
theorem dX0_strengthFor_18 : decode cX0_strengthFor 18 = .ok (.iaload, 1) := dk_46 (dk_at dksX0_strengthFor_0 18 rfl rfl)
theorem dX0_strengthFor_19 : decode cX0_strengthFor 19 = .ok (.istore_n 2, 1) := dk_61 (dk_at dksX0_strengthFor_0 19 rfl rfl)
theorem dX0_strengthFor_20 : decode cX0_strengthFor 20 = .ok (.aload_n 0, 1) := dk_42 (dk_at dksX0_strengthFor_0 20 rfl rfl)
theorem dX0_strengthFor_21 : decode cX0_strengthFor 21 = .ok (.getfield 47, 3) := dk_180 0 47 (dk_at dksX0_strengthFor_0 21 rfl rfl)
theorem dX0_strengthFor_24 : decode cX0_strengthFor 24 = .ok (.getfield 173, 3) := dk_180 0 173 (dk_at dksX0_strengthFor_1 0 rfl rfl)
theorem dX0_strengthFor_27 : decode cX0_strengthFor 27 = .ok (.iload_n 1, 1) := dk_27 (dk_at dksX0_strengthFor_1 3 rfl rfl)
theorem dX0_strengthFor_28 : decode cX0_strengthFor 28 = .ok (.iconst 1, 1) := dk_4 (dk_at dksX0_strengthFor_1 4 rfl rfl)
theorem dX0_strengthFor_29 : decode cX0_strengthFor 29 = .ok (.iastore, 1) := dk_79 (dk_at dksX0_strengthFor_1 5 rfl rfl)
theorem dX0_strengthFor_30 : decode cX0_strengthFor 30 = .ok (.aload_n 0, 1) := dk_42 (dk_at dksX0_strengthFor_1 6 rfl rfl)
theorem dX0_strengthFor_31 : decode cX0_strengthFor 31 = .ok (.getfield 47, 3) := dk_180 0 47 (dk_at dksX0_strengthFor_1 7 rfl rfl)
theorem dX0_strengthFor_34 : decode cX0_strengthFor 34 = .ok (.getfield 173, 3) := dk_180 0 173 (dk_at dksX0_strengthFor_1 10 rfl rfl)
theorem dX0_strengthFor_37 : decode cX0_strengthFor 37 = .ok (.iload_n 1, 1) := dk_27 (dk_at dksX0_strengthFor_1 13 rfl rfl)
theorem dX0_strengthFor_38 : decode cX0_strengthFor 38 = .ok (.iaload, 1) := dk_46 (dk_at dksX0_strengthFor_1 14 rfl rfl)
theorem dX0_strengthFor_39 : decode cX0_strengthFor 39 = .ok (.bipush 9, 2) := dk_16 9 (dk_at dksX0_strengthFor_1 15 rfl rfl)
theorem dX0_strengthFor_41 : decode cX0_strengthFor 41 = .ok (.if_icmp .gt 52, 3) := dk_163 0 52 (dk_at dksX0_strengthFor_1 17 rfl rfl)
theorem dX0_strengthFor_44 : decode cX0_strengthFor 44 = .ok (.aload_n 0, 1) := dk_42 (dk_at dksX0_strengthFor_1 20 rfl rfl)
theorem dX0_strengthFor_45 : decode cX0_strengthFor 45 = .ok (.invokevirtual 393, 3) := dk_182 1 137 (dk_at dksX0_strengthFor_1 21 rfl rfl)
theorem dX0_strengthFor_48 : decode cX0_strengthFor 48 = .ok (.iload_n 1, 1) := dk_27 (dk_at dksX0_strengthFor_2 0 rfl rfl)
theorem dX0_strengthFor_49 : decode cX0_strengthFor 49 = .ok (.ishr, 1) := dk_122 (dk_at dksX0_strengthFor_2 1 rfl rfl)
theorem dX0_strengthFor_50 : decode cX0_strengthFor 50 = .ok (.iconst 1, 1) := dk_4 (dk_at dksX0_strengthFor_2 2 rfl rfl)
theorem dX0_strengthFor_51 : decode cX0_strengthFor 51 = .ok (.iand, 1) := dk_126 (dk_at dksX0_strengthFor_2 3 rfl rfl)
theorem dX0_strengthFor_52 : decode cX0_strengthFor 52 = .ok (.ifCond .ne 25, 3) := dk_154 0 25 (dk_at dksX0_strengthFor_2 4 rfl rfl)
theorem dX0_strengthFor_55 : decode cX0_strengthFor 55 = .ok (.aload_n 0, 1) := dk_42 (dk_at dksX0_strengthFor_2 7 rfl rfl)
theorem dX0_strengthFor_56 : decode cX0_strengthFor 56 = .ok (.getfield 47, 3) := dk_180 0 47 (dk_at dksX0_strengthFor_2 8 rfl rfl)
theorem dX0_strengthFor_59 : decode cX0_strengthFor 59 = .ok (.getfield 173, 3) := dk_180 0 173 (dk_at dksX0_strengthFor_2 11 rfl rfl)
theorem dX0_strengthFor_62 : decode cX0_strengthFor 62 = .ok (.iload_n 1, 1) := dk_27 (dk_at dksX0_strengthFor_2 14 rfl rfl)
theorem dX0_strengthFor_63 : decode cX0_strengthFor 63 = .ok (.iaload, 1) := dk_46 (dk_at dksX0_strengthFor_2 15 rfl rfl)
theorem dX0_strengthFor_64 : decode cX0_strengthFor 64 = .ok (.istore_n 3, 1) := dk_62 (dk_at dksX0_strengthFor_2 16 rfl rfl)
theorem dX0_strengthFor_65 : decode cX0_strengthFor 65 = .ok (.aload_n 0, 1) := dk_42 (dk_at dksX0_strengthFor_2 17 rfl rfl)
theorem dX0_strengthFor_66 : decode cX0_strengthFor 66 = .ok (.getfield 47, 3) := dk_180 0 47 (dk_at dksX0_strengthFor_2 18 rfl rfl)
theorem dX0_strengthFor_69 : decode cX0_strengthFor 69 = .ok (.getfield 173, 3) := dk_180 0 173 (dk_at dksX0_strengthFor_2 21 rfl rfl)
theorem dX0_strengthFor_72 : decode cX0_strengthFor 72 = .ok (.iload_n 1, 1) := dk_27 (dk_at dksX0_strengthFor_3 0 rfl rfl)
theorem dX0_strengthFor_73 : decode cX0_strengthFor 73 = .ok (.iload_n 2, 1) := dk_28 (dk_at dksX0_strengthFor_3 1 rfl rfl)
theorem dX0_strengthFor_74 : decode cX0_strengthFor 74 = .ok (.iastore, 1) := dk_79 (dk_at dksX0_strengthFor_3 2 rfl rfl)
theorem dX0_strengthFor_75 : decode cX0_strengthFor 75 = .ok (.iload_n 3, 1) := dk_29 (dk_at dksX0_strengthFor_3 3 rfl rfl)
theorem dX0_strengthFor_76 : decode cX0_strengthFor 76 = .ok (.ireturn, 1) := dk_172 (dk_at dksX0_strengthFor_3 4 rfl rfl)
theorem dX0_strengthFor_77 : decode cX0_strengthFor 77 = .ok (.aload_n 0, 1) := dk_42 (dk_at dksX0_strengthFor_3 5 rfl rfl)
theorem dX0_strengthFor_78 : decode cX0_strengthFor 78 = .ok (.getfield 47, 3) := dk_180 0 47 (dk_at dksX0_strengthFor_3 6 rfl rfl)
theorem dX0_strengthFor_81 : decode cX0_strengthFor 81 = .ok (.getfield 173, 3) := dk_180 0 173 (dk_at dksX0_strengthFor_3 9 rfl rfl)
theorem dX0_strengthFor_84 : decode cX0_strengthFor 84 = .ok (.iload_n 1, 1) := dk_27 (dk_at dksX0_strengthFor_3 12 rfl rfl)
theorem dX0_strengthFor_85 : decode cX0_strengthFor 85 = .ok (.dup2, 1) := dk_92 (dk_at dksX0_strengthFor_3 13 rfl rfl)
theorem dX0_strengthFor_86 : decode cX0_strengthFor 86 = .ok (.iaload, 1) := dk_46 (dk_at dksX0_strengthFor_3 14 rfl rfl)
theorem dX0_strengthFor_87 : decode cX0_strengthFor 87 = .ok (.iconst 1, 1) := dk_4 (dk_at dksX0_strengthFor_3 15 rfl rfl)
theorem dX0_strengthFor_88 : decode cX0_strengthFor 88 = .ok (.iadd, 1) := dk_96 (dk_at dksX0_strengthFor_3 16 rfl rfl)
theorem dX0_strengthFor_89 : decode cX0_strengthFor 89 = .ok (.iastore, 1) := dk_79 (dk_at dksX0_strengthFor_3 17 rfl rfl)
theorem dX0_strengthFor_90 : decode cX0_strengthFor 90 = .ok (.goto (-60), 3) := dk_167 255 196 (dk_at dksX0_strengthFor_3 18 rfl rfl)
theorem dX0_strengthFor_93 : decode cX0_strengthFor 93 = .ok (.bipush (-3), 2) := dk_16 253 (dk_at dksX0_strengthFor_3 21 rfl rfl)
theorem dX0_strengthFor_95 : decode cX0_strengthFor 95 = .ok (.istore_n 3, 1) := dk_62 (dk_at dksX0_strengthFor_3 23 rfl rfl)
theorem dX0_strengthFor_96 : decode cX0_strengthFor 96 = .ok (.aload_n 0, 1) := dk_42 (dk_at dksX0_strengthFor_4 0 rfl rfl)
theorem dX0_strengthFor_97 : decode cX0_strengthFor 97 = .ok (.getfield 47, 3) := dk_180 0 47 (dk_at dksX0_strengthFor_4 1 rfl rfl)
theorem dX0_strengthFor_100 : decode cX0_strengthFor 100 = .ok (.getfield 173, 3) := dk_180 0 173 (dk_at dksX0_strengthFor_4 4 rfl rfl)
theorem dX0_strengthFor_103 : decode cX0_strengthFor 103 = .ok (.iload_n 1, 1) := dk_27 (dk_at dksX0_strengthFor_4 7 rfl rfl)
theorem dX0_strengthFor_104 : decode cX0_strengthFor 104 = .ok (.iload_n 2, 1) := dk_28 (dk_at dksX0_strengthFor_4 8 rfl rfl)
theorem dX0_strengthFor_105 : decode cX0_strengthFor 105 = .ok (.iastore, 1) := dk_79 (dk_at dksX0_strengthFor_4 9 rfl rfl)
theorem dX0_strengthFor_106 : decode cX0_strengthFor 106 = .ok (.iload_n 3, 1) := dk_29 (dk_at dksX0_strengthFor_4 10 rfl rfl)
theorem dX0_strengthFor_107 : decode cX0_strengthFor 107 = .ok (.ireturn, 1) := dk_172 (dk_at dksX0_strengthFor_4 11 rfl rfl)
theorem dX0_strengthFor_108 : decode cX0_strengthFor 108 = .ok (.astore 4, 2) := dk_58 4 (dk_at dksX0_strengthFor_4 12 rfl rfl)
theorem dX0_strengthFor_110 : decode cX0_strengthFor 110 = .ok (.aload_n 0, 1) := dk_42 (dk_at dksX0_strengthFor_4 14 rfl rfl)
theorem dX0_strengthFor_111 : decode cX0_strengthFor 111 = .ok (.getfield 47, 3) := dk_180 0 47 (dk_at dksX0_strengthFor_4 15 rfl rfl)
theorem dX0_strengthFor_114 : decode cX0_strengthFor 114 = .ok (.getfield 173, 3) := dk_180 0 173 (dk_at dksX0_strengthFor_4 18 rfl rfl)
theorem dX0_strengthFor_117 : decode cX0_strengthFor 117 = .ok (.iload_n 1, 1) := dk_27 (dk_at dksX0_strengthFor_4 21 rfl rfl)
theorem dX0_strengthFor_118 : decode cX0_strengthFor 118 = .ok (.iload_n 2, 1) := dk_28 (dk_at dksX0_strengthFor_4 22 rfl rfl)
theorem dX0_strengthFor_119 : decode cX0_strengthFor 119 = .ok (.iastore, 1) := dk_79 (dk_at dksX0_strengthFor_4 23 rfl rfl)
theorem dX0_strengthFor_120 : decode cX0_strengthFor 120 = .ok (.aload 4, 2) := dk_25 4 (dk_at dksX0_strengthFor_5 0 rfl rfl)
theorem dX0_strengthFor_122 : decode cX0_strengthFor 122 = .ok (.athrow, 1) := dk_191 (dk_at dksX0_strengthFor_5 2 rfl rfl)
abbrev cX0_owe : ByteArray := prog_1_method_63_code
def yX0_owe : MethodName := ⟨RX0, "owe", "(III)I"⟩
def dkwX0_owe_2 : List UInt8 := [27, 104, 28, 96, 29, 79, 21, 4, 172]
abbrev dktX0_owe_2 : List UInt8 := dkwX0_owe_2 ++ []
def dkwX0_owe_1 : List UInt8 := [180, 0, 47, 180, 1, 154, 16, 6, 27, 104, 28, 96, 46, 54, 4, 42, 180, 0, 47, 180, 1, 154, 16, 6]
abbrev dktX0_owe_1 : List UInt8 := dkwX0_owe_1 ++ dktX0_owe_2
def dkwX0_owe_0 : List UInt8 := [42, 27, 28, 182, 1, 151, 153, 0, 13, 29, 3, 16, 99, 184, 0, 150, 154, 0, 5, 2, 172, 42]
abbrev dktX0_owe_0 : List UInt8 := dkwX0_owe_0 ++ dktX0_owe_1
theorem dksX0_owe_0 : cX0_owe.data.toList.drop 0 = dktX0_owe_0 := by decide +kernel
theorem dksX0_owe_1 : cX0_owe.data.toList.drop 22 = dktX0_owe_1 := dk_seg dksX0_owe_0 22 rfl rfl
theorem dksX0_owe_2 : cX0_owe.data.toList.drop 46 = dktX0_owe_2 := dk_seg dksX0_owe_1 24 rfl rfl
theorem dX0_owe_0 : decode cX0_owe 0 = .ok (.aload_n 0, 1) := dk_42 (dk_at dksX0_owe_0 0 rfl rfl)
theorem dX0_owe_1 : decode cX0_owe 1 = .ok (.iload_n 1, 1) := dk_27 (dk_at dksX0_owe_0 1 rfl rfl)
theorem dX0_owe_2 : decode cX0_owe 2 = .ok (.iload_n 2, 1) := dk_28 (dk_at dksX0_owe_0 2 rfl rfl)
theorem dX0_owe_3 : decode cX0_owe 3 = .ok (.invokevirtual 407, 3) := dk_182 1 151 (dk_at dksX0_owe_0 3 rfl rfl)
theorem dX0_owe_6 : decode cX0_owe 6 = .ok (.ifCond .eq 13, 3) := dk_153 0 13 (dk_at dksX0_owe_0 6 rfl rfl)
theorem dX0_owe_9 : decode cX0_owe 9 = .ok (.iload_n 3, 1) := dk_29 (dk_at dksX0_owe_0 9 rfl rfl)
theorem dX0_owe_10 : decode cX0_owe 10 = .ok (.iconst 0, 1) := dk_3 (dk_at dksX0_owe_0 10 rfl rfl)
theorem dX0_owe_11 : decode cX0_owe 11 = .ok (.bipush 99, 2) := dk_16 99 (dk_at dksX0_owe_0 11 rfl rfl)
theorem dX0_owe_13 : decode cX0_owe 13 = .ok (.invokestatic 150, 3) := dk_184 0 150 (dk_at dksX0_owe_0 13 rfl rfl)
theorem dX0_owe_16 : decode cX0_owe 16 = .ok (.ifCond .ne 5, 3) := dk_154 0 5 (dk_at dksX0_owe_0 16 rfl rfl)
theorem dX0_owe_19 : decode cX0_owe 19 = .ok (.iconst (-1), 1) := dk_2 (dk_at dksX0_owe_0 19 rfl rfl)
theorem dX0_owe_20 : decode cX0_owe 20 = .ok (.ireturn, 1) := dk_172 (dk_at dksX0_owe_0 20 rfl rfl)
theorem dX0_owe_21 : decode cX0_owe 21 = .ok (.aload_n 0, 1) := dk_42 (dk_at dksX0_owe_0 21 rfl rfl)
theorem dX0_owe_22 : decode cX0_owe 22 = .ok (.getfield 47, 3) := dk_180 0 47 (dk_at dksX0_owe_1 0 rfl rfl)
theorem dX0_owe_25 : decode cX0_owe 25 = .ok (.getfield 410, 3) := dk_180 1 154 (dk_at dksX0_owe_1 3 rfl rfl)
theorem dX0_owe_28 : decode cX0_owe 28 = .ok (.bipush 6, 2) := dk_16 6 (dk_at dksX0_owe_1 6 rfl rfl)
theorem dX0_owe_30 : decode cX0_owe 30 = .ok (.iload_n 1, 1) := dk_27 (dk_at dksX0_owe_1 8 rfl rfl)
theorem dX0_owe_31 : decode cX0_owe 31 = .ok (.imul, 1) := dk_104 (dk_at dksX0_owe_1 9 rfl rfl)
theorem dX0_owe_32 : decode cX0_owe 32 = .ok (.iload_n 2, 1) := dk_28 (dk_at dksX0_owe_1 10 rfl rfl)
theorem dX0_owe_33 : decode cX0_owe 33 = .ok (.iadd, 1) := dk_96 (dk_at dksX0_owe_1 11 rfl rfl)
theorem dX0_owe_34 : decode cX0_owe 34 = .ok (.iaload, 1) := dk_46 (dk_at dksX0_owe_1 12 rfl rfl)
theorem dX0_owe_35 : decode cX0_owe 35 = .ok (.istore 4, 2) := dk_54 4 (dk_at dksX0_owe_1 13 rfl rfl)
theorem dX0_owe_37 : decode cX0_owe 37 = .ok (.aload_n 0, 1) := dk_42 (dk_at dksX0_owe_1 15 rfl rfl)
theorem dX0_owe_38 : decode cX0_owe 38 = .ok (.getfield 47, 3) := dk_180 0 47 (dk_at dksX0_owe_1 16 rfl rfl)
theorem dX0_owe_41 : decode cX0_owe 41 = .ok (.getfield 410, 3) := dk_180 1 154 (dk_at dksX0_owe_1 19 rfl rfl)
theorem dX0_owe_44 : decode cX0_owe 44 = .ok (.bipush 6, 2) := dk_16 6 (dk_at dksX0_owe_1 22 rfl rfl)
theorem dX0_owe_46 : decode cX0_owe 46 = .ok (.iload_n 1, 1) := dk_27 (dk_at dksX0_owe_2 0 rfl rfl)
theorem dX0_owe_47 : decode cX0_owe 47 = .ok (.imul, 1) := dk_104 (dk_at dksX0_owe_2 1 rfl rfl)
theorem dX0_owe_48 : decode cX0_owe 48 = .ok (.iload_n 2, 1) := dk_28 (dk_at dksX0_owe_2 2 rfl rfl)
theorem dX0_owe_49 : decode cX0_owe 49 = .ok (.iadd, 1) := dk_96 (dk_at dksX0_owe_2 3 rfl rfl)
theorem dX0_owe_50 : decode cX0_owe 50 = .ok (.iload_n 3, 1) := dk_29 (dk_at dksX0_owe_2 4 rfl rfl)
theorem dX0_owe_51 : decode cX0_owe 51 = .ok (.iastore, 1) := dk_79 (dk_at dksX0_owe_2 5 rfl rfl)
theorem dX0_owe_52 : decode cX0_owe 52 = .ok (.iload 4, 2) := dk_21 4 (dk_at dksX0_owe_2 6 rfl rfl)
theorem dX0_owe_54 : decode cX0_owe 54 = .ok (.ireturn, 1) := dk_172 (dk_at dksX0_owe_2 8 rfl rfl)
abbrev cX0_areTwo : ByteArray := prog_1_method_62_code
def yX0_areTwo : MethodName := ⟨RX0, "areTwo", "(II)Z"⟩
def dkwX0_areTwo_1 : List UInt8 := [167, 0, 4, 3, 172]
abbrev dktX0_areTwo_1 : List UInt8 := dkwX0_areTwo_1 ++ []
def dkwX0_areTwo_0 : List UInt8 := [42, 27, 182, 0, 179, 153, 0, 20, 42, 28, 182, 0, 179, 153, 0, 12, 27, 28, 159, 0, 7, 4]
abbrev dktX0_areTwo_0 : List UInt8 := dkwX0_areTwo_0 ++ dktX0_areTwo_1
theorem dksX0_areTwo_0 : cX0_areTwo.data.toList.drop 0 = dktX0_areTwo_0 := by decide +kernel
theorem dksX0_areTwo_1 : cX0_areTwo.data.toList.drop 22 = dktX0_areTwo_1 := dk_seg dksX0_areTwo_0 22 rfl rfl
theorem dX0_areTwo_0 : decode cX0_areTwo 0 = .ok (.aload_n 0, 1) := dk_42 (dk_at dksX0_areTwo_0 0 rfl rfl)
theorem dX0_areTwo_1 : decode cX0_areTwo 1 = .ok (.iload_n 1, 1) := dk_27 (dk_at dksX0_areTwo_0 1 rfl rfl)
theorem dX0_areTwo_2 : decode cX0_areTwo 2 = .ok (.invokevirtual 179, 3) := dk_182 0 179 (dk_at dksX0_areTwo_0 2 rfl rfl)
theorem dX0_areTwo_5 : decode cX0_areTwo 5 = .ok (.ifCond .eq 20, 3) := dk_153 0 20 (dk_at dksX0_areTwo_0 5 rfl rfl)
theorem dX0_areTwo_8 : decode cX0_areTwo 8 = .ok (.aload_n 0, 1) := dk_42 (dk_at dksX0_areTwo_0 8 rfl rfl)
theorem dX0_areTwo_9 : decode cX0_areTwo 9 = .ok (.iload_n 2, 1) := dk_28 (dk_at dksX0_areTwo_0 9 rfl rfl)
theorem dX0_areTwo_10 : decode cX0_areTwo 10 = .ok (.invokevirtual 179, 3) := dk_182 0 179 (dk_at dksX0_areTwo_0 10 rfl rfl)
theorem dX0_areTwo_13 : decode cX0_areTwo 13 = .ok (.ifCond .eq 12, 3) := dk_153 0 12 (dk_at dksX0_areTwo_0 13 rfl rfl)
theorem dX0_areTwo_16 : decode cX0_areTwo 16 = .ok (.iload_n 1, 1) := dk_27 (dk_at dksX0_areTwo_0 16 rfl rfl)
theorem dX0_areTwo_17 : decode cX0_areTwo 17 = .ok (.iload_n 2, 1) := dk_28 (dk_at dksX0_areTwo_0 17 rfl rfl)
theorem dX0_areTwo_18 : decode cX0_areTwo 18 = .ok (.if_icmp .eq 7, 3) := dk_159 0 7 (dk_at dksX0_areTwo_0 18 rfl rfl)
theorem dX0_areTwo_21 : decode cX0_areTwo 21 = .ok (.iconst 1, 1) := dk_4 (dk_at dksX0_areTwo_0 21 rfl rfl)
theorem dX0_areTwo_22 : decode cX0_areTwo 22 = .ok (.goto 4, 3) := dk_167 0 4 (dk_at dksX0_areTwo_1 0 rfl rfl)
theorem dX0_areTwo_25 : decode cX0_areTwo 25 = .ok (.iconst 0, 1) := dk_3 (dk_at dksX0_areTwo_1 3 rfl rfl)
theorem dX0_areTwo_26 : decode cX0_areTwo 26 = .ok (.ireturn, 1) := dk_172 (dk_at dksX0_areTwo_1 4 rfl rfl)
abbrev cX0_owes : ByteArray := prog_1_method_64_code
def yX0_owes : MethodName := ⟨RX0, "owes", "(II)I"⟩
def dkwX0_owes_1 : List UInt8 := [167, 0, 4, 2, 172]
abbrev dktX0_owes_1 : List UInt8 := dkwX0_owes_1 ++ []
def dkwX0_owes_0 : List UInt8 := [42, 27, 28, 182, 1, 151, 153, 0, 20, 42, 180, 0, 47, 180, 1, 154, 16, 6, 27, 104, 28, 96, 46]
abbrev dktX0_owes_0 : List UInt8 := dkwX0_owes_0 ++ dktX0_owes_1
theorem dksX0_owes_0 : cX0_owes.data.toList.drop 0 = dktX0_owes_0 := by decide +kernel
theorem dksX0_owes_1 : cX0_owes.data.toList.drop 23 = dktX0_owes_1 := dk_seg dksX0_owes_0 23 rfl rfl
theorem dX0_owes_0 : decode cX0_owes 0 = .ok (.aload_n 0, 1) := dk_42 (dk_at dksX0_owes_0 0 rfl rfl)
theorem dX0_owes_1 : decode cX0_owes 1 = .ok (.iload_n 1, 1) := dk_27 (dk_at dksX0_owes_0 1 rfl rfl)
theorem dX0_owes_2 : decode cX0_owes 2 = .ok (.iload_n 2, 1) := dk_28 (dk_at dksX0_owes_0 2 rfl rfl)
theorem dX0_owes_3 : decode cX0_owes 3 = .ok (.invokevirtual 407, 3) := dk_182 1 151 (dk_at dksX0_owes_0 3 rfl rfl)
theorem dX0_owes_6 : decode cX0_owes 6 = .ok (.ifCond .eq 20, 3) := dk_153 0 20 (dk_at dksX0_owes_0 6 rfl rfl)
theorem dX0_owes_9 : decode cX0_owes 9 = .ok (.aload_n 0, 1) := dk_42 (dk_at dksX0_owes_0 9 rfl rfl)
theorem dX0_owes_10 : decode cX0_owes 10 = .ok (.getfield 47, 3) := dk_180 0 47 (dk_at dksX0_owes_0 10 rfl rfl)
theorem dX0_owes_13 : decode cX0_owes 13 = .ok (.getfield 410, 3) := dk_180 1 154 (dk_at dksX0_owes_0 13 rfl rfl)
theorem dX0_owes_16 : decode cX0_owes 16 = .ok (.bipush 6, 2) := dk_16 6 (dk_at dksX0_owes_0 16 rfl rfl)
theorem dX0_owes_18 : decode cX0_owes 18 = .ok (.iload_n 1, 1) := dk_27 (dk_at dksX0_owes_0 18 rfl rfl)
theorem dX0_owes_19 : decode cX0_owes 19 = .ok (.imul, 1) := dk_104 (dk_at dksX0_owes_0 19 rfl rfl)
theorem dX0_owes_20 : decode cX0_owes 20 = .ok (.iload_n 2, 1) := dk_28 (dk_at dksX0_owes_0 20 rfl rfl)
theorem dX0_owes_21 : decode cX0_owes 21 = .ok (.iadd, 1) := dk_96 (dk_at dksX0_owes_0 21 rfl rfl)
theorem dX0_owes_22 : decode cX0_owes 22 = .ok (.iaload, 1) := dk_46 (dk_at dksX0_owes_0 22 rfl rfl)
theorem dX0_owes_23 : decode cX0_owes 23 = .ok (.goto 4, 3) := dk_167 0 4 (dk_at dksX0_owes_1 0 rfl rfl)
theorem dX0_owes_26 : decode cX0_owes 26 = .ok (.iconst (-1), 1) := dk_2 (dk_at dksX0_owes_1 3 rfl rfl)
theorem dX0_owes_27 : decode cX0_owes 27 = .ok (.ireturn, 1) := dk_172 (dk_at dksX0_owes_1 4 rfl rfl)
abbrev cX0_net : ByteArray := prog_1_method_66_code
def yX0_net : MethodName := ⟨RX0, "net", "(I)I"⟩
def dkwX0_net_0 : List UInt8 := [42, 27, 182, 0, 179, 153, 0, 15, 17, 39, 16, 42, 27, 182, 1, 157, 96, 167, 0, 4, 2, 172]
abbrev dktX0_net_0 : List UInt8 := dkwX0_net_0 ++ []
theorem dksX0_net_0 : cX0_net.data.toList.drop 0 = dktX0_net_0 := by decide +kernel
theorem dX0_net_0 : decode cX0_net 0 = .ok (.aload_n 0, 1) := dk_42 (dk_at dksX0_net_0 0 rfl rfl)
theorem dX0_net_1 : decode cX0_net 1 = .ok (.iload_n 1, 1) := dk_27 (dk_at dksX0_net_0 1 rfl rfl)
theorem dX0_net_2 : decode cX0_net 2 = .ok (.invokevirtual 179, 3) := dk_182 0 179 (dk_at dksX0_net_0 2 rfl rfl)
theorem dX0_net_5 : decode cX0_net 5 = .ok (.ifCond .eq 15, 3) := dk_153 0 15 (dk_at dksX0_net_0 5 rfl rfl)
theorem dX0_net_8 : decode cX0_net 8 = .ok (.sipush 10000, 3) := dk_17 39 16 (dk_at dksX0_net_0 8 rfl rfl)
theorem dX0_net_11 : decode cX0_net 11 = .ok (.aload_n 0, 1) := dk_42 (dk_at dksX0_net_0 11 rfl rfl)
theorem dX0_net_12 : decode cX0_net 12 = .ok (.iload_n 1, 1) := dk_27 (dk_at dksX0_net_0 12 rfl rfl)
theorem dX0_net_13 : decode cX0_net 13 = .ok (.invokevirtual 413, 3) := dk_182 1 157 (dk_at dksX0_net_0 13 rfl rfl)
theorem dX0_net_16 : decode cX0_net 16 = .ok (.iadd, 1) := dk_96 (dk_at dksX0_net_0 16 rfl rfl)
theorem dX0_net_17 : decode cX0_net 17 = .ok (.goto 4, 3) := dk_167 0 4 (dk_at dksX0_net_0 17 rfl rfl)
theorem dX0_net_20 : decode cX0_net 20 = .ok (.iconst (-1), 1) := dk_2 (dk_at dksX0_net_0 20 rfl rfl)
theorem dX0_net_21 : decode cX0_net 21 = .ok (.ireturn, 1) := dk_172 (dk_at dksX0_net_0 21 rfl rfl)
abbrev cX0_netOf : ByteArray := prog_1_method_65_code
def yX0_netOf : MethodName := ⟨RX0, "netOf", "(I)I"⟩
def dkwX0_netOf_2 : List UInt8 := [132, 3, 1, 167, 255, 210, 28, 172]
abbrev dktX0_netOf_2 : List UInt8 := dkwX0_netOf_2 ++ []
def dkwX0_netOf_1 : List UInt8 := [16, 6, 29, 104, 27, 96, 46, 42, 180, 0, 47, 180, 1, 154, 16, 6, 27, 104, 29, 96, 46, 100, 96, 61]
abbrev dktX0_netOf_1 : List UInt8 := dkwX0_netOf_1 ++ dktX0_netOf_2
def dkwX0_netOf_0 : List UInt8 := [3, 61, 3, 62, 29, 42, 180, 0, 47, 180, 0, 146, 162, 0, 41, 28, 42, 180, 0, 47, 180, 1, 154]
abbrev dktX0_netOf_0 : List UInt8 := dkwX0_netOf_0 ++ dktX0_netOf_1
theorem dksX0_netOf_0 : cX0_netOf.data.toList.drop 0 = dktX0_netOf_0 := by decide +kernel
theorem dksX0_netOf_1 : cX0_netOf.data.toList.drop 23 = dktX0_netOf_1 := dk_seg dksX0_netOf_0 23 rfl rfl
theorem dksX0_netOf_2 : cX0_netOf.data.toList.drop 47 = dktX0_netOf_2 := dk_seg dksX0_netOf_1 24 rfl rfl
theorem dX0_netOf_0 : decode cX0_netOf 0 = .ok (.iconst 0, 1) := dk_3 (dk_at dksX0_netOf_0 0 rfl rfl)
theorem dX0_netOf_1 : decode cX0_netOf 1 = .ok (.istore_n 2, 1) := dk_61 (dk_at dksX0_netOf_0 1 rfl rfl)
theorem dX0_netOf_2 : decode cX0_netOf 2 = .ok (.iconst 0, 1) := dk_3 (dk_at dksX0_netOf_0 2 rfl rfl)
theorem dX0_netOf_3 : decode cX0_netOf 3 = .ok (.istore_n 3, 1) := dk_62 (dk_at dksX0_netOf_0 3 rfl rfl)
theorem dX0_netOf_4 : decode cX0_netOf 4 = .ok (.iload_n 3, 1) := dk_29 (dk_at dksX0_netOf_0 4 rfl rfl)
theorem dX0_netOf_5 : decode cX0_netOf 5 = .ok (.aload_n 0, 1) := dk_42 (dk_at dksX0_netOf_0 5 rfl rfl)
theorem dX0_netOf_6 : decode cX0_netOf 6 = .ok (.getfield 47, 3) := dk_180 0 47 (dk_at dksX0_netOf_0 6 rfl rfl)
theorem dX0_netOf_9 : decode cX0_netOf 9 = .ok (.getfield 146, 3) := dk_180 0 146 (dk_at dksX0_netOf_0 9 rfl rfl)
theorem dX0_netOf_12 : decode cX0_netOf 12 = .ok (.if_icmp .ge 41, 3) := dk_162 0 41 (dk_at dksX0_netOf_0 12 rfl rfl)
theorem dX0_netOf_15 : decode cX0_netOf 15 = .ok (.iload_n 2, 1) := dk_28 (dk_at dksX0_netOf_0 15 rfl rfl)
theorem dX0_netOf_16 : decode cX0_netOf 16 = .ok (.aload_n 0, 1) := dk_42 (dk_at dksX0_netOf_0 16 rfl rfl)
theorem dX0_netOf_17 : decode cX0_netOf 17 = .ok (.getfield 47, 3) := dk_180 0 47 (dk_at dksX0_netOf_0 17 rfl rfl)
theorem dX0_netOf_20 : decode cX0_netOf 20 = .ok (.getfield 410, 3) := dk_180 1 154 (dk_at dksX0_netOf_0 20 rfl rfl)
theorem dX0_netOf_23 : decode cX0_netOf 23 = .ok (.bipush 6, 2) := dk_16 6 (dk_at dksX0_netOf_1 0 rfl rfl)
theorem dX0_netOf_25 : decode cX0_netOf 25 = .ok (.iload_n 3, 1) := dk_29 (dk_at dksX0_netOf_1 2 rfl rfl)
theorem dX0_netOf_26 : decode cX0_netOf 26 = .ok (.imul, 1) := dk_104 (dk_at dksX0_netOf_1 3 rfl rfl)
theorem dX0_netOf_27 : decode cX0_netOf 27 = .ok (.iload_n 1, 1) := dk_27 (dk_at dksX0_netOf_1 4 rfl rfl)
theorem dX0_netOf_28 : decode cX0_netOf 28 = .ok (.iadd, 1) := dk_96 (dk_at dksX0_netOf_1 5 rfl rfl)
theorem dX0_netOf_29 : decode cX0_netOf 29 = .ok (.iaload, 1) := dk_46 (dk_at dksX0_netOf_1 6 rfl rfl)
theorem dX0_netOf_30 : decode cX0_netOf 30 = .ok (.aload_n 0, 1) := dk_42 (dk_at dksX0_netOf_1 7 rfl rfl)
theorem dX0_netOf_31 : decode cX0_netOf 31 = .ok (.getfield 47, 3) := dk_180 0 47 (dk_at dksX0_netOf_1 8 rfl rfl)
theorem dX0_netOf_34 : decode cX0_netOf 34 = .ok (.getfield 410, 3) := dk_180 1 154 (dk_at dksX0_netOf_1 11 rfl rfl)
theorem dX0_netOf_37 : decode cX0_netOf 37 = .ok (.bipush 6, 2) := dk_16 6 (dk_at dksX0_netOf_1 14 rfl rfl)
theorem dX0_netOf_39 : decode cX0_netOf 39 = .ok (.iload_n 1, 1) := dk_27 (dk_at dksX0_netOf_1 16 rfl rfl)
theorem dX0_netOf_40 : decode cX0_netOf 40 = .ok (.imul, 1) := dk_104 (dk_at dksX0_netOf_1 17 rfl rfl)
theorem dX0_netOf_41 : decode cX0_netOf 41 = .ok (.iload_n 3, 1) := dk_29 (dk_at dksX0_netOf_1 18 rfl rfl)
theorem dX0_netOf_42 : decode cX0_netOf 42 = .ok (.iadd, 1) := dk_96 (dk_at dksX0_netOf_1 19 rfl rfl)
theorem dX0_netOf_43 : decode cX0_netOf 43 = .ok (.iaload, 1) := dk_46 (dk_at dksX0_netOf_1 20 rfl rfl)
theorem dX0_netOf_44 : decode cX0_netOf 44 = .ok (.isub, 1) := dk_100 (dk_at dksX0_netOf_1 21 rfl rfl)
theorem dX0_netOf_45 : decode cX0_netOf 45 = .ok (.iadd, 1) := dk_96 (dk_at dksX0_netOf_1 22 rfl rfl)
theorem dX0_netOf_46 : decode cX0_netOf 46 = .ok (.istore_n 2, 1) := dk_61 (dk_at dksX0_netOf_1 23 rfl rfl)
theorem dX0_netOf_47 : decode cX0_netOf 47 = .ok (.iinc 3 1, 3) := dk_132 3 1 (dk_at dksX0_netOf_2 0 rfl rfl)
theorem dX0_netOf_50 : decode cX0_netOf 50 = .ok (.goto (-46), 3) := dk_167 255 210 (dk_at dksX0_netOf_2 3 rfl rfl)
theorem dX0_netOf_53 : decode cX0_netOf 53 = .ok (.iload_n 2, 1) := dk_28 (dk_at dksX0_netOf_2 6 rfl rfl)
theorem dX0_netOf_54 : decode cX0_netOf 54 = .ok (.ireturn, 1) := dk_172 (dk_at dksX0_netOf_2 7 rfl rfl)
abbrev cX0_ring : ByteArray := prog_1_method_68_code
def yX0_ring : MethodName := ⟨RX0, "ring", "(I)I"⟩
def dkwX0_ring_2 : List UInt8 := [167, 0, 5, 16, 253, 172]
abbrev dktX0_ring_2 : List UInt8 := dkwX0_ring_2 ++ []
def dkwX0_ring_1 : List UInt8 := [132, 3, 1, 28, 27, 122, 4, 126, 154, 0, 9, 29, 16, 6, 164, 255, 236, 29, 16, 6, 163, 0, 7, 29]
abbrev dktX0_ring_1 : List UInt8 := dkwX0_ring_1 ++ dktX0_ring_2
def dkwX0_ring_0 : List UInt8 := [42, 27, 182, 0, 179, 154, 0, 5, 2, 172, 4, 27, 120, 61, 3, 62, 42, 28, 182, 1, 160, 61]
abbrev dktX0_ring_0 : List UInt8 := dkwX0_ring_0 ++ dktX0_ring_1
theorem dksX0_ring_0 : cX0_ring.data.toList.drop 0 = dktX0_ring_0 := by decide +kernel
theorem dksX0_ring_1 : cX0_ring.data.toList.drop 22 = dktX0_ring_1 := dk_seg dksX0_ring_0 22 rfl rfl
theorem dksX0_ring_2 : cX0_ring.data.toList.drop 46 = dktX0_ring_2 := dk_seg dksX0_ring_1 24 rfl rfl
theorem dX0_ring_0 : decode cX0_ring 0 = .ok (.aload_n 0, 1) := dk_42 (dk_at dksX0_ring_0 0 rfl rfl)
theorem dX0_ring_1 : decode cX0_ring 1 = .ok (.iload_n 1, 1) := dk_27 (dk_at dksX0_ring_0 1 rfl rfl)
theorem dX0_ring_2 : decode cX0_ring 2 = .ok (.invokevirtual 179, 3) := dk_182 0 179 (dk_at dksX0_ring_0 2 rfl rfl)
theorem dX0_ring_5 : decode cX0_ring 5 = .ok (.ifCond .ne 5, 3) := dk_154 0 5 (dk_at dksX0_ring_0 5 rfl rfl)
theorem dX0_ring_8 : decode cX0_ring 8 = .ok (.iconst (-1), 1) := dk_2 (dk_at dksX0_ring_0 8 rfl rfl)
theorem dX0_ring_9 : decode cX0_ring 9 = .ok (.ireturn, 1) := dk_172 (dk_at dksX0_ring_0 9 rfl rfl)
theorem dX0_ring_10 : decode cX0_ring 10 = .ok (.iconst 1, 1) := dk_4 (dk_at dksX0_ring_0 10 rfl rfl)
theorem dX0_ring_11 : decode cX0_ring 11 = .ok (.iload_n 1, 1) := dk_27 (dk_at dksX0_ring_0 11 rfl rfl)
theorem dX0_ring_12 : decode cX0_ring 12 = .ok (.ishl, 1) := dk_120 (dk_at dksX0_ring_0 12 rfl rfl)
theorem dX0_ring_13 : decode cX0_ring 13 = .ok (.istore_n 2, 1) := dk_61 (dk_at dksX0_ring_0 13 rfl rfl)
theorem dX0_ring_14 : decode cX0_ring 14 = .ok (.iconst 0, 1) := dk_3 (dk_at dksX0_ring_0 14 rfl rfl)
theorem dX0_ring_15 : decode cX0_ring 15 = .ok (.istore_n 3, 1) := dk_62 (dk_at dksX0_ring_0 15 rfl rfl)
theorem dX0_ring_16 : decode cX0_ring 16 = .ok (.aload_n 0, 1) := dk_42 (dk_at dksX0_ring_0 16 rfl rfl)
theorem dX0_ring_17 : decode cX0_ring 17 = .ok (.iload_n 2, 1) := dk_28 (dk_at dksX0_ring_0 17 rfl rfl)
theorem dX0_ring_18 : decode cX0_ring 18 = .ok (.invokevirtual 416, 3) := dk_182 1 160 (dk_at dksX0_ring_0 18 rfl rfl)
theorem dX0_ring_21 : decode cX0_ring 21 = .ok (.istore_n 2, 1) := dk_61 (dk_at dksX0_ring_0 21 rfl rfl)
theorem dX0_ring_22 : decode cX0_ring 22 = .ok (.iinc 3 1, 3) := dk_132 3 1 (dk_at dksX0_ring_1 0 rfl rfl)
theorem dX0_ring_25 : decode cX0_ring 25 = .ok (.iload_n 2, 1) := dk_28 (dk_at dksX0_ring_1 3 rfl rfl)
theorem dX0_ring_26 : decode cX0_ring 26 = .ok (.iload_n 1, 1) := dk_27 (dk_at dksX0_ring_1 4 rfl rfl)
theorem dX0_ring_27 : decode cX0_ring 27 = .ok (.ishr, 1) := dk_122 (dk_at dksX0_ring_1 5 rfl rfl)
theorem dX0_ring_28 : decode cX0_ring 28 = .ok (.iconst 1, 1) := dk_4 (dk_at dksX0_ring_1 6 rfl rfl)
theorem dX0_ring_29 : decode cX0_ring 29 = .ok (.iand, 1) := dk_126 (dk_at dksX0_ring_1 7 rfl rfl)
theorem dX0_ring_30 : decode cX0_ring 30 = .ok (.ifCond .ne 9, 3) := dk_154 0 9 (dk_at dksX0_ring_1 8 rfl rfl)
theorem dX0_ring_33 : decode cX0_ring 33 = .ok (.iload_n 3, 1) := dk_29 (dk_at dksX0_ring_1 11 rfl rfl)
theorem dX0_ring_34 : decode cX0_ring 34 = .ok (.bipush 6, 2) := dk_16 6 (dk_at dksX0_ring_1 12 rfl rfl)
theorem dX0_ring_36 : decode cX0_ring 36 = .ok (.if_icmp .le (-20), 3) := dk_164 255 236 (dk_at dksX0_ring_1 14 rfl rfl)
theorem dX0_ring_39 : decode cX0_ring 39 = .ok (.iload_n 3, 1) := dk_29 (dk_at dksX0_ring_1 17 rfl rfl)
theorem dX0_ring_40 : decode cX0_ring 40 = .ok (.bipush 6, 2) := dk_16 6 (dk_at dksX0_ring_1 18 rfl rfl)
theorem dX0_ring_42 : decode cX0_ring 42 = .ok (.if_icmp .gt 7, 3) := dk_163 0 7 (dk_at dksX0_ring_1 20 rfl rfl)
theorem dX0_ring_45 : decode cX0_ring 45 = .ok (.iload_n 3, 1) := dk_29 (dk_at dksX0_ring_1 23 rfl rfl)
theorem dX0_ring_46 : decode cX0_ring 46 = .ok (.goto 5, 3) := dk_167 0 5 (dk_at dksX0_ring_2 0 rfl rfl)
theorem dX0_ring_49 : decode cX0_ring 49 = .ok (.bipush (-3), 2) := dk_16 253 (dk_at dksX0_ring_2 3 rfl rfl)
theorem dX0_ring_51 : decode cX0_ring 51 = .ok (.ireturn, 1) := dk_172 (dk_at dksX0_ring_2 5 rfl rfl)
abbrev cX0_reached : ByteArray := prog_1_method_67_code
def yX0_reached : MethodName := ⟨RX0, "reached", "(I)I"⟩
def dkwX0_reached_2 : List UInt8 := [132, 3, 1, 167, 255, 210, 28, 172]
abbrev dktX0_reached_2 : List UInt8 := dkwX0_reached_2 ++ []
def dkwX0_reached_1 : List UInt8 := [180, 0, 47, 180, 1, 154, 29, 46, 158, 0, 12, 4, 29, 16, 6, 112, 120, 167, 0, 4, 3, 128, 61]
abbrev dktX0_reached_1 : List UInt8 := dkwX0_reached_1 ++ dktX0_reached_2
def dkwX0_reached_0 : List UInt8 := [3, 61, 3, 62, 29, 16, 36, 162, 0, 46, 28, 27, 29, 16, 6, 108, 122, 4, 126, 4, 160, 0, 24, 42]
abbrev dktX0_reached_0 : List UInt8 := dkwX0_reached_0 ++ dktX0_reached_1
theorem dksX0_reached_0 : cX0_reached.data.toList.drop 0 = dktX0_reached_0 := by decide +kernel
theorem dksX0_reached_1 : cX0_reached.data.toList.drop 24 = dktX0_reached_1 := dk_seg dksX0_reached_0 24 rfl rfl
theorem dksX0_reached_2 : cX0_reached.data.toList.drop 47 = dktX0_reached_2 := dk_seg dksX0_reached_1 23 rfl rfl
theorem dX0_reached_0 : decode cX0_reached 0 = .ok (.iconst 0, 1) := dk_3 (dk_at dksX0_reached_0 0 rfl rfl)
theorem dX0_reached_1 : decode cX0_reached 1 = .ok (.istore_n 2, 1) := dk_61 (dk_at dksX0_reached_0 1 rfl rfl)
theorem dX0_reached_2 : decode cX0_reached 2 = .ok (.iconst 0, 1) := dk_3 (dk_at dksX0_reached_0 2 rfl rfl)
theorem dX0_reached_3 : decode cX0_reached 3 = .ok (.istore_n 3, 1) := dk_62 (dk_at dksX0_reached_0 3 rfl rfl)
theorem dX0_reached_4 : decode cX0_reached 4 = .ok (.iload_n 3, 1) := dk_29 (dk_at dksX0_reached_0 4 rfl rfl)
theorem dX0_reached_5 : decode cX0_reached 5 = .ok (.bipush 36, 2) := dk_16 36 (dk_at dksX0_reached_0 5 rfl rfl)
theorem dX0_reached_7 : decode cX0_reached 7 = .ok (.if_icmp .ge 46, 3) := dk_162 0 46 (dk_at dksX0_reached_0 7 rfl rfl)
theorem dX0_reached_10 : decode cX0_reached 10 = .ok (.iload_n 2, 1) := dk_28 (dk_at dksX0_reached_0 10 rfl rfl)
theorem dX0_reached_11 : decode cX0_reached 11 = .ok (.iload_n 1, 1) := dk_27 (dk_at dksX0_reached_0 11 rfl rfl)
theorem dX0_reached_12 : decode cX0_reached 12 = .ok (.iload_n 3, 1) := dk_29 (dk_at dksX0_reached_0 12 rfl rfl)
theorem dX0_reached_13 : decode cX0_reached 13 = .ok (.bipush 6, 2) := dk_16 6 (dk_at dksX0_reached_0 13 rfl rfl)
theorem dX0_reached_15 : decode cX0_reached 15 = .ok (.idiv, 1) := dk_108 (dk_at dksX0_reached_0 15 rfl rfl)
theorem dX0_reached_16 : decode cX0_reached 16 = .ok (.ishr, 1) := dk_122 (dk_at dksX0_reached_0 16 rfl rfl)
theorem dX0_reached_17 : decode cX0_reached 17 = .ok (.iconst 1, 1) := dk_4 (dk_at dksX0_reached_0 17 rfl rfl)
theorem dX0_reached_18 : decode cX0_reached 18 = .ok (.iand, 1) := dk_126 (dk_at dksX0_reached_0 18 rfl rfl)
theorem dX0_reached_19 : decode cX0_reached 19 = .ok (.iconst 1, 1) := dk_4 (dk_at dksX0_reached_0 19 rfl rfl)
theorem dX0_reached_20 : decode cX0_reached 20 = .ok (.if_icmp .ne 24, 3) := dk_160 0 24 (dk_at dksX0_reached_0 20 rfl rfl)
theorem dX0_reached_23 : decode cX0_reached 23 = .ok (.aload_n 0, 1) := dk_42 (dk_at dksX0_reached_0 23 rfl rfl)
theorem dX0_reached_24 : decode cX0_reached 24 = .ok (.getfield 47, 3) := dk_180 0 47 (dk_at dksX0_reached_1 0 rfl rfl)
theorem dX0_reached_27 : decode cX0_reached 27 = .ok (.getfield 410, 3) := dk_180 1 154 (dk_at dksX0_reached_1 3 rfl rfl)
theorem dX0_reached_30 : decode cX0_reached 30 = .ok (.iload_n 3, 1) := dk_29 (dk_at dksX0_reached_1 6 rfl rfl)
theorem dX0_reached_31 : decode cX0_reached 31 = .ok (.iaload, 1) := dk_46 (dk_at dksX0_reached_1 7 rfl rfl)
theorem dX0_reached_32 : decode cX0_reached 32 = .ok (.ifCond .le 12, 3) := dk_158 0 12 (dk_at dksX0_reached_1 8 rfl rfl)
theorem dX0_reached_35 : decode cX0_reached 35 = .ok (.iconst 1, 1) := dk_4 (dk_at dksX0_reached_1 11 rfl rfl)
theorem dX0_reached_36 : decode cX0_reached 36 = .ok (.iload_n 3, 1) := dk_29 (dk_at dksX0_reached_1 12 rfl rfl)
theorem dX0_reached_37 : decode cX0_reached 37 = .ok (.bipush 6, 2) := dk_16 6 (dk_at dksX0_reached_1 13 rfl rfl)
theorem dX0_reached_39 : decode cX0_reached 39 = .ok (.irem, 1) := dk_112 (dk_at dksX0_reached_1 15 rfl rfl)
theorem dX0_reached_40 : decode cX0_reached 40 = .ok (.ishl, 1) := dk_120 (dk_at dksX0_reached_1 16 rfl rfl)
theorem dX0_reached_41 : decode cX0_reached 41 = .ok (.goto 4, 3) := dk_167 0 4 (dk_at dksX0_reached_1 17 rfl rfl)
theorem dX0_reached_44 : decode cX0_reached 44 = .ok (.iconst 0, 1) := dk_3 (dk_at dksX0_reached_1 20 rfl rfl)
theorem dX0_reached_45 : decode cX0_reached 45 = .ok (.ior, 1) := dk_128 (dk_at dksX0_reached_1 21 rfl rfl)
theorem dX0_reached_46 : decode cX0_reached 46 = .ok (.istore_n 2, 1) := dk_61 (dk_at dksX0_reached_1 22 rfl rfl)
theorem dX0_reached_47 : decode cX0_reached 47 = .ok (.iinc 3 1, 3) := dk_132 3 1 (dk_at dksX0_reached_2 0 rfl rfl)
theorem dX0_reached_50 : decode cX0_reached 50 = .ok (.goto (-46), 3) := dk_167 255 210 (dk_at dksX0_reached_2 3 rfl rfl)
theorem dX0_reached_53 : decode cX0_reached 53 = .ok (.iload_n 2, 1) := dk_28 (dk_at dksX0_reached_2 6 rfl rfl)
theorem dX0_reached_54 : decode cX0_reached 54 = .ok (.ireturn, 1) := dk_172 (dk_at dksX0_reached_2 7 rfl rfl)
abbrev cX0_payments : ByteArray := prog_1_method_69_code
def yX0_payments : MethodName := ⟨RX0, "payments", "()I"⟩
def dkwX0_payments_6 : List UInt8 := [167, 255, 159, 27, 184, 1, 163, 42, 180, 0, 114, 27, 46, 100, 172]
abbrev dktX0_payments_6 : List UInt8 := dkwX0_payments_6 ++ []
def dkwX0_payments_5 : List UInt8 := [21, 4, 29, 154, 0, 13, 28, 27, 126, 153, 0, 7, 4, 167, 0, 4, 3, 96, 79, 132, 2, 1]
abbrev dktX0_payments_5 : List UInt8 := dkwX0_payments_5 ++ dktX0_payments_6
def dkwX0_payments_4 : List UInt8 := [21, 5, 120, 2, 130, 126, 46, 184, 1, 146, 54, 4, 132, 5, 1, 167, 255, 203, 42, 180, 0, 114, 28]
abbrev dktX0_payments_4 : List UInt8 := dkwX0_payments_4 ++ dktX0_payments_5
def dkwX0_payments_3 : List UInt8 := [154, 0, 6, 167, 0, 32, 29, 42, 21, 5, 182, 1, 157, 96, 62, 21, 4, 42, 180, 0, 114, 28, 4]
abbrev dktX0_payments_3 : List UInt8 := dkwX0_payments_3 ++ dktX0_payments_4
def dkwX0_payments_2 : List UInt8 := [62, 3, 54, 4, 3, 54, 5, 21, 5, 16, 6, 162, 0, 52, 28, 27, 126, 4, 21, 5, 120, 126]
abbrev dktX0_payments_2 : List UInt8 := dkwX0_payments_2 ++ dktX0_payments_3
def dkwX0_payments_1 : List UInt8 := [4, 28, 120, 167, 0, 4, 3, 128, 60, 132, 2, 1, 167, 255, 224, 4, 61, 28, 16, 63, 163, 0, 97, 3]
abbrev dktX0_payments_1 : List UInt8 := dkwX0_payments_1 ++ dktX0_payments_2
def dkwX0_payments_0 : List UInt8 := [3, 60, 3, 61, 28, 42, 180, 0, 47, 180, 0, 146, 162, 0, 27, 27, 42, 28, 182, 1, 157, 153, 0, 9]
abbrev dktX0_payments_0 : List UInt8 := dkwX0_payments_0 ++ dktX0_payments_1
theorem dksX0_payments_0 : cX0_payments.data.toList.drop 0 = dktX0_payments_0 := by decide +kernel
theorem dksX0_payments_1 : cX0_payments.data.toList.drop 24 = dktX0_payments_1 := dk_seg dksX0_payments_0 24 rfl rfl
theorem dksX0_payments_2 : cX0_payments.data.toList.drop 48 = dktX0_payments_2 := dk_seg dksX0_payments_1 24 rfl rfl
theorem dksX0_payments_3 : cX0_payments.data.toList.drop 70 = dktX0_payments_3 := dk_seg dksX0_payments_2 22 rfl rfl
theorem dksX0_payments_4 : cX0_payments.data.toList.drop 93 = dktX0_payments_4 := dk_seg dksX0_payments_3 23 rfl rfl
theorem dksX0_payments_5 : cX0_payments.data.toList.drop 116 = dktX0_payments_5 := dk_seg dksX0_payments_4 23 rfl rfl
theorem dksX0_payments_6 : cX0_payments.data.toList.drop 138 = dktX0_payments_6 := dk_seg dksX0_payments_5 22 rfl rfl
theorem dX0_payments_0 : decode cX0_payments 0 = .ok (.iconst 0, 1) := dk_3 (dk_at dksX0_payments_0 0 rfl rfl)
theorem dX0_payments_1 : decode cX0_payments 1 = .ok (.istore_n 1, 1) := dk_60 (dk_at dksX0_payments_0 1 rfl rfl)
theorem dX0_payments_2 : decode cX0_payments 2 = .ok (.iconst 0, 1) := dk_3 (dk_at dksX0_payments_0 2 rfl rfl)
theorem dX0_payments_3 : decode cX0_payments 3 = .ok (.istore_n 2, 1) := dk_61 (dk_at dksX0_payments_0 3 rfl rfl)
theorem dX0_payments_4 : decode cX0_payments 4 = .ok (.iload_n 2, 1) := dk_28 (dk_at dksX0_payments_0 4 rfl rfl)
theorem dX0_payments_5 : decode cX0_payments 5 = .ok (.aload_n 0, 1) := dk_42 (dk_at dksX0_payments_0 5 rfl rfl)
theorem dX0_payments_6 : decode cX0_payments 6 = .ok (.getfield 47, 3) := dk_180 0 47 (dk_at dksX0_payments_0 6 rfl rfl)
theorem dX0_payments_9 : decode cX0_payments 9 = .ok (.getfield 146, 3) := dk_180 0 146 (dk_at dksX0_payments_0 9 rfl rfl)
theorem dX0_payments_12 : decode cX0_payments 12 = .ok (.if_icmp .ge 27, 3) := dk_162 0 27 (dk_at dksX0_payments_0 12 rfl rfl)
theorem dX0_payments_15 : decode cX0_payments 15 = .ok (.iload_n 1, 1) := dk_27 (dk_at dksX0_payments_0 15 rfl rfl)
theorem dX0_payments_16 : decode cX0_payments 16 = .ok (.aload_n 0, 1) := dk_42 (dk_at dksX0_payments_0 16 rfl rfl)
theorem dX0_payments_17 : decode cX0_payments 17 = .ok (.iload_n 2, 1) := dk_28 (dk_at dksX0_payments_0 17 rfl rfl)
theorem dX0_payments_18 : decode cX0_payments 18 = .ok (.invokevirtual 413, 3) := dk_182 1 157 (dk_at dksX0_payments_0 18 rfl rfl)
theorem dX0_payments_21 : decode cX0_payments 21 = .ok (.ifCond .eq 9, 3) := dk_153 0 9 (dk_at dksX0_payments_0 21 rfl rfl)
theorem dX0_payments_24 : decode cX0_payments 24 = .ok (.iconst 1, 1) := dk_4 (dk_at dksX0_payments_1 0 rfl rfl)
theorem dX0_payments_25 : decode cX0_payments 25 = .ok (.iload_n 2, 1) := dk_28 (dk_at dksX0_payments_1 1 rfl rfl)
theorem dX0_payments_26 : decode cX0_payments 26 = .ok (.ishl, 1) := dk_120 (dk_at dksX0_payments_1 2 rfl rfl)
theorem dX0_payments_27 : decode cX0_payments 27 = .ok (.goto 4, 3) := dk_167 0 4 (dk_at dksX0_payments_1 3 rfl rfl)
theorem dX0_payments_30 : decode cX0_payments 30 = .ok (.iconst 0, 1) := dk_3 (dk_at dksX0_payments_1 6 rfl rfl)
theorem dX0_payments_31 : decode cX0_payments 31 = .ok (.ior, 1) := dk_128 (dk_at dksX0_payments_1 7 rfl rfl)
theorem dX0_payments_32 : decode cX0_payments 32 = .ok (.istore_n 1, 1) := dk_60 (dk_at dksX0_payments_1 8 rfl rfl)
theorem dX0_payments_33 : decode cX0_payments 33 = .ok (.iinc 2 1, 3) := dk_132 2 1 (dk_at dksX0_payments_1 9 rfl rfl)
theorem dX0_payments_36 : decode cX0_payments 36 = .ok (.goto (-32), 3) := dk_167 255 224 (dk_at dksX0_payments_1 12 rfl rfl)
theorem dX0_payments_39 : decode cX0_payments 39 = .ok (.iconst 1, 1) := dk_4 (dk_at dksX0_payments_1 15 rfl rfl)
theorem dX0_payments_40 : decode cX0_payments 40 = .ok (.istore_n 2, 1) := dk_61 (dk_at dksX0_payments_1 16 rfl rfl)
theorem dX0_payments_41 : decode cX0_payments 41 = .ok (.iload_n 2, 1) := dk_28 (dk_at dksX0_payments_1 17 rfl rfl)
theorem dX0_payments_42 : decode cX0_payments 42 = .ok (.bipush 63, 2) := dk_16 63 (dk_at dksX0_payments_1 18 rfl rfl)
theorem dX0_payments_44 : decode cX0_payments 44 = .ok (.if_icmp .gt 97, 3) := dk_163 0 97 (dk_at dksX0_payments_1 20 rfl rfl)
theorem dX0_payments_47 : decode cX0_payments 47 = .ok (.iconst 0, 1) := dk_3 (dk_at dksX0_payments_1 23 rfl rfl)
theorem dX0_payments_48 : decode cX0_payments 48 = .ok (.istore_n 3, 1) := dk_62 (dk_at dksX0_payments_2 0 rfl rfl)
theorem dX0_payments_49 : decode cX0_payments 49 = .ok (.iconst 0, 1) := dk_3 (dk_at dksX0_payments_2 1 rfl rfl)
theorem dX0_payments_50 : decode cX0_payments 50 = .ok (.istore 4, 2) := dk_54 4 (dk_at dksX0_payments_2 2 rfl rfl)
theorem dX0_payments_52 : decode cX0_payments 52 = .ok (.iconst 0, 1) := dk_3 (dk_at dksX0_payments_2 4 rfl rfl)
theorem dX0_payments_53 : decode cX0_payments 53 = .ok (.istore 5, 2) := dk_54 5 (dk_at dksX0_payments_2 5 rfl rfl)
theorem dX0_payments_55 : decode cX0_payments 55 = .ok (.iload 5, 2) := dk_21 5 (dk_at dksX0_payments_2 7 rfl rfl)
theorem dX0_payments_57 : decode cX0_payments 57 = .ok (.bipush 6, 2) := dk_16 6 (dk_at dksX0_payments_2 9 rfl rfl)
theorem dX0_payments_59 : decode cX0_payments 59 = .ok (.if_icmp .ge 52, 3) := dk_162 0 52 (dk_at dksX0_payments_2 11 rfl rfl)
theorem dX0_payments_62 : decode cX0_payments 62 = .ok (.iload_n 2, 1) := dk_28 (dk_at dksX0_payments_2 14 rfl rfl)
theorem dX0_payments_63 : decode cX0_payments 63 = .ok (.iload_n 1, 1) := dk_27 (dk_at dksX0_payments_2 15 rfl rfl)
theorem dX0_payments_64 : decode cX0_payments 64 = .ok (.iand, 1) := dk_126 (dk_at dksX0_payments_2 16 rfl rfl)
theorem dX0_payments_65 : decode cX0_payments 65 = .ok (.iconst 1, 1) := dk_4 (dk_at dksX0_payments_2 17 rfl rfl)
theorem dX0_payments_66 : decode cX0_payments 66 = .ok (.iload 5, 2) := dk_21 5 (dk_at dksX0_payments_2 18 rfl rfl)
theorem dX0_payments_68 : decode cX0_payments 68 = .ok (.ishl, 1) := dk_120 (dk_at dksX0_payments_2 20 rfl rfl)
theorem dX0_payments_69 : decode cX0_payments 69 = .ok (.iand, 1) := dk_126 (dk_at dksX0_payments_2 21 rfl rfl)
theorem dX0_payments_70 : decode cX0_payments 70 = .ok (.ifCond .ne 6, 3) := dk_154 0 6 (dk_at dksX0_payments_3 0 rfl rfl)
theorem dX0_payments_73 : decode cX0_payments 73 = .ok (.goto 32, 3) := dk_167 0 32 (dk_at dksX0_payments_3 3 rfl rfl)
theorem dX0_payments_76 : decode cX0_payments 76 = .ok (.iload_n 3, 1) := dk_29 (dk_at dksX0_payments_3 6 rfl rfl)
theorem dX0_payments_77 : decode cX0_payments 77 = .ok (.aload_n 0, 1) := dk_42 (dk_at dksX0_payments_3 7 rfl rfl)
theorem dX0_payments_78 : decode cX0_payments 78 = .ok (.iload 5, 2) := dk_21 5 (dk_at dksX0_payments_3 8 rfl rfl)
theorem dX0_payments_80 : decode cX0_payments 80 = .ok (.invokevirtual 413, 3) := dk_182 1 157 (dk_at dksX0_payments_3 10 rfl rfl)
theorem dX0_payments_83 : decode cX0_payments 83 = .ok (.iadd, 1) := dk_96 (dk_at dksX0_payments_3 13 rfl rfl)
theorem dX0_payments_84 : decode cX0_payments 84 = .ok (.istore_n 3, 1) := dk_62 (dk_at dksX0_payments_3 14 rfl rfl)
theorem dX0_payments_85 : decode cX0_payments 85 = .ok (.iload 4, 2) := dk_21 4 (dk_at dksX0_payments_3 15 rfl rfl)
theorem dX0_payments_87 : decode cX0_payments 87 = .ok (.aload_n 0, 1) := dk_42 (dk_at dksX0_payments_3 17 rfl rfl)
theorem dX0_payments_88 : decode cX0_payments 88 = .ok (.getfield 114, 3) := dk_180 0 114 (dk_at dksX0_payments_3 18 rfl rfl)
theorem dX0_payments_91 : decode cX0_payments 91 = .ok (.iload_n 2, 1) := dk_28 (dk_at dksX0_payments_3 21 rfl rfl)
theorem dX0_payments_92 : decode cX0_payments 92 = .ok (.iconst 1, 1) := dk_4 (dk_at dksX0_payments_3 22 rfl rfl)
theorem dX0_payments_93 : decode cX0_payments 93 = .ok (.iload 5, 2) := dk_21 5 (dk_at dksX0_payments_4 0 rfl rfl)
theorem dX0_payments_95 : decode cX0_payments 95 = .ok (.ishl, 1) := dk_120 (dk_at dksX0_payments_4 2 rfl rfl)
theorem dX0_payments_96 : decode cX0_payments 96 = .ok (.iconst (-1), 1) := dk_2 (dk_at dksX0_payments_4 3 rfl rfl)
theorem dX0_payments_97 : decode cX0_payments 97 = .ok (.ixor, 1) := dk_130 (dk_at dksX0_payments_4 4 rfl rfl)
theorem dX0_payments_98 : decode cX0_payments 98 = .ok (.iand, 1) := dk_126 (dk_at dksX0_payments_4 5 rfl rfl)
theorem dX0_payments_99 : decode cX0_payments 99 = .ok (.iaload, 1) := dk_46 (dk_at dksX0_payments_4 6 rfl rfl)
theorem dX0_payments_100 : decode cX0_payments 100 = .ok (.invokestatic 402, 3) := dk_184 1 146 (dk_at dksX0_payments_4 7 rfl rfl)
theorem dX0_payments_103 : decode cX0_payments 103 = .ok (.istore 4, 2) := dk_54 4 (dk_at dksX0_payments_4 10 rfl rfl)
theorem dX0_payments_105 : decode cX0_payments 105 = .ok (.iinc 5 1, 3) := dk_132 5 1 (dk_at dksX0_payments_4 12 rfl rfl)
theorem dX0_payments_108 : decode cX0_payments 108 = .ok (.goto (-53), 3) := dk_167 255 203 (dk_at dksX0_payments_4 15 rfl rfl)
theorem dX0_payments_111 : decode cX0_payments 111 = .ok (.aload_n 0, 1) := dk_42 (dk_at dksX0_payments_4 18 rfl rfl)
theorem dX0_payments_112 : decode cX0_payments 112 = .ok (.getfield 114, 3) := dk_180 0 114 (dk_at dksX0_payments_4 19 rfl rfl)
theorem dX0_payments_115 : decode cX0_payments 115 = .ok (.iload_n 2, 1) := dk_28 (dk_at dksX0_payments_4 22 rfl rfl)
theorem dX0_payments_116 : decode cX0_payments 116 = .ok (.iload 4, 2) := dk_21 4 (dk_at dksX0_payments_5 0 rfl rfl)
theorem dX0_payments_118 : decode cX0_payments 118 = .ok (.iload_n 3, 1) := dk_29 (dk_at dksX0_payments_5 2 rfl rfl)
theorem dX0_payments_119 : decode cX0_payments 119 = .ok (.ifCond .ne 13, 3) := dk_154 0 13 (dk_at dksX0_payments_5 3 rfl rfl)
theorem dX0_payments_122 : decode cX0_payments 122 = .ok (.iload_n 2, 1) := dk_28 (dk_at dksX0_payments_5 6 rfl rfl)
theorem dX0_payments_123 : decode cX0_payments 123 = .ok (.iload_n 1, 1) := dk_27 (dk_at dksX0_payments_5 7 rfl rfl)
theorem dX0_payments_124 : decode cX0_payments 124 = .ok (.iand, 1) := dk_126 (dk_at dksX0_payments_5 8 rfl rfl)
theorem dX0_payments_125 : decode cX0_payments 125 = .ok (.ifCond .eq 7, 3) := dk_153 0 7 (dk_at dksX0_payments_5 9 rfl rfl)
theorem dX0_payments_128 : decode cX0_payments 128 = .ok (.iconst 1, 1) := dk_4 (dk_at dksX0_payments_5 12 rfl rfl)
theorem dX0_payments_129 : decode cX0_payments 129 = .ok (.goto 4, 3) := dk_167 0 4 (dk_at dksX0_payments_5 13 rfl rfl)
theorem dX0_payments_132 : decode cX0_payments 132 = .ok (.iconst 0, 1) := dk_3 (dk_at dksX0_payments_5 16 rfl rfl)
theorem dX0_payments_133 : decode cX0_payments 133 = .ok (.iadd, 1) := dk_96 (dk_at dksX0_payments_5 17 rfl rfl)
theorem dX0_payments_134 : decode cX0_payments 134 = .ok (.iastore, 1) := dk_79 (dk_at dksX0_payments_5 18 rfl rfl)
theorem dX0_payments_135 : decode cX0_payments 135 = .ok (.iinc 2 1, 3) := dk_132 2 1 (dk_at dksX0_payments_5 19 rfl rfl)
theorem dX0_payments_138 : decode cX0_payments 138 = .ok (.goto (-97), 3) := dk_167 255 159 (dk_at dksX0_payments_6 0 rfl rfl)
theorem dX0_payments_141 : decode cX0_payments 141 = .ok (.iload_n 1, 1) := dk_27 (dk_at dksX0_payments_6 3 rfl rfl)
theorem dX0_payments_142 : decode cX0_payments 142 = .ok (.invokestatic 419, 3) := dk_184 1 163 (dk_at dksX0_payments_6 4 rfl rfl)
theorem dX0_payments_145 : decode cX0_payments 145 = .ok (.aload_n 0, 1) := dk_42 (dk_at dksX0_payments_6 7 rfl rfl)
theorem dX0_payments_146 : decode cX0_payments 146 = .ok (.getfield 114, 3) := dk_180 0 114 (dk_at dksX0_payments_6 8 rfl rfl)
theorem dX0_payments_149 : decode cX0_payments 149 = .ok (.iload_n 1, 1) := dk_27 (dk_at dksX0_payments_6 11 rfl rfl)
theorem dX0_payments_150 : decode cX0_payments 150 = .ok (.iaload, 1) := dk_46 (dk_at dksX0_payments_6 12 rfl rfl)
theorem dX0_payments_151 : decode cX0_payments 151 = .ok (.isub, 1) := dk_100 (dk_at dksX0_payments_6 13 rfl rfl)
theorem dX0_payments_152 : decode cX0_payments 152 = .ok (.ireturn, 1) := dk_172 (dk_at dksX0_payments_6 14 rfl rfl)
abbrev cX0_best : ByteArray := prog_1_method_73_code
def yX0_best : MethodName := ⟨RX0, "best", "(I)I"⟩
def dkwX0_best_0 : List UInt8 := [27, 3, 7, 184, 0, 150, 154, 0, 5, 2, 172, 42, 27, 182, 1, 184, 42, 180, 1, 168, 172]
abbrev dktX0_best_0 : List UInt8 := dkwX0_best_0 ++ []
theorem dksX0_best_0 : cX0_best.data.toList.drop 0 = dktX0_best_0 := by decide +kernel
theorem dX0_best_0 : decode cX0_best 0 = .ok (.iload_n 1, 1) := dk_27 (dk_at dksX0_best_0 0 rfl rfl)
theorem dX0_best_1 : decode cX0_best 1 = .ok (.iconst 0, 1) := dk_3 (dk_at dksX0_best_0 1 rfl rfl)
theorem dX0_best_2 : decode cX0_best 2 = .ok (.iconst 4, 1) := dk_7 (dk_at dksX0_best_0 2 rfl rfl)
theorem dX0_best_3 : decode cX0_best 3 = .ok (.invokestatic 150, 3) := dk_184 0 150 (dk_at dksX0_best_0 3 rfl rfl)
theorem dX0_best_6 : decode cX0_best 6 = .ok (.ifCond .ne 5, 3) := dk_154 0 5 (dk_at dksX0_best_0 6 rfl rfl)
theorem dX0_best_9 : decode cX0_best 9 = .ok (.iconst (-1), 1) := dk_2 (dk_at dksX0_best_0 9 rfl rfl)
theorem dX0_best_10 : decode cX0_best 10 = .ok (.ireturn, 1) := dk_172 (dk_at dksX0_best_0 10 rfl rfl)
theorem dX0_best_11 : decode cX0_best 11 = .ok (.aload_n 0, 1) := dk_42 (dk_at dksX0_best_0 11 rfl rfl)
theorem dX0_best_12 : decode cX0_best 12 = .ok (.iload_n 1, 1) := dk_27 (dk_at dksX0_best_0 12 rfl rfl)
theorem dX0_best_13 : decode cX0_best 13 = .ok (.invokevirtual 440, 3) := dk_182 1 184 (dk_at dksX0_best_0 13 rfl rfl)
theorem dX0_best_16 : decode cX0_best 16 = .ok (.aload_n 0, 1) := dk_42 (dk_at dksX0_best_0 16 rfl rfl)
theorem dX0_best_17 : decode cX0_best 17 = .ok (.getfield 424, 3) := dk_180 1 168 (dk_at dksX0_best_0 17 rfl rfl)
theorem dX0_best_20 : decode cX0_best 20 = .ok (.ireturn, 1) := dk_172 (dk_at dksX0_best_0 20 rfl rfl)
abbrev cX0_findPlans : ByteArray := prog_1_method_72_code
def yX0_findPlans : MethodName := ⟨RX0, "findPlans", "(I)V"⟩
def dkwX0_findPlans_0 : List UInt8 := [42, 2, 181, 1, 168, 42, 3, 181, 1, 171, 42, 3, 181, 1, 174, 42, 27, 3, 3, 182, 1, 177, 177]
abbrev dktX0_findPlans_0 : List UInt8 := dkwX0_findPlans_0 ++ []
theorem dksX0_findPlans_0 : cX0_findPlans.data.toList.drop 0 = dktX0_findPlans_0 := by decide +kernel
theorem dX0_findPlans_0 : decode cX0_findPlans 0 = .ok (.aload_n 0, 1) := dk_42 (dk_at dksX0_findPlans_0 0 rfl rfl)
theorem dX0_findPlans_1 : decode cX0_findPlans 1 = .ok (.iconst (-1), 1) := dk_2 (dk_at dksX0_findPlans_0 1 rfl rfl)
theorem dX0_findPlans_2 : decode cX0_findPlans 2 = .ok (.putfield 424, 3) := dk_181 1 168 (dk_at dksX0_findPlans_0 2 rfl rfl)
theorem dX0_findPlans_5 : decode cX0_findPlans 5 = .ok (.aload_n 0, 1) := dk_42 (dk_at dksX0_findPlans_0 5 rfl rfl)
theorem dX0_findPlans_6 : decode cX0_findPlans 6 = .ok (.iconst 0, 1) := dk_3 (dk_at dksX0_findPlans_0 6 rfl rfl)
theorem dX0_findPlans_7 : decode cX0_findPlans 7 = .ok (.putfield 427, 3) := dk_181 1 171 (dk_at dksX0_findPlans_0 7 rfl rfl)
theorem dX0_findPlans_10 : decode cX0_findPlans 10 = .ok (.aload_n 0, 1) := dk_42 (dk_at dksX0_findPlans_0 10 rfl rfl)
theorem dX0_findPlans_11 : decode cX0_findPlans 11 = .ok (.iconst 0, 1) := dk_3 (dk_at dksX0_findPlans_0 11 rfl rfl)
theorem dX0_findPlans_12 : decode cX0_findPlans 12 = .ok (.putfield 430, 3) := dk_181 1 174 (dk_at dksX0_findPlans_0 12 rfl rfl)
theorem dX0_findPlans_15 : decode cX0_findPlans 15 = .ok (.aload_n 0, 1) := dk_42 (dk_at dksX0_findPlans_0 15 rfl rfl)
theorem dX0_findPlans_16 : decode cX0_findPlans 16 = .ok (.iload_n 1, 1) := dk_27 (dk_at dksX0_findPlans_0 16 rfl rfl)
theorem dX0_findPlans_17 : decode cX0_findPlans 17 = .ok (.iconst 0, 1) := dk_3 (dk_at dksX0_findPlans_0 17 rfl rfl)
theorem dX0_findPlans_18 : decode cX0_findPlans 18 = .ok (.iconst 0, 1) := dk_3 (dk_at dksX0_findPlans_0 18 rfl rfl)
theorem dX0_findPlans_19 : decode cX0_findPlans 19 = .ok (.invokevirtual 433, 3) := dk_182 1 177 (dk_at dksX0_findPlans_0 19 rfl rfl)
theorem dX0_findPlans_22 : decode cX0_findPlans 22 = .ok (.return_, 1) := dk_177 (dk_at dksX0_findPlans_0 22 rfl rfl)
abbrev cX0_plansFrom : ByteArray := prog_1_method_71_code
def yX0_plansFrom : MethodName := ⟨RX0, "plansFrom", "(III)V"⟩
def dkwX0_plansFrom_6 : List UInt8 := [132, 4, 1, 167, 255, 204, 177]
abbrev dktX0_plansFrom_6 : List UInt8 := dkwX0_plansFrom_6 ++ []
def dkwX0_plansFrom_5 : List UInt8 := [182, 1, 121, 54, 5, 42, 27, 4, 100, 28, 4, 96, 29, 21, 5, 96, 182, 1, 177, 42, 28, 182, 1, 181]
abbrev dktX0_plansFrom_5 : List UInt8 := dkwX0_plansFrom_5 ++ dktX0_plansFrom_6
def dkwX0_plansFrom_4 : List UInt8 := [42, 180, 0, 47, 180, 0, 146, 163, 0, 46, 42, 180, 0, 117, 28, 21, 4, 79, 42, 21, 4, 4, 100]
abbrev dktX0_plansFrom_4 : List UInt8 := dkwX0_plansFrom_4 ++ dktX0_plansFrom_5
def dkwX0_plansFrom_3 : List UInt8 := [180, 0, 117, 3, 42, 180, 0, 120, 3, 28, 184, 1, 81, 177, 42, 28, 182, 1, 140, 3, 54, 4, 21, 4]
abbrev dktX0_plansFrom_3 : List UInt8 := dkwX0_plansFrom_3 ++ dktX0_plansFrom_4
def dkwX0_plansFrom_2 : List UInt8 := [181, 1, 171, 29, 42, 180, 1, 168, 163, 0, 4, 177, 42, 29, 181, 1, 168, 42, 28, 181, 1, 174, 42]
abbrev dktX0_plansFrom_2 : List UInt8 := dkwX0_plansFrom_2 ++ dktX0_plansFrom_3
def dkwX0_plansFrom_1 : List UInt8 := [167, 0, 24, 29, 42, 180, 1, 168, 160, 0, 12, 42, 180, 1, 171, 4, 96, 167, 0, 7, 42, 180, 1, 171]
abbrev dktX0_plansFrom_1 : List UInt8 := dkwX0_plansFrom_1 ++ dktX0_plansFrom_2
def dkwX0_plansFrom_0 : List UInt8 := [27, 153, 0, 13, 42, 180, 0, 47, 182, 0, 226, 153, 0, 74, 42, 29, 42, 180, 1, 168, 164, 0, 7, 4]
abbrev dktX0_plansFrom_0 : List UInt8 := dkwX0_plansFrom_0 ++ dktX0_plansFrom_1
theorem dksX0_plansFrom_0 : cX0_plansFrom.data.toList.drop 0 = dktX0_plansFrom_0 := by decide +kernel
theorem dksX0_plansFrom_1 : cX0_plansFrom.data.toList.drop 24 = dktX0_plansFrom_1 := dk_seg dksX0_plansFrom_0 24 rfl rfl
theorem dksX0_plansFrom_2 : cX0_plansFrom.data.toList.drop 48 = dktX0_plansFrom_2 := dk_seg dksX0_plansFrom_1 24 rfl rfl
theorem dksX0_plansFrom_3 : cX0_plansFrom.data.toList.drop 71 = dktX0_plansFrom_3 := dk_seg dksX0_plansFrom_2 23 rfl rfl
theorem dksX0_plansFrom_4 : cX0_plansFrom.data.toList.drop 95 = dktX0_plansFrom_4 := dk_seg dksX0_plansFrom_3 24 rfl rfl
theorem dksX0_plansFrom_5 : cX0_plansFrom.data.toList.drop 118 = dktX0_plansFrom_5 := dk_seg dksX0_plansFrom_4 23 rfl rfl
theorem dksX0_plansFrom_6 : cX0_plansFrom.data.toList.drop 142 = dktX0_plansFrom_6 := dk_seg dksX0_plansFrom_5 24 rfl rfl
theorem dX0_plansFrom_0 : decode cX0_plansFrom 0 = .ok (.iload_n 1, 1) := dk_27 (dk_at dksX0_plansFrom_0 0 rfl rfl)
theorem dX0_plansFrom_1 : decode cX0_plansFrom 1 = .ok (.ifCond .eq 13, 3) := dk_153 0 13 (dk_at dksX0_plansFrom_0 1 rfl rfl)
theorem dX0_plansFrom_4 : decode cX0_plansFrom 4 = .ok (.aload_n 0, 1) := dk_42 (dk_at dksX0_plansFrom_0 4 rfl rfl)
theorem dX0_plansFrom_5 : decode cX0_plansFrom 5 = .ok (.getfield 47, 3) := dk_180 0 47 (dk_at dksX0_plansFrom_0 5 rfl rfl)
theorem dX0_plansFrom_8 : decode cX0_plansFrom 8 = .ok (.invokevirtual 226, 3) := dk_182 0 226 (dk_at dksX0_plansFrom_0 8 rfl rfl)
theorem dX0_plansFrom_11 : decode cX0_plansFrom 11 = .ok (.ifCond .eq 74, 3) := dk_153 0 74 (dk_at dksX0_plansFrom_0 11 rfl rfl)
theorem dX0_plansFrom_14 : decode cX0_plansFrom 14 = .ok (.aload_n 0, 1) := dk_42 (dk_at dksX0_plansFrom_0 14 rfl rfl)
theorem dX0_plansFrom_15 : decode cX0_plansFrom 15 = .ok (.iload_n 3, 1) := dk_29 (dk_at dksX0_plansFrom_0 15 rfl rfl)
theorem dX0_plansFrom_16 : decode cX0_plansFrom 16 = .ok (.aload_n 0, 1) := dk_42 (dk_at dksX0_plansFrom_0 16 rfl rfl)
theorem dX0_plansFrom_17 : decode cX0_plansFrom 17 = .ok (.getfield 424, 3) := dk_180 1 168 (dk_at dksX0_plansFrom_0 17 rfl rfl)
theorem dX0_plansFrom_20 : decode cX0_plansFrom 20 = .ok (.if_icmp .le 7, 3) := dk_164 0 7 (dk_at dksX0_plansFrom_0 20 rfl rfl)
theorem dX0_plansFrom_23 : decode cX0_plansFrom 23 = .ok (.iconst 1, 1) := dk_4 (dk_at dksX0_plansFrom_0 23 rfl rfl)
theorem dX0_plansFrom_24 : decode cX0_plansFrom 24 = .ok (.goto 24, 3) := dk_167 0 24 (dk_at dksX0_plansFrom_1 0 rfl rfl)
theorem dX0_plansFrom_27 : decode cX0_plansFrom 27 = .ok (.iload_n 3, 1) := dk_29 (dk_at dksX0_plansFrom_1 3 rfl rfl)
theorem dX0_plansFrom_28 : decode cX0_plansFrom 28 = .ok (.aload_n 0, 1) := dk_42 (dk_at dksX0_plansFrom_1 4 rfl rfl)
theorem dX0_plansFrom_29 : decode cX0_plansFrom 29 = .ok (.getfield 424, 3) := dk_180 1 168 (dk_at dksX0_plansFrom_1 5 rfl rfl)
theorem dX0_plansFrom_32 : decode cX0_plansFrom 32 = .ok (.if_icmp .ne 12, 3) := dk_160 0 12 (dk_at dksX0_plansFrom_1 8 rfl rfl)
theorem dX0_plansFrom_35 : decode cX0_plansFrom 35 = .ok (.aload_n 0, 1) := dk_42 (dk_at dksX0_plansFrom_1 11 rfl rfl)
theorem dX0_plansFrom_36 : decode cX0_plansFrom 36 = .ok (.getfield 427, 3) := dk_180 1 171 (dk_at dksX0_plansFrom_1 12 rfl rfl)
theorem dX0_plansFrom_39 : decode cX0_plansFrom 39 = .ok (.iconst 1, 1) := dk_4 (dk_at dksX0_plansFrom_1 15 rfl rfl)
theorem dX0_plansFrom_40 : decode cX0_plansFrom 40 = .ok (.iadd, 1) := dk_96 (dk_at dksX0_plansFrom_1 16 rfl rfl)
theorem dX0_plansFrom_41 : decode cX0_plansFrom 41 = .ok (.goto 7, 3) := dk_167 0 7 (dk_at dksX0_plansFrom_1 17 rfl rfl)
theorem dX0_plansFrom_44 : decode cX0_plansFrom 44 = .ok (.aload_n 0, 1) := dk_42 (dk_at dksX0_plansFrom_1 20 rfl rfl)
theorem dX0_plansFrom_45 : decode cX0_plansFrom 45 = .ok (.getfield 427, 3) := dk_180 1 171 (dk_at dksX0_plansFrom_1 21 rfl rfl)
theorem dX0_plansFrom_48 : decode cX0_plansFrom 48 = .ok (.putfield 427, 3) := dk_181 1 171 (dk_at dksX0_plansFrom_2 0 rfl rfl)
theorem dX0_plansFrom_51 : decode cX0_plansFrom 51 = .ok (.iload_n 3, 1) := dk_29 (dk_at dksX0_plansFrom_2 3 rfl rfl)
theorem dX0_plansFrom_52 : decode cX0_plansFrom 52 = .ok (.aload_n 0, 1) := dk_42 (dk_at dksX0_plansFrom_2 4 rfl rfl)
theorem dX0_plansFrom_53 : decode cX0_plansFrom 53 = .ok (.getfield 424, 3) := dk_180 1 168 (dk_at dksX0_plansFrom_2 5 rfl rfl)
theorem dX0_plansFrom_56 : decode cX0_plansFrom 56 = .ok (.if_icmp .gt 4, 3) := dk_163 0 4 (dk_at dksX0_plansFrom_2 8 rfl rfl)
theorem dX0_plansFrom_59 : decode cX0_plansFrom 59 = .ok (.return_, 1) := dk_177 (dk_at dksX0_plansFrom_2 11 rfl rfl)
theorem dX0_plansFrom_60 : decode cX0_plansFrom 60 = .ok (.aload_n 0, 1) := dk_42 (dk_at dksX0_plansFrom_2 12 rfl rfl)
theorem dX0_plansFrom_61 : decode cX0_plansFrom 61 = .ok (.iload_n 3, 1) := dk_29 (dk_at dksX0_plansFrom_2 13 rfl rfl)
theorem dX0_plansFrom_62 : decode cX0_plansFrom 62 = .ok (.putfield 424, 3) := dk_181 1 168 (dk_at dksX0_plansFrom_2 14 rfl rfl)
theorem dX0_plansFrom_65 : decode cX0_plansFrom 65 = .ok (.aload_n 0, 1) := dk_42 (dk_at dksX0_plansFrom_2 17 rfl rfl)
theorem dX0_plansFrom_66 : decode cX0_plansFrom 66 = .ok (.iload_n 2, 1) := dk_28 (dk_at dksX0_plansFrom_2 18 rfl rfl)
theorem dX0_plansFrom_67 : decode cX0_plansFrom 67 = .ok (.putfield 430, 3) := dk_181 1 174 (dk_at dksX0_plansFrom_2 19 rfl rfl)
theorem dX0_plansFrom_70 : decode cX0_plansFrom 70 = .ok (.aload_n 0, 1) := dk_42 (dk_at dksX0_plansFrom_2 22 rfl rfl)
theorem dX0_plansFrom_71 : decode cX0_plansFrom 71 = .ok (.getfield 117, 3) := dk_180 0 117 (dk_at dksX0_plansFrom_3 0 rfl rfl)
theorem dX0_plansFrom_74 : decode cX0_plansFrom 74 = .ok (.iconst 0, 1) := dk_3 (dk_at dksX0_plansFrom_3 3 rfl rfl)
theorem dX0_plansFrom_75 : decode cX0_plansFrom 75 = .ok (.aload_n 0, 1) := dk_42 (dk_at dksX0_plansFrom_3 4 rfl rfl)
theorem dX0_plansFrom_76 : decode cX0_plansFrom 76 = .ok (.getfield 120, 3) := dk_180 0 120 (dk_at dksX0_plansFrom_3 5 rfl rfl)
theorem dX0_plansFrom_79 : decode cX0_plansFrom 79 = .ok (.iconst 0, 1) := dk_3 (dk_at dksX0_plansFrom_3 8 rfl rfl)
theorem dX0_plansFrom_80 : decode cX0_plansFrom 80 = .ok (.iload_n 2, 1) := dk_28 (dk_at dksX0_plansFrom_3 9 rfl rfl)
theorem dX0_plansFrom_81 : decode cX0_plansFrom 81 = .ok (.invokestatic 337, 3) := dk_184 1 81 (dk_at dksX0_plansFrom_3 10 rfl rfl)
theorem dX0_plansFrom_84 : decode cX0_plansFrom 84 = .ok (.return_, 1) := dk_177 (dk_at dksX0_plansFrom_3 13 rfl rfl)
theorem dX0_plansFrom_85 : decode cX0_plansFrom 85 = .ok (.aload_n 0, 1) := dk_42 (dk_at dksX0_plansFrom_3 14 rfl rfl)
theorem dX0_plansFrom_86 : decode cX0_plansFrom 86 = .ok (.iload_n 2, 1) := dk_28 (dk_at dksX0_plansFrom_3 15 rfl rfl)
theorem dX0_plansFrom_87 : decode cX0_plansFrom 87 = .ok (.invokevirtual 396, 3) := dk_182 1 140 (dk_at dksX0_plansFrom_3 16 rfl rfl)
theorem dX0_plansFrom_90 : decode cX0_plansFrom 90 = .ok (.iconst 0, 1) := dk_3 (dk_at dksX0_plansFrom_3 19 rfl rfl)
theorem dX0_plansFrom_91 : decode cX0_plansFrom 91 = .ok (.istore 4, 2) := dk_54 4 (dk_at dksX0_plansFrom_3 20 rfl rfl)
theorem dX0_plansFrom_93 : decode cX0_plansFrom 93 = .ok (.iload 4, 2) := dk_21 4 (dk_at dksX0_plansFrom_3 22 rfl rfl)
theorem dX0_plansFrom_95 : decode cX0_plansFrom 95 = .ok (.aload_n 0, 1) := dk_42 (dk_at dksX0_plansFrom_4 0 rfl rfl)
theorem dX0_plansFrom_96 : decode cX0_plansFrom 96 = .ok (.getfield 47, 3) := dk_180 0 47 (dk_at dksX0_plansFrom_4 1 rfl rfl)
theorem dX0_plansFrom_99 : decode cX0_plansFrom 99 = .ok (.getfield 146, 3) := dk_180 0 146 (dk_at dksX0_plansFrom_4 4 rfl rfl)
theorem dX0_plansFrom_102 : decode cX0_plansFrom 102 = .ok (.if_icmp .gt 46, 3) := dk_163 0 46 (dk_at dksX0_plansFrom_4 7 rfl rfl)
theorem dX0_plansFrom_105 : decode cX0_plansFrom 105 = .ok (.aload_n 0, 1) := dk_42 (dk_at dksX0_plansFrom_4 10 rfl rfl)
theorem dX0_plansFrom_106 : decode cX0_plansFrom 106 = .ok (.getfield 117, 3) := dk_180 0 117 (dk_at dksX0_plansFrom_4 11 rfl rfl)
theorem dX0_plansFrom_109 : decode cX0_plansFrom 109 = .ok (.iload_n 2, 1) := dk_28 (dk_at dksX0_plansFrom_4 14 rfl rfl)
theorem dX0_plansFrom_110 : decode cX0_plansFrom 110 = .ok (.iload 4, 2) := dk_21 4 (dk_at dksX0_plansFrom_4 15 rfl rfl)
theorem dX0_plansFrom_112 : decode cX0_plansFrom 112 = .ok (.iastore, 1) := dk_79 (dk_at dksX0_plansFrom_4 17 rfl rfl)
theorem dX0_plansFrom_113 : decode cX0_plansFrom 113 = .ok (.aload_n 0, 1) := dk_42 (dk_at dksX0_plansFrom_4 18 rfl rfl)
theorem dX0_plansFrom_114 : decode cX0_plansFrom 114 = .ok (.iload 4, 2) := dk_21 4 (dk_at dksX0_plansFrom_4 19 rfl rfl)
theorem dX0_plansFrom_116 : decode cX0_plansFrom 116 = .ok (.iconst 1, 1) := dk_4 (dk_at dksX0_plansFrom_4 21 rfl rfl)
theorem dX0_plansFrom_117 : decode cX0_plansFrom 117 = .ok (.isub, 1) := dk_100 (dk_at dksX0_plansFrom_4 22 rfl rfl)
theorem dX0_plansFrom_118 : decode cX0_plansFrom 118 = .ok (.invokevirtual 377, 3) := dk_182 1 121 (dk_at dksX0_plansFrom_5 0 rfl rfl)
theorem dX0_plansFrom_121 : decode cX0_plansFrom 121 = .ok (.istore 5, 2) := dk_54 5 (dk_at dksX0_plansFrom_5 3 rfl rfl)
theorem dX0_plansFrom_123 : decode cX0_plansFrom 123 = .ok (.aload_n 0, 1) := dk_42 (dk_at dksX0_plansFrom_5 5 rfl rfl)
theorem dX0_plansFrom_124 : decode cX0_plansFrom 124 = .ok (.iload_n 1, 1) := dk_27 (dk_at dksX0_plansFrom_5 6 rfl rfl)
theorem dX0_plansFrom_125 : decode cX0_plansFrom 125 = .ok (.iconst 1, 1) := dk_4 (dk_at dksX0_plansFrom_5 7 rfl rfl)
theorem dX0_plansFrom_126 : decode cX0_plansFrom 126 = .ok (.isub, 1) := dk_100 (dk_at dksX0_plansFrom_5 8 rfl rfl)
theorem dX0_plansFrom_127 : decode cX0_plansFrom 127 = .ok (.iload_n 2, 1) := dk_28 (dk_at dksX0_plansFrom_5 9 rfl rfl)
theorem dX0_plansFrom_128 : decode cX0_plansFrom 128 = .ok (.iconst 1, 1) := dk_4 (dk_at dksX0_plansFrom_5 10 rfl rfl)
theorem dX0_plansFrom_129 : decode cX0_plansFrom 129 = .ok (.iadd, 1) := dk_96 (dk_at dksX0_plansFrom_5 11 rfl rfl)
theorem dX0_plansFrom_130 : decode cX0_plansFrom 130 = .ok (.iload_n 3, 1) := dk_29 (dk_at dksX0_plansFrom_5 12 rfl rfl)
theorem dX0_plansFrom_131 : decode cX0_plansFrom 131 = .ok (.iload 5, 2) := dk_21 5 (dk_at dksX0_plansFrom_5 13 rfl rfl)
theorem dX0_plansFrom_133 : decode cX0_plansFrom 133 = .ok (.iadd, 1) := dk_96 (dk_at dksX0_plansFrom_5 15 rfl rfl)
theorem dX0_plansFrom_134 : decode cX0_plansFrom 134 = .ok (.invokevirtual 433, 3) := dk_182 1 177 (dk_at dksX0_plansFrom_5 16 rfl rfl)
theorem dX0_plansFrom_137 : decode cX0_plansFrom 137 = .ok (.aload_n 0, 1) := dk_42 (dk_at dksX0_plansFrom_5 19 rfl rfl)
theorem dX0_plansFrom_138 : decode cX0_plansFrom 138 = .ok (.iload_n 2, 1) := dk_28 (dk_at dksX0_plansFrom_5 20 rfl rfl)
theorem dX0_plansFrom_139 : decode cX0_plansFrom 139 = .ok (.invokevirtual 437, 3) := dk_182 1 181 (dk_at dksX0_plansFrom_5 21 rfl rfl)
theorem dX0_plansFrom_142 : decode cX0_plansFrom 142 = .ok (.iinc 4 1, 3) := dk_132 4 1 (dk_at dksX0_plansFrom_6 0 rfl rfl)
theorem dX0_plansFrom_145 : decode cX0_plansFrom 145 = .ok (.goto (-52), 3) := dk_167 255 204 (dk_at dksX0_plansFrom_6 3 rfl rfl)
theorem dX0_plansFrom_148 : decode cX0_plansFrom 148 = .ok (.return_, 1) := dk_177 (dk_at dksX0_plansFrom_6 6 rfl rfl)
abbrev cX0_goesBack : ByteArray := prog_1_method_47_code
def yX0_goesBack : MethodName := ⟨RX0, "goesBack", "(I)V"⟩
def dkwX0_goesBack_1 : List UInt8 := [180, 0, 47, 180, 0, 210, 3, 16, 10, 184, 1, 81, 177]
abbrev dktX0_goesBack_1 : List UInt8 := dkwX0_goesBack_1 ++ []
def dkwX0_goesBack_0 : List UInt8 := [42, 180, 0, 47, 89, 180, 0, 186, 4, 100, 181, 0, 186, 42, 180, 0, 111, 16, 10, 27, 104, 42]
abbrev dktX0_goesBack_0 : List UInt8 := dkwX0_goesBack_0 ++ dktX0_goesBack_1
theorem dksX0_goesBack_0 : cX0_goesBack.data.toList.drop 0 = dktX0_goesBack_0 := by decide +kernel
theorem dksX0_goesBack_1 : cX0_goesBack.data.toList.drop 22 = dktX0_goesBack_1 := dk_seg dksX0_goesBack_0 22 rfl rfl
theorem dX0_goesBack_0 : decode cX0_goesBack 0 = .ok (.aload_n 0, 1) := dk_42 (dk_at dksX0_goesBack_0 0 rfl rfl)
theorem dX0_goesBack_1 : decode cX0_goesBack 1 = .ok (.getfield 47, 3) := dk_180 0 47 (dk_at dksX0_goesBack_0 1 rfl rfl)
theorem dX0_goesBack_4 : decode cX0_goesBack 4 = .ok (.dup, 1) := dk_89 (dk_at dksX0_goesBack_0 4 rfl rfl)
theorem dX0_goesBack_5 : decode cX0_goesBack 5 = .ok (.getfield 186, 3) := dk_180 0 186 (dk_at dksX0_goesBack_0 5 rfl rfl)
theorem dX0_goesBack_8 : decode cX0_goesBack 8 = .ok (.iconst 1, 1) := dk_4 (dk_at dksX0_goesBack_0 8 rfl rfl)
theorem dX0_goesBack_9 : decode cX0_goesBack 9 = .ok (.isub, 1) := dk_100 (dk_at dksX0_goesBack_0 9 rfl rfl)
theorem dX0_goesBack_10 : decode cX0_goesBack 10 = .ok (.putfield 186, 3) := dk_181 0 186 (dk_at dksX0_goesBack_0 10 rfl rfl)
theorem dX0_goesBack_13 : decode cX0_goesBack 13 = .ok (.aload_n 0, 1) := dk_42 (dk_at dksX0_goesBack_0 13 rfl rfl)
theorem dX0_goesBack_14 : decode cX0_goesBack 14 = .ok (.getfield 111, 3) := dk_180 0 111 (dk_at dksX0_goesBack_0 14 rfl rfl)
theorem dX0_goesBack_17 : decode cX0_goesBack 17 = .ok (.bipush 10, 2) := dk_16 10 (dk_at dksX0_goesBack_0 17 rfl rfl)
theorem dX0_goesBack_19 : decode cX0_goesBack 19 = .ok (.iload_n 1, 1) := dk_27 (dk_at dksX0_goesBack_0 19 rfl rfl)
theorem dX0_goesBack_20 : decode cX0_goesBack 20 = .ok (.imul, 1) := dk_104 (dk_at dksX0_goesBack_0 20 rfl rfl)
theorem dX0_goesBack_21 : decode cX0_goesBack 21 = .ok (.aload_n 0, 1) := dk_42 (dk_at dksX0_goesBack_0 21 rfl rfl)
theorem dX0_goesBack_22 : decode cX0_goesBack 22 = .ok (.getfield 47, 3) := dk_180 0 47 (dk_at dksX0_goesBack_1 0 rfl rfl)
theorem dX0_goesBack_25 : decode cX0_goesBack 25 = .ok (.getfield 210, 3) := dk_180 0 210 (dk_at dksX0_goesBack_1 3 rfl rfl)
theorem dX0_goesBack_28 : decode cX0_goesBack 28 = .ok (.iconst 0, 1) := dk_3 (dk_at dksX0_goesBack_1 6 rfl rfl)
theorem dX0_goesBack_29 : decode cX0_goesBack 29 = .ok (.bipush 10, 2) := dk_16 10 (dk_at dksX0_goesBack_1 7 rfl rfl)
theorem dX0_goesBack_31 : decode cX0_goesBack 31 = .ok (.invokestatic 337, 3) := dk_184 1 81 (dk_at dksX0_goesBack_1 9 rfl rfl)
theorem dX0_goesBack_34 : decode cX0_goesBack 34 = .ok (.return_, 1) := dk_177 (dk_at dksX0_goesBack_1 12 rfl rfl)
abbrev cX0_ith : ByteArray := prog_1_method_74_code
def yX0_ith : MethodName := ⟨RX0, "ith", "(II)I"⟩
def dkwX0_ith_1 : List UInt8 := [182, 1, 184, 28, 42, 180, 1, 174, 162, 0, 12, 42, 180, 0, 120, 28, 46, 167, 0, 5, 16, 253, 172]
abbrev dktX0_ith_1 : List UInt8 := dkwX0_ith_1 ++ []
def dkwX0_ith_0 : List UInt8 := [27, 3, 7, 184, 0, 150, 153, 0, 12, 28, 3, 6, 184, 0, 150, 154, 0, 5, 2, 172, 42, 27]
abbrev dktX0_ith_0 : List UInt8 := dkwX0_ith_0 ++ dktX0_ith_1
theorem dksX0_ith_0 : cX0_ith.data.toList.drop 0 = dktX0_ith_0 := by decide +kernel
theorem dksX0_ith_1 : cX0_ith.data.toList.drop 22 = dktX0_ith_1 := dk_seg dksX0_ith_0 22 rfl rfl
theorem dX0_ith_0 : decode cX0_ith 0 = .ok (.iload_n 1, 1) := dk_27 (dk_at dksX0_ith_0 0 rfl rfl)
theorem dX0_ith_1 : decode cX0_ith 1 = .ok (.iconst 0, 1) := dk_3 (dk_at dksX0_ith_0 1 rfl rfl)
theorem dX0_ith_2 : decode cX0_ith 2 = .ok (.iconst 4, 1) := dk_7 (dk_at dksX0_ith_0 2 rfl rfl)
theorem dX0_ith_3 : decode cX0_ith 3 = .ok (.invokestatic 150, 3) := dk_184 0 150 (dk_at dksX0_ith_0 3 rfl rfl)
theorem dX0_ith_6 : decode cX0_ith 6 = .ok (.ifCond .eq 12, 3) := dk_153 0 12 (dk_at dksX0_ith_0 6 rfl rfl)
theorem dX0_ith_9 : decode cX0_ith 9 = .ok (.iload_n 2, 1) := dk_28 (dk_at dksX0_ith_0 9 rfl rfl)
theorem dX0_ith_10 : decode cX0_ith 10 = .ok (.iconst 0, 1) := dk_3 (dk_at dksX0_ith_0 10 rfl rfl)
theorem dX0_ith_11 : decode cX0_ith 11 = .ok (.iconst 3, 1) := dk_6 (dk_at dksX0_ith_0 11 rfl rfl)
theorem dX0_ith_12 : decode cX0_ith 12 = .ok (.invokestatic 150, 3) := dk_184 0 150 (dk_at dksX0_ith_0 12 rfl rfl)
theorem dX0_ith_15 : decode cX0_ith 15 = .ok (.ifCond .ne 5, 3) := dk_154 0 5 (dk_at dksX0_ith_0 15 rfl rfl)
theorem dX0_ith_18 : decode cX0_ith 18 = .ok (.iconst (-1), 1) := dk_2 (dk_at dksX0_ith_0 18 rfl rfl)
theorem dX0_ith_19 : decode cX0_ith 19 = .ok (.ireturn, 1) := dk_172 (dk_at dksX0_ith_0 19 rfl rfl)
theorem dX0_ith_20 : decode cX0_ith 20 = .ok (.aload_n 0, 1) := dk_42 (dk_at dksX0_ith_0 20 rfl rfl)
theorem dX0_ith_21 : decode cX0_ith 21 = .ok (.iload_n 1, 1) := dk_27 (dk_at dksX0_ith_0 21 rfl rfl)
theorem dX0_ith_22 : decode cX0_ith 22 = .ok (.invokevirtual 440, 3) := dk_182 1 184 (dk_at dksX0_ith_1 0 rfl rfl)
theorem dX0_ith_25 : decode cX0_ith 25 = .ok (.iload_n 2, 1) := dk_28 (dk_at dksX0_ith_1 3 rfl rfl)
theorem dX0_ith_26 : decode cX0_ith 26 = .ok (.aload_n 0, 1) := dk_42 (dk_at dksX0_ith_1 4 rfl rfl)
theorem dX0_ith_27 : decode cX0_ith 27 = .ok (.getfield 430, 3) := dk_180 1 174 (dk_at dksX0_ith_1 5 rfl rfl)
theorem dX0_ith_30 : decode cX0_ith 30 = .ok (.if_icmp .ge 12, 3) := dk_162 0 12 (dk_at dksX0_ith_1 8 rfl rfl)
theorem dX0_ith_33 : decode cX0_ith 33 = .ok (.aload_n 0, 1) := dk_42 (dk_at dksX0_ith_1 11 rfl rfl)
theorem dX0_ith_34 : decode cX0_ith 34 = .ok (.getfield 120, 3) := dk_180 0 120 (dk_at dksX0_ith_1 12 rfl rfl)
theorem dX0_ith_37 : decode cX0_ith 37 = .ok (.iload_n 2, 1) := dk_28 (dk_at dksX0_ith_1 15 rfl rfl)
theorem dX0_ith_38 : decode cX0_ith 38 = .ok (.iaload, 1) := dk_46 (dk_at dksX0_ith_1 16 rfl rfl)
theorem dX0_ith_39 : decode cX0_ith 39 = .ok (.goto 5, 3) := dk_167 0 5 (dk_at dksX0_ith_1 17 rfl rfl)
theorem dX0_ith_42 : decode cX0_ith 42 = .ok (.bipush (-3), 2) := dk_16 253 (dk_at dksX0_ith_1 20 rfl rfl)
theorem dX0_ith_44 : decode cX0_ith 44 = .ok (.ireturn, 1) := dk_172 (dk_at dksX0_ith_1 22 rfl rfl)
abbrev cX0_ways : ByteArray := prog_1_method_75_code
def yX0_ways : MethodName := ⟨RX0, "ways", "(I)I"⟩
def dkwX0_ways_0 : List UInt8 := [27, 3, 7, 184, 0, 150, 154, 0, 5, 2, 172, 42, 27, 182, 1, 184, 42, 180, 1, 171, 172]
abbrev dktX0_ways_0 : List UInt8 := dkwX0_ways_0 ++ []
theorem dksX0_ways_0 : cX0_ways.data.toList.drop 0 = dktX0_ways_0 := by decide +kernel
theorem dX0_ways_0 : decode cX0_ways 0 = .ok (.iload_n 1, 1) := dk_27 (dk_at dksX0_ways_0 0 rfl rfl)
theorem dX0_ways_1 : decode cX0_ways 1 = .ok (.iconst 0, 1) := dk_3 (dk_at dksX0_ways_0 1 rfl rfl)
theorem dX0_ways_2 : decode cX0_ways 2 = .ok (.iconst 4, 1) := dk_7 (dk_at dksX0_ways_0 2 rfl rfl)
theorem dX0_ways_3 : decode cX0_ways 3 = .ok (.invokestatic 150, 3) := dk_184 0 150 (dk_at dksX0_ways_0 3 rfl rfl)
theorem dX0_ways_6 : decode cX0_ways 6 = .ok (.ifCond .ne 5, 3) := dk_154 0 5 (dk_at dksX0_ways_0 6 rfl rfl)
theorem dX0_ways_9 : decode cX0_ways 9 = .ok (.iconst (-1), 1) := dk_2 (dk_at dksX0_ways_0 9 rfl rfl)
theorem dX0_ways_10 : decode cX0_ways 10 = .ok (.ireturn, 1) := dk_172 (dk_at dksX0_ways_0 10 rfl rfl)
theorem dX0_ways_11 : decode cX0_ways 11 = .ok (.aload_n 0, 1) := dk_42 (dk_at dksX0_ways_0 11 rfl rfl)
theorem dX0_ways_12 : decode cX0_ways 12 = .ok (.iload_n 1, 1) := dk_27 (dk_at dksX0_ways_0 12 rfl rfl)
theorem dX0_ways_13 : decode cX0_ways 13 = .ok (.invokevirtual 440, 3) := dk_182 1 184 (dk_at dksX0_ways_0 13 rfl rfl)
theorem dX0_ways_16 : decode cX0_ways 16 = .ok (.aload_n 0, 1) := dk_42 (dk_at dksX0_ways_0 16 rfl rfl)
theorem dX0_ways_17 : decode cX0_ways 17 = .ok (.getfield 427, 3) := dk_180 1 171 (dk_at dksX0_ways_0 17 rfl rfl)
theorem dX0_ways_20 : decode cX0_ways 20 = .ok (.ireturn, 1) := dk_172 (dk_at dksX0_ways_0 20 rfl rfl)
abbrev cX0_life : ByteArray := prog_1_method_79_code
def yX0_life : MethodName := ⟨RX0, "life", "(II)I"⟩
def dkwX0_life_1 : List UInt8 := [163, 0, 10, 42, 180, 1, 193, 167, 0, 5, 16, 253, 172]
abbrev dktX0_life_1 : List UInt8 := dkwX0_life_1 ++ []
def dkwX0_life_0 : List UInt8 := [42, 27, 28, 182, 1, 202, 154, 0, 5, 2, 172, 42, 27, 28, 182, 1, 205, 42, 180, 1, 193, 7]
abbrev dktX0_life_0 : List UInt8 := dkwX0_life_0 ++ dktX0_life_1
theorem dksX0_life_0 : cX0_life.data.toList.drop 0 = dktX0_life_0 := by decide +kernel
theorem dksX0_life_1 : cX0_life.data.toList.drop 22 = dktX0_life_1 := dk_seg dksX0_life_0 22 rfl rfl
theorem dX0_life_0 : decode cX0_life 0 = .ok (.aload_n 0, 1) := dk_42 (dk_at dksX0_life_0 0 rfl rfl)
theorem dX0_life_1 : decode cX0_life 1 = .ok (.iload_n 1, 1) := dk_27 (dk_at dksX0_life_0 1 rfl rfl)
theorem dX0_life_2 : decode cX0_life 2 = .ok (.iload_n 2, 1) := dk_28 (dk_at dksX0_life_0 2 rfl rfl)
theorem dX0_life_3 : decode cX0_life 3 = .ok (.invokevirtual 458, 3) := dk_182 1 202 (dk_at dksX0_life_0 3 rfl rfl)
theorem dX0_life_6 : decode cX0_life 6 = .ok (.ifCond .ne 5, 3) := dk_154 0 5 (dk_at dksX0_life_0 6 rfl rfl)
theorem dX0_life_9 : decode cX0_life 9 = .ok (.iconst (-1), 1) := dk_2 (dk_at dksX0_life_0 9 rfl rfl)
theorem dX0_life_10 : decode cX0_life 10 = .ok (.ireturn, 1) := dk_172 (dk_at dksX0_life_0 10 rfl rfl)
theorem dX0_life_11 : decode cX0_life 11 = .ok (.aload_n 0, 1) := dk_42 (dk_at dksX0_life_0 11 rfl rfl)
theorem dX0_life_12 : decode cX0_life 12 = .ok (.iload_n 1, 1) := dk_27 (dk_at dksX0_life_0 12 rfl rfl)
theorem dX0_life_13 : decode cX0_life 13 = .ok (.iload_n 2, 1) := dk_28 (dk_at dksX0_life_0 13 rfl rfl)
theorem dX0_life_14 : decode cX0_life 14 = .ok (.invokevirtual 461, 3) := dk_182 1 205 (dk_at dksX0_life_0 14 rfl rfl)
theorem dX0_life_17 : decode cX0_life 17 = .ok (.aload_n 0, 1) := dk_42 (dk_at dksX0_life_0 17 rfl rfl)
theorem dX0_life_18 : decode cX0_life 18 = .ok (.getfield 449, 3) := dk_180 1 193 (dk_at dksX0_life_0 18 rfl rfl)
theorem dX0_life_21 : decode cX0_life 21 = .ok (.iconst 4, 1) := dk_7 (dk_at dksX0_life_0 21 rfl rfl)
theorem dX0_life_22 : decode cX0_life 22 = .ok (.if_icmp .gt 10, 3) := dk_163 0 10 (dk_at dksX0_life_1 0 rfl rfl)
theorem dX0_life_25 : decode cX0_life 25 = .ok (.aload_n 0, 1) := dk_42 (dk_at dksX0_life_1 3 rfl rfl)
theorem dX0_life_26 : decode cX0_life 26 = .ok (.getfield 449, 3) := dk_180 1 193 (dk_at dksX0_life_1 4 rfl rfl)
theorem dX0_life_29 : decode cX0_life 29 = .ok (.goto 5, 3) := dk_167 0 5 (dk_at dksX0_life_1 7 rfl rfl)
theorem dX0_life_32 : decode cX0_life 32 = .ok (.bipush (-3), 2) := dk_16 253 (dk_at dksX0_life_1 10 rfl rfl)
theorem dX0_life_34 : decode cX0_life 34 = .ok (.ireturn, 1) := dk_172 (dk_at dksX0_life_1 12 rfl rfl)
abbrev cX0_isAsked : ByteArray := prog_1_method_77_code
def yX0_isAsked : MethodName := ⟨RX0, "isAsked", "(II)Z"⟩
def dkwX0_isAsked_1 : List UInt8 := [184, 0, 150, 153, 0, 7, 4, 167, 0, 4, 3, 172]
abbrev dktX0_isAsked_1 : List UInt8 := dkwX0_isAsked_1 ++ []
def dkwX0_isAsked_0 : List UInt8 := [27, 3, 7, 184, 0, 150, 153, 0, 26, 28, 3, 4, 42, 180, 0, 47, 180, 0, 154, 120, 4, 100]
abbrev dktX0_isAsked_0 : List UInt8 := dkwX0_isAsked_0 ++ dktX0_isAsked_1
theorem dksX0_isAsked_0 : cX0_isAsked.data.toList.drop 0 = dktX0_isAsked_0 := by decide +kernel
theorem dksX0_isAsked_1 : cX0_isAsked.data.toList.drop 22 = dktX0_isAsked_1 := dk_seg dksX0_isAsked_0 22 rfl rfl
theorem dX0_isAsked_0 : decode cX0_isAsked 0 = .ok (.iload_n 1, 1) := dk_27 (dk_at dksX0_isAsked_0 0 rfl rfl)
theorem dX0_isAsked_1 : decode cX0_isAsked 1 = .ok (.iconst 0, 1) := dk_3 (dk_at dksX0_isAsked_0 1 rfl rfl)
theorem dX0_isAsked_2 : decode cX0_isAsked 2 = .ok (.iconst 4, 1) := dk_7 (dk_at dksX0_isAsked_0 2 rfl rfl)
theorem dX0_isAsked_3 : decode cX0_isAsked 3 = .ok (.invokestatic 150, 3) := dk_184 0 150 (dk_at dksX0_isAsked_0 3 rfl rfl)
theorem dX0_isAsked_6 : decode cX0_isAsked 6 = .ok (.ifCond .eq 26, 3) := dk_153 0 26 (dk_at dksX0_isAsked_0 6 rfl rfl)
theorem dX0_isAsked_9 : decode cX0_isAsked 9 = .ok (.iload_n 2, 1) := dk_28 (dk_at dksX0_isAsked_0 9 rfl rfl)
theorem dX0_isAsked_10 : decode cX0_isAsked 10 = .ok (.iconst 0, 1) := dk_3 (dk_at dksX0_isAsked_0 10 rfl rfl)
theorem dX0_isAsked_11 : decode cX0_isAsked 11 = .ok (.iconst 1, 1) := dk_4 (dk_at dksX0_isAsked_0 11 rfl rfl)
theorem dX0_isAsked_12 : decode cX0_isAsked 12 = .ok (.aload_n 0, 1) := dk_42 (dk_at dksX0_isAsked_0 12 rfl rfl)
theorem dX0_isAsked_13 : decode cX0_isAsked 13 = .ok (.getfield 47, 3) := dk_180 0 47 (dk_at dksX0_isAsked_0 13 rfl rfl)
theorem dX0_isAsked_16 : decode cX0_isAsked 16 = .ok (.getfield 154, 3) := dk_180 0 154 (dk_at dksX0_isAsked_0 16 rfl rfl)
theorem dX0_isAsked_19 : decode cX0_isAsked 19 = .ok (.ishl, 1) := dk_120 (dk_at dksX0_isAsked_0 19 rfl rfl)
theorem dX0_isAsked_20 : decode cX0_isAsked 20 = .ok (.iconst 1, 1) := dk_4 (dk_at dksX0_isAsked_0 20 rfl rfl)
theorem dX0_isAsked_21 : decode cX0_isAsked 21 = .ok (.isub, 1) := dk_100 (dk_at dksX0_isAsked_0 21 rfl rfl)
theorem dX0_isAsked_22 : decode cX0_isAsked 22 = .ok (.invokestatic 150, 3) := dk_184 0 150 (dk_at dksX0_isAsked_1 0 rfl rfl)
theorem dX0_isAsked_25 : decode cX0_isAsked 25 = .ok (.ifCond .eq 7, 3) := dk_153 0 7 (dk_at dksX0_isAsked_1 3 rfl rfl)
theorem dX0_isAsked_28 : decode cX0_isAsked 28 = .ok (.iconst 1, 1) := dk_4 (dk_at dksX0_isAsked_1 6 rfl rfl)
theorem dX0_isAsked_29 : decode cX0_isAsked 29 = .ok (.goto 4, 3) := dk_167 0 4 (dk_at dksX0_isAsked_1 7 rfl rfl)
theorem dX0_isAsked_32 : decode cX0_isAsked 32 = .ok (.iconst 0, 1) := dk_3 (dk_at dksX0_isAsked_1 10 rfl rfl)
theorem dX0_isAsked_33 : decode cX0_isAsked 33 = .ok (.ireturn, 1) := dk_172 (dk_at dksX0_isAsked_1 11 rfl rfl)
abbrev cX0_findLives : ByteArray := prog_1_method_78_code
def yX0_findLives : MethodName := ⟨RX0, "findLives", "(II)V"⟩
def dkwX0_findLives_0 : List UInt8 := [42, 28, 181, 1, 190, 42, 8, 181, 1, 193, 42, 3, 181, 1, 187, 42, 27, 3, 3, 182, 1, 199, 177]
abbrev dktX0_findLives_0 : List UInt8 := dkwX0_findLives_0 ++ []
theorem dksX0_findLives_0 : cX0_findLives.data.toList.drop 0 = dktX0_findLives_0 := by decide +kernel
theorem dX0_findLives_0 : decode cX0_findLives 0 = .ok (.aload_n 0, 1) := dk_42 (dk_at dksX0_findLives_0 0 rfl rfl)
theorem dX0_findLives_1 : decode cX0_findLives 1 = .ok (.iload_n 2, 1) := dk_28 (dk_at dksX0_findLives_0 1 rfl rfl)
theorem dX0_findLives_2 : decode cX0_findLives 2 = .ok (.putfield 446, 3) := dk_181 1 190 (dk_at dksX0_findLives_0 2 rfl rfl)
theorem dX0_findLives_5 : decode cX0_findLives 5 = .ok (.aload_n 0, 1) := dk_42 (dk_at dksX0_findLives_0 5 rfl rfl)
theorem dX0_findLives_6 : decode cX0_findLives 6 = .ok (.iconst 5, 1) := dk_8 (dk_at dksX0_findLives_0 6 rfl rfl)
theorem dX0_findLives_7 : decode cX0_findLives 7 = .ok (.putfield 449, 3) := dk_181 1 193 (dk_at dksX0_findLives_0 7 rfl rfl)
theorem dX0_findLives_10 : decode cX0_findLives 10 = .ok (.aload_n 0, 1) := dk_42 (dk_at dksX0_findLives_0 10 rfl rfl)
theorem dX0_findLives_11 : decode cX0_findLives 11 = .ok (.iconst 0, 1) := dk_3 (dk_at dksX0_findLives_0 11 rfl rfl)
theorem dX0_findLives_12 : decode cX0_findLives 12 = .ok (.putfield 443, 3) := dk_181 1 187 (dk_at dksX0_findLives_0 12 rfl rfl)
theorem dX0_findLives_15 : decode cX0_findLives 15 = .ok (.aload_n 0, 1) := dk_42 (dk_at dksX0_findLives_0 15 rfl rfl)
theorem dX0_findLives_16 : decode cX0_findLives 16 = .ok (.iload_n 1, 1) := dk_27 (dk_at dksX0_findLives_0 16 rfl rfl)
theorem dX0_findLives_17 : decode cX0_findLives 17 = .ok (.iconst 0, 1) := dk_3 (dk_at dksX0_findLives_0 17 rfl rfl)
theorem dX0_findLives_18 : decode cX0_findLives 18 = .ok (.iconst 0, 1) := dk_3 (dk_at dksX0_findLives_0 18 rfl rfl)
theorem dX0_findLives_19 : decode cX0_findLives 19 = .ok (.invokevirtual 455, 3) := dk_182 1 199 (dk_at dksX0_findLives_0 19 rfl rfl)
theorem dX0_findLives_22 : decode cX0_findLives 22 = .ok (.return_, 1) := dk_177 (dk_at dksX0_findLives_0 22 rfl rfl)
abbrev cX0_livesFrom : ByteArray := prog_1_method_76_code
def yX0_livesFrom : MethodName := ⟨RX0, "livesFrom", "(III)V"⟩
def dkwX0_livesFrom_5 : List UInt8 := [182, 1, 199, 42, 28, 182, 1, 181, 132, 4, 1, 167, 255, 199, 177]
abbrev dktX0_livesFrom_5 : List UInt8 := dkwX0_livesFrom_5 ++ []
def dkwX0_livesFrom_4 : List UInt8 := [42, 27, 4, 100, 28, 4, 96, 21, 5, 155, 0, 8, 21, 4, 154, 0, 7, 29, 167, 0, 6, 29, 4, 96]
abbrev dktX0_livesFrom_4 : List UInt8 := dkwX0_livesFrom_4 ++ dktX0_livesFrom_5
def dkwX0_livesFrom_3 : List UInt8 := [54, 4, 21, 4, 42, 180, 0, 47, 180, 0, 146, 163, 0, 51, 42, 21, 4, 4, 100, 182, 1, 121, 54, 5]
abbrev dktX0_livesFrom_3 : List UInt8 := dkwX0_livesFrom_3 ++ dktX0_livesFrom_4
def dkwX0_livesFrom_2 : List UInt8 := [180, 1, 193, 29, 184, 1, 196, 167, 0, 7, 42, 180, 1, 193, 181, 1, 193, 177, 42, 28, 182, 1, 140, 3]
abbrev dktX0_livesFrom_2 : List UInt8 := dkwX0_livesFrom_2 ++ dktX0_livesFrom_3
def dkwX0_livesFrom_1 : List UInt8 := [180, 1, 187, 21, 4, 128, 181, 1, 187, 42, 42, 180, 1, 190, 21, 4, 2, 130, 126, 154, 0, 14, 42]
abbrev dktX0_livesFrom_1 : List UInt8 := dkwX0_livesFrom_1 ++ dktX0_livesFrom_2
def dkwX0_livesFrom_0 : List UInt8 := [27, 153, 0, 13, 42, 180, 0, 47, 182, 0, 226, 153, 0, 53, 42, 4, 182, 1, 127, 54, 4, 42, 89]
abbrev dktX0_livesFrom_0 : List UInt8 := dkwX0_livesFrom_0 ++ dktX0_livesFrom_1
theorem dksX0_livesFrom_0 : cX0_livesFrom.data.toList.drop 0 = dktX0_livesFrom_0 := by decide +kernel
theorem dksX0_livesFrom_1 : cX0_livesFrom.data.toList.drop 23 = dktX0_livesFrom_1 := dk_seg dksX0_livesFrom_0 23 rfl rfl
theorem dksX0_livesFrom_2 : cX0_livesFrom.data.toList.drop 46 = dktX0_livesFrom_2 := dk_seg dksX0_livesFrom_1 23 rfl rfl
theorem dksX0_livesFrom_3 : cX0_livesFrom.data.toList.drop 70 = dktX0_livesFrom_3 := dk_seg dksX0_livesFrom_2 24 rfl rfl
theorem dksX0_livesFrom_4 : cX0_livesFrom.data.toList.drop 94 = dktX0_livesFrom_4 := dk_seg dksX0_livesFrom_3 24 rfl rfl
theorem dksX0_livesFrom_5 : cX0_livesFrom.data.toList.drop 118 = dktX0_livesFrom_5 := dk_seg dksX0_livesFrom_4 24 rfl rfl
theorem dX0_livesFrom_0 : decode cX0_livesFrom 0 = .ok (.iload_n 1, 1) := dk_27 (dk_at dksX0_livesFrom_0 0 rfl rfl)
theorem dX0_livesFrom_1 : decode cX0_livesFrom 1 = .ok (.ifCond .eq 13, 3) := dk_153 0 13 (dk_at dksX0_livesFrom_0 1 rfl rfl)
theorem dX0_livesFrom_4 : decode cX0_livesFrom 4 = .ok (.aload_n 0, 1) := dk_42 (dk_at dksX0_livesFrom_0 4 rfl rfl)
theorem dX0_livesFrom_5 : decode cX0_livesFrom 5 = .ok (.getfield 47, 3) := dk_180 0 47 (dk_at dksX0_livesFrom_0 5 rfl rfl)
theorem dX0_livesFrom_8 : decode cX0_livesFrom 8 = .ok (.invokevirtual 226, 3) := dk_182 0 226 (dk_at dksX0_livesFrom_0 8 rfl rfl)
theorem dX0_livesFrom_11 : decode cX0_livesFrom 11 = .ok (.ifCond .eq 53, 3) := dk_153 0 53 (dk_at dksX0_livesFrom_0 11 rfl rfl)
theorem dX0_livesFrom_14 : decode cX0_livesFrom 14 = .ok (.aload_n 0, 1) := dk_42 (dk_at dksX0_livesFrom_0 14 rfl rfl)
theorem dX0_livesFrom_15 : decode cX0_livesFrom 15 = .ok (.iconst 1, 1) := dk_4 (dk_at dksX0_livesFrom_0 15 rfl rfl)
theorem dX0_livesFrom_16 : decode cX0_livesFrom 16 = .ok (.invokevirtual 383, 3) := dk_182 1 127 (dk_at dksX0_livesFrom_0 16 rfl rfl)
theorem dX0_livesFrom_19 : decode cX0_livesFrom 19 = .ok (.istore 4, 2) := dk_54 4 (dk_at dksX0_livesFrom_0 19 rfl rfl)
theorem dX0_livesFrom_21 : decode cX0_livesFrom 21 = .ok (.aload_n 0, 1) := dk_42 (dk_at dksX0_livesFrom_0 21 rfl rfl)
theorem dX0_livesFrom_22 : decode cX0_livesFrom 22 = .ok (.dup, 1) := dk_89 (dk_at dksX0_livesFrom_0 22 rfl rfl)
theorem dX0_livesFrom_23 : decode cX0_livesFrom 23 = .ok (.getfield 443, 3) := dk_180 1 187 (dk_at dksX0_livesFrom_1 0 rfl rfl)
theorem dX0_livesFrom_26 : decode cX0_livesFrom 26 = .ok (.iload 4, 2) := dk_21 4 (dk_at dksX0_livesFrom_1 3 rfl rfl)
theorem dX0_livesFrom_28 : decode cX0_livesFrom 28 = .ok (.ior, 1) := dk_128 (dk_at dksX0_livesFrom_1 5 rfl rfl)
theorem dX0_livesFrom_29 : decode cX0_livesFrom 29 = .ok (.putfield 443, 3) := dk_181 1 187 (dk_at dksX0_livesFrom_1 6 rfl rfl)
theorem dX0_livesFrom_32 : decode cX0_livesFrom 32 = .ok (.aload_n 0, 1) := dk_42 (dk_at dksX0_livesFrom_1 9 rfl rfl)
theorem dX0_livesFrom_33 : decode cX0_livesFrom 33 = .ok (.aload_n 0, 1) := dk_42 (dk_at dksX0_livesFrom_1 10 rfl rfl)
theorem dX0_livesFrom_34 : decode cX0_livesFrom 34 = .ok (.getfield 446, 3) := dk_180 1 190 (dk_at dksX0_livesFrom_1 11 rfl rfl)
theorem dX0_livesFrom_37 : decode cX0_livesFrom 37 = .ok (.iload 4, 2) := dk_21 4 (dk_at dksX0_livesFrom_1 14 rfl rfl)
theorem dX0_livesFrom_39 : decode cX0_livesFrom 39 = .ok (.iconst (-1), 1) := dk_2 (dk_at dksX0_livesFrom_1 16 rfl rfl)
theorem dX0_livesFrom_40 : decode cX0_livesFrom 40 = .ok (.ixor, 1) := dk_130 (dk_at dksX0_livesFrom_1 17 rfl rfl)
theorem dX0_livesFrom_41 : decode cX0_livesFrom 41 = .ok (.iand, 1) := dk_126 (dk_at dksX0_livesFrom_1 18 rfl rfl)
theorem dX0_livesFrom_42 : decode cX0_livesFrom 42 = .ok (.ifCond .ne 14, 3) := dk_154 0 14 (dk_at dksX0_livesFrom_1 19 rfl rfl)
theorem dX0_livesFrom_45 : decode cX0_livesFrom 45 = .ok (.aload_n 0, 1) := dk_42 (dk_at dksX0_livesFrom_1 22 rfl rfl)
theorem dX0_livesFrom_46 : decode cX0_livesFrom 46 = .ok (.getfield 449, 3) := dk_180 1 193 (dk_at dksX0_livesFrom_2 0 rfl rfl)
theorem dX0_livesFrom_49 : decode cX0_livesFrom 49 = .ok (.iload_n 3, 1) := dk_29 (dk_at dksX0_livesFrom_2 3 rfl rfl)
theorem dX0_livesFrom_50 : decode cX0_livesFrom 50 = .ok (.invokestatic 452, 3) := dk_184 1 196 (dk_at dksX0_livesFrom_2 4 rfl rfl)
theorem dX0_livesFrom_53 : decode cX0_livesFrom 53 = .ok (.goto 7, 3) := dk_167 0 7 (dk_at dksX0_livesFrom_2 7 rfl rfl)
theorem dX0_livesFrom_56 : decode cX0_livesFrom 56 = .ok (.aload_n 0, 1) := dk_42 (dk_at dksX0_livesFrom_2 10 rfl rfl)
theorem dX0_livesFrom_57 : decode cX0_livesFrom 57 = .ok (.getfield 449, 3) := dk_180 1 193 (dk_at dksX0_livesFrom_2 11 rfl rfl)
theorem dX0_livesFrom_60 : decode cX0_livesFrom 60 = .ok (.putfield 449, 3) := dk_181 1 193 (dk_at dksX0_livesFrom_2 14 rfl rfl)
theorem dX0_livesFrom_63 : decode cX0_livesFrom 63 = .ok (.return_, 1) := dk_177 (dk_at dksX0_livesFrom_2 17 rfl rfl)
theorem dX0_livesFrom_64 : decode cX0_livesFrom 64 = .ok (.aload_n 0, 1) := dk_42 (dk_at dksX0_livesFrom_2 18 rfl rfl)
theorem dX0_livesFrom_65 : decode cX0_livesFrom 65 = .ok (.iload_n 2, 1) := dk_28 (dk_at dksX0_livesFrom_2 19 rfl rfl)
theorem dX0_livesFrom_66 : decode cX0_livesFrom 66 = .ok (.invokevirtual 396, 3) := dk_182 1 140 (dk_at dksX0_livesFrom_2 20 rfl rfl)
theorem dX0_livesFrom_69 : decode cX0_livesFrom 69 = .ok (.iconst 0, 1) := dk_3 (dk_at dksX0_livesFrom_2 23 rfl rfl)
theorem dX0_livesFrom_70 : decode cX0_livesFrom 70 = .ok (.istore 4, 2) := dk_54 4 (dk_at dksX0_livesFrom_3 0 rfl rfl)
theorem dX0_livesFrom_72 : decode cX0_livesFrom 72 = .ok (.iload 4, 2) := dk_21 4 (dk_at dksX0_livesFrom_3 2 rfl rfl)
theorem dX0_livesFrom_74 : decode cX0_livesFrom 74 = .ok (.aload_n 0, 1) := dk_42 (dk_at dksX0_livesFrom_3 4 rfl rfl)
theorem dX0_livesFrom_75 : decode cX0_livesFrom 75 = .ok (.getfield 47, 3) := dk_180 0 47 (dk_at dksX0_livesFrom_3 5 rfl rfl)
theorem dX0_livesFrom_78 : decode cX0_livesFrom 78 = .ok (.getfield 146, 3) := dk_180 0 146 (dk_at dksX0_livesFrom_3 8 rfl rfl)
theorem dX0_livesFrom_81 : decode cX0_livesFrom 81 = .ok (.if_icmp .gt 51, 3) := dk_163 0 51 (dk_at dksX0_livesFrom_3 11 rfl rfl)
theorem dX0_livesFrom_84 : decode cX0_livesFrom 84 = .ok (.aload_n 0, 1) := dk_42 (dk_at dksX0_livesFrom_3 14 rfl rfl)
theorem dX0_livesFrom_85 : decode cX0_livesFrom 85 = .ok (.iload 4, 2) := dk_21 4 (dk_at dksX0_livesFrom_3 15 rfl rfl)
theorem dX0_livesFrom_87 : decode cX0_livesFrom 87 = .ok (.iconst 1, 1) := dk_4 (dk_at dksX0_livesFrom_3 17 rfl rfl)
theorem dX0_livesFrom_88 : decode cX0_livesFrom 88 = .ok (.isub, 1) := dk_100 (dk_at dksX0_livesFrom_3 18 rfl rfl)
theorem dX0_livesFrom_89 : decode cX0_livesFrom 89 = .ok (.invokevirtual 377, 3) := dk_182 1 121 (dk_at dksX0_livesFrom_3 19 rfl rfl)
theorem dX0_livesFrom_92 : decode cX0_livesFrom 92 = .ok (.istore 5, 2) := dk_54 5 (dk_at dksX0_livesFrom_3 22 rfl rfl)
theorem dX0_livesFrom_94 : decode cX0_livesFrom 94 = .ok (.aload_n 0, 1) := dk_42 (dk_at dksX0_livesFrom_4 0 rfl rfl)
theorem dX0_livesFrom_95 : decode cX0_livesFrom 95 = .ok (.iload_n 1, 1) := dk_27 (dk_at dksX0_livesFrom_4 1 rfl rfl)
theorem dX0_livesFrom_96 : decode cX0_livesFrom 96 = .ok (.iconst 1, 1) := dk_4 (dk_at dksX0_livesFrom_4 2 rfl rfl)
theorem dX0_livesFrom_97 : decode cX0_livesFrom 97 = .ok (.isub, 1) := dk_100 (dk_at dksX0_livesFrom_4 3 rfl rfl)
theorem dX0_livesFrom_98 : decode cX0_livesFrom 98 = .ok (.iload_n 2, 1) := dk_28 (dk_at dksX0_livesFrom_4 4 rfl rfl)
theorem dX0_livesFrom_99 : decode cX0_livesFrom 99 = .ok (.iconst 1, 1) := dk_4 (dk_at dksX0_livesFrom_4 5 rfl rfl)
theorem dX0_livesFrom_100 : decode cX0_livesFrom 100 = .ok (.iadd, 1) := dk_96 (dk_at dksX0_livesFrom_4 6 rfl rfl)
theorem dX0_livesFrom_101 : decode cX0_livesFrom 101 = .ok (.iload 5, 2) := dk_21 5 (dk_at dksX0_livesFrom_4 7 rfl rfl)
theorem dX0_livesFrom_103 : decode cX0_livesFrom 103 = .ok (.ifCond .lt 8, 3) := dk_155 0 8 (dk_at dksX0_livesFrom_4 9 rfl rfl)
theorem dX0_livesFrom_106 : decode cX0_livesFrom 106 = .ok (.iload 4, 2) := dk_21 4 (dk_at dksX0_livesFrom_4 12 rfl rfl)
theorem dX0_livesFrom_108 : decode cX0_livesFrom 108 = .ok (.ifCond .ne 7, 3) := dk_154 0 7 (dk_at dksX0_livesFrom_4 14 rfl rfl)
theorem dX0_livesFrom_111 : decode cX0_livesFrom 111 = .ok (.iload_n 3, 1) := dk_29 (dk_at dksX0_livesFrom_4 17 rfl rfl)
theorem dX0_livesFrom_112 : decode cX0_livesFrom 112 = .ok (.goto 6, 3) := dk_167 0 6 (dk_at dksX0_livesFrom_4 18 rfl rfl)
theorem dX0_livesFrom_115 : decode cX0_livesFrom 115 = .ok (.iload_n 3, 1) := dk_29 (dk_at dksX0_livesFrom_4 21 rfl rfl)
theorem dX0_livesFrom_116 : decode cX0_livesFrom 116 = .ok (.iconst 1, 1) := dk_4 (dk_at dksX0_livesFrom_4 22 rfl rfl)
theorem dX0_livesFrom_117 : decode cX0_livesFrom 117 = .ok (.iadd, 1) := dk_96 (dk_at dksX0_livesFrom_4 23 rfl rfl)
theorem dX0_livesFrom_118 : decode cX0_livesFrom 118 = .ok (.invokevirtual 455, 3) := dk_182 1 199 (dk_at dksX0_livesFrom_5 0 rfl rfl)
theorem dX0_livesFrom_121 : decode cX0_livesFrom 121 = .ok (.aload_n 0, 1) := dk_42 (dk_at dksX0_livesFrom_5 3 rfl rfl)
theorem dX0_livesFrom_122 : decode cX0_livesFrom 122 = .ok (.iload_n 2, 1) := dk_28 (dk_at dksX0_livesFrom_5 4 rfl rfl)
theorem dX0_livesFrom_123 : decode cX0_livesFrom 123 = .ok (.invokevirtual 437, 3) := dk_182 1 181 (dk_at dksX0_livesFrom_5 5 rfl rfl)
theorem dX0_livesFrom_126 : decode cX0_livesFrom 126 = .ok (.iinc 4 1, 3) := dk_132 4 1 (dk_at dksX0_livesFrom_5 8 rfl rfl)
theorem dX0_livesFrom_129 : decode cX0_livesFrom 129 = .ok (.goto (-57), 3) := dk_167 255 199 (dk_at dksX0_livesFrom_5 11 rfl rfl)
theorem dX0_livesFrom_132 : decode cX0_livesFrom 132 = .ok (.return_, 1) := dk_177 (dk_at dksX0_livesFrom_5 14 rfl rfl)
abbrev cX0_bars : ByteArray := prog_1_method_80_code
def yX0_bars : MethodName := ⟨RX0, "bars", "(II)I"⟩
def dkwX0_bars_1 : List UInt8 := [126, 62, 29, 154, 0, 8, 16, 253, 167, 0, 7, 29, 184, 1, 208, 172]
abbrev dktX0_bars_1 : List UInt8 := dkwX0_bars_1 ++ []
def dkwX0_bars_0 : List UInt8 := [42, 27, 28, 182, 1, 202, 154, 0, 5, 2, 172, 42, 27, 28, 182, 1, 205, 28, 42, 180, 1, 187, 2, 130]
abbrev dktX0_bars_0 : List UInt8 := dkwX0_bars_0 ++ dktX0_bars_1
theorem dksX0_bars_0 : cX0_bars.data.toList.drop 0 = dktX0_bars_0 := by decide +kernel
theorem dksX0_bars_1 : cX0_bars.data.toList.drop 24 = dktX0_bars_1 := dk_seg dksX0_bars_0 24 rfl rfl
theorem dX0_bars_0 : decode cX0_bars 0 = .ok (.aload_n 0, 1) := dk_42 (dk_at dksX0_bars_0 0 rfl rfl)
theorem dX0_bars_1 : decode cX0_bars 1 = .ok (.iload_n 1, 1) := dk_27 (dk_at dksX0_bars_0 1 rfl rfl)
theorem dX0_bars_2 : decode cX0_bars 2 = .ok (.iload_n 2, 1) := dk_28 (dk_at dksX0_bars_0 2 rfl rfl)
theorem dX0_bars_3 : decode cX0_bars 3 = .ok (.invokevirtual 458, 3) := dk_182 1 202 (dk_at dksX0_bars_0 3 rfl rfl)
theorem dX0_bars_6 : decode cX0_bars 6 = .ok (.ifCond .ne 5, 3) := dk_154 0 5 (dk_at dksX0_bars_0 6 rfl rfl)
theorem dX0_bars_9 : decode cX0_bars 9 = .ok (.iconst (-1), 1) := dk_2 (dk_at dksX0_bars_0 9 rfl rfl)
theorem dX0_bars_10 : decode cX0_bars 10 = .ok (.ireturn, 1) := dk_172 (dk_at dksX0_bars_0 10 rfl rfl)
theorem dX0_bars_11 : decode cX0_bars 11 = .ok (.aload_n 0, 1) := dk_42 (dk_at dksX0_bars_0 11 rfl rfl)
theorem dX0_bars_12 : decode cX0_bars 12 = .ok (.iload_n 1, 1) := dk_27 (dk_at dksX0_bars_0 12 rfl rfl)
theorem dX0_bars_13 : decode cX0_bars 13 = .ok (.iload_n 2, 1) := dk_28 (dk_at dksX0_bars_0 13 rfl rfl)
theorem dX0_bars_14 : decode cX0_bars 14 = .ok (.invokevirtual 461, 3) := dk_182 1 205 (dk_at dksX0_bars_0 14 rfl rfl)
theorem dX0_bars_17 : decode cX0_bars 17 = .ok (.iload_n 2, 1) := dk_28 (dk_at dksX0_bars_0 17 rfl rfl)
theorem dX0_bars_18 : decode cX0_bars 18 = .ok (.aload_n 0, 1) := dk_42 (dk_at dksX0_bars_0 18 rfl rfl)
theorem dX0_bars_19 : decode cX0_bars 19 = .ok (.getfield 443, 3) := dk_180 1 187 (dk_at dksX0_bars_0 19 rfl rfl)
theorem dX0_bars_22 : decode cX0_bars 22 = .ok (.iconst (-1), 1) := dk_2 (dk_at dksX0_bars_0 22 rfl rfl)
theorem dX0_bars_23 : decode cX0_bars 23 = .ok (.ixor, 1) := dk_130 (dk_at dksX0_bars_0 23 rfl rfl)
theorem dX0_bars_24 : decode cX0_bars 24 = .ok (.iand, 1) := dk_126 (dk_at dksX0_bars_1 0 rfl rfl)
theorem dX0_bars_25 : decode cX0_bars 25 = .ok (.istore_n 3, 1) := dk_62 (dk_at dksX0_bars_1 1 rfl rfl)
theorem dX0_bars_26 : decode cX0_bars 26 = .ok (.iload_n 3, 1) := dk_29 (dk_at dksX0_bars_1 2 rfl rfl)
theorem dX0_bars_27 : decode cX0_bars 27 = .ok (.ifCond .ne 8, 3) := dk_154 0 8 (dk_at dksX0_bars_1 3 rfl rfl)
theorem dX0_bars_30 : decode cX0_bars 30 = .ok (.bipush (-3), 2) := dk_16 253 (dk_at dksX0_bars_1 6 rfl rfl)
theorem dX0_bars_32 : decode cX0_bars 32 = .ok (.goto 7, 3) := dk_167 0 7 (dk_at dksX0_bars_1 8 rfl rfl)
theorem dX0_bars_35 : decode cX0_bars 35 = .ok (.iload_n 3, 1) := dk_29 (dk_at dksX0_bars_1 11 rfl rfl)
theorem dX0_bars_36 : decode cX0_bars 36 = .ok (.invokestatic 464, 3) := dk_184 1 208 (dk_at dksX0_bars_1 12 rfl rfl)
theorem dX0_bars_39 : decode cX0_bars 39 = .ok (.ireturn, 1) := dk_172 (dk_at dksX0_bars_1 15 rfl rfl)
abbrev cX0_game : ByteArray := prog_1_method_82_code
def yX0_game : MethodName := ⟨RX0, "game", "(I)I"⟩
def dkwX0_game_0 : List UInt8 := [27, 4, 7, 184, 0, 150, 153, 0, 13, 42, 3, 27, 3, 182, 1, 211, 167, 0, 4, 2, 172]
abbrev dktX0_game_0 : List UInt8 := dkwX0_game_0 ++ []
theorem dksX0_game_0 : cX0_game.data.toList.drop 0 = dktX0_game_0 := by decide +kernel
theorem dX0_game_0 : decode cX0_game 0 = .ok (.iload_n 1, 1) := dk_27 (dk_at dksX0_game_0 0 rfl rfl)
theorem dX0_game_1 : decode cX0_game 1 = .ok (.iconst 1, 1) := dk_4 (dk_at dksX0_game_0 1 rfl rfl)
theorem dX0_game_2 : decode cX0_game 2 = .ok (.iconst 4, 1) := dk_7 (dk_at dksX0_game_0 2 rfl rfl)
theorem dX0_game_3 : decode cX0_game 3 = .ok (.invokestatic 150, 3) := dk_184 0 150 (dk_at dksX0_game_0 3 rfl rfl)
theorem dX0_game_6 : decode cX0_game 6 = .ok (.ifCond .eq 13, 3) := dk_153 0 13 (dk_at dksX0_game_0 6 rfl rfl)
theorem dX0_game_9 : decode cX0_game 9 = .ok (.aload_n 0, 1) := dk_42 (dk_at dksX0_game_0 9 rfl rfl)
theorem dX0_game_10 : decode cX0_game 10 = .ok (.iconst 0, 1) := dk_3 (dk_at dksX0_game_0 10 rfl rfl)
theorem dX0_game_11 : decode cX0_game 11 = .ok (.iload_n 1, 1) := dk_27 (dk_at dksX0_game_0 11 rfl rfl)
theorem dX0_game_12 : decode cX0_game 12 = .ok (.iconst 0, 1) := dk_3 (dk_at dksX0_game_0 12 rfl rfl)
theorem dX0_game_13 : decode cX0_game 13 = .ok (.invokevirtual 467, 3) := dk_182 1 211 (dk_at dksX0_game_0 13 rfl rfl)
theorem dX0_game_16 : decode cX0_game 16 = .ok (.goto 4, 3) := dk_167 0 4 (dk_at dksX0_game_0 16 rfl rfl)
theorem dX0_game_19 : decode cX0_game 19 = .ok (.iconst (-1), 1) := dk_2 (dk_at dksX0_game_0 19 rfl rfl)
theorem dX0_game_20 : decode cX0_game 20 = .ok (.ireturn, 1) := dk_172 (dk_at dksX0_game_0 20 rfl rfl)
abbrev cX0_valueFrom : ByteArray := prog_1_method_81_code
def yX0_valueFrom : MethodName := ⟨RX0, "valueFrom", "(III)I"⟩
def dkwX0_valueFrom_5 : List UInt8 := [167, 255, 165, 21, 4, 172]
abbrev dktX0_valueFrom_5 : List UInt8 := dkwX0_valueFrom_5 ++ []
def dkwX0_valueFrom_4 : List UInt8 := [4, 167, 0, 4, 3, 54, 7, 21, 7, 153, 0, 8, 21, 6, 167, 0, 5, 21, 4, 54, 4, 132, 5, 1]
abbrev dktX0_valueFrom_4 : List UInt8 := dkwX0_valueFrom_4 ++ dktX0_valueFrom_5
def dkwX0_valueFrom_3 : List UInt8 := [155, 0, 24, 27, 154, 0, 13, 21, 6, 21, 4, 164, 0, 17, 167, 0, 10, 21, 6, 21, 4, 162, 0, 7]
abbrev dktX0_valueFrom_3 : List UInt8 := dkwX0_valueFrom_3 ++ dktX0_valueFrom_4
def dkwX0_valueFrom_2 : List UInt8 := [4, 27, 100, 28, 4, 100, 29, 4, 96, 182, 1, 211, 96, 54, 6, 42, 29, 182, 1, 181, 21, 4]
abbrev dktX0_valueFrom_2 : List UInt8 := dkwX0_valueFrom_2 ++ dktX0_valueFrom_3
def dkwX0_valueFrom_1 : List UInt8 := [3, 54, 5, 21, 5, 42, 180, 0, 47, 180, 0, 146, 163, 0, 85, 42, 21, 5, 4, 100, 182, 1, 121, 42]
abbrev dktX0_valueFrom_1 : List UInt8 := dkwX0_valueFrom_1 ++ dktX0_valueFrom_2
def dkwX0_valueFrom_0 : List UInt8 := [28, 153, 0, 13, 42, 180, 0, 47, 182, 0, 226, 153, 0, 5, 3, 172, 2, 54, 4, 42, 29, 182, 1, 140]
abbrev dktX0_valueFrom_0 : List UInt8 := dkwX0_valueFrom_0 ++ dktX0_valueFrom_1
theorem dksX0_valueFrom_0 : cX0_valueFrom.data.toList.drop 0 = dktX0_valueFrom_0 := by decide +kernel
theorem dksX0_valueFrom_1 : cX0_valueFrom.data.toList.drop 24 = dktX0_valueFrom_1 := dk_seg dksX0_valueFrom_0 24 rfl rfl
theorem dksX0_valueFrom_2 : cX0_valueFrom.data.toList.drop 48 = dktX0_valueFrom_2 := dk_seg dksX0_valueFrom_1 24 rfl rfl
theorem dksX0_valueFrom_3 : cX0_valueFrom.data.toList.drop 70 = dktX0_valueFrom_3 := dk_seg dksX0_valueFrom_2 22 rfl rfl
theorem dksX0_valueFrom_4 : cX0_valueFrom.data.toList.drop 94 = dktX0_valueFrom_4 := dk_seg dksX0_valueFrom_3 24 rfl rfl
theorem dksX0_valueFrom_5 : cX0_valueFrom.data.toList.drop 118 = dktX0_valueFrom_5 := dk_seg dksX0_valueFrom_4 24 rfl rfl
theorem dX0_valueFrom_0 : decode cX0_valueFrom 0 = .ok (.iload_n 2, 1) := dk_28 (dk_at dksX0_valueFrom_0 0 rfl rfl)
theorem dX0_valueFrom_1 : decode cX0_valueFrom 1 = .ok (.ifCond .eq 13, 3) := dk_153 0 13 (dk_at dksX0_valueFrom_0 1 rfl rfl)
theorem dX0_valueFrom_4 : decode cX0_valueFrom 4 = .ok (.aload_n 0, 1) := dk_42 (dk_at dksX0_valueFrom_0 4 rfl rfl)
theorem dX0_valueFrom_5 : decode cX0_valueFrom 5 = .ok (.getfield 47, 3) := dk_180 0 47 (dk_at dksX0_valueFrom_0 5 rfl rfl)
theorem dX0_valueFrom_8 : decode cX0_valueFrom 8 = .ok (.invokevirtual 226, 3) := dk_182 0 226 (dk_at dksX0_valueFrom_0 8 rfl rfl)
theorem dX0_valueFrom_11 : decode cX0_valueFrom 11 = .ok (.ifCond .eq 5, 3) := dk_153 0 5 (dk_at dksX0_valueFrom_0 11 rfl rfl)
theorem dX0_valueFrom_14 : decode cX0_valueFrom 14 = .ok (.iconst 0, 1) := dk_3 (dk_at dksX0_valueFrom_0 14 rfl rfl)
theorem dX0_valueFrom_15 : decode cX0_valueFrom 15 = .ok (.ireturn, 1) := dk_172 (dk_at dksX0_valueFrom_0 15 rfl rfl)
theorem dX0_valueFrom_16 : decode cX0_valueFrom 16 = .ok (.iconst (-1), 1) := dk_2 (dk_at dksX0_valueFrom_0 16 rfl rfl)
theorem dX0_valueFrom_17 : decode cX0_valueFrom 17 = .ok (.istore 4, 2) := dk_54 4 (dk_at dksX0_valueFrom_0 17 rfl rfl)
theorem dX0_valueFrom_19 : decode cX0_valueFrom 19 = .ok (.aload_n 0, 1) := dk_42 (dk_at dksX0_valueFrom_0 19 rfl rfl)
theorem dX0_valueFrom_20 : decode cX0_valueFrom 20 = .ok (.iload_n 3, 1) := dk_29 (dk_at dksX0_valueFrom_0 20 rfl rfl)
theorem dX0_valueFrom_21 : decode cX0_valueFrom 21 = .ok (.invokevirtual 396, 3) := dk_182 1 140 (dk_at dksX0_valueFrom_0 21 rfl rfl)
theorem dX0_valueFrom_24 : decode cX0_valueFrom 24 = .ok (.iconst 0, 1) := dk_3 (dk_at dksX0_valueFrom_1 0 rfl rfl)
theorem dX0_valueFrom_25 : decode cX0_valueFrom 25 = .ok (.istore 5, 2) := dk_54 5 (dk_at dksX0_valueFrom_1 1 rfl rfl)
theorem dX0_valueFrom_27 : decode cX0_valueFrom 27 = .ok (.iload 5, 2) := dk_21 5 (dk_at dksX0_valueFrom_1 3 rfl rfl)
theorem dX0_valueFrom_29 : decode cX0_valueFrom 29 = .ok (.aload_n 0, 1) := dk_42 (dk_at dksX0_valueFrom_1 5 rfl rfl)
theorem dX0_valueFrom_30 : decode cX0_valueFrom 30 = .ok (.getfield 47, 3) := dk_180 0 47 (dk_at dksX0_valueFrom_1 6 rfl rfl)
theorem dX0_valueFrom_33 : decode cX0_valueFrom 33 = .ok (.getfield 146, 3) := dk_180 0 146 (dk_at dksX0_valueFrom_1 9 rfl rfl)
theorem dX0_valueFrom_36 : decode cX0_valueFrom 36 = .ok (.if_icmp .gt 85, 3) := dk_163 0 85 (dk_at dksX0_valueFrom_1 12 rfl rfl)
theorem dX0_valueFrom_39 : decode cX0_valueFrom 39 = .ok (.aload_n 0, 1) := dk_42 (dk_at dksX0_valueFrom_1 15 rfl rfl)
theorem dX0_valueFrom_40 : decode cX0_valueFrom 40 = .ok (.iload 5, 2) := dk_21 5 (dk_at dksX0_valueFrom_1 16 rfl rfl)
theorem dX0_valueFrom_42 : decode cX0_valueFrom 42 = .ok (.iconst 1, 1) := dk_4 (dk_at dksX0_valueFrom_1 18 rfl rfl)
theorem dX0_valueFrom_43 : decode cX0_valueFrom 43 = .ok (.isub, 1) := dk_100 (dk_at dksX0_valueFrom_1 19 rfl rfl)
theorem dX0_valueFrom_44 : decode cX0_valueFrom 44 = .ok (.invokevirtual 377, 3) := dk_182 1 121 (dk_at dksX0_valueFrom_1 20 rfl rfl)
theorem dX0_valueFrom_47 : decode cX0_valueFrom 47 = .ok (.aload_n 0, 1) := dk_42 (dk_at dksX0_valueFrom_1 23 rfl rfl)
theorem dX0_valueFrom_48 : decode cX0_valueFrom 48 = .ok (.iconst 1, 1) := dk_4 (dk_at dksX0_valueFrom_2 0 rfl rfl)
theorem dX0_valueFrom_49 : decode cX0_valueFrom 49 = .ok (.iload_n 1, 1) := dk_27 (dk_at dksX0_valueFrom_2 1 rfl rfl)
theorem dX0_valueFrom_50 : decode cX0_valueFrom 50 = .ok (.isub, 1) := dk_100 (dk_at dksX0_valueFrom_2 2 rfl rfl)
theorem dX0_valueFrom_51 : decode cX0_valueFrom 51 = .ok (.iload_n 2, 1) := dk_28 (dk_at dksX0_valueFrom_2 3 rfl rfl)
theorem dX0_valueFrom_52 : decode cX0_valueFrom 52 = .ok (.iconst 1, 1) := dk_4 (dk_at dksX0_valueFrom_2 4 rfl rfl)
theorem dX0_valueFrom_53 : decode cX0_valueFrom 53 = .ok (.isub, 1) := dk_100 (dk_at dksX0_valueFrom_2 5 rfl rfl)
theorem dX0_valueFrom_54 : decode cX0_valueFrom 54 = .ok (.iload_n 3, 1) := dk_29 (dk_at dksX0_valueFrom_2 6 rfl rfl)
theorem dX0_valueFrom_55 : decode cX0_valueFrom 55 = .ok (.iconst 1, 1) := dk_4 (dk_at dksX0_valueFrom_2 7 rfl rfl)
theorem dX0_valueFrom_56 : decode cX0_valueFrom 56 = .ok (.iadd, 1) := dk_96 (dk_at dksX0_valueFrom_2 8 rfl rfl)
theorem dX0_valueFrom_57 : decode cX0_valueFrom 57 = .ok (.invokevirtual 467, 3) := dk_182 1 211 (dk_at dksX0_valueFrom_2 9 rfl rfl)
theorem dX0_valueFrom_60 : decode cX0_valueFrom 60 = .ok (.iadd, 1) := dk_96 (dk_at dksX0_valueFrom_2 12 rfl rfl)
theorem dX0_valueFrom_61 : decode cX0_valueFrom 61 = .ok (.istore 6, 2) := dk_54 6 (dk_at dksX0_valueFrom_2 13 rfl rfl)
theorem dX0_valueFrom_63 : decode cX0_valueFrom 63 = .ok (.aload_n 0, 1) := dk_42 (dk_at dksX0_valueFrom_2 15 rfl rfl)
theorem dX0_valueFrom_64 : decode cX0_valueFrom 64 = .ok (.iload_n 3, 1) := dk_29 (dk_at dksX0_valueFrom_2 16 rfl rfl)
theorem dX0_valueFrom_65 : decode cX0_valueFrom 65 = .ok (.invokevirtual 437, 3) := dk_182 1 181 (dk_at dksX0_valueFrom_2 17 rfl rfl)
theorem dX0_valueFrom_68 : decode cX0_valueFrom 68 = .ok (.iload 4, 2) := dk_21 4 (dk_at dksX0_valueFrom_2 20 rfl rfl)
theorem dX0_valueFrom_70 : decode cX0_valueFrom 70 = .ok (.ifCond .lt 24, 3) := dk_155 0 24 (dk_at dksX0_valueFrom_3 0 rfl rfl)
theorem dX0_valueFrom_73 : decode cX0_valueFrom 73 = .ok (.iload_n 1, 1) := dk_27 (dk_at dksX0_valueFrom_3 3 rfl rfl)
theorem dX0_valueFrom_74 : decode cX0_valueFrom 74 = .ok (.ifCond .ne 13, 3) := dk_154 0 13 (dk_at dksX0_valueFrom_3 4 rfl rfl)
theorem dX0_valueFrom_77 : decode cX0_valueFrom 77 = .ok (.iload 6, 2) := dk_21 6 (dk_at dksX0_valueFrom_3 7 rfl rfl)
theorem dX0_valueFrom_79 : decode cX0_valueFrom 79 = .ok (.iload 4, 2) := dk_21 4 (dk_at dksX0_valueFrom_3 9 rfl rfl)
theorem dX0_valueFrom_81 : decode cX0_valueFrom 81 = .ok (.if_icmp .le 17, 3) := dk_164 0 17 (dk_at dksX0_valueFrom_3 11 rfl rfl)
theorem dX0_valueFrom_84 : decode cX0_valueFrom 84 = .ok (.goto 10, 3) := dk_167 0 10 (dk_at dksX0_valueFrom_3 14 rfl rfl)
theorem dX0_valueFrom_87 : decode cX0_valueFrom 87 = .ok (.iload 6, 2) := dk_21 6 (dk_at dksX0_valueFrom_3 17 rfl rfl)
theorem dX0_valueFrom_89 : decode cX0_valueFrom 89 = .ok (.iload 4, 2) := dk_21 4 (dk_at dksX0_valueFrom_3 19 rfl rfl)
theorem dX0_valueFrom_91 : decode cX0_valueFrom 91 = .ok (.if_icmp .ge 7, 3) := dk_162 0 7 (dk_at dksX0_valueFrom_3 21 rfl rfl)
theorem dX0_valueFrom_94 : decode cX0_valueFrom 94 = .ok (.iconst 1, 1) := dk_4 (dk_at dksX0_valueFrom_4 0 rfl rfl)
theorem dX0_valueFrom_95 : decode cX0_valueFrom 95 = .ok (.goto 4, 3) := dk_167 0 4 (dk_at dksX0_valueFrom_4 1 rfl rfl)
theorem dX0_valueFrom_98 : decode cX0_valueFrom 98 = .ok (.iconst 0, 1) := dk_3 (dk_at dksX0_valueFrom_4 4 rfl rfl)
theorem dX0_valueFrom_99 : decode cX0_valueFrom 99 = .ok (.istore 7, 2) := dk_54 7 (dk_at dksX0_valueFrom_4 5 rfl rfl)
theorem dX0_valueFrom_101 : decode cX0_valueFrom 101 = .ok (.iload 7, 2) := dk_21 7 (dk_at dksX0_valueFrom_4 7 rfl rfl)
theorem dX0_valueFrom_103 : decode cX0_valueFrom 103 = .ok (.ifCond .eq 8, 3) := dk_153 0 8 (dk_at dksX0_valueFrom_4 9 rfl rfl)
theorem dX0_valueFrom_106 : decode cX0_valueFrom 106 = .ok (.iload 6, 2) := dk_21 6 (dk_at dksX0_valueFrom_4 12 rfl rfl)
theorem dX0_valueFrom_108 : decode cX0_valueFrom 108 = .ok (.goto 5, 3) := dk_167 0 5 (dk_at dksX0_valueFrom_4 14 rfl rfl)
theorem dX0_valueFrom_111 : decode cX0_valueFrom 111 = .ok (.iload 4, 2) := dk_21 4 (dk_at dksX0_valueFrom_4 17 rfl rfl)
theorem dX0_valueFrom_113 : decode cX0_valueFrom 113 = .ok (.istore 4, 2) := dk_54 4 (dk_at dksX0_valueFrom_4 19 rfl rfl)
theorem dX0_valueFrom_115 : decode cX0_valueFrom 115 = .ok (.iinc 5 1, 3) := dk_132 5 1 (dk_at dksX0_valueFrom_4 21 rfl rfl)
theorem dX0_valueFrom_118 : decode cX0_valueFrom 118 = .ok (.goto (-91), 3) := dk_167 255 165 (dk_at dksX0_valueFrom_5 0 rfl rfl)
theorem dX0_valueFrom_121 : decode cX0_valueFrom 121 = .ok (.iload 4, 2) := dk_21 4 (dk_at dksX0_valueFrom_5 3 rfl rfl)
theorem dX0_valueFrom_123 : decode cX0_valueFrom 123 = .ok (.ireturn, 1) := dk_172 (dk_at dksX0_valueFrom_5 5 rfl rfl)
abbrev cX0_play : ByteArray := prog_1_method_83_code
def yX0_play : MethodName := ⟨RX0, "play", "(I)I"⟩
def dkwX0_play_3 : List UInt8 := [160, 255, 221, 29, 172]
abbrev dktX0_play_3 : List UInt8 := dkwX0_play_3 ++ []
def dkwX0_play_2 : List UInt8 := [182, 1, 121, 42, 4, 27, 4, 100, 4, 182, 1, 211, 96, 54, 4, 42, 3, 182, 1, 181, 21, 4, 28]
abbrev dktX0_play_2 : List UInt8 := dkwX0_play_2 ++ dktX0_play_3
def dkwX0_play_1 : List UInt8 := [42, 3, 27, 3, 182, 1, 211, 61, 2, 62, 132, 3, 1, 42, 3, 182, 1, 140, 42, 29, 4, 100]
abbrev dktX0_play_1 : List UInt8 := dkwX0_play_1 ++ dktX0_play_2
def dkwX0_play_0 : List UInt8 := [27, 4, 7, 184, 0, 150, 154, 0, 5, 2, 172, 42, 180, 0, 47, 182, 0, 226, 153, 0, 6, 16, 253, 172]
abbrev dktX0_play_0 : List UInt8 := dkwX0_play_0 ++ dktX0_play_1
theorem dksX0_play_0 : cX0_play.data.toList.drop 0 = dktX0_play_0 := by decide +kernel
theorem dksX0_play_1 : cX0_play.data.toList.drop 24 = dktX0_play_1 := dk_seg dksX0_play_0 24 rfl rfl
theorem dksX0_play_2 : cX0_play.data.toList.drop 46 = dktX0_play_2 := dk_seg dksX0_play_1 22 rfl rfl
theorem dksX0_play_3 : cX0_play.data.toList.drop 69 = dktX0_play_3 := dk_seg dksX0_play_2 23 rfl rfl
theorem dX0_play_0 : decode cX0_play 0 = .ok (.iload_n 1, 1) := dk_27 (dk_at dksX0_play_0 0 rfl rfl)
theorem dX0_play_1 : decode cX0_play 1 = .ok (.iconst 1, 1) := dk_4 (dk_at dksX0_play_0 1 rfl rfl)
theorem dX0_play_2 : decode cX0_play 2 = .ok (.iconst 4, 1) := dk_7 (dk_at dksX0_play_0 2 rfl rfl)
theorem dX0_play_3 : decode cX0_play 3 = .ok (.invokestatic 150, 3) := dk_184 0 150 (dk_at dksX0_play_0 3 rfl rfl)
theorem dX0_play_6 : decode cX0_play 6 = .ok (.ifCond .ne 5, 3) := dk_154 0 5 (dk_at dksX0_play_0 6 rfl rfl)
theorem dX0_play_9 : decode cX0_play 9 = .ok (.iconst (-1), 1) := dk_2 (dk_at dksX0_play_0 9 rfl rfl)
theorem dX0_play_10 : decode cX0_play 10 = .ok (.ireturn, 1) := dk_172 (dk_at dksX0_play_0 10 rfl rfl)
theorem dX0_play_11 : decode cX0_play 11 = .ok (.aload_n 0, 1) := dk_42 (dk_at dksX0_play_0 11 rfl rfl)
theorem dX0_play_12 : decode cX0_play 12 = .ok (.getfield 47, 3) := dk_180 0 47 (dk_at dksX0_play_0 12 rfl rfl)
theorem dX0_play_15 : decode cX0_play 15 = .ok (.invokevirtual 226, 3) := dk_182 0 226 (dk_at dksX0_play_0 15 rfl rfl)
theorem dX0_play_18 : decode cX0_play 18 = .ok (.ifCond .eq 6, 3) := dk_153 0 6 (dk_at dksX0_play_0 18 rfl rfl)
theorem dX0_play_21 : decode cX0_play 21 = .ok (.bipush (-3), 2) := dk_16 253 (dk_at dksX0_play_0 21 rfl rfl)
theorem dX0_play_23 : decode cX0_play 23 = .ok (.ireturn, 1) := dk_172 (dk_at dksX0_play_0 23 rfl rfl)
theorem dX0_play_24 : decode cX0_play 24 = .ok (.aload_n 0, 1) := dk_42 (dk_at dksX0_play_1 0 rfl rfl)
theorem dX0_play_25 : decode cX0_play 25 = .ok (.iconst 0, 1) := dk_3 (dk_at dksX0_play_1 1 rfl rfl)
theorem dX0_play_26 : decode cX0_play 26 = .ok (.iload_n 1, 1) := dk_27 (dk_at dksX0_play_1 2 rfl rfl)
theorem dX0_play_27 : decode cX0_play 27 = .ok (.iconst 0, 1) := dk_3 (dk_at dksX0_play_1 3 rfl rfl)
theorem dX0_play_28 : decode cX0_play 28 = .ok (.invokevirtual 467, 3) := dk_182 1 211 (dk_at dksX0_play_1 4 rfl rfl)
theorem dX0_play_31 : decode cX0_play 31 = .ok (.istore_n 2, 1) := dk_61 (dk_at dksX0_play_1 7 rfl rfl)
theorem dX0_play_32 : decode cX0_play 32 = .ok (.iconst (-1), 1) := dk_2 (dk_at dksX0_play_1 8 rfl rfl)
theorem dX0_play_33 : decode cX0_play 33 = .ok (.istore_n 3, 1) := dk_62 (dk_at dksX0_play_1 9 rfl rfl)
theorem dX0_play_34 : decode cX0_play 34 = .ok (.iinc 3 1, 3) := dk_132 3 1 (dk_at dksX0_play_1 10 rfl rfl)
theorem dX0_play_37 : decode cX0_play 37 = .ok (.aload_n 0, 1) := dk_42 (dk_at dksX0_play_1 13 rfl rfl)
theorem dX0_play_38 : decode cX0_play 38 = .ok (.iconst 0, 1) := dk_3 (dk_at dksX0_play_1 14 rfl rfl)
theorem dX0_play_39 : decode cX0_play 39 = .ok (.invokevirtual 396, 3) := dk_182 1 140 (dk_at dksX0_play_1 15 rfl rfl)
theorem dX0_play_42 : decode cX0_play 42 = .ok (.aload_n 0, 1) := dk_42 (dk_at dksX0_play_1 18 rfl rfl)
theorem dX0_play_43 : decode cX0_play 43 = .ok (.iload_n 3, 1) := dk_29 (dk_at dksX0_play_1 19 rfl rfl)
theorem dX0_play_44 : decode cX0_play 44 = .ok (.iconst 1, 1) := dk_4 (dk_at dksX0_play_1 20 rfl rfl)
theorem dX0_play_45 : decode cX0_play 45 = .ok (.isub, 1) := dk_100 (dk_at dksX0_play_1 21 rfl rfl)
theorem dX0_play_46 : decode cX0_play 46 = .ok (.invokevirtual 377, 3) := dk_182 1 121 (dk_at dksX0_play_2 0 rfl rfl)
theorem dX0_play_49 : decode cX0_play 49 = .ok (.aload_n 0, 1) := dk_42 (dk_at dksX0_play_2 3 rfl rfl)
theorem dX0_play_50 : decode cX0_play 50 = .ok (.iconst 1, 1) := dk_4 (dk_at dksX0_play_2 4 rfl rfl)
theorem dX0_play_51 : decode cX0_play 51 = .ok (.iload_n 1, 1) := dk_27 (dk_at dksX0_play_2 5 rfl rfl)
theorem dX0_play_52 : decode cX0_play 52 = .ok (.iconst 1, 1) := dk_4 (dk_at dksX0_play_2 6 rfl rfl)
theorem dX0_play_53 : decode cX0_play 53 = .ok (.isub, 1) := dk_100 (dk_at dksX0_play_2 7 rfl rfl)
theorem dX0_play_54 : decode cX0_play 54 = .ok (.iconst 1, 1) := dk_4 (dk_at dksX0_play_2 8 rfl rfl)
theorem dX0_play_55 : decode cX0_play 55 = .ok (.invokevirtual 467, 3) := dk_182 1 211 (dk_at dksX0_play_2 9 rfl rfl)
theorem dX0_play_58 : decode cX0_play 58 = .ok (.iadd, 1) := dk_96 (dk_at dksX0_play_2 12 rfl rfl)
theorem dX0_play_59 : decode cX0_play 59 = .ok (.istore 4, 2) := dk_54 4 (dk_at dksX0_play_2 13 rfl rfl)
theorem dX0_play_61 : decode cX0_play 61 = .ok (.aload_n 0, 1) := dk_42 (dk_at dksX0_play_2 15 rfl rfl)
theorem dX0_play_62 : decode cX0_play 62 = .ok (.iconst 0, 1) := dk_3 (dk_at dksX0_play_2 16 rfl rfl)
theorem dX0_play_63 : decode cX0_play 63 = .ok (.invokevirtual 437, 3) := dk_182 1 181 (dk_at dksX0_play_2 17 rfl rfl)
theorem dX0_play_66 : decode cX0_play 66 = .ok (.iload 4, 2) := dk_21 4 (dk_at dksX0_play_2 20 rfl rfl)
theorem dX0_play_68 : decode cX0_play 68 = .ok (.iload_n 2, 1) := dk_28 (dk_at dksX0_play_2 22 rfl rfl)
theorem dX0_play_69 : decode cX0_play 69 = .ok (.if_icmp .ne (-35), 3) := dk_160 255 221 (dk_at dksX0_play_3 0 rfl rfl)
theorem dX0_play_72 : decode cX0_play 72 = .ok (.iload_n 3, 1) := dk_29 (dk_at dksX0_play_3 3 rfl rfl)
theorem dX0_play_73 : decode cX0_play 73 = .ok (.ireturn, 1) := dk_172 (dk_at dksX0_play_3 4 rfl rfl)
abbrev cX0_report : ByteArray := prog_1_method_84_code
def yX0_report : MethodName := ⟨RX0, "report", "(IIII)I"⟩
def dkwX0_report_5 : List UInt8 := [181, 1, 215, 21, 5, 172]
abbrev dktX0_report_5 : List UInt8 := dkwX0_report_5 ++ []
def dkwX0_report_4 : List UInt8 := [42, 180, 0, 47, 180, 1, 227, 21, 5, 21, 4, 79, 42, 180, 0, 47, 89, 180, 1, 215, 4, 96]
abbrev dktX0_report_4 : List UInt8 := dkwX0_report_4 ++ dktX0_report_5
def dkwX0_report_3 : List UInt8 := [27, 79, 42, 180, 0, 47, 180, 1, 221, 21, 5, 28, 79, 42, 180, 0, 47, 180, 1, 224, 21, 5, 29, 79]
abbrev dktX0_report_3 : List UInt8 := dkwX0_report_3 ++ dktX0_report_4
def dkwX0_report_2 : List UInt8 := [160, 0, 6, 16, 254, 172, 42, 180, 0, 47, 180, 1, 215, 54, 5, 42, 180, 0, 47, 180, 1, 218, 21, 5]
abbrev dktX0_report_2 : List UInt8 := dkwX0_report_2 ++ dktX0_report_3
def dkwX0_report_1 : List UInt8 := [153, 0, 13, 21, 4, 3, 4, 184, 0, 150, 154, 0, 5, 2, 172, 42, 180, 0, 47, 180, 1, 215, 16, 6]
abbrev dktX0_report_1 : List UInt8 := dkwX0_report_1 ++ dktX0_report_2
def dkwX0_report_0 : List UInt8 := [27, 184, 0, 170, 153, 0, 33, 28, 3, 16, 15, 184, 0, 150, 153, 0, 23, 29, 3, 16, 31, 184, 0, 150]
abbrev dktX0_report_0 : List UInt8 := dkwX0_report_0 ++ dktX0_report_1
theorem dksX0_report_0 : cX0_report.data.toList.drop 0 = dktX0_report_0 := by decide +kernel
theorem dksX0_report_1 : cX0_report.data.toList.drop 24 = dktX0_report_1 := dk_seg dksX0_report_0 24 rfl rfl
theorem dksX0_report_2 : cX0_report.data.toList.drop 48 = dktX0_report_2 := dk_seg dksX0_report_1 24 rfl rfl
theorem dksX0_report_3 : cX0_report.data.toList.drop 72 = dktX0_report_3 := dk_seg dksX0_report_2 24 rfl rfl
theorem dksX0_report_4 : cX0_report.data.toList.drop 96 = dktX0_report_4 := dk_seg dksX0_report_3 24 rfl rfl
theorem dksX0_report_5 : cX0_report.data.toList.drop 118 = dktX0_report_5 := dk_seg dksX0_report_4 22 rfl rfl
theorem dX0_report_0 : decode cX0_report 0 = .ok (.iload_n 1, 1) := dk_27 (dk_at dksX0_report_0 0 rfl rfl)
theorem dX0_report_1 : decode cX0_report 1 = .ok (.invokestatic 170, 3) := dk_184 0 170 (dk_at dksX0_report_0 1 rfl rfl)
theorem dX0_report_4 : decode cX0_report 4 = .ok (.ifCond .eq 33, 3) := dk_153 0 33 (dk_at dksX0_report_0 4 rfl rfl)
theorem dX0_report_7 : decode cX0_report 7 = .ok (.iload_n 2, 1) := dk_28 (dk_at dksX0_report_0 7 rfl rfl)
theorem dX0_report_8 : decode cX0_report 8 = .ok (.iconst 0, 1) := dk_3 (dk_at dksX0_report_0 8 rfl rfl)
theorem dX0_report_9 : decode cX0_report 9 = .ok (.bipush 15, 2) := dk_16 15 (dk_at dksX0_report_0 9 rfl rfl)
theorem dX0_report_11 : decode cX0_report 11 = .ok (.invokestatic 150, 3) := dk_184 0 150 (dk_at dksX0_report_0 11 rfl rfl)
theorem dX0_report_14 : decode cX0_report 14 = .ok (.ifCond .eq 23, 3) := dk_153 0 23 (dk_at dksX0_report_0 14 rfl rfl)
theorem dX0_report_17 : decode cX0_report 17 = .ok (.iload_n 3, 1) := dk_29 (dk_at dksX0_report_0 17 rfl rfl)
theorem dX0_report_18 : decode cX0_report 18 = .ok (.iconst 0, 1) := dk_3 (dk_at dksX0_report_0 18 rfl rfl)
theorem dX0_report_19 : decode cX0_report 19 = .ok (.bipush 31, 2) := dk_16 31 (dk_at dksX0_report_0 19 rfl rfl)
theorem dX0_report_21 : decode cX0_report 21 = .ok (.invokestatic 150, 3) := dk_184 0 150 (dk_at dksX0_report_0 21 rfl rfl)
theorem dX0_report_24 : decode cX0_report 24 = .ok (.ifCond .eq 13, 3) := dk_153 0 13 (dk_at dksX0_report_1 0 rfl rfl)
theorem dX0_report_27 : decode cX0_report 27 = .ok (.iload 4, 2) := dk_21 4 (dk_at dksX0_report_1 3 rfl rfl)
theorem dX0_report_29 : decode cX0_report 29 = .ok (.iconst 0, 1) := dk_3 (dk_at dksX0_report_1 5 rfl rfl)
theorem dX0_report_30 : decode cX0_report 30 = .ok (.iconst 1, 1) := dk_4 (dk_at dksX0_report_1 6 rfl rfl)
theorem dX0_report_31 : decode cX0_report 31 = .ok (.invokestatic 150, 3) := dk_184 0 150 (dk_at dksX0_report_1 7 rfl rfl)
theorem dX0_report_34 : decode cX0_report 34 = .ok (.ifCond .ne 5, 3) := dk_154 0 5 (dk_at dksX0_report_1 10 rfl rfl)
theorem dX0_report_37 : decode cX0_report 37 = .ok (.iconst (-1), 1) := dk_2 (dk_at dksX0_report_1 13 rfl rfl)
theorem dX0_report_38 : decode cX0_report 38 = .ok (.ireturn, 1) := dk_172 (dk_at dksX0_report_1 14 rfl rfl)
theorem dX0_report_39 : decode cX0_report 39 = .ok (.aload_n 0, 1) := dk_42 (dk_at dksX0_report_1 15 rfl rfl)
theorem dX0_report_40 : decode cX0_report 40 = .ok (.getfield 47, 3) := dk_180 0 47 (dk_at dksX0_report_1 16 rfl rfl)
theorem dX0_report_43 : decode cX0_report 43 = .ok (.getfield 471, 3) := dk_180 1 215 (dk_at dksX0_report_1 19 rfl rfl)
theorem dX0_report_46 : decode cX0_report 46 = .ok (.bipush 6, 2) := dk_16 6 (dk_at dksX0_report_1 22 rfl rfl)
theorem dX0_report_48 : decode cX0_report 48 = .ok (.if_icmp .ne 6, 3) := dk_160 0 6 (dk_at dksX0_report_2 0 rfl rfl)
theorem dX0_report_51 : decode cX0_report 51 = .ok (.bipush (-2), 2) := dk_16 254 (dk_at dksX0_report_2 3 rfl rfl)
theorem dX0_report_53 : decode cX0_report 53 = .ok (.ireturn, 1) := dk_172 (dk_at dksX0_report_2 5 rfl rfl)
theorem dX0_report_54 : decode cX0_report 54 = .ok (.aload_n 0, 1) := dk_42 (dk_at dksX0_report_2 6 rfl rfl)
theorem dX0_report_55 : decode cX0_report 55 = .ok (.getfield 47, 3) := dk_180 0 47 (dk_at dksX0_report_2 7 rfl rfl)
theorem dX0_report_58 : decode cX0_report 58 = .ok (.getfield 471, 3) := dk_180 1 215 (dk_at dksX0_report_2 10 rfl rfl)
theorem dX0_report_61 : decode cX0_report 61 = .ok (.istore 5, 2) := dk_54 5 (dk_at dksX0_report_2 13 rfl rfl)
theorem dX0_report_63 : decode cX0_report 63 = .ok (.aload_n 0, 1) := dk_42 (dk_at dksX0_report_2 15 rfl rfl)
theorem dX0_report_64 : decode cX0_report 64 = .ok (.getfield 47, 3) := dk_180 0 47 (dk_at dksX0_report_2 16 rfl rfl)
theorem dX0_report_67 : decode cX0_report 67 = .ok (.getfield 474, 3) := dk_180 1 218 (dk_at dksX0_report_2 19 rfl rfl)
theorem dX0_report_70 : decode cX0_report 70 = .ok (.iload 5, 2) := dk_21 5 (dk_at dksX0_report_2 22 rfl rfl)
theorem dX0_report_72 : decode cX0_report 72 = .ok (.iload_n 1, 1) := dk_27 (dk_at dksX0_report_3 0 rfl rfl)
theorem dX0_report_73 : decode cX0_report 73 = .ok (.iastore, 1) := dk_79 (dk_at dksX0_report_3 1 rfl rfl)
theorem dX0_report_74 : decode cX0_report 74 = .ok (.aload_n 0, 1) := dk_42 (dk_at dksX0_report_3 2 rfl rfl)
theorem dX0_report_75 : decode cX0_report 75 = .ok (.getfield 47, 3) := dk_180 0 47 (dk_at dksX0_report_3 3 rfl rfl)
theorem dX0_report_78 : decode cX0_report 78 = .ok (.getfield 477, 3) := dk_180 1 221 (dk_at dksX0_report_3 6 rfl rfl)
theorem dX0_report_81 : decode cX0_report 81 = .ok (.iload 5, 2) := dk_21 5 (dk_at dksX0_report_3 9 rfl rfl)
theorem dX0_report_83 : decode cX0_report 83 = .ok (.iload_n 2, 1) := dk_28 (dk_at dksX0_report_3 11 rfl rfl)
theorem dX0_report_84 : decode cX0_report 84 = .ok (.iastore, 1) := dk_79 (dk_at dksX0_report_3 12 rfl rfl)
theorem dX0_report_85 : decode cX0_report 85 = .ok (.aload_n 0, 1) := dk_42 (dk_at dksX0_report_3 13 rfl rfl)
theorem dX0_report_86 : decode cX0_report 86 = .ok (.getfield 47, 3) := dk_180 0 47 (dk_at dksX0_report_3 14 rfl rfl)
theorem dX0_report_89 : decode cX0_report 89 = .ok (.getfield 480, 3) := dk_180 1 224 (dk_at dksX0_report_3 17 rfl rfl)
theorem dX0_report_92 : decode cX0_report 92 = .ok (.iload 5, 2) := dk_21 5 (dk_at dksX0_report_3 20 rfl rfl)
theorem dX0_report_94 : decode cX0_report 94 = .ok (.iload_n 3, 1) := dk_29 (dk_at dksX0_report_3 22 rfl rfl)
theorem dX0_report_95 : decode cX0_report 95 = .ok (.iastore, 1) := dk_79 (dk_at dksX0_report_3 23 rfl rfl)
theorem dX0_report_96 : decode cX0_report 96 = .ok (.aload_n 0, 1) := dk_42 (dk_at dksX0_report_4 0 rfl rfl)
theorem dX0_report_97 : decode cX0_report 97 = .ok (.getfield 47, 3) := dk_180 0 47 (dk_at dksX0_report_4 1 rfl rfl)
theorem dX0_report_100 : decode cX0_report 100 = .ok (.getfield 483, 3) := dk_180 1 227 (dk_at dksX0_report_4 4 rfl rfl)
theorem dX0_report_103 : decode cX0_report 103 = .ok (.iload 5, 2) := dk_21 5 (dk_at dksX0_report_4 7 rfl rfl)
theorem dX0_report_105 : decode cX0_report 105 = .ok (.iload 4, 2) := dk_21 4 (dk_at dksX0_report_4 9 rfl rfl)
theorem dX0_report_107 : decode cX0_report 107 = .ok (.iastore, 1) := dk_79 (dk_at dksX0_report_4 11 rfl rfl)
theorem dX0_report_108 : decode cX0_report 108 = .ok (.aload_n 0, 1) := dk_42 (dk_at dksX0_report_4 12 rfl rfl)
theorem dX0_report_109 : decode cX0_report 109 = .ok (.getfield 47, 3) := dk_180 0 47 (dk_at dksX0_report_4 13 rfl rfl)
theorem dX0_report_112 : decode cX0_report 112 = .ok (.dup, 1) := dk_89 (dk_at dksX0_report_4 16 rfl rfl)
theorem dX0_report_113 : decode cX0_report 113 = .ok (.getfield 471, 3) := dk_180 1 215 (dk_at dksX0_report_4 17 rfl rfl)
theorem dX0_report_116 : decode cX0_report 116 = .ok (.iconst 1, 1) := dk_4 (dk_at dksX0_report_4 20 rfl rfl)
theorem dX0_report_117 : decode cX0_report 117 = .ok (.iadd, 1) := dk_96 (dk_at dksX0_report_4 21 rfl rfl)
theorem dX0_report_118 : decode cX0_report 118 = .ok (.putfield 471, 3) := dk_181 1 215 (dk_at dksX0_report_5 0 rfl rfl)
theorem dX0_report_121 : decode cX0_report 121 = .ok (.iload 5, 2) := dk_21 5 (dk_at dksX0_report_5 3 rfl rfl)
theorem dX0_report_123 : decode cX0_report 123 = .ok (.ireturn, 1) := dk_172 (dk_at dksX0_report_5 5 rfl rfl)
abbrev cX0_forget : ByteArray := prog_1_method_85_code
def yX0_forget : MethodName := ⟨RX0, "forget", "()I"⟩
def dkwX0_forget_0 : List UInt8 := [42, 180, 0, 47, 180, 1, 215, 60, 42, 180, 0, 47, 3, 181, 1, 215, 27, 172]
abbrev dktX0_forget_0 : List UInt8 := dkwX0_forget_0 ++ []
theorem dksX0_forget_0 : cX0_forget.data.toList.drop 0 = dktX0_forget_0 := by decide +kernel
theorem dX0_forget_0 : decode cX0_forget 0 = .ok (.aload_n 0, 1) := dk_42 (dk_at dksX0_forget_0 0 rfl rfl)
theorem dX0_forget_1 : decode cX0_forget 1 = .ok (.getfield 47, 3) := dk_180 0 47 (dk_at dksX0_forget_0 1 rfl rfl)
theorem dX0_forget_4 : decode cX0_forget 4 = .ok (.getfield 471, 3) := dk_180 1 215 (dk_at dksX0_forget_0 4 rfl rfl)
theorem dX0_forget_7 : decode cX0_forget 7 = .ok (.istore_n 1, 1) := dk_60 (dk_at dksX0_forget_0 7 rfl rfl)
theorem dX0_forget_8 : decode cX0_forget 8 = .ok (.aload_n 0, 1) := dk_42 (dk_at dksX0_forget_0 8 rfl rfl)
theorem dX0_forget_9 : decode cX0_forget 9 = .ok (.getfield 47, 3) := dk_180 0 47 (dk_at dksX0_forget_0 9 rfl rfl)
theorem dX0_forget_12 : decode cX0_forget 12 = .ok (.iconst 0, 1) := dk_3 (dk_at dksX0_forget_0 12 rfl rfl)
theorem dX0_forget_13 : decode cX0_forget 13 = .ok (.putfield 471, 3) := dk_181 1 215 (dk_at dksX0_forget_0 13 rfl rfl)
theorem dX0_forget_16 : decode cX0_forget 16 = .ok (.iload_n 1, 1) := dk_27 (dk_at dksX0_forget_0 16 rfl rfl)
theorem dX0_forget_17 : decode cX0_forget 17 = .ok (.ireturn, 1) := dk_172 (dk_at dksX0_forget_0 17 rfl rfl)
abbrev cX0_span : ByteArray := prog_1_method_89_code
def yX0_span : MethodName := ⟨RX0, "span", "(I)I"⟩
def dkwX0_span_3 : List UInt8 := [172]
abbrev dktX0_span_3 : List UInt8 := dkwX0_span_3 ++ []
def dkwX0_span_2 : List UInt8 := [160, 0, 16, 42, 180, 1, 237, 16, 9, 108, 16, 9, 112, 167, 0, 10, 42, 180, 1, 237, 16, 9, 112, 96]
abbrev dktX0_span_2 : List UInt8 := dkwX0_span_2 ++ dktX0_span_3
def dkwX0_span_1 : List UInt8 := [154, 0, 6, 16, 253, 172, 4, 27, 4, 160, 0, 13, 42, 180, 1, 237, 16, 81, 108, 167, 0, 28, 27, 5]
abbrev dktX0_span_1 : List UInt8 := dkwX0_span_1 ++ dktX0_span_2
def dkwX0_span_0 : List UInt8 := [27, 3, 6, 184, 0, 150, 154, 0, 5, 2, 172, 42, 2, 182, 1, 240, 61, 27, 154, 0, 5, 28, 172, 28]
abbrev dktX0_span_0 : List UInt8 := dkwX0_span_0 ++ dktX0_span_1
theorem dksX0_span_0 : cX0_span.data.toList.drop 0 = dktX0_span_0 := by decide +kernel
theorem dksX0_span_1 : cX0_span.data.toList.drop 24 = dktX0_span_1 := dk_seg dksX0_span_0 24 rfl rfl
theorem dksX0_span_2 : cX0_span.data.toList.drop 48 = dktX0_span_2 := dk_seg dksX0_span_1 24 rfl rfl
theorem dksX0_span_3 : cX0_span.data.toList.drop 72 = dktX0_span_3 := dk_seg dksX0_span_2 24 rfl rfl
theorem dX0_span_0 : decode cX0_span 0 = .ok (.iload_n 1, 1) := dk_27 (dk_at dksX0_span_0 0 rfl rfl)
theorem dX0_span_1 : decode cX0_span 1 = .ok (.iconst 0, 1) := dk_3 (dk_at dksX0_span_0 1 rfl rfl)
theorem dX0_span_2 : decode cX0_span 2 = .ok (.iconst 3, 1) := dk_6 (dk_at dksX0_span_0 2 rfl rfl)
theorem dX0_span_3 : decode cX0_span 3 = .ok (.invokestatic 150, 3) := dk_184 0 150 (dk_at dksX0_span_0 3 rfl rfl)
theorem dX0_span_6 : decode cX0_span 6 = .ok (.ifCond .ne 5, 3) := dk_154 0 5 (dk_at dksX0_span_0 6 rfl rfl)
theorem dX0_span_9 : decode cX0_span 9 = .ok (.iconst (-1), 1) := dk_2 (dk_at dksX0_span_0 9 rfl rfl)
theorem dX0_span_10 : decode cX0_span 10 = .ok (.ireturn, 1) := dk_172 (dk_at dksX0_span_0 10 rfl rfl)
theorem dX0_span_11 : decode cX0_span 11 = .ok (.aload_n 0, 1) := dk_42 (dk_at dksX0_span_0 11 rfl rfl)
theorem dX0_span_12 : decode cX0_span 12 = .ok (.iconst (-1), 1) := dk_2 (dk_at dksX0_span_0 12 rfl rfl)
theorem dX0_span_13 : decode cX0_span 13 = .ok (.invokevirtual 496, 3) := dk_182 1 240 (dk_at dksX0_span_0 13 rfl rfl)
theorem dX0_span_16 : decode cX0_span 16 = .ok (.istore_n 2, 1) := dk_61 (dk_at dksX0_span_0 16 rfl rfl)
theorem dX0_span_17 : decode cX0_span 17 = .ok (.iload_n 1, 1) := dk_27 (dk_at dksX0_span_0 17 rfl rfl)
theorem dX0_span_18 : decode cX0_span 18 = .ok (.ifCond .ne 5, 3) := dk_154 0 5 (dk_at dksX0_span_0 18 rfl rfl)
theorem dX0_span_21 : decode cX0_span 21 = .ok (.iload_n 2, 1) := dk_28 (dk_at dksX0_span_0 21 rfl rfl)
theorem dX0_span_22 : decode cX0_span 22 = .ok (.ireturn, 1) := dk_172 (dk_at dksX0_span_0 22 rfl rfl)
theorem dX0_span_23 : decode cX0_span 23 = .ok (.iload_n 2, 1) := dk_28 (dk_at dksX0_span_0 23 rfl rfl)
theorem dX0_span_24 : decode cX0_span 24 = .ok (.ifCond .ne 6, 3) := dk_154 0 6 (dk_at dksX0_span_1 0 rfl rfl)
theorem dX0_span_27 : decode cX0_span 27 = .ok (.bipush (-3), 2) := dk_16 253 (dk_at dksX0_span_1 3 rfl rfl)
theorem dX0_span_29 : decode cX0_span 29 = .ok (.ireturn, 1) := dk_172 (dk_at dksX0_span_1 5 rfl rfl)
theorem dX0_span_30 : decode cX0_span 30 = .ok (.iconst 1, 1) := dk_4 (dk_at dksX0_span_1 6 rfl rfl)
theorem dX0_span_31 : decode cX0_span 31 = .ok (.iload_n 1, 1) := dk_27 (dk_at dksX0_span_1 7 rfl rfl)
theorem dX0_span_32 : decode cX0_span 32 = .ok (.iconst 1, 1) := dk_4 (dk_at dksX0_span_1 8 rfl rfl)
theorem dX0_span_33 : decode cX0_span 33 = .ok (.if_icmp .ne 13, 3) := dk_160 0 13 (dk_at dksX0_span_1 9 rfl rfl)
theorem dX0_span_36 : decode cX0_span 36 = .ok (.aload_n 0, 1) := dk_42 (dk_at dksX0_span_1 12 rfl rfl)
theorem dX0_span_37 : decode cX0_span 37 = .ok (.getfield 493, 3) := dk_180 1 237 (dk_at dksX0_span_1 13 rfl rfl)
theorem dX0_span_40 : decode cX0_span 40 = .ok (.bipush 81, 2) := dk_16 81 (dk_at dksX0_span_1 16 rfl rfl)
theorem dX0_span_42 : decode cX0_span 42 = .ok (.idiv, 1) := dk_108 (dk_at dksX0_span_1 18 rfl rfl)
theorem dX0_span_43 : decode cX0_span 43 = .ok (.goto 28, 3) := dk_167 0 28 (dk_at dksX0_span_1 19 rfl rfl)
theorem dX0_span_46 : decode cX0_span 46 = .ok (.iload_n 1, 1) := dk_27 (dk_at dksX0_span_1 22 rfl rfl)
theorem dX0_span_47 : decode cX0_span 47 = .ok (.iconst 2, 1) := dk_5 (dk_at dksX0_span_1 23 rfl rfl)
theorem dX0_span_48 : decode cX0_span 48 = .ok (.if_icmp .ne 16, 3) := dk_160 0 16 (dk_at dksX0_span_2 0 rfl rfl)
theorem dX0_span_51 : decode cX0_span 51 = .ok (.aload_n 0, 1) := dk_42 (dk_at dksX0_span_2 3 rfl rfl)
theorem dX0_span_52 : decode cX0_span 52 = .ok (.getfield 493, 3) := dk_180 1 237 (dk_at dksX0_span_2 4 rfl rfl)
theorem dX0_span_55 : decode cX0_span 55 = .ok (.bipush 9, 2) := dk_16 9 (dk_at dksX0_span_2 7 rfl rfl)
theorem dX0_span_57 : decode cX0_span 57 = .ok (.idiv, 1) := dk_108 (dk_at dksX0_span_2 9 rfl rfl)
theorem dX0_span_58 : decode cX0_span 58 = .ok (.bipush 9, 2) := dk_16 9 (dk_at dksX0_span_2 10 rfl rfl)
theorem dX0_span_60 : decode cX0_span 60 = .ok (.irem, 1) := dk_112 (dk_at dksX0_span_2 12 rfl rfl)
theorem dX0_span_61 : decode cX0_span 61 = .ok (.goto 10, 3) := dk_167 0 10 (dk_at dksX0_span_2 13 rfl rfl)
theorem dX0_span_64 : decode cX0_span 64 = .ok (.aload_n 0, 1) := dk_42 (dk_at dksX0_span_2 16 rfl rfl)
theorem dX0_span_65 : decode cX0_span 65 = .ok (.getfield 493, 3) := dk_180 1 237 (dk_at dksX0_span_2 17 rfl rfl)
theorem dX0_span_68 : decode cX0_span 68 = .ok (.bipush 9, 2) := dk_16 9 (dk_at dksX0_span_2 20 rfl rfl)
theorem dX0_span_70 : decode cX0_span 70 = .ok (.irem, 1) := dk_112 (dk_at dksX0_span_2 22 rfl rfl)
theorem dX0_span_71 : decode cX0_span 71 = .ok (.iadd, 1) := dk_96 (dk_at dksX0_span_2 23 rfl rfl)
theorem dX0_span_72 : decode cX0_span 72 = .ok (.ireturn, 1) := dk_172 (dk_at dksX0_span_3 0 rfl rfl)
abbrev cX0_fitsBut : ByteArray := prog_1_method_88_code
def yX0_fitsBut : MethodName := ⟨RX0, "fitsBut", "(I)I"⟩
def dkwX0_fitsBut_2 : List UInt8 := [132, 4, 1, 167, 255, 222, 42, 29, 181, 1, 237, 132, 2, 1, 132, 3, 255, 167, 255, 201, 28, 172]
abbrev dktX0_fitsBut_2 : List UInt8 := dkwX0_fitsBut_2 ++ []
def dkwX0_fitsBut_1 : List UInt8 := [162, 0, 28, 21, 4, 27, 159, 0, 16, 42, 21, 4, 29, 182, 1, 234, 154, 0, 6, 167, 0, 17]
abbrev dktX0_fitsBut_1 : List UInt8 := dkwX0_fitsBut_1 ++ dktX0_fitsBut_2
def dkwX0_fitsBut_0 : List UInt8 := [3, 61, 17, 1, 148, 62, 29, 155, 0, 57, 3, 54, 4, 21, 4, 42, 180, 0, 47, 180, 1, 215]
abbrev dktX0_fitsBut_0 : List UInt8 := dkwX0_fitsBut_0 ++ dktX0_fitsBut_1
theorem dksX0_fitsBut_0 : cX0_fitsBut.data.toList.drop 0 = dktX0_fitsBut_0 := by decide +kernel
theorem dksX0_fitsBut_1 : cX0_fitsBut.data.toList.drop 22 = dktX0_fitsBut_1 := dk_seg dksX0_fitsBut_0 22 rfl rfl
theorem dksX0_fitsBut_2 : cX0_fitsBut.data.toList.drop 44 = dktX0_fitsBut_2 := dk_seg dksX0_fitsBut_1 22 rfl rfl
theorem dX0_fitsBut_0 : decode cX0_fitsBut 0 = .ok (.iconst 0, 1) := dk_3 (dk_at dksX0_fitsBut_0 0 rfl rfl)
theorem dX0_fitsBut_1 : decode cX0_fitsBut 1 = .ok (.istore_n 2, 1) := dk_61 (dk_at dksX0_fitsBut_0 1 rfl rfl)
theorem dX0_fitsBut_2 : decode cX0_fitsBut 2 = .ok (.sipush 404, 3) := dk_17 1 148 (dk_at dksX0_fitsBut_0 2 rfl rfl)
theorem dX0_fitsBut_5 : decode cX0_fitsBut 5 = .ok (.istore_n 3, 1) := dk_62 (dk_at dksX0_fitsBut_0 5 rfl rfl)
theorem dX0_fitsBut_6 : decode cX0_fitsBut 6 = .ok (.iload_n 3, 1) := dk_29 (dk_at dksX0_fitsBut_0 6 rfl rfl)
theorem dX0_fitsBut_7 : decode cX0_fitsBut 7 = .ok (.ifCond .lt 57, 3) := dk_155 0 57 (dk_at dksX0_fitsBut_0 7 rfl rfl)
theorem dX0_fitsBut_10 : decode cX0_fitsBut 10 = .ok (.iconst 0, 1) := dk_3 (dk_at dksX0_fitsBut_0 10 rfl rfl)
theorem dX0_fitsBut_11 : decode cX0_fitsBut 11 = .ok (.istore 4, 2) := dk_54 4 (dk_at dksX0_fitsBut_0 11 rfl rfl)
theorem dX0_fitsBut_13 : decode cX0_fitsBut 13 = .ok (.iload 4, 2) := dk_21 4 (dk_at dksX0_fitsBut_0 13 rfl rfl)
theorem dX0_fitsBut_15 : decode cX0_fitsBut 15 = .ok (.aload_n 0, 1) := dk_42 (dk_at dksX0_fitsBut_0 15 rfl rfl)
theorem dX0_fitsBut_16 : decode cX0_fitsBut 16 = .ok (.getfield 47, 3) := dk_180 0 47 (dk_at dksX0_fitsBut_0 16 rfl rfl)
theorem dX0_fitsBut_19 : decode cX0_fitsBut 19 = .ok (.getfield 471, 3) := dk_180 1 215 (dk_at dksX0_fitsBut_0 19 rfl rfl)
theorem dX0_fitsBut_22 : decode cX0_fitsBut 22 = .ok (.if_icmp .ge 28, 3) := dk_162 0 28 (dk_at dksX0_fitsBut_1 0 rfl rfl)
theorem dX0_fitsBut_25 : decode cX0_fitsBut 25 = .ok (.iload 4, 2) := dk_21 4 (dk_at dksX0_fitsBut_1 3 rfl rfl)
theorem dX0_fitsBut_27 : decode cX0_fitsBut 27 = .ok (.iload_n 1, 1) := dk_27 (dk_at dksX0_fitsBut_1 5 rfl rfl)
theorem dX0_fitsBut_28 : decode cX0_fitsBut 28 = .ok (.if_icmp .eq 16, 3) := dk_159 0 16 (dk_at dksX0_fitsBut_1 6 rfl rfl)
theorem dX0_fitsBut_31 : decode cX0_fitsBut 31 = .ok (.aload_n 0, 1) := dk_42 (dk_at dksX0_fitsBut_1 9 rfl rfl)
theorem dX0_fitsBut_32 : decode cX0_fitsBut 32 = .ok (.iload 4, 2) := dk_21 4 (dk_at dksX0_fitsBut_1 10 rfl rfl)
theorem dX0_fitsBut_34 : decode cX0_fitsBut 34 = .ok (.iload_n 3, 1) := dk_29 (dk_at dksX0_fitsBut_1 12 rfl rfl)
theorem dX0_fitsBut_35 : decode cX0_fitsBut 35 = .ok (.invokevirtual 490, 3) := dk_182 1 234 (dk_at dksX0_fitsBut_1 13 rfl rfl)
theorem dX0_fitsBut_38 : decode cX0_fitsBut 38 = .ok (.ifCond .ne 6, 3) := dk_154 0 6 (dk_at dksX0_fitsBut_1 16 rfl rfl)
theorem dX0_fitsBut_41 : decode cX0_fitsBut 41 = .ok (.goto 17, 3) := dk_167 0 17 (dk_at dksX0_fitsBut_1 19 rfl rfl)
theorem dX0_fitsBut_44 : decode cX0_fitsBut 44 = .ok (.iinc 4 1, 3) := dk_132 4 1 (dk_at dksX0_fitsBut_2 0 rfl rfl)
theorem dX0_fitsBut_47 : decode cX0_fitsBut 47 = .ok (.goto (-34), 3) := dk_167 255 222 (dk_at dksX0_fitsBut_2 3 rfl rfl)
theorem dX0_fitsBut_50 : decode cX0_fitsBut 50 = .ok (.aload_n 0, 1) := dk_42 (dk_at dksX0_fitsBut_2 6 rfl rfl)
theorem dX0_fitsBut_51 : decode cX0_fitsBut 51 = .ok (.iload_n 3, 1) := dk_29 (dk_at dksX0_fitsBut_2 7 rfl rfl)
theorem dX0_fitsBut_52 : decode cX0_fitsBut 52 = .ok (.putfield 493, 3) := dk_181 1 237 (dk_at dksX0_fitsBut_2 8 rfl rfl)
theorem dX0_fitsBut_55 : decode cX0_fitsBut 55 = .ok (.iinc 2 1, 3) := dk_132 2 1 (dk_at dksX0_fitsBut_2 11 rfl rfl)
theorem dX0_fitsBut_58 : decode cX0_fitsBut 58 = .ok (.iinc 3 (-1), 3) := dk_132 3 255 (dk_at dksX0_fitsBut_2 14 rfl rfl)
theorem dX0_fitsBut_61 : decode cX0_fitsBut 61 = .ok (.goto (-55), 3) := dk_167 255 201 (dk_at dksX0_fitsBut_2 17 rfl rfl)
theorem dX0_fitsBut_64 : decode cX0_fitsBut 64 = .ok (.iload_n 2, 1) := dk_28 (dk_at dksX0_fitsBut_2 20 rfl rfl)
theorem dX0_fitsBut_65 : decode cX0_fitsBut 65 = .ok (.ireturn, 1) := dk_172 (dk_at dksX0_fitsBut_2 21 rfl rfl)
abbrev cX0_isSo : ByteArray := prog_1_method_87_code
def yX0_isSo : MethodName := ⟨RX0, "isSo", "(II)Z"⟩
def dkwX0_isSo_4 : List UInt8 := [180, 1, 227, 27, 46, 160, 0, 7, 4, 167, 0, 4, 3, 172]
abbrev dktX0_isSo_4 : List UInt8 := dkwX0_isSo_4 ++ []
def dkwX0_isSo_3 : List UInt8 := [180, 1, 224, 27, 46, 163, 0, 14, 21, 4, 16, 31, 163, 0, 7, 4, 167, 0, 4, 3, 42, 180, 0, 47]
abbrev dktX0_isSo_3 : List UInt8 := dkwX0_isSo_3 ++ dktX0_isSo_4
def dkwX0_isSo_2 : List UInt8 := [180, 0, 47, 180, 1, 218, 27, 46, 162, 0, 9, 132, 4, 1, 167, 255, 222, 21, 4, 42, 180, 0, 47]
abbrev dktX0_isSo_2 : List UInt8 := dkwX0_isSo_2 ++ dktX0_isSo_3
def dkwX0_isSo_1 : List UInt8 := [54, 4, 21, 4, 16, 31, 163, 0, 33, 45, 4, 28, 16, 9, 112, 96, 21, 4, 182, 0, 188, 42]
abbrev dktX0_isSo_1 : List UInt8 := dkwX0_isSo_1 ++ dktX0_isSo_2
def dkwX0_isSo_0 : List UInt8 := [42, 28, 16, 9, 108, 182, 1, 230, 78, 42, 180, 0, 47, 180, 1, 221, 27, 46, 45, 182, 0, 213, 96]
abbrev dktX0_isSo_0 : List UInt8 := dkwX0_isSo_0 ++ dktX0_isSo_1
theorem dksX0_isSo_0 : cX0_isSo.data.toList.drop 0 = dktX0_isSo_0 := by decide +kernel
theorem dksX0_isSo_1 : cX0_isSo.data.toList.drop 23 = dktX0_isSo_1 := dk_seg dksX0_isSo_0 23 rfl rfl
theorem dksX0_isSo_2 : cX0_isSo.data.toList.drop 45 = dktX0_isSo_2 := dk_seg dksX0_isSo_1 22 rfl rfl
theorem dksX0_isSo_3 : cX0_isSo.data.toList.drop 68 = dktX0_isSo_3 := dk_seg dksX0_isSo_2 23 rfl rfl
theorem dksX0_isSo_4 : cX0_isSo.data.toList.drop 92 = dktX0_isSo_4 := dk_seg dksX0_isSo_3 24 rfl rfl
theorem dX0_isSo_0 : decode cX0_isSo 0 = .ok (.aload_n 0, 1) := dk_42 (dk_at dksX0_isSo_0 0 rfl rfl)
theorem dX0_isSo_1 : decode cX0_isSo 1 = .ok (.iload_n 2, 1) := dk_28 (dk_at dksX0_isSo_0 1 rfl rfl)
theorem dX0_isSo_2 : decode cX0_isSo 2 = .ok (.bipush 9, 2) := dk_16 9 (dk_at dksX0_isSo_0 2 rfl rfl)
theorem dX0_isSo_4 : decode cX0_isSo 4 = .ok (.idiv, 1) := dk_108 (dk_at dksX0_isSo_0 4 rfl rfl)
theorem dX0_isSo_5 : decode cX0_isSo 5 = .ok (.invokevirtual 486, 3) := dk_182 1 230 (dk_at dksX0_isSo_0 5 rfl rfl)
theorem dX0_isSo_8 : decode cX0_isSo 8 = .ok (.astore_n 3, 1) := dk_78 (dk_at dksX0_isSo_0 8 rfl rfl)
theorem dX0_isSo_9 : decode cX0_isSo 9 = .ok (.aload_n 0, 1) := dk_42 (dk_at dksX0_isSo_0 9 rfl rfl)
theorem dX0_isSo_10 : decode cX0_isSo 10 = .ok (.getfield 47, 3) := dk_180 0 47 (dk_at dksX0_isSo_0 10 rfl rfl)
theorem dX0_isSo_13 : decode cX0_isSo 13 = .ok (.getfield 477, 3) := dk_180 1 221 (dk_at dksX0_isSo_0 13 rfl rfl)
theorem dX0_isSo_16 : decode cX0_isSo 16 = .ok (.iload_n 1, 1) := dk_27 (dk_at dksX0_isSo_0 16 rfl rfl)
theorem dX0_isSo_17 : decode cX0_isSo 17 = .ok (.iaload, 1) := dk_46 (dk_at dksX0_isSo_0 17 rfl rfl)
theorem dX0_isSo_18 : decode cX0_isSo 18 = .ok (.aload_n 3, 1) := dk_45 (dk_at dksX0_isSo_0 18 rfl rfl)
theorem dX0_isSo_19 : decode cX0_isSo 19 = .ok (.invokevirtual 213, 3) := dk_182 0 213 (dk_at dksX0_isSo_0 19 rfl rfl)
theorem dX0_isSo_22 : decode cX0_isSo 22 = .ok (.iadd, 1) := dk_96 (dk_at dksX0_isSo_0 22 rfl rfl)
theorem dX0_isSo_23 : decode cX0_isSo 23 = .ok (.istore 4, 2) := dk_54 4 (dk_at dksX0_isSo_1 0 rfl rfl)
theorem dX0_isSo_25 : decode cX0_isSo 25 = .ok (.iload 4, 2) := dk_21 4 (dk_at dksX0_isSo_1 2 rfl rfl)
theorem dX0_isSo_27 : decode cX0_isSo 27 = .ok (.bipush 31, 2) := dk_16 31 (dk_at dksX0_isSo_1 4 rfl rfl)
theorem dX0_isSo_29 : decode cX0_isSo 29 = .ok (.if_icmp .gt 33, 3) := dk_163 0 33 (dk_at dksX0_isSo_1 6 rfl rfl)
theorem dX0_isSo_32 : decode cX0_isSo 32 = .ok (.aload_n 3, 1) := dk_45 (dk_at dksX0_isSo_1 9 rfl rfl)
theorem dX0_isSo_33 : decode cX0_isSo 33 = .ok (.iconst 1, 1) := dk_4 (dk_at dksX0_isSo_1 10 rfl rfl)
theorem dX0_isSo_34 : decode cX0_isSo 34 = .ok (.iload_n 2, 1) := dk_28 (dk_at dksX0_isSo_1 11 rfl rfl)
theorem dX0_isSo_35 : decode cX0_isSo 35 = .ok (.bipush 9, 2) := dk_16 9 (dk_at dksX0_isSo_1 12 rfl rfl)
theorem dX0_isSo_37 : decode cX0_isSo 37 = .ok (.irem, 1) := dk_112 (dk_at dksX0_isSo_1 14 rfl rfl)
theorem dX0_isSo_38 : decode cX0_isSo 38 = .ok (.iadd, 1) := dk_96 (dk_at dksX0_isSo_1 15 rfl rfl)
theorem dX0_isSo_39 : decode cX0_isSo 39 = .ok (.iload 4, 2) := dk_21 4 (dk_at dksX0_isSo_1 16 rfl rfl)
theorem dX0_isSo_41 : decode cX0_isSo 41 = .ok (.invokevirtual 188, 3) := dk_182 0 188 (dk_at dksX0_isSo_1 18 rfl rfl)
theorem dX0_isSo_44 : decode cX0_isSo 44 = .ok (.aload_n 0, 1) := dk_42 (dk_at dksX0_isSo_1 21 rfl rfl)
theorem dX0_isSo_45 : decode cX0_isSo 45 = .ok (.getfield 47, 3) := dk_180 0 47 (dk_at dksX0_isSo_2 0 rfl rfl)
theorem dX0_isSo_48 : decode cX0_isSo 48 = .ok (.getfield 474, 3) := dk_180 1 218 (dk_at dksX0_isSo_2 3 rfl rfl)
theorem dX0_isSo_51 : decode cX0_isSo 51 = .ok (.iload_n 1, 1) := dk_27 (dk_at dksX0_isSo_2 6 rfl rfl)
theorem dX0_isSo_52 : decode cX0_isSo 52 = .ok (.iaload, 1) := dk_46 (dk_at dksX0_isSo_2 7 rfl rfl)
theorem dX0_isSo_53 : decode cX0_isSo 53 = .ok (.if_icmp .ge 9, 3) := dk_162 0 9 (dk_at dksX0_isSo_2 8 rfl rfl)
theorem dX0_isSo_56 : decode cX0_isSo 56 = .ok (.iinc 4 1, 3) := dk_132 4 1 (dk_at dksX0_isSo_2 11 rfl rfl)
theorem dX0_isSo_59 : decode cX0_isSo 59 = .ok (.goto (-34), 3) := dk_167 255 222 (dk_at dksX0_isSo_2 14 rfl rfl)
theorem dX0_isSo_62 : decode cX0_isSo 62 = .ok (.iload 4, 2) := dk_21 4 (dk_at dksX0_isSo_2 17 rfl rfl)
theorem dX0_isSo_64 : decode cX0_isSo 64 = .ok (.aload_n 0, 1) := dk_42 (dk_at dksX0_isSo_2 19 rfl rfl)
theorem dX0_isSo_65 : decode cX0_isSo 65 = .ok (.getfield 47, 3) := dk_180 0 47 (dk_at dksX0_isSo_2 20 rfl rfl)
theorem dX0_isSo_68 : decode cX0_isSo 68 = .ok (.getfield 480, 3) := dk_180 1 224 (dk_at dksX0_isSo_3 0 rfl rfl)
theorem dX0_isSo_71 : decode cX0_isSo 71 = .ok (.iload_n 1, 1) := dk_27 (dk_at dksX0_isSo_3 3 rfl rfl)
theorem dX0_isSo_72 : decode cX0_isSo 72 = .ok (.iaload, 1) := dk_46 (dk_at dksX0_isSo_3 4 rfl rfl)
theorem dX0_isSo_73 : decode cX0_isSo 73 = .ok (.if_icmp .gt 14, 3) := dk_163 0 14 (dk_at dksX0_isSo_3 5 rfl rfl)
theorem dX0_isSo_76 : decode cX0_isSo 76 = .ok (.iload 4, 2) := dk_21 4 (dk_at dksX0_isSo_3 8 rfl rfl)
theorem dX0_isSo_78 : decode cX0_isSo 78 = .ok (.bipush 31, 2) := dk_16 31 (dk_at dksX0_isSo_3 10 rfl rfl)
theorem dX0_isSo_80 : decode cX0_isSo 80 = .ok (.if_icmp .gt 7, 3) := dk_163 0 7 (dk_at dksX0_isSo_3 12 rfl rfl)
theorem dX0_isSo_83 : decode cX0_isSo 83 = .ok (.iconst 1, 1) := dk_4 (dk_at dksX0_isSo_3 15 rfl rfl)
theorem dX0_isSo_84 : decode cX0_isSo 84 = .ok (.goto 4, 3) := dk_167 0 4 (dk_at dksX0_isSo_3 16 rfl rfl)
theorem dX0_isSo_87 : decode cX0_isSo 87 = .ok (.iconst 0, 1) := dk_3 (dk_at dksX0_isSo_3 19 rfl rfl)
theorem dX0_isSo_88 : decode cX0_isSo 88 = .ok (.aload_n 0, 1) := dk_42 (dk_at dksX0_isSo_3 20 rfl rfl)
theorem dX0_isSo_89 : decode cX0_isSo 89 = .ok (.getfield 47, 3) := dk_180 0 47 (dk_at dksX0_isSo_3 21 rfl rfl)
theorem dX0_isSo_92 : decode cX0_isSo 92 = .ok (.getfield 483, 3) := dk_180 1 227 (dk_at dksX0_isSo_4 0 rfl rfl)
theorem dX0_isSo_95 : decode cX0_isSo 95 = .ok (.iload_n 1, 1) := dk_27 (dk_at dksX0_isSo_4 3 rfl rfl)
theorem dX0_isSo_96 : decode cX0_isSo 96 = .ok (.iaload, 1) := dk_46 (dk_at dksX0_isSo_4 4 rfl rfl)
theorem dX0_isSo_97 : decode cX0_isSo 97 = .ok (.if_icmp .ne 7, 3) := dk_160 0 7 (dk_at dksX0_isSo_4 5 rfl rfl)
theorem dX0_isSo_100 : decode cX0_isSo 100 = .ok (.iconst 1, 1) := dk_4 (dk_at dksX0_isSo_4 8 rfl rfl)
theorem dX0_isSo_101 : decode cX0_isSo 101 = .ok (.goto 4, 3) := dk_167 0 4 (dk_at dksX0_isSo_4 9 rfl rfl)
theorem dX0_isSo_104 : decode cX0_isSo 104 = .ok (.iconst 0, 1) := dk_3 (dk_at dksX0_isSo_4 12 rfl rfl)
theorem dX0_isSo_105 : decode cX0_isSo 105 = .ok (.ireturn, 1) := dk_172 (dk_at dksX0_isSo_4 13 rfl rfl)
abbrev cX0_strange : ByteArray := prog_1_method_86_code
def yX0_strange : MethodName := ⟨RX0, "strange", "(I)LLeftUndoes$Hand;"⟩
def dkwX0_strange_1 : List UInt8 := [16, 9, 112, 96, 184, 0, 162, 83, 42, 180, 0, 123, 27, 50, 176]
abbrev dktX0_strange_1 : List UInt8 := dkwX0_strange_1 ++ []
def dkwX0_strange_0 : List UInt8 := [42, 180, 0, 123, 27, 50, 199, 0, 25, 42, 180, 0, 123, 27, 4, 27, 16, 9, 108, 96, 3, 4, 27]
abbrev dktX0_strange_0 : List UInt8 := dkwX0_strange_0 ++ dktX0_strange_1
theorem dksX0_strange_0 : cX0_strange.data.toList.drop 0 = dktX0_strange_0 := by decide +kernel
theorem dksX0_strange_1 : cX0_strange.data.toList.drop 23 = dktX0_strange_1 := dk_seg dksX0_strange_0 23 rfl rfl
theorem dX0_strange_0 : decode cX0_strange 0 = .ok (.aload_n 0, 1) := dk_42 (dk_at dksX0_strange_0 0 rfl rfl)
theorem dX0_strange_1 : decode cX0_strange 1 = .ok (.getfield 123, 3) := dk_180 0 123 (dk_at dksX0_strange_0 1 rfl rfl)
theorem dX0_strange_4 : decode cX0_strange 4 = .ok (.iload_n 1, 1) := dk_27 (dk_at dksX0_strange_0 4 rfl rfl)
theorem dX0_strange_5 : decode cX0_strange 5 = .ok (.aaload, 1) := dk_50 (dk_at dksX0_strange_0 5 rfl rfl)
theorem dX0_strange_6 : decode cX0_strange 6 = .ok (.ifnonnull 25, 3) := dk_199 0 25 (dk_at dksX0_strange_0 6 rfl rfl)
theorem dX0_strange_9 : decode cX0_strange 9 = .ok (.aload_n 0, 1) := dk_42 (dk_at dksX0_strange_0 9 rfl rfl)
theorem dX0_strange_10 : decode cX0_strange 10 = .ok (.getfield 123, 3) := dk_180 0 123 (dk_at dksX0_strange_0 10 rfl rfl)
theorem dX0_strange_13 : decode cX0_strange 13 = .ok (.iload_n 1, 1) := dk_27 (dk_at dksX0_strange_0 13 rfl rfl)
theorem dX0_strange_14 : decode cX0_strange 14 = .ok (.iconst 1, 1) := dk_4 (dk_at dksX0_strange_0 14 rfl rfl)
theorem dX0_strange_15 : decode cX0_strange 15 = .ok (.iload_n 1, 1) := dk_27 (dk_at dksX0_strange_0 15 rfl rfl)
theorem dX0_strange_16 : decode cX0_strange 16 = .ok (.bipush 9, 2) := dk_16 9 (dk_at dksX0_strange_0 16 rfl rfl)
theorem dX0_strange_18 : decode cX0_strange 18 = .ok (.idiv, 1) := dk_108 (dk_at dksX0_strange_0 18 rfl rfl)
theorem dX0_strange_19 : decode cX0_strange 19 = .ok (.iadd, 1) := dk_96 (dk_at dksX0_strange_0 19 rfl rfl)
theorem dX0_strange_20 : decode cX0_strange 20 = .ok (.iconst 0, 1) := dk_3 (dk_at dksX0_strange_0 20 rfl rfl)
theorem dX0_strange_21 : decode cX0_strange 21 = .ok (.iconst 1, 1) := dk_4 (dk_at dksX0_strange_0 21 rfl rfl)
theorem dX0_strange_22 : decode cX0_strange 22 = .ok (.iload_n 1, 1) := dk_27 (dk_at dksX0_strange_0 22 rfl rfl)
theorem dX0_strange_23 : decode cX0_strange 23 = .ok (.bipush 9, 2) := dk_16 9 (dk_at dksX0_strange_1 0 rfl rfl)
theorem dX0_strange_25 : decode cX0_strange 25 = .ok (.irem, 1) := dk_112 (dk_at dksX0_strange_1 2 rfl rfl)
theorem dX0_strange_26 : decode cX0_strange 26 = .ok (.iadd, 1) := dk_96 (dk_at dksX0_strange_1 3 rfl rfl)
theorem dX0_strange_27 : decode cX0_strange 27 = .ok (.invokestatic 162, 3) := dk_184 0 162 (dk_at dksX0_strange_1 4 rfl rfl)
theorem dX0_strange_30 : decode cX0_strange 30 = .ok (.aastore, 1) := dk_83 (dk_at dksX0_strange_1 7 rfl rfl)
theorem dX0_strange_31 : decode cX0_strange 31 = .ok (.aload_n 0, 1) := dk_42 (dk_at dksX0_strange_1 8 rfl rfl)
theorem dX0_strange_32 : decode cX0_strange 32 = .ok (.getfield 123, 3) := dk_180 0 123 (dk_at dksX0_strange_1 9 rfl rfl)
theorem dX0_strange_35 : decode cX0_strange 35 = .ok (.iload_n 1, 1) := dk_27 (dk_at dksX0_strange_1 12 rfl rfl)
theorem dX0_strange_36 : decode cX0_strange 36 = .ok (.aaload, 1) := dk_50 (dk_at dksX0_strange_1 13 rfl rfl)
theorem dX0_strange_37 : decode cX0_strange 37 = .ok (.areturn, 1) := dk_176 (dk_at dksX0_strange_1 14 rfl rfl)
abbrev cX0_liar : ByteArray := prog_1_method_90_code
def yX0_liar : MethodName := ⟨RX0, "liar", "()I"⟩
def dkwX0_liar_2 : List UInt8 := [162, 0, 7, 27, 167, 0, 5, 16, 253, 172]
abbrev dktX0_liar_2 : List UInt8 := dkwX0_liar_2 ++ []
def dkwX0_liar_1 : List UInt8 := [42, 27, 182, 1, 240, 154, 0, 9, 132, 1, 1, 167, 255, 234, 27, 42, 180, 0, 47, 180, 1, 215]
abbrev dktX0_liar_1 : List UInt8 := dkwX0_liar_1 ++ dktX0_liar_2
def dkwX0_liar_0 : List UInt8 := [42, 2, 182, 1, 240, 158, 0, 6, 16, 253, 172, 3, 60, 27, 42, 180, 0, 47, 180, 1, 215, 162, 0, 17]
abbrev dktX0_liar_0 : List UInt8 := dkwX0_liar_0 ++ dktX0_liar_1
theorem dksX0_liar_0 : cX0_liar.data.toList.drop 0 = dktX0_liar_0 := by decide +kernel
theorem dksX0_liar_1 : cX0_liar.data.toList.drop 24 = dktX0_liar_1 := dk_seg dksX0_liar_0 24 rfl rfl
theorem dksX0_liar_2 : cX0_liar.data.toList.drop 46 = dktX0_liar_2 := dk_seg dksX0_liar_1 22 rfl rfl
theorem dX0_liar_0 : decode cX0_liar 0 = .ok (.aload_n 0, 1) := dk_42 (dk_at dksX0_liar_0 0 rfl rfl)
theorem dX0_liar_1 : decode cX0_liar 1 = .ok (.iconst (-1), 1) := dk_2 (dk_at dksX0_liar_0 1 rfl rfl)
theorem dX0_liar_2 : decode cX0_liar 2 = .ok (.invokevirtual 496, 3) := dk_182 1 240 (dk_at dksX0_liar_0 2 rfl rfl)
theorem dX0_liar_5 : decode cX0_liar 5 = .ok (.ifCond .le 6, 3) := dk_158 0 6 (dk_at dksX0_liar_0 5 rfl rfl)
theorem dX0_liar_8 : decode cX0_liar 8 = .ok (.bipush (-3), 2) := dk_16 253 (dk_at dksX0_liar_0 8 rfl rfl)
theorem dX0_liar_10 : decode cX0_liar 10 = .ok (.ireturn, 1) := dk_172 (dk_at dksX0_liar_0 10 rfl rfl)
theorem dX0_liar_11 : decode cX0_liar 11 = .ok (.iconst 0, 1) := dk_3 (dk_at dksX0_liar_0 11 rfl rfl)
theorem dX0_liar_12 : decode cX0_liar 12 = .ok (.istore_n 1, 1) := dk_60 (dk_at dksX0_liar_0 12 rfl rfl)
theorem dX0_liar_13 : decode cX0_liar 13 = .ok (.iload_n 1, 1) := dk_27 (dk_at dksX0_liar_0 13 rfl rfl)
theorem dX0_liar_14 : decode cX0_liar 14 = .ok (.aload_n 0, 1) := dk_42 (dk_at dksX0_liar_0 14 rfl rfl)
theorem dX0_liar_15 : decode cX0_liar 15 = .ok (.getfield 47, 3) := dk_180 0 47 (dk_at dksX0_liar_0 15 rfl rfl)
theorem dX0_liar_18 : decode cX0_liar 18 = .ok (.getfield 471, 3) := dk_180 1 215 (dk_at dksX0_liar_0 18 rfl rfl)
theorem dX0_liar_21 : decode cX0_liar 21 = .ok (.if_icmp .ge 17, 3) := dk_162 0 17 (dk_at dksX0_liar_0 21 rfl rfl)
theorem dX0_liar_24 : decode cX0_liar 24 = .ok (.aload_n 0, 1) := dk_42 (dk_at dksX0_liar_1 0 rfl rfl)
theorem dX0_liar_25 : decode cX0_liar 25 = .ok (.iload_n 1, 1) := dk_27 (dk_at dksX0_liar_1 1 rfl rfl)
theorem dX0_liar_26 : decode cX0_liar 26 = .ok (.invokevirtual 496, 3) := dk_182 1 240 (dk_at dksX0_liar_1 2 rfl rfl)
theorem dX0_liar_29 : decode cX0_liar 29 = .ok (.ifCond .ne 9, 3) := dk_154 0 9 (dk_at dksX0_liar_1 5 rfl rfl)
theorem dX0_liar_32 : decode cX0_liar 32 = .ok (.iinc 1 1, 3) := dk_132 1 1 (dk_at dksX0_liar_1 8 rfl rfl)
theorem dX0_liar_35 : decode cX0_liar 35 = .ok (.goto (-22), 3) := dk_167 255 234 (dk_at dksX0_liar_1 11 rfl rfl)
theorem dX0_liar_38 : decode cX0_liar 38 = .ok (.iload_n 1, 1) := dk_27 (dk_at dksX0_liar_1 14 rfl rfl)
theorem dX0_liar_39 : decode cX0_liar 39 = .ok (.aload_n 0, 1) := dk_42 (dk_at dksX0_liar_1 15 rfl rfl)
theorem dX0_liar_40 : decode cX0_liar 40 = .ok (.getfield 47, 3) := dk_180 0 47 (dk_at dksX0_liar_1 16 rfl rfl)
theorem dX0_liar_43 : decode cX0_liar 43 = .ok (.getfield 471, 3) := dk_180 1 215 (dk_at dksX0_liar_1 19 rfl rfl)
theorem dX0_liar_46 : decode cX0_liar 46 = .ok (.if_icmp .ge 7, 3) := dk_162 0 7 (dk_at dksX0_liar_2 0 rfl rfl)
theorem dX0_liar_49 : decode cX0_liar 49 = .ok (.iload_n 1, 1) := dk_27 (dk_at dksX0_liar_2 3 rfl rfl)
theorem dX0_liar_50 : decode cX0_liar 50 = .ok (.goto 5, 3) := dk_167 0 5 (dk_at dksX0_liar_2 4 rfl rfl)
theorem dX0_liar_53 : decode cX0_liar 53 = .ok (.bipush (-3), 2) := dk_16 253 (dk_at dksX0_liar_2 7 rfl rfl)
theorem dX0_liar_55 : decode cX0_liar 55 = .ok (.ireturn, 1) := dk_172 (dk_at dksX0_liar_2 9 rfl rfl)
abbrev cX0_seed : ByteArray := prog_1_method_91_code
def yX0_seed : MethodName := ⟨RX0, "seed", "(I)I"⟩
def dkwX0_seed_0 : List UInt8 := [42, 180, 0, 47, 180, 1, 243, 61, 42, 180, 0, 47, 27, 181, 1, 243, 28, 172]
abbrev dktX0_seed_0 : List UInt8 := dkwX0_seed_0 ++ []
theorem dksX0_seed_0 : cX0_seed.data.toList.drop 0 = dktX0_seed_0 := by decide +kernel
theorem dX0_seed_0 : decode cX0_seed 0 = .ok (.aload_n 0, 1) := dk_42 (dk_at dksX0_seed_0 0 rfl rfl)
theorem dX0_seed_1 : decode cX0_seed 1 = .ok (.getfield 47, 3) := dk_180 0 47 (dk_at dksX0_seed_0 1 rfl rfl)
theorem dX0_seed_4 : decode cX0_seed 4 = .ok (.getfield 499, 3) := dk_180 1 243 (dk_at dksX0_seed_0 4 rfl rfl)
theorem dX0_seed_7 : decode cX0_seed 7 = .ok (.istore_n 2, 1) := dk_61 (dk_at dksX0_seed_0 7 rfl rfl)
theorem dX0_seed_8 : decode cX0_seed 8 = .ok (.aload_n 0, 1) := dk_42 (dk_at dksX0_seed_0 8 rfl rfl)
theorem dX0_seed_9 : decode cX0_seed 9 = .ok (.getfield 47, 3) := dk_180 0 47 (dk_at dksX0_seed_0 9 rfl rfl)
theorem dX0_seed_12 : decode cX0_seed 12 = .ok (.iload_n 1, 1) := dk_27 (dk_at dksX0_seed_0 12 rfl rfl)
theorem dX0_seed_13 : decode cX0_seed 13 = .ok (.putfield 499, 3) := dk_181 1 243 (dk_at dksX0_seed_0 13 rfl rfl)
theorem dX0_seed_16 : decode cX0_seed 16 = .ok (.iload_n 2, 1) := dk_28 (dk_at dksX0_seed_0 16 rfl rfl)
theorem dX0_seed_17 : decode cX0_seed 17 = .ok (.ireturn, 1) := dk_172 (dk_at dksX0_seed_0 17 rfl rfl)
abbrev cX0_lot : ByteArray := prog_1_method_93_code
def yX0_lot : MethodName := ⟨RX0, "lot", "()I"⟩
def dkwX0_lot_0 : List UInt8 := [42, 180, 0, 47, 182, 0, 226, 153, 0, 8, 16, 252, 167, 0, 7, 42, 182, 1, 247, 172]
abbrev dktX0_lot_0 : List UInt8 := dkwX0_lot_0 ++ []
theorem dksX0_lot_0 : cX0_lot.data.toList.drop 0 = dktX0_lot_0 := by decide +kernel
theorem dX0_lot_0 : decode cX0_lot 0 = .ok (.aload_n 0, 1) := dk_42 (dk_at dksX0_lot_0 0 rfl rfl)
theorem dX0_lot_1 : decode cX0_lot 1 = .ok (.getfield 47, 3) := dk_180 0 47 (dk_at dksX0_lot_0 1 rfl rfl)
theorem dX0_lot_4 : decode cX0_lot 4 = .ok (.invokevirtual 226, 3) := dk_182 0 226 (dk_at dksX0_lot_0 4 rfl rfl)
theorem dX0_lot_7 : decode cX0_lot 7 = .ok (.ifCond .eq 8, 3) := dk_153 0 8 (dk_at dksX0_lot_0 7 rfl rfl)
theorem dX0_lot_10 : decode cX0_lot 10 = .ok (.bipush (-4), 2) := dk_16 252 (dk_at dksX0_lot_0 10 rfl rfl)
theorem dX0_lot_12 : decode cX0_lot 12 = .ok (.goto 7, 3) := dk_167 0 7 (dk_at dksX0_lot_0 12 rfl rfl)
theorem dX0_lot_15 : decode cX0_lot 15 = .ok (.aload_n 0, 1) := dk_42 (dk_at dksX0_lot_0 15 rfl rfl)
theorem dX0_lot_16 : decode cX0_lot 16 = .ok (.invokevirtual 503, 3) := dk_182 1 247 (dk_at dksX0_lot_0 16 rfl rfl)
theorem dX0_lot_19 : decode cX0_lot 19 = .ok (.ireturn, 1) := dk_172 (dk_at dksX0_lot_0 19 rfl rfl)
abbrev cX0_drawn : ByteArray := prog_1_method_92_code
def yX0_drawn : MethodName := ⟨RX0, "drawn", "()I"⟩
def dkwX0_drawn_2 : List UInt8 := [172]
abbrev dktX0_drawn_2 : List UInt8 := dkwX0_drawn_2 ++ []
def dkwX0_drawn_1 : List UInt8 := [180, 0, 47, 180, 1, 243, 16, 16, 124, 42, 180, 0, 47, 180, 0, 146, 4, 96, 112, 4, 100, 182, 1, 124]
abbrev dktX0_drawn_1 : List UInt8 := dkwX0_drawn_1 ++ dktX0_drawn_2
def dkwX0_drawn_0 : List UInt8 := [42, 180, 0, 47, 42, 180, 0, 47, 180, 1, 243, 19, 1, 246, 104, 17, 48, 57, 96, 181, 1, 243, 42, 42]
abbrev dktX0_drawn_0 : List UInt8 := dkwX0_drawn_0 ++ dktX0_drawn_1
theorem dksX0_drawn_0 : cX0_drawn.data.toList.drop 0 = dktX0_drawn_0 := by decide +kernel
theorem dksX0_drawn_1 : cX0_drawn.data.toList.drop 24 = dktX0_drawn_1 := dk_seg dksX0_drawn_0 24 rfl rfl
theorem dksX0_drawn_2 : cX0_drawn.data.toList.drop 48 = dktX0_drawn_2 := dk_seg dksX0_drawn_1 24 rfl rfl
theorem dX0_drawn_0 : decode cX0_drawn 0 = .ok (.aload_n 0, 1) := dk_42 (dk_at dksX0_drawn_0 0 rfl rfl)
theorem dX0_drawn_1 : decode cX0_drawn 1 = .ok (.getfield 47, 3) := dk_180 0 47 (dk_at dksX0_drawn_0 1 rfl rfl)
theorem dX0_drawn_4 : decode cX0_drawn 4 = .ok (.aload_n 0, 1) := dk_42 (dk_at dksX0_drawn_0 4 rfl rfl)
theorem dX0_drawn_5 : decode cX0_drawn 5 = .ok (.getfield 47, 3) := dk_180 0 47 (dk_at dksX0_drawn_0 5 rfl rfl)
theorem dX0_drawn_8 : decode cX0_drawn 8 = .ok (.getfield 499, 3) := dk_180 1 243 (dk_at dksX0_drawn_0 8 rfl rfl)
theorem dX0_drawn_11 : decode cX0_drawn 11 = .ok (.ldc_w 502, 3) := dk_19 1 246 (dk_at dksX0_drawn_0 11 rfl rfl)
theorem dX0_drawn_14 : decode cX0_drawn 14 = .ok (.imul, 1) := dk_104 (dk_at dksX0_drawn_0 14 rfl rfl)
theorem dX0_drawn_15 : decode cX0_drawn 15 = .ok (.sipush 12345, 3) := dk_17 48 57 (dk_at dksX0_drawn_0 15 rfl rfl)
theorem dX0_drawn_18 : decode cX0_drawn 18 = .ok (.iadd, 1) := dk_96 (dk_at dksX0_drawn_0 18 rfl rfl)
theorem dX0_drawn_19 : decode cX0_drawn 19 = .ok (.putfield 499, 3) := dk_181 1 243 (dk_at dksX0_drawn_0 19 rfl rfl)
theorem dX0_drawn_22 : decode cX0_drawn 22 = .ok (.aload_n 0, 1) := dk_42 (dk_at dksX0_drawn_0 22 rfl rfl)
theorem dX0_drawn_23 : decode cX0_drawn 23 = .ok (.aload_n 0, 1) := dk_42 (dk_at dksX0_drawn_0 23 rfl rfl)
theorem dX0_drawn_24 : decode cX0_drawn 24 = .ok (.getfield 47, 3) := dk_180 0 47 (dk_at dksX0_drawn_1 0 rfl rfl)
theorem dX0_drawn_27 : decode cX0_drawn 27 = .ok (.getfield 499, 3) := dk_180 1 243 (dk_at dksX0_drawn_1 3 rfl rfl)
theorem dX0_drawn_30 : decode cX0_drawn 30 = .ok (.bipush 16, 2) := dk_16 16 (dk_at dksX0_drawn_1 6 rfl rfl)
theorem dX0_drawn_32 : decode cX0_drawn 32 = .ok (.iushr, 1) := dk_124 (dk_at dksX0_drawn_1 8 rfl rfl)
theorem dX0_drawn_33 : decode cX0_drawn 33 = .ok (.aload_n 0, 1) := dk_42 (dk_at dksX0_drawn_1 9 rfl rfl)
theorem dX0_drawn_34 : decode cX0_drawn 34 = .ok (.getfield 47, 3) := dk_180 0 47 (dk_at dksX0_drawn_1 10 rfl rfl)
theorem dX0_drawn_37 : decode cX0_drawn 37 = .ok (.getfield 146, 3) := dk_180 0 146 (dk_at dksX0_drawn_1 13 rfl rfl)
theorem dX0_drawn_40 : decode cX0_drawn 40 = .ok (.iconst 1, 1) := dk_4 (dk_at dksX0_drawn_1 16 rfl rfl)
theorem dX0_drawn_41 : decode cX0_drawn 41 = .ok (.iadd, 1) := dk_96 (dk_at dksX0_drawn_1 17 rfl rfl)
theorem dX0_drawn_42 : decode cX0_drawn 42 = .ok (.irem, 1) := dk_112 (dk_at dksX0_drawn_1 18 rfl rfl)
theorem dX0_drawn_43 : decode cX0_drawn 43 = .ok (.iconst 1, 1) := dk_4 (dk_at dksX0_drawn_1 19 rfl rfl)
theorem dX0_drawn_44 : decode cX0_drawn 44 = .ok (.isub, 1) := dk_100 (dk_at dksX0_drawn_1 20 rfl rfl)
theorem dX0_drawn_45 : decode cX0_drawn 45 = .ok (.invokevirtual 380, 3) := dk_182 1 124 (dk_at dksX0_drawn_1 21 rfl rfl)
theorem dX0_drawn_48 : decode cX0_drawn 48 = .ok (.ireturn, 1) := dk_172 (dk_at dksX0_drawn_2 0 rfl rfl)
abbrev cX0_often : ByteArray := prog_1_method_95_code
def yX0_often : MethodName := ⟨RX0, "often", "(II)I"⟩
def dkwX0_often_5 : List UInt8 := [182, 1, 130, 21, 5, 172, 58, 7, 42, 180, 0, 47, 42, 180, 0, 54, 182, 1, 130, 25, 7, 191]
abbrev dktX0_often_5 : List UInt8 := dkwX0_often_5 ++ []
def dkwX0_often_4 : List UInt8 := [167, 0, 6, 132, 3, 1, 132, 5, 1, 167, 255, 200, 29, 54, 5, 42, 180, 0, 47, 42, 180, 0, 54]
abbrev dktX0_often_4 : List UInt8 := dkwX0_often_4 ++ dktX0_often_5
def dkwX0_often_3 : List UInt8 := [181, 1, 243, 42, 182, 1, 250, 54, 6, 42, 180, 0, 47, 180, 1, 243, 54, 4, 21, 6, 28, 162, 0, 6]
abbrev dktX0_often_3 : List UInt8 := dkwX0_often_3 ++ dktX0_often_4
def dkwX0_often_2 : List UInt8 := [21, 5, 27, 162, 0, 56, 42, 180, 0, 47, 42, 180, 0, 54, 182, 1, 130, 42, 180, 0, 47, 21, 4]
abbrev dktX0_often_2 : List UInt8 := dkwX0_often_2 ++ dktX0_often_3
def dkwX0_often_1 : List UInt8 := [180, 0, 54, 42, 180, 0, 47, 182, 1, 130, 3, 62, 42, 180, 0, 47, 180, 1, 243, 54, 4, 3, 54, 5]
abbrev dktX0_often_1 : List UInt8 := dkwX0_often_1 ++ dktX0_often_2
def dkwX0_often_0 : List UInt8 := [27, 4, 16, 40, 184, 0, 150, 153, 0, 14, 28, 3, 17, 3, 231, 184, 0, 150, 154, 0, 5, 2, 172, 42]
abbrev dktX0_often_0 : List UInt8 := dkwX0_often_0 ++ dktX0_often_1
theorem dksX0_often_0 : cX0_often.data.toList.drop 0 = dktX0_often_0 := by decide +kernel
theorem dksX0_often_1 : cX0_often.data.toList.drop 24 = dktX0_often_1 := dk_seg dksX0_often_0 24 rfl rfl
theorem dksX0_often_2 : cX0_often.data.toList.drop 48 = dktX0_often_2 := dk_seg dksX0_often_1 24 rfl rfl
theorem dksX0_often_3 : cX0_often.data.toList.drop 71 = dktX0_often_3 := dk_seg dksX0_often_2 23 rfl rfl
theorem dksX0_often_4 : cX0_often.data.toList.drop 95 = dktX0_often_4 := dk_seg dksX0_often_3 24 rfl rfl
theorem dksX0_often_5 : cX0_often.data.toList.drop 118 = dktX0_often_5 := dk_seg dksX0_often_4 23 rfl rfl
theorem dX0_often_0 : decode cX0_often 0 = .ok (.iload_n 1, 1) := dk_27 (dk_at dksX0_often_0 0 rfl rfl)
theorem dX0_often_1 : decode cX0_often 1 = .ok (.iconst 1, 1) := dk_4 (dk_at dksX0_often_0 1 rfl rfl)
theorem dX0_often_2 : decode cX0_often 2 = .ok (.bipush 40, 2) := dk_16 40 (dk_at dksX0_often_0 2 rfl rfl)
theorem dX0_often_4 : decode cX0_often 4 = .ok (.invokestatic 150, 3) := dk_184 0 150 (dk_at dksX0_often_0 4 rfl rfl)
theorem dX0_often_7 : decode cX0_often 7 = .ok (.ifCond .eq 14, 3) := dk_153 0 14 (dk_at dksX0_often_0 7 rfl rfl)
theorem dX0_often_10 : decode cX0_often 10 = .ok (.iload_n 2, 1) := dk_28 (dk_at dksX0_often_0 10 rfl rfl)
theorem dX0_often_11 : decode cX0_often 11 = .ok (.iconst 0, 1) := dk_3 (dk_at dksX0_often_0 11 rfl rfl)
theorem dX0_often_12 : decode cX0_often 12 = .ok (.sipush 999, 3) := dk_17 3 231 (dk_at dksX0_often_0 12 rfl rfl)
theorem dX0_often_15 : decode cX0_often 15 = .ok (.invokestatic 150, 3) := dk_184 0 150 (dk_at dksX0_often_0 15 rfl rfl)
theorem dX0_often_18 : decode cX0_often 18 = .ok (.ifCond .ne 5, 3) := dk_154 0 5 (dk_at dksX0_often_0 18 rfl rfl)
theorem dX0_often_21 : decode cX0_often 21 = .ok (.iconst (-1), 1) := dk_2 (dk_at dksX0_often_0 21 rfl rfl)
theorem dX0_often_22 : decode cX0_often 22 = .ok (.ireturn, 1) := dk_172 (dk_at dksX0_often_0 22 rfl rfl)
theorem dX0_often_23 : decode cX0_often 23 = .ok (.aload_n 0, 1) := dk_42 (dk_at dksX0_often_0 23 rfl rfl)
theorem dX0_often_24 : decode cX0_often 24 = .ok (.getfield 54, 3) := dk_180 0 54 (dk_at dksX0_often_1 0 rfl rfl)
theorem dX0_often_27 : decode cX0_often 27 = .ok (.aload_n 0, 1) := dk_42 (dk_at dksX0_often_1 3 rfl rfl)
theorem dX0_often_28 : decode cX0_often 28 = .ok (.getfield 47, 3) := dk_180 0 47 (dk_at dksX0_often_1 4 rfl rfl)
theorem dX0_often_31 : decode cX0_often 31 = .ok (.invokevirtual 386, 3) := dk_182 1 130 (dk_at dksX0_often_1 7 rfl rfl)
theorem dX0_often_34 : decode cX0_often 34 = .ok (.iconst 0, 1) := dk_3 (dk_at dksX0_often_1 10 rfl rfl)
theorem dX0_often_35 : decode cX0_often 35 = .ok (.istore_n 3, 1) := dk_62 (dk_at dksX0_often_1 11 rfl rfl)
theorem dX0_often_36 : decode cX0_often 36 = .ok (.aload_n 0, 1) := dk_42 (dk_at dksX0_often_1 12 rfl rfl)
theorem dX0_often_37 : decode cX0_often 37 = .ok (.getfield 47, 3) := dk_180 0 47 (dk_at dksX0_often_1 13 rfl rfl)
theorem dX0_often_40 : decode cX0_often 40 = .ok (.getfield 499, 3) := dk_180 1 243 (dk_at dksX0_often_1 16 rfl rfl)
theorem dX0_often_43 : decode cX0_often 43 = .ok (.istore 4, 2) := dk_54 4 (dk_at dksX0_often_1 19 rfl rfl)
theorem dX0_often_45 : decode cX0_often 45 = .ok (.iconst 0, 1) := dk_3 (dk_at dksX0_often_1 21 rfl rfl)
theorem dX0_often_46 : decode cX0_often 46 = .ok (.istore 5, 2) := dk_54 5 (dk_at dksX0_often_1 22 rfl rfl)
theorem dX0_often_48 : decode cX0_often 48 = .ok (.iload 5, 2) := dk_21 5 (dk_at dksX0_often_2 0 rfl rfl)
theorem dX0_often_50 : decode cX0_often 50 = .ok (.iload_n 1, 1) := dk_27 (dk_at dksX0_often_2 2 rfl rfl)
theorem dX0_often_51 : decode cX0_often 51 = .ok (.if_icmp .ge 56, 3) := dk_162 0 56 (dk_at dksX0_often_2 3 rfl rfl)
theorem dX0_often_54 : decode cX0_often 54 = .ok (.aload_n 0, 1) := dk_42 (dk_at dksX0_often_2 6 rfl rfl)
theorem dX0_often_55 : decode cX0_often 55 = .ok (.getfield 47, 3) := dk_180 0 47 (dk_at dksX0_often_2 7 rfl rfl)
theorem dX0_often_58 : decode cX0_often 58 = .ok (.aload_n 0, 1) := dk_42 (dk_at dksX0_often_2 10 rfl rfl)
theorem dX0_often_59 : decode cX0_often 59 = .ok (.getfield 54, 3) := dk_180 0 54 (dk_at dksX0_often_2 11 rfl rfl)
theorem dX0_often_62 : decode cX0_often 62 = .ok (.invokevirtual 386, 3) := dk_182 1 130 (dk_at dksX0_often_2 14 rfl rfl)
theorem dX0_often_65 : decode cX0_often 65 = .ok (.aload_n 0, 1) := dk_42 (dk_at dksX0_often_2 17 rfl rfl)
theorem dX0_often_66 : decode cX0_often 66 = .ok (.getfield 47, 3) := dk_180 0 47 (dk_at dksX0_often_2 18 rfl rfl)
theorem dX0_often_69 : decode cX0_often 69 = .ok (.iload 4, 2) := dk_21 4 (dk_at dksX0_often_2 21 rfl rfl)
theorem dX0_often_71 : decode cX0_often 71 = .ok (.putfield 499, 3) := dk_181 1 243 (dk_at dksX0_often_3 0 rfl rfl)
theorem dX0_often_74 : decode cX0_often 74 = .ok (.aload_n 0, 1) := dk_42 (dk_at dksX0_often_3 3 rfl rfl)
theorem dX0_often_75 : decode cX0_often 75 = .ok (.invokevirtual 506, 3) := dk_182 1 250 (dk_at dksX0_often_3 4 rfl rfl)
theorem dX0_often_78 : decode cX0_often 78 = .ok (.istore 6, 2) := dk_54 6 (dk_at dksX0_often_3 7 rfl rfl)
theorem dX0_often_80 : decode cX0_often 80 = .ok (.aload_n 0, 1) := dk_42 (dk_at dksX0_often_3 9 rfl rfl)
theorem dX0_often_81 : decode cX0_often 81 = .ok (.getfield 47, 3) := dk_180 0 47 (dk_at dksX0_often_3 10 rfl rfl)
theorem dX0_often_84 : decode cX0_often 84 = .ok (.getfield 499, 3) := dk_180 1 243 (dk_at dksX0_often_3 13 rfl rfl)
theorem dX0_often_87 : decode cX0_often 87 = .ok (.istore 4, 2) := dk_54 4 (dk_at dksX0_often_3 16 rfl rfl)
theorem dX0_often_89 : decode cX0_often 89 = .ok (.iload 6, 2) := dk_21 6 (dk_at dksX0_often_3 18 rfl rfl)
theorem dX0_often_91 : decode cX0_often 91 = .ok (.iload_n 2, 1) := dk_28 (dk_at dksX0_often_3 20 rfl rfl)
theorem dX0_often_92 : decode cX0_often 92 = .ok (.if_icmp .ge 6, 3) := dk_162 0 6 (dk_at dksX0_often_3 21 rfl rfl)
theorem dX0_often_95 : decode cX0_often 95 = .ok (.goto 6, 3) := dk_167 0 6 (dk_at dksX0_often_4 0 rfl rfl)
theorem dX0_often_98 : decode cX0_often 98 = .ok (.iinc 3 1, 3) := dk_132 3 1 (dk_at dksX0_often_4 3 rfl rfl)
theorem dX0_often_101 : decode cX0_often 101 = .ok (.iinc 5 1, 3) := dk_132 5 1 (dk_at dksX0_often_4 6 rfl rfl)
theorem dX0_often_104 : decode cX0_often 104 = .ok (.goto (-56), 3) := dk_167 255 200 (dk_at dksX0_often_4 9 rfl rfl)
theorem dX0_often_107 : decode cX0_often 107 = .ok (.iload_n 3, 1) := dk_29 (dk_at dksX0_often_4 12 rfl rfl)
theorem dX0_often_108 : decode cX0_often 108 = .ok (.istore 5, 2) := dk_54 5 (dk_at dksX0_often_4 13 rfl rfl)
theorem dX0_often_110 : decode cX0_often 110 = .ok (.aload_n 0, 1) := dk_42 (dk_at dksX0_often_4 15 rfl rfl)
theorem dX0_often_111 : decode cX0_often 111 = .ok (.getfield 47, 3) := dk_180 0 47 (dk_at dksX0_often_4 16 rfl rfl)
theorem dX0_often_114 : decode cX0_often 114 = .ok (.aload_n 0, 1) := dk_42 (dk_at dksX0_often_4 19 rfl rfl)
theorem dX0_often_115 : decode cX0_often 115 = .ok (.getfield 54, 3) := dk_180 0 54 (dk_at dksX0_often_4 20 rfl rfl)
theorem dX0_often_118 : decode cX0_often 118 = .ok (.invokevirtual 386, 3) := dk_182 1 130 (dk_at dksX0_often_5 0 rfl rfl)
theorem dX0_often_121 : decode cX0_often 121 = .ok (.iload 5, 2) := dk_21 5 (dk_at dksX0_often_5 3 rfl rfl)
theorem dX0_often_123 : decode cX0_often 123 = .ok (.ireturn, 1) := dk_172 (dk_at dksX0_often_5 5 rfl rfl)
theorem dX0_often_124 : decode cX0_often 124 = .ok (.astore 7, 2) := dk_58 7 (dk_at dksX0_often_5 6 rfl rfl)
theorem dX0_often_126 : decode cX0_often 126 = .ok (.aload_n 0, 1) := dk_42 (dk_at dksX0_often_5 8 rfl rfl)
theorem dX0_often_127 : decode cX0_often 127 = .ok (.getfield 47, 3) := dk_180 0 47 (dk_at dksX0_often_5 9 rfl rfl)
theorem dX0_often_130 : decode cX0_often 130 = .ok (.aload_n 0, 1) := dk_42 (dk_at dksX0_often_5 12 rfl rfl)
theorem dX0_often_131 : decode cX0_often 131 = .ok (.getfield 54, 3) := dk_180 0 54 (dk_at dksX0_often_5 13 rfl rfl)
theorem dX0_often_134 : decode cX0_often 134 = .ok (.invokevirtual 386, 3) := dk_182 1 130 (dk_at dksX0_often_5 16 rfl rfl)
theorem dX0_often_137 : decode cX0_often 137 = .ok (.aload 7, 2) := dk_25 7 (dk_at dksX0_often_5 19 rfl rfl)
theorem dX0_often_139 : decode cX0_often 139 = .ok (.athrow, 1) := dk_191 (dk_at dksX0_often_5 21 rfl rfl)
abbrev cX0_drawnAll : ByteArray := prog_1_method_94_code
def yX0_drawnAll : MethodName := ⟨RX0, "drawnAll", "()I"⟩
def dkwX0_drawnAll_0 : List UInt8 := [3, 60, 42, 180, 0, 47, 182, 0, 226, 154, 0, 13, 27, 42, 182, 1, 247, 96, 60, 167, 255, 239, 27, 172]
abbrev dktX0_drawnAll_0 : List UInt8 := dkwX0_drawnAll_0 ++ []
theorem dksX0_drawnAll_0 : cX0_drawnAll.data.toList.drop 0 = dktX0_drawnAll_0 := by decide +kernel
theorem dX0_drawnAll_0 : decode cX0_drawnAll 0 = .ok (.iconst 0, 1) := dk_3 (dk_at dksX0_drawnAll_0 0 rfl rfl)
theorem dX0_drawnAll_1 : decode cX0_drawnAll 1 = .ok (.istore_n 1, 1) := dk_60 (dk_at dksX0_drawnAll_0 1 rfl rfl)
theorem dX0_drawnAll_2 : decode cX0_drawnAll 2 = .ok (.aload_n 0, 1) := dk_42 (dk_at dksX0_drawnAll_0 2 rfl rfl)
theorem dX0_drawnAll_3 : decode cX0_drawnAll 3 = .ok (.getfield 47, 3) := dk_180 0 47 (dk_at dksX0_drawnAll_0 3 rfl rfl)
theorem dX0_drawnAll_6 : decode cX0_drawnAll 6 = .ok (.invokevirtual 226, 3) := dk_182 0 226 (dk_at dksX0_drawnAll_0 6 rfl rfl)
theorem dX0_drawnAll_9 : decode cX0_drawnAll 9 = .ok (.ifCond .ne 13, 3) := dk_154 0 13 (dk_at dksX0_drawnAll_0 9 rfl rfl)
theorem dX0_drawnAll_12 : decode cX0_drawnAll 12 = .ok (.iload_n 1, 1) := dk_27 (dk_at dksX0_drawnAll_0 12 rfl rfl)
theorem dX0_drawnAll_13 : decode cX0_drawnAll 13 = .ok (.aload_n 0, 1) := dk_42 (dk_at dksX0_drawnAll_0 13 rfl rfl)
theorem dX0_drawnAll_14 : decode cX0_drawnAll 14 = .ok (.invokevirtual 503, 3) := dk_182 1 247 (dk_at dksX0_drawnAll_0 14 rfl rfl)
theorem dX0_drawnAll_17 : decode cX0_drawnAll 17 = .ok (.iadd, 1) := dk_96 (dk_at dksX0_drawnAll_0 17 rfl rfl)
theorem dX0_drawnAll_18 : decode cX0_drawnAll 18 = .ok (.istore_n 1, 1) := dk_60 (dk_at dksX0_drawnAll_0 18 rfl rfl)
theorem dX0_drawnAll_19 : decode cX0_drawnAll 19 = .ok (.goto (-17), 3) := dk_167 255 239 (dk_at dksX0_drawnAll_0 19 rfl rfl)
theorem dX0_drawnAll_22 : decode cX0_drawnAll 22 = .ok (.iload_n 1, 1) := dk_27 (dk_at dksX0_drawnAll_0 22 rfl rfl)
theorem dX0_drawnAll_23 : decode cX0_drawnAll 23 = .ok (.ireturn, 1) := dk_172 (dk_at dksX0_drawnAll_0 23 rfl rfl)
abbrev cX0_prove : ByteArray := prog_1_method_96_code
def yX0_prove : MethodName := ⟨RX0, "prove", "(I)I"⟩
def dkwX0_prove_5 : List UInt8 := [180, 1, 253, 172]
abbrev dktX0_prove_5 : List UInt8 := dkwX0_prove_5 ++ []
def dkwX0_prove_4 : List UInt8 := [182, 1, 127, 79, 132, 2, 1, 167, 255, 194, 42, 180, 0, 47, 42, 180, 0, 54, 182, 1, 130, 42]
abbrev dktX0_prove_4 : List UInt8 := dkwX0_prove_4 ++ dktX0_prove_5
def dkwX0_prove_3 : List UInt8 := [180, 0, 120, 28, 46, 4, 100, 182, 1, 121, 79, 42, 180, 0, 126, 6, 28, 104, 5, 96, 42, 4]
abbrev dktX0_prove_3 : List UInt8 := dkwX0_prove_3 ++ dktX0_prove_4
def dkwX0_prove_2 : List UInt8 := [180, 0, 126, 6, 28, 104, 42, 180, 0, 120, 28, 46, 79, 42, 180, 0, 126, 6, 28, 104, 4, 96, 42, 42]
abbrev dktX0_prove_2 : List UInt8 := dkwX0_prove_2 ++ dktX0_prove_3
def dkwX0_prove_1 : List UInt8 := [182, 1, 130, 42, 42, 180, 1, 174, 181, 1, 253, 3, 61, 28, 42, 180, 1, 253, 162, 0, 60, 42]
abbrev dktX0_prove_1 : List UInt8 := dkwX0_prove_1 ++ dktX0_prove_2
def dkwX0_prove_0 : List UInt8 := [27, 3, 7, 184, 0, 150, 154, 0, 5, 2, 172, 42, 27, 182, 1, 184, 42, 180, 0, 54, 42, 180, 0, 47]
abbrev dktX0_prove_0 : List UInt8 := dkwX0_prove_0 ++ dktX0_prove_1
theorem dksX0_prove_0 : cX0_prove.data.toList.drop 0 = dktX0_prove_0 := by decide +kernel
theorem dksX0_prove_1 : cX0_prove.data.toList.drop 24 = dktX0_prove_1 := dk_seg dksX0_prove_0 24 rfl rfl
theorem dksX0_prove_2 : cX0_prove.data.toList.drop 46 = dktX0_prove_2 := dk_seg dksX0_prove_1 22 rfl rfl
theorem dksX0_prove_3 : cX0_prove.data.toList.drop 70 = dktX0_prove_3 := dk_seg dksX0_prove_2 24 rfl rfl
theorem dksX0_prove_4 : cX0_prove.data.toList.drop 92 = dktX0_prove_4 := dk_seg dksX0_prove_3 22 rfl rfl
theorem dksX0_prove_5 : cX0_prove.data.toList.drop 114 = dktX0_prove_5 := dk_seg dksX0_prove_4 22 rfl rfl
theorem dX0_prove_0 : decode cX0_prove 0 = .ok (.iload_n 1, 1) := dk_27 (dk_at dksX0_prove_0 0 rfl rfl)
theorem dX0_prove_1 : decode cX0_prove 1 = .ok (.iconst 0, 1) := dk_3 (dk_at dksX0_prove_0 1 rfl rfl)
theorem dX0_prove_2 : decode cX0_prove 2 = .ok (.iconst 4, 1) := dk_7 (dk_at dksX0_prove_0 2 rfl rfl)
theorem dX0_prove_3 : decode cX0_prove 3 = .ok (.invokestatic 150, 3) := dk_184 0 150 (dk_at dksX0_prove_0 3 rfl rfl)
theorem dX0_prove_6 : decode cX0_prove 6 = .ok (.ifCond .ne 5, 3) := dk_154 0 5 (dk_at dksX0_prove_0 6 rfl rfl)
theorem dX0_prove_9 : decode cX0_prove 9 = .ok (.iconst (-1), 1) := dk_2 (dk_at dksX0_prove_0 9 rfl rfl)
theorem dX0_prove_10 : decode cX0_prove 10 = .ok (.ireturn, 1) := dk_172 (dk_at dksX0_prove_0 10 rfl rfl)
theorem dX0_prove_11 : decode cX0_prove 11 = .ok (.aload_n 0, 1) := dk_42 (dk_at dksX0_prove_0 11 rfl rfl)
theorem dX0_prove_12 : decode cX0_prove 12 = .ok (.iload_n 1, 1) := dk_27 (dk_at dksX0_prove_0 12 rfl rfl)
theorem dX0_prove_13 : decode cX0_prove 13 = .ok (.invokevirtual 440, 3) := dk_182 1 184 (dk_at dksX0_prove_0 13 rfl rfl)
theorem dX0_prove_16 : decode cX0_prove 16 = .ok (.aload_n 0, 1) := dk_42 (dk_at dksX0_prove_0 16 rfl rfl)
theorem dX0_prove_17 : decode cX0_prove 17 = .ok (.getfield 54, 3) := dk_180 0 54 (dk_at dksX0_prove_0 17 rfl rfl)
theorem dX0_prove_20 : decode cX0_prove 20 = .ok (.aload_n 0, 1) := dk_42 (dk_at dksX0_prove_0 20 rfl rfl)
theorem dX0_prove_21 : decode cX0_prove 21 = .ok (.getfield 47, 3) := dk_180 0 47 (dk_at dksX0_prove_0 21 rfl rfl)
theorem dX0_prove_24 : decode cX0_prove 24 = .ok (.invokevirtual 386, 3) := dk_182 1 130 (dk_at dksX0_prove_1 0 rfl rfl)
theorem dX0_prove_27 : decode cX0_prove 27 = .ok (.aload_n 0, 1) := dk_42 (dk_at dksX0_prove_1 3 rfl rfl)
theorem dX0_prove_28 : decode cX0_prove 28 = .ok (.aload_n 0, 1) := dk_42 (dk_at dksX0_prove_1 4 rfl rfl)
theorem dX0_prove_29 : decode cX0_prove 29 = .ok (.getfield 430, 3) := dk_180 1 174 (dk_at dksX0_prove_1 5 rfl rfl)
theorem dX0_prove_32 : decode cX0_prove 32 = .ok (.putfield 509, 3) := dk_181 1 253 (dk_at dksX0_prove_1 8 rfl rfl)
theorem dX0_prove_35 : decode cX0_prove 35 = .ok (.iconst 0, 1) := dk_3 (dk_at dksX0_prove_1 11 rfl rfl)
theorem dX0_prove_36 : decode cX0_prove 36 = .ok (.istore_n 2, 1) := dk_61 (dk_at dksX0_prove_1 12 rfl rfl)
theorem dX0_prove_37 : decode cX0_prove 37 = .ok (.iload_n 2, 1) := dk_28 (dk_at dksX0_prove_1 13 rfl rfl)
theorem dX0_prove_38 : decode cX0_prove 38 = .ok (.aload_n 0, 1) := dk_42 (dk_at dksX0_prove_1 14 rfl rfl)
theorem dX0_prove_39 : decode cX0_prove 39 = .ok (.getfield 509, 3) := dk_180 1 253 (dk_at dksX0_prove_1 15 rfl rfl)
theorem dX0_prove_42 : decode cX0_prove 42 = .ok (.if_icmp .ge 60, 3) := dk_162 0 60 (dk_at dksX0_prove_1 18 rfl rfl)
theorem dX0_prove_45 : decode cX0_prove 45 = .ok (.aload_n 0, 1) := dk_42 (dk_at dksX0_prove_1 21 rfl rfl)
theorem dX0_prove_46 : decode cX0_prove 46 = .ok (.getfield 126, 3) := dk_180 0 126 (dk_at dksX0_prove_2 0 rfl rfl)
theorem dX0_prove_49 : decode cX0_prove 49 = .ok (.iconst 3, 1) := dk_6 (dk_at dksX0_prove_2 3 rfl rfl)
theorem dX0_prove_50 : decode cX0_prove 50 = .ok (.iload_n 2, 1) := dk_28 (dk_at dksX0_prove_2 4 rfl rfl)
theorem dX0_prove_51 : decode cX0_prove 51 = .ok (.imul, 1) := dk_104 (dk_at dksX0_prove_2 5 rfl rfl)
theorem dX0_prove_52 : decode cX0_prove 52 = .ok (.aload_n 0, 1) := dk_42 (dk_at dksX0_prove_2 6 rfl rfl)
theorem dX0_prove_53 : decode cX0_prove 53 = .ok (.getfield 120, 3) := dk_180 0 120 (dk_at dksX0_prove_2 7 rfl rfl)
theorem dX0_prove_56 : decode cX0_prove 56 = .ok (.iload_n 2, 1) := dk_28 (dk_at dksX0_prove_2 10 rfl rfl)
theorem dX0_prove_57 : decode cX0_prove 57 = .ok (.iaload, 1) := dk_46 (dk_at dksX0_prove_2 11 rfl rfl)
theorem dX0_prove_58 : decode cX0_prove 58 = .ok (.iastore, 1) := dk_79 (dk_at dksX0_prove_2 12 rfl rfl)
theorem dX0_prove_59 : decode cX0_prove 59 = .ok (.aload_n 0, 1) := dk_42 (dk_at dksX0_prove_2 13 rfl rfl)
theorem dX0_prove_60 : decode cX0_prove 60 = .ok (.getfield 126, 3) := dk_180 0 126 (dk_at dksX0_prove_2 14 rfl rfl)
theorem dX0_prove_63 : decode cX0_prove 63 = .ok (.iconst 3, 1) := dk_6 (dk_at dksX0_prove_2 17 rfl rfl)
theorem dX0_prove_64 : decode cX0_prove 64 = .ok (.iload_n 2, 1) := dk_28 (dk_at dksX0_prove_2 18 rfl rfl)
theorem dX0_prove_65 : decode cX0_prove 65 = .ok (.imul, 1) := dk_104 (dk_at dksX0_prove_2 19 rfl rfl)
theorem dX0_prove_66 : decode cX0_prove 66 = .ok (.iconst 1, 1) := dk_4 (dk_at dksX0_prove_2 20 rfl rfl)
theorem dX0_prove_67 : decode cX0_prove 67 = .ok (.iadd, 1) := dk_96 (dk_at dksX0_prove_2 21 rfl rfl)
theorem dX0_prove_68 : decode cX0_prove 68 = .ok (.aload_n 0, 1) := dk_42 (dk_at dksX0_prove_2 22 rfl rfl)
theorem dX0_prove_69 : decode cX0_prove 69 = .ok (.aload_n 0, 1) := dk_42 (dk_at dksX0_prove_2 23 rfl rfl)
theorem dX0_prove_70 : decode cX0_prove 70 = .ok (.getfield 120, 3) := dk_180 0 120 (dk_at dksX0_prove_3 0 rfl rfl)
theorem dX0_prove_73 : decode cX0_prove 73 = .ok (.iload_n 2, 1) := dk_28 (dk_at dksX0_prove_3 3 rfl rfl)
theorem dX0_prove_74 : decode cX0_prove 74 = .ok (.iaload, 1) := dk_46 (dk_at dksX0_prove_3 4 rfl rfl)
theorem dX0_prove_75 : decode cX0_prove 75 = .ok (.iconst 1, 1) := dk_4 (dk_at dksX0_prove_3 5 rfl rfl)
theorem dX0_prove_76 : decode cX0_prove 76 = .ok (.isub, 1) := dk_100 (dk_at dksX0_prove_3 6 rfl rfl)
theorem dX0_prove_77 : decode cX0_prove 77 = .ok (.invokevirtual 377, 3) := dk_182 1 121 (dk_at dksX0_prove_3 7 rfl rfl)
theorem dX0_prove_80 : decode cX0_prove 80 = .ok (.iastore, 1) := dk_79 (dk_at dksX0_prove_3 10 rfl rfl)
theorem dX0_prove_81 : decode cX0_prove 81 = .ok (.aload_n 0, 1) := dk_42 (dk_at dksX0_prove_3 11 rfl rfl)
theorem dX0_prove_82 : decode cX0_prove 82 = .ok (.getfield 126, 3) := dk_180 0 126 (dk_at dksX0_prove_3 12 rfl rfl)
theorem dX0_prove_85 : decode cX0_prove 85 = .ok (.iconst 3, 1) := dk_6 (dk_at dksX0_prove_3 15 rfl rfl)
theorem dX0_prove_86 : decode cX0_prove 86 = .ok (.iload_n 2, 1) := dk_28 (dk_at dksX0_prove_3 16 rfl rfl)
theorem dX0_prove_87 : decode cX0_prove 87 = .ok (.imul, 1) := dk_104 (dk_at dksX0_prove_3 17 rfl rfl)
theorem dX0_prove_88 : decode cX0_prove 88 = .ok (.iconst 2, 1) := dk_5 (dk_at dksX0_prove_3 18 rfl rfl)
theorem dX0_prove_89 : decode cX0_prove 89 = .ok (.iadd, 1) := dk_96 (dk_at dksX0_prove_3 19 rfl rfl)
theorem dX0_prove_90 : decode cX0_prove 90 = .ok (.aload_n 0, 1) := dk_42 (dk_at dksX0_prove_3 20 rfl rfl)
theorem dX0_prove_91 : decode cX0_prove 91 = .ok (.iconst 1, 1) := dk_4 (dk_at dksX0_prove_3 21 rfl rfl)
theorem dX0_prove_92 : decode cX0_prove 92 = .ok (.invokevirtual 383, 3) := dk_182 1 127 (dk_at dksX0_prove_4 0 rfl rfl)
theorem dX0_prove_95 : decode cX0_prove 95 = .ok (.iastore, 1) := dk_79 (dk_at dksX0_prove_4 3 rfl rfl)
theorem dX0_prove_96 : decode cX0_prove 96 = .ok (.iinc 2 1, 3) := dk_132 2 1 (dk_at dksX0_prove_4 4 rfl rfl)
theorem dX0_prove_99 : decode cX0_prove 99 = .ok (.goto (-62), 3) := dk_167 255 194 (dk_at dksX0_prove_4 7 rfl rfl)
theorem dX0_prove_102 : decode cX0_prove 102 = .ok (.aload_n 0, 1) := dk_42 (dk_at dksX0_prove_4 10 rfl rfl)
theorem dX0_prove_103 : decode cX0_prove 103 = .ok (.getfield 47, 3) := dk_180 0 47 (dk_at dksX0_prove_4 11 rfl rfl)
theorem dX0_prove_106 : decode cX0_prove 106 = .ok (.aload_n 0, 1) := dk_42 (dk_at dksX0_prove_4 14 rfl rfl)
theorem dX0_prove_107 : decode cX0_prove 107 = .ok (.getfield 54, 3) := dk_180 0 54 (dk_at dksX0_prove_4 15 rfl rfl)
theorem dX0_prove_110 : decode cX0_prove 110 = .ok (.invokevirtual 386, 3) := dk_182 1 130 (dk_at dksX0_prove_4 18 rfl rfl)
theorem dX0_prove_113 : decode cX0_prove 113 = .ok (.aload_n 0, 1) := dk_42 (dk_at dksX0_prove_4 21 rfl rfl)
theorem dX0_prove_114 : decode cX0_prove 114 = .ok (.getfield 509, 3) := dk_180 1 253 (dk_at dksX0_prove_5 0 rfl rfl)
theorem dX0_prove_117 : decode cX0_prove 117 = .ok (.ireturn, 1) := dk_172 (dk_at dksX0_prove_5 3 rfl rfl)
abbrev cX0_row : ByteArray := prog_1_method_98_code
def yX0_row : MethodName := ⟨RX0, "row", "(II)I"⟩
def dkwX0_row_1 : List UInt8 := [172]
abbrev dktX0_row_1 : List UInt8 := dkwX0_row_1 ++ []
def dkwX0_row_0 : List UInt8 := [42, 27, 28, 182, 2, 0, 153, 0, 16, 42, 180, 0, 126, 6, 27, 104, 28, 96, 46, 167, 0, 5, 16, 247]
abbrev dktX0_row_0 : List UInt8 := dkwX0_row_0 ++ dktX0_row_1
theorem dksX0_row_0 : cX0_row.data.toList.drop 0 = dktX0_row_0 := by decide +kernel
theorem dksX0_row_1 : cX0_row.data.toList.drop 24 = dktX0_row_1 := dk_seg dksX0_row_0 24 rfl rfl
theorem dX0_row_0 : decode cX0_row 0 = .ok (.aload_n 0, 1) := dk_42 (dk_at dksX0_row_0 0 rfl rfl)
theorem dX0_row_1 : decode cX0_row 1 = .ok (.iload_n 1, 1) := dk_27 (dk_at dksX0_row_0 1 rfl rfl)
theorem dX0_row_2 : decode cX0_row 2 = .ok (.iload_n 2, 1) := dk_28 (dk_at dksX0_row_0 2 rfl rfl)
theorem dX0_row_3 : decode cX0_row 3 = .ok (.invokevirtual 512, 3) := dk_182 2 0 (dk_at dksX0_row_0 3 rfl rfl)
theorem dX0_row_6 : decode cX0_row 6 = .ok (.ifCond .eq 16, 3) := dk_153 0 16 (dk_at dksX0_row_0 6 rfl rfl)
theorem dX0_row_9 : decode cX0_row 9 = .ok (.aload_n 0, 1) := dk_42 (dk_at dksX0_row_0 9 rfl rfl)
theorem dX0_row_10 : decode cX0_row 10 = .ok (.getfield 126, 3) := dk_180 0 126 (dk_at dksX0_row_0 10 rfl rfl)
theorem dX0_row_13 : decode cX0_row 13 = .ok (.iconst 3, 1) := dk_6 (dk_at dksX0_row_0 13 rfl rfl)
theorem dX0_row_14 : decode cX0_row 14 = .ok (.iload_n 1, 1) := dk_27 (dk_at dksX0_row_0 14 rfl rfl)
theorem dX0_row_15 : decode cX0_row 15 = .ok (.imul, 1) := dk_104 (dk_at dksX0_row_0 15 rfl rfl)
theorem dX0_row_16 : decode cX0_row 16 = .ok (.iload_n 2, 1) := dk_28 (dk_at dksX0_row_0 16 rfl rfl)
theorem dX0_row_17 : decode cX0_row 17 = .ok (.iadd, 1) := dk_96 (dk_at dksX0_row_0 17 rfl rfl)
theorem dX0_row_18 : decode cX0_row 18 = .ok (.iaload, 1) := dk_46 (dk_at dksX0_row_0 18 rfl rfl)
theorem dX0_row_19 : decode cX0_row 19 = .ok (.goto 5, 3) := dk_167 0 5 (dk_at dksX0_row_0 19 rfl rfl)
theorem dX0_row_22 : decode cX0_row 22 = .ok (.bipush (-9), 2) := dk_16 247 (dk_at dksX0_row_0 22 rfl rfl)
theorem dX0_row_24 : decode cX0_row 24 = .ok (.ireturn, 1) := dk_172 (dk_at dksX0_row_1 0 rfl rfl)
abbrev cX0_isRow : ByteArray := prog_1_method_97_code
def yX0_isRow : MethodName := ⟨RX0, "isRow", "(II)Z"⟩
def dkwX0_isRow_1 : List UInt8 := [167, 0, 4, 3, 172]
abbrev dktX0_isRow_1 : List UInt8 := dkwX0_isRow_1 ++ []
def dkwX0_isRow_0 : List UInt8 := [27, 3, 42, 180, 1, 253, 4, 100, 184, 0, 150, 153, 0, 16, 28, 3, 5, 184, 0, 150, 153, 0, 7, 4]
abbrev dktX0_isRow_0 : List UInt8 := dkwX0_isRow_0 ++ dktX0_isRow_1
theorem dksX0_isRow_0 : cX0_isRow.data.toList.drop 0 = dktX0_isRow_0 := by decide +kernel
theorem dksX0_isRow_1 : cX0_isRow.data.toList.drop 24 = dktX0_isRow_1 := dk_seg dksX0_isRow_0 24 rfl rfl
theorem dX0_isRow_0 : decode cX0_isRow 0 = .ok (.iload_n 1, 1) := dk_27 (dk_at dksX0_isRow_0 0 rfl rfl)
theorem dX0_isRow_1 : decode cX0_isRow 1 = .ok (.iconst 0, 1) := dk_3 (dk_at dksX0_isRow_0 1 rfl rfl)
theorem dX0_isRow_2 : decode cX0_isRow 2 = .ok (.aload_n 0, 1) := dk_42 (dk_at dksX0_isRow_0 2 rfl rfl)
theorem dX0_isRow_3 : decode cX0_isRow 3 = .ok (.getfield 509, 3) := dk_180 1 253 (dk_at dksX0_isRow_0 3 rfl rfl)
theorem dX0_isRow_6 : decode cX0_isRow 6 = .ok (.iconst 1, 1) := dk_4 (dk_at dksX0_isRow_0 6 rfl rfl)
theorem dX0_isRow_7 : decode cX0_isRow 7 = .ok (.isub, 1) := dk_100 (dk_at dksX0_isRow_0 7 rfl rfl)
theorem dX0_isRow_8 : decode cX0_isRow 8 = .ok (.invokestatic 150, 3) := dk_184 0 150 (dk_at dksX0_isRow_0 8 rfl rfl)
theorem dX0_isRow_11 : decode cX0_isRow 11 = .ok (.ifCond .eq 16, 3) := dk_153 0 16 (dk_at dksX0_isRow_0 11 rfl rfl)
theorem dX0_isRow_14 : decode cX0_isRow 14 = .ok (.iload_n 2, 1) := dk_28 (dk_at dksX0_isRow_0 14 rfl rfl)
theorem dX0_isRow_15 : decode cX0_isRow 15 = .ok (.iconst 0, 1) := dk_3 (dk_at dksX0_isRow_0 15 rfl rfl)
theorem dX0_isRow_16 : decode cX0_isRow 16 = .ok (.iconst 2, 1) := dk_5 (dk_at dksX0_isRow_0 16 rfl rfl)
theorem dX0_isRow_17 : decode cX0_isRow 17 = .ok (.invokestatic 150, 3) := dk_184 0 150 (dk_at dksX0_isRow_0 17 rfl rfl)
theorem dX0_isRow_20 : decode cX0_isRow 20 = .ok (.ifCond .eq 7, 3) := dk_153 0 7 (dk_at dksX0_isRow_0 20 rfl rfl)
theorem dX0_isRow_23 : decode cX0_isRow 23 = .ok (.iconst 1, 1) := dk_4 (dk_at dksX0_isRow_0 23 rfl rfl)
theorem dX0_isRow_24 : decode cX0_isRow 24 = .ok (.goto 4, 3) := dk_167 0 4 (dk_at dksX0_isRow_1 0 rfl rfl)
theorem dX0_isRow_27 : decode cX0_isRow 27 = .ok (.iconst 0, 1) := dk_3 (dk_at dksX0_isRow_1 3 rfl rfl)
theorem dX0_isRow_28 : decode cX0_isRow 28 = .ok (.ireturn, 1) := dk_172 (dk_at dksX0_isRow_1 4 rfl rfl)
abbrev cX0_alterRow : ByteArray := prog_1_method_99_code
def yX0_alterRow : MethodName := ⟨RX0, "alterRow", "(III)I"⟩
def dkwX0_alterRow_1 : List UInt8 := [42, 180, 0, 126, 6, 27, 104, 28, 96, 29, 79, 21, 4, 172]
abbrev dktX0_alterRow_1 : List UInt8 := dkwX0_alterRow_1 ++ []
def dkwX0_alterRow_0 : List UInt8 := [42, 27, 28, 182, 2, 0, 154, 0, 6, 16, 247, 172, 42, 180, 0, 126, 6, 27, 104, 28, 96, 46, 54, 4]
abbrev dktX0_alterRow_0 : List UInt8 := dkwX0_alterRow_0 ++ dktX0_alterRow_1
theorem dksX0_alterRow_0 : cX0_alterRow.data.toList.drop 0 = dktX0_alterRow_0 := by decide +kernel
theorem dksX0_alterRow_1 : cX0_alterRow.data.toList.drop 24 = dktX0_alterRow_1 := dk_seg dksX0_alterRow_0 24 rfl rfl
theorem dX0_alterRow_0 : decode cX0_alterRow 0 = .ok (.aload_n 0, 1) := dk_42 (dk_at dksX0_alterRow_0 0 rfl rfl)
theorem dX0_alterRow_1 : decode cX0_alterRow 1 = .ok (.iload_n 1, 1) := dk_27 (dk_at dksX0_alterRow_0 1 rfl rfl)
theorem dX0_alterRow_2 : decode cX0_alterRow 2 = .ok (.iload_n 2, 1) := dk_28 (dk_at dksX0_alterRow_0 2 rfl rfl)
theorem dX0_alterRow_3 : decode cX0_alterRow 3 = .ok (.invokevirtual 512, 3) := dk_182 2 0 (dk_at dksX0_alterRow_0 3 rfl rfl)
theorem dX0_alterRow_6 : decode cX0_alterRow 6 = .ok (.ifCond .ne 6, 3) := dk_154 0 6 (dk_at dksX0_alterRow_0 6 rfl rfl)
theorem dX0_alterRow_9 : decode cX0_alterRow 9 = .ok (.bipush (-9), 2) := dk_16 247 (dk_at dksX0_alterRow_0 9 rfl rfl)
theorem dX0_alterRow_11 : decode cX0_alterRow 11 = .ok (.ireturn, 1) := dk_172 (dk_at dksX0_alterRow_0 11 rfl rfl)
theorem dX0_alterRow_12 : decode cX0_alterRow 12 = .ok (.aload_n 0, 1) := dk_42 (dk_at dksX0_alterRow_0 12 rfl rfl)
theorem dX0_alterRow_13 : decode cX0_alterRow 13 = .ok (.getfield 126, 3) := dk_180 0 126 (dk_at dksX0_alterRow_0 13 rfl rfl)
theorem dX0_alterRow_16 : decode cX0_alterRow 16 = .ok (.iconst 3, 1) := dk_6 (dk_at dksX0_alterRow_0 16 rfl rfl)
theorem dX0_alterRow_17 : decode cX0_alterRow 17 = .ok (.iload_n 1, 1) := dk_27 (dk_at dksX0_alterRow_0 17 rfl rfl)
theorem dX0_alterRow_18 : decode cX0_alterRow 18 = .ok (.imul, 1) := dk_104 (dk_at dksX0_alterRow_0 18 rfl rfl)
theorem dX0_alterRow_19 : decode cX0_alterRow 19 = .ok (.iload_n 2, 1) := dk_28 (dk_at dksX0_alterRow_0 19 rfl rfl)
theorem dX0_alterRow_20 : decode cX0_alterRow 20 = .ok (.iadd, 1) := dk_96 (dk_at dksX0_alterRow_0 20 rfl rfl)
theorem dX0_alterRow_21 : decode cX0_alterRow 21 = .ok (.iaload, 1) := dk_46 (dk_at dksX0_alterRow_0 21 rfl rfl)
theorem dX0_alterRow_22 : decode cX0_alterRow 22 = .ok (.istore 4, 2) := dk_54 4 (dk_at dksX0_alterRow_0 22 rfl rfl)
theorem dX0_alterRow_24 : decode cX0_alterRow 24 = .ok (.aload_n 0, 1) := dk_42 (dk_at dksX0_alterRow_1 0 rfl rfl)
theorem dX0_alterRow_25 : decode cX0_alterRow 25 = .ok (.getfield 126, 3) := dk_180 0 126 (dk_at dksX0_alterRow_1 1 rfl rfl)
theorem dX0_alterRow_28 : decode cX0_alterRow 28 = .ok (.iconst 3, 1) := dk_6 (dk_at dksX0_alterRow_1 4 rfl rfl)
theorem dX0_alterRow_29 : decode cX0_alterRow 29 = .ok (.iload_n 1, 1) := dk_27 (dk_at dksX0_alterRow_1 5 rfl rfl)
theorem dX0_alterRow_30 : decode cX0_alterRow 30 = .ok (.imul, 1) := dk_104 (dk_at dksX0_alterRow_1 6 rfl rfl)
theorem dX0_alterRow_31 : decode cX0_alterRow 31 = .ok (.iload_n 2, 1) := dk_28 (dk_at dksX0_alterRow_1 7 rfl rfl)
theorem dX0_alterRow_32 : decode cX0_alterRow 32 = .ok (.iadd, 1) := dk_96 (dk_at dksX0_alterRow_1 8 rfl rfl)
theorem dX0_alterRow_33 : decode cX0_alterRow 33 = .ok (.iload_n 3, 1) := dk_29 (dk_at dksX0_alterRow_1 9 rfl rfl)
theorem dX0_alterRow_34 : decode cX0_alterRow 34 = .ok (.iastore, 1) := dk_79 (dk_at dksX0_alterRow_1 10 rfl rfl)
theorem dX0_alterRow_35 : decode cX0_alterRow 35 = .ok (.iload 4, 2) := dk_21 4 (dk_at dksX0_alterRow_1 11 rfl rfl)
theorem dX0_alterRow_37 : decode cX0_alterRow 37 = .ok (.ireturn, 1) := dk_172 (dk_at dksX0_alterRow_1 13 rfl rfl)
abbrev cX0_judge : ByteArray := prog_1_method_100_code
def yX0_judge : MethodName := ⟨RX0, "judge", "()I"⟩
def dkwX0_judge_5 : List UInt8 := [182, 1, 130, 28, 172, 58, 5, 42, 180, 0, 47, 42, 180, 0, 54, 182, 1, 130, 25, 5, 191]
abbrev dktX0_judge_5 : List UInt8 := dkwX0_judge_5 ++ []
def dkwX0_judge_4 : List UInt8 := [159, 0, 6, 167, 0, 11, 3, 60, 132, 2, 1, 167, 255, 164, 27, 61, 42, 180, 0, 47, 42, 180, 0, 54]
abbrev dktX0_judge_4 : List UInt8 := dkwX0_judge_4 ++ dktX0_judge_5
def dkwX0_judge_3 : List UInt8 := [104, 4, 96, 46, 21, 4, 160, 0, 32, 42, 180, 0, 126, 6, 28, 104, 5, 96, 46, 42, 4, 182, 1, 127]
abbrev dktX0_judge_3 : List UInt8 := dkwX0_judge_3 ++ dktX0_judge_4
def dkwX0_judge_2 : List UInt8 := [182, 0, 226, 153, 0, 6, 167, 0, 56, 42, 29, 4, 100, 182, 1, 121, 54, 4, 42, 180, 0, 126, 6, 28]
abbrev dktX0_judge_2 : List UInt8 := dkwX0_judge_2 ++ dktX0_judge_3
def dkwX0_judge_1 : List UInt8 := [4, 96, 60, 42, 180, 0, 126, 6, 28, 104, 46, 62, 42, 29, 182, 2, 3, 153, 0, 69, 42, 180, 0, 47]
abbrev dktX0_judge_1 : List UInt8 := dkwX0_judge_1 ++ dktX0_judge_2
def dkwX0_judge_0 : List UInt8 := [42, 180, 0, 54, 42, 180, 0, 47, 182, 1, 130, 3, 60, 3, 61, 28, 42, 180, 1, 253, 162, 0, 90, 28]
abbrev dktX0_judge_0 : List UInt8 := dkwX0_judge_0 ++ dktX0_judge_1
theorem dksX0_judge_0 : cX0_judge.data.toList.drop 0 = dktX0_judge_0 := by decide +kernel
theorem dksX0_judge_1 : cX0_judge.data.toList.drop 24 = dktX0_judge_1 := dk_seg dksX0_judge_0 24 rfl rfl
theorem dksX0_judge_2 : cX0_judge.data.toList.drop 48 = dktX0_judge_2 := dk_seg dksX0_judge_1 24 rfl rfl
theorem dksX0_judge_3 : cX0_judge.data.toList.drop 72 = dktX0_judge_3 := dk_seg dksX0_judge_2 24 rfl rfl
theorem dksX0_judge_4 : cX0_judge.data.toList.drop 96 = dktX0_judge_4 := dk_seg dksX0_judge_3 24 rfl rfl
theorem dksX0_judge_5 : cX0_judge.data.toList.drop 120 = dktX0_judge_5 := dk_seg dksX0_judge_4 24 rfl rfl
theorem dX0_judge_0 : decode cX0_judge 0 = .ok (.aload_n 0, 1) := dk_42 (dk_at dksX0_judge_0 0 rfl rfl)
theorem dX0_judge_1 : decode cX0_judge 1 = .ok (.getfield 54, 3) := dk_180 0 54 (dk_at dksX0_judge_0 1 rfl rfl)
theorem dX0_judge_4 : decode cX0_judge 4 = .ok (.aload_n 0, 1) := dk_42 (dk_at dksX0_judge_0 4 rfl rfl)
theorem dX0_judge_5 : decode cX0_judge 5 = .ok (.getfield 47, 3) := dk_180 0 47 (dk_at dksX0_judge_0 5 rfl rfl)
theorem dX0_judge_8 : decode cX0_judge 8 = .ok (.invokevirtual 386, 3) := dk_182 1 130 (dk_at dksX0_judge_0 8 rfl rfl)
theorem dX0_judge_11 : decode cX0_judge 11 = .ok (.iconst 0, 1) := dk_3 (dk_at dksX0_judge_0 11 rfl rfl)
theorem dX0_judge_12 : decode cX0_judge 12 = .ok (.istore_n 1, 1) := dk_60 (dk_at dksX0_judge_0 12 rfl rfl)
theorem dX0_judge_13 : decode cX0_judge 13 = .ok (.iconst 0, 1) := dk_3 (dk_at dksX0_judge_0 13 rfl rfl)
theorem dX0_judge_14 : decode cX0_judge 14 = .ok (.istore_n 2, 1) := dk_61 (dk_at dksX0_judge_0 14 rfl rfl)
theorem dX0_judge_15 : decode cX0_judge 15 = .ok (.iload_n 2, 1) := dk_28 (dk_at dksX0_judge_0 15 rfl rfl)
theorem dX0_judge_16 : decode cX0_judge 16 = .ok (.aload_n 0, 1) := dk_42 (dk_at dksX0_judge_0 16 rfl rfl)
theorem dX0_judge_17 : decode cX0_judge 17 = .ok (.getfield 509, 3) := dk_180 1 253 (dk_at dksX0_judge_0 17 rfl rfl)
theorem dX0_judge_20 : decode cX0_judge 20 = .ok (.if_icmp .ge 90, 3) := dk_162 0 90 (dk_at dksX0_judge_0 20 rfl rfl)
theorem dX0_judge_23 : decode cX0_judge 23 = .ok (.iload_n 2, 1) := dk_28 (dk_at dksX0_judge_0 23 rfl rfl)
theorem dX0_judge_24 : decode cX0_judge 24 = .ok (.iconst 1, 1) := dk_4 (dk_at dksX0_judge_1 0 rfl rfl)
theorem dX0_judge_25 : decode cX0_judge 25 = .ok (.iadd, 1) := dk_96 (dk_at dksX0_judge_1 1 rfl rfl)
theorem dX0_judge_26 : decode cX0_judge 26 = .ok (.istore_n 1, 1) := dk_60 (dk_at dksX0_judge_1 2 rfl rfl)
theorem dX0_judge_27 : decode cX0_judge 27 = .ok (.aload_n 0, 1) := dk_42 (dk_at dksX0_judge_1 3 rfl rfl)
theorem dX0_judge_28 : decode cX0_judge 28 = .ok (.getfield 126, 3) := dk_180 0 126 (dk_at dksX0_judge_1 4 rfl rfl)
theorem dX0_judge_31 : decode cX0_judge 31 = .ok (.iconst 3, 1) := dk_6 (dk_at dksX0_judge_1 7 rfl rfl)
theorem dX0_judge_32 : decode cX0_judge 32 = .ok (.iload_n 2, 1) := dk_28 (dk_at dksX0_judge_1 8 rfl rfl)
theorem dX0_judge_33 : decode cX0_judge 33 = .ok (.imul, 1) := dk_104 (dk_at dksX0_judge_1 9 rfl rfl)
theorem dX0_judge_34 : decode cX0_judge 34 = .ok (.iaload, 1) := dk_46 (dk_at dksX0_judge_1 10 rfl rfl)
theorem dX0_judge_35 : decode cX0_judge 35 = .ok (.istore_n 3, 1) := dk_62 (dk_at dksX0_judge_1 11 rfl rfl)
theorem dX0_judge_36 : decode cX0_judge 36 = .ok (.aload_n 0, 1) := dk_42 (dk_at dksX0_judge_1 12 rfl rfl)
theorem dX0_judge_37 : decode cX0_judge 37 = .ok (.iload_n 3, 1) := dk_29 (dk_at dksX0_judge_1 13 rfl rfl)
theorem dX0_judge_38 : decode cX0_judge 38 = .ok (.invokevirtual 515, 3) := dk_182 2 3 (dk_at dksX0_judge_1 14 rfl rfl)
theorem dX0_judge_41 : decode cX0_judge 41 = .ok (.ifCond .eq 69, 3) := dk_153 0 69 (dk_at dksX0_judge_1 17 rfl rfl)
theorem dX0_judge_44 : decode cX0_judge 44 = .ok (.aload_n 0, 1) := dk_42 (dk_at dksX0_judge_1 20 rfl rfl)
theorem dX0_judge_45 : decode cX0_judge 45 = .ok (.getfield 47, 3) := dk_180 0 47 (dk_at dksX0_judge_1 21 rfl rfl)
theorem dX0_judge_48 : decode cX0_judge 48 = .ok (.invokevirtual 226, 3) := dk_182 0 226 (dk_at dksX0_judge_2 0 rfl rfl)
theorem dX0_judge_51 : decode cX0_judge 51 = .ok (.ifCond .eq 6, 3) := dk_153 0 6 (dk_at dksX0_judge_2 3 rfl rfl)
theorem dX0_judge_54 : decode cX0_judge 54 = .ok (.goto 56, 3) := dk_167 0 56 (dk_at dksX0_judge_2 6 rfl rfl)
theorem dX0_judge_57 : decode cX0_judge 57 = .ok (.aload_n 0, 1) := dk_42 (dk_at dksX0_judge_2 9 rfl rfl)
theorem dX0_judge_58 : decode cX0_judge 58 = .ok (.iload_n 3, 1) := dk_29 (dk_at dksX0_judge_2 10 rfl rfl)
theorem dX0_judge_59 : decode cX0_judge 59 = .ok (.iconst 1, 1) := dk_4 (dk_at dksX0_judge_2 11 rfl rfl)
theorem dX0_judge_60 : decode cX0_judge 60 = .ok (.isub, 1) := dk_100 (dk_at dksX0_judge_2 12 rfl rfl)
theorem dX0_judge_61 : decode cX0_judge 61 = .ok (.invokevirtual 377, 3) := dk_182 1 121 (dk_at dksX0_judge_2 13 rfl rfl)
theorem dX0_judge_64 : decode cX0_judge 64 = .ok (.istore 4, 2) := dk_54 4 (dk_at dksX0_judge_2 16 rfl rfl)
theorem dX0_judge_66 : decode cX0_judge 66 = .ok (.aload_n 0, 1) := dk_42 (dk_at dksX0_judge_2 18 rfl rfl)
theorem dX0_judge_67 : decode cX0_judge 67 = .ok (.getfield 126, 3) := dk_180 0 126 (dk_at dksX0_judge_2 19 rfl rfl)
theorem dX0_judge_70 : decode cX0_judge 70 = .ok (.iconst 3, 1) := dk_6 (dk_at dksX0_judge_2 22 rfl rfl)
theorem dX0_judge_71 : decode cX0_judge 71 = .ok (.iload_n 2, 1) := dk_28 (dk_at dksX0_judge_2 23 rfl rfl)
theorem dX0_judge_72 : decode cX0_judge 72 = .ok (.imul, 1) := dk_104 (dk_at dksX0_judge_3 0 rfl rfl)
theorem dX0_judge_73 : decode cX0_judge 73 = .ok (.iconst 1, 1) := dk_4 (dk_at dksX0_judge_3 1 rfl rfl)
theorem dX0_judge_74 : decode cX0_judge 74 = .ok (.iadd, 1) := dk_96 (dk_at dksX0_judge_3 2 rfl rfl)
theorem dX0_judge_75 : decode cX0_judge 75 = .ok (.iaload, 1) := dk_46 (dk_at dksX0_judge_3 3 rfl rfl)
theorem dX0_judge_76 : decode cX0_judge 76 = .ok (.iload 4, 2) := dk_21 4 (dk_at dksX0_judge_3 4 rfl rfl)
theorem dX0_judge_78 : decode cX0_judge 78 = .ok (.if_icmp .ne 32, 3) := dk_160 0 32 (dk_at dksX0_judge_3 6 rfl rfl)
theorem dX0_judge_81 : decode cX0_judge 81 = .ok (.aload_n 0, 1) := dk_42 (dk_at dksX0_judge_3 9 rfl rfl)
theorem dX0_judge_82 : decode cX0_judge 82 = .ok (.getfield 126, 3) := dk_180 0 126 (dk_at dksX0_judge_3 10 rfl rfl)
theorem dX0_judge_85 : decode cX0_judge 85 = .ok (.iconst 3, 1) := dk_6 (dk_at dksX0_judge_3 13 rfl rfl)
theorem dX0_judge_86 : decode cX0_judge 86 = .ok (.iload_n 2, 1) := dk_28 (dk_at dksX0_judge_3 14 rfl rfl)
theorem dX0_judge_87 : decode cX0_judge 87 = .ok (.imul, 1) := dk_104 (dk_at dksX0_judge_3 15 rfl rfl)
theorem dX0_judge_88 : decode cX0_judge 88 = .ok (.iconst 2, 1) := dk_5 (dk_at dksX0_judge_3 16 rfl rfl)
theorem dX0_judge_89 : decode cX0_judge 89 = .ok (.iadd, 1) := dk_96 (dk_at dksX0_judge_3 17 rfl rfl)
theorem dX0_judge_90 : decode cX0_judge 90 = .ok (.iaload, 1) := dk_46 (dk_at dksX0_judge_3 18 rfl rfl)
theorem dX0_judge_91 : decode cX0_judge 91 = .ok (.aload_n 0, 1) := dk_42 (dk_at dksX0_judge_3 19 rfl rfl)
theorem dX0_judge_92 : decode cX0_judge 92 = .ok (.iconst 1, 1) := dk_4 (dk_at dksX0_judge_3 20 rfl rfl)
theorem dX0_judge_93 : decode cX0_judge 93 = .ok (.invokevirtual 383, 3) := dk_182 1 127 (dk_at dksX0_judge_3 21 rfl rfl)
theorem dX0_judge_96 : decode cX0_judge 96 = .ok (.if_icmp .eq 6, 3) := dk_159 0 6 (dk_at dksX0_judge_4 0 rfl rfl)
theorem dX0_judge_99 : decode cX0_judge 99 = .ok (.goto 11, 3) := dk_167 0 11 (dk_at dksX0_judge_4 3 rfl rfl)
theorem dX0_judge_102 : decode cX0_judge 102 = .ok (.iconst 0, 1) := dk_3 (dk_at dksX0_judge_4 6 rfl rfl)
theorem dX0_judge_103 : decode cX0_judge 103 = .ok (.istore_n 1, 1) := dk_60 (dk_at dksX0_judge_4 7 rfl rfl)
theorem dX0_judge_104 : decode cX0_judge 104 = .ok (.iinc 2 1, 3) := dk_132 2 1 (dk_at dksX0_judge_4 8 rfl rfl)
theorem dX0_judge_107 : decode cX0_judge 107 = .ok (.goto (-92), 3) := dk_167 255 164 (dk_at dksX0_judge_4 11 rfl rfl)
theorem dX0_judge_110 : decode cX0_judge 110 = .ok (.iload_n 1, 1) := dk_27 (dk_at dksX0_judge_4 14 rfl rfl)
theorem dX0_judge_111 : decode cX0_judge 111 = .ok (.istore_n 2, 1) := dk_61 (dk_at dksX0_judge_4 15 rfl rfl)
theorem dX0_judge_112 : decode cX0_judge 112 = .ok (.aload_n 0, 1) := dk_42 (dk_at dksX0_judge_4 16 rfl rfl)
theorem dX0_judge_113 : decode cX0_judge 113 = .ok (.getfield 47, 3) := dk_180 0 47 (dk_at dksX0_judge_4 17 rfl rfl)
theorem dX0_judge_116 : decode cX0_judge 116 = .ok (.aload_n 0, 1) := dk_42 (dk_at dksX0_judge_4 20 rfl rfl)
theorem dX0_judge_117 : decode cX0_judge 117 = .ok (.getfield 54, 3) := dk_180 0 54 (dk_at dksX0_judge_4 21 rfl rfl)
theorem dX0_judge_120 : decode cX0_judge 120 = .ok (.invokevirtual 386, 3) := dk_182 1 130 (dk_at dksX0_judge_5 0 rfl rfl)
theorem dX0_judge_123 : decode cX0_judge 123 = .ok (.iload_n 2, 1) := dk_28 (dk_at dksX0_judge_5 3 rfl rfl)
theorem dX0_judge_124 : decode cX0_judge 124 = .ok (.ireturn, 1) := dk_172 (dk_at dksX0_judge_5 4 rfl rfl)
theorem dX0_judge_125 : decode cX0_judge 125 = .ok (.astore 5, 2) := dk_58 5 (dk_at dksX0_judge_5 5 rfl rfl)
theorem dX0_judge_127 : decode cX0_judge 127 = .ok (.aload_n 0, 1) := dk_42 (dk_at dksX0_judge_5 7 rfl rfl)
theorem dX0_judge_128 : decode cX0_judge 128 = .ok (.getfield 47, 3) := dk_180 0 47 (dk_at dksX0_judge_5 8 rfl rfl)
theorem dX0_judge_131 : decode cX0_judge 131 = .ok (.aload_n 0, 1) := dk_42 (dk_at dksX0_judge_5 11 rfl rfl)
theorem dX0_judge_132 : decode cX0_judge 132 = .ok (.getfield 54, 3) := dk_180 0 54 (dk_at dksX0_judge_5 12 rfl rfl)
theorem dX0_judge_135 : decode cX0_judge 135 = .ok (.invokevirtual 386, 3) := dk_182 1 130 (dk_at dksX0_judge_5 15 rfl rfl)
theorem dX0_judge_138 : decode cX0_judge 138 = .ok (.aload 5, 2) := dk_25 5 (dk_at dksX0_judge_5 18 rfl rfl)
theorem dX0_judge_140 : decode cX0_judge 140 = .ok (.athrow, 1) := dk_191 (dk_at dksX0_judge_5 20 rfl rfl)
abbrev cX0_isAct : ByteArray := prog_1_method_70_code
def yX0_isAct : MethodName := ⟨RX0, "isAct", "(I)Z"⟩
def dkwX0_isAct_0 : List UInt8 := [27, 3, 42, 180, 0, 47, 180, 0, 146, 184, 0, 150, 172]
abbrev dktX0_isAct_0 : List UInt8 := dkwX0_isAct_0 ++ []
theorem dksX0_isAct_0 : cX0_isAct.data.toList.drop 0 = dktX0_isAct_0 := by decide +kernel
theorem dX0_isAct_0 : decode cX0_isAct 0 = .ok (.iload_n 1, 1) := dk_27 (dk_at dksX0_isAct_0 0 rfl rfl)
theorem dX0_isAct_1 : decode cX0_isAct 1 = .ok (.iconst 0, 1) := dk_3 (dk_at dksX0_isAct_0 1 rfl rfl)
theorem dX0_isAct_2 : decode cX0_isAct 2 = .ok (.aload_n 0, 1) := dk_42 (dk_at dksX0_isAct_0 2 rfl rfl)
theorem dX0_isAct_3 : decode cX0_isAct 3 = .ok (.getfield 47, 3) := dk_180 0 47 (dk_at dksX0_isAct_0 3 rfl rfl)
theorem dX0_isAct_6 : decode cX0_isAct 6 = .ok (.getfield 146, 3) := dk_180 0 146 (dk_at dksX0_isAct_0 6 rfl rfl)
theorem dX0_isAct_9 : decode cX0_isAct 9 = .ok (.invokestatic 150, 3) := dk_184 0 150 (dk_at dksX0_isAct_0 9 rfl rfl)
theorem dX0_isAct_12 : decode cX0_isAct 12 = .ok (.ireturn, 1) := dk_172 (dk_at dksX0_isAct_0 12 rfl rfl)
abbrev cX0_sheet : ByteArray := prog_1_method_103_code
def yX0_sheet : MethodName := ⟨RX0, "sheet", "(III)I"⟩
def dkwX0_sheet_2 : List UInt8 := [181, 2, 13, 4, 172, 58, 4, 16, 242, 172]
abbrev dktX0_sheet_2 : List UInt8 := dkwX0_sheet_2 ++ []
def dkwX0_sheet_1 : List UInt8 := [164, 0, 5, 2, 172, 42, 180, 0, 135, 27, 50, 28, 156, 0, 7, 1, 167, 0, 8, 28, 29, 184, 2, 9]
abbrev dktX0_sheet_1 : List UInt8 := dkwX0_sheet_1 ++ dktX0_sheet_2
def dkwX0_sheet_0 : List UInt8 := [27, 184, 2, 6, 153, 0, 22, 28, 2, 7, 184, 0, 150, 153, 0, 13, 28, 155, 0, 11, 29, 16, 40]
abbrev dktX0_sheet_0 : List UInt8 := dkwX0_sheet_0 ++ dktX0_sheet_1
theorem dksX0_sheet_0 : cX0_sheet.data.toList.drop 0 = dktX0_sheet_0 := by decide +kernel
theorem dksX0_sheet_1 : cX0_sheet.data.toList.drop 23 = dktX0_sheet_1 := dk_seg dksX0_sheet_0 23 rfl rfl
theorem dksX0_sheet_2 : cX0_sheet.data.toList.drop 47 = dktX0_sheet_2 := dk_seg dksX0_sheet_1 24 rfl rfl
theorem dX0_sheet_0 : decode cX0_sheet 0 = .ok (.iload_n 1, 1) := dk_27 (dk_at dksX0_sheet_0 0 rfl rfl)
theorem dX0_sheet_1 : decode cX0_sheet 1 = .ok (.invokestatic 518, 3) := dk_184 2 6 (dk_at dksX0_sheet_0 1 rfl rfl)
theorem dX0_sheet_4 : decode cX0_sheet 4 = .ok (.ifCond .eq 22, 3) := dk_153 0 22 (dk_at dksX0_sheet_0 4 rfl rfl)
theorem dX0_sheet_7 : decode cX0_sheet 7 = .ok (.iload_n 2, 1) := dk_28 (dk_at dksX0_sheet_0 7 rfl rfl)
theorem dX0_sheet_8 : decode cX0_sheet 8 = .ok (.iconst (-1), 1) := dk_2 (dk_at dksX0_sheet_0 8 rfl rfl)
theorem dX0_sheet_9 : decode cX0_sheet 9 = .ok (.iconst 4, 1) := dk_7 (dk_at dksX0_sheet_0 9 rfl rfl)
theorem dX0_sheet_10 : decode cX0_sheet 10 = .ok (.invokestatic 150, 3) := dk_184 0 150 (dk_at dksX0_sheet_0 10 rfl rfl)
theorem dX0_sheet_13 : decode cX0_sheet 13 = .ok (.ifCond .eq 13, 3) := dk_153 0 13 (dk_at dksX0_sheet_0 13 rfl rfl)
theorem dX0_sheet_16 : decode cX0_sheet 16 = .ok (.iload_n 2, 1) := dk_28 (dk_at dksX0_sheet_0 16 rfl rfl)
theorem dX0_sheet_17 : decode cX0_sheet 17 = .ok (.ifCond .lt 11, 3) := dk_155 0 11 (dk_at dksX0_sheet_0 17 rfl rfl)
theorem dX0_sheet_20 : decode cX0_sheet 20 = .ok (.iload_n 3, 1) := dk_29 (dk_at dksX0_sheet_0 20 rfl rfl)
theorem dX0_sheet_21 : decode cX0_sheet 21 = .ok (.bipush 40, 2) := dk_16 40 (dk_at dksX0_sheet_0 21 rfl rfl)
theorem dX0_sheet_23 : decode cX0_sheet 23 = .ok (.if_icmp .le 5, 3) := dk_164 0 5 (dk_at dksX0_sheet_1 0 rfl rfl)
theorem dX0_sheet_26 : decode cX0_sheet 26 = .ok (.iconst (-1), 1) := dk_2 (dk_at dksX0_sheet_1 3 rfl rfl)
theorem dX0_sheet_27 : decode cX0_sheet 27 = .ok (.ireturn, 1) := dk_172 (dk_at dksX0_sheet_1 4 rfl rfl)
theorem dX0_sheet_28 : decode cX0_sheet 28 = .ok (.aload_n 0, 1) := dk_42 (dk_at dksX0_sheet_1 5 rfl rfl)
theorem dX0_sheet_29 : decode cX0_sheet 29 = .ok (.getfield 135, 3) := dk_180 0 135 (dk_at dksX0_sheet_1 6 rfl rfl)
theorem dX0_sheet_32 : decode cX0_sheet 32 = .ok (.iload_n 1, 1) := dk_27 (dk_at dksX0_sheet_1 9 rfl rfl)
theorem dX0_sheet_33 : decode cX0_sheet 33 = .ok (.aaload, 1) := dk_50 (dk_at dksX0_sheet_1 10 rfl rfl)
theorem dX0_sheet_34 : decode cX0_sheet 34 = .ok (.iload_n 2, 1) := dk_28 (dk_at dksX0_sheet_1 11 rfl rfl)
theorem dX0_sheet_35 : decode cX0_sheet 35 = .ok (.ifCond .ge 7, 3) := dk_156 0 7 (dk_at dksX0_sheet_1 12 rfl rfl)
theorem dX0_sheet_38 : decode cX0_sheet 38 = .ok (.aconst_null, 1) := dk_1 (dk_at dksX0_sheet_1 15 rfl rfl)
theorem dX0_sheet_39 : decode cX0_sheet 39 = .ok (.goto 8, 3) := dk_167 0 8 (dk_at dksX0_sheet_1 16 rfl rfl)
theorem dX0_sheet_42 : decode cX0_sheet 42 = .ok (.iload_n 2, 1) := dk_28 (dk_at dksX0_sheet_1 19 rfl rfl)
theorem dX0_sheet_43 : decode cX0_sheet 43 = .ok (.iload_n 3, 1) := dk_29 (dk_at dksX0_sheet_1 20 rfl rfl)
theorem dX0_sheet_44 : decode cX0_sheet 44 = .ok (.invokestatic 521, 3) := dk_184 2 9 (dk_at dksX0_sheet_1 21 rfl rfl)
theorem dX0_sheet_47 : decode cX0_sheet 47 = .ok (.putfield 525, 3) := dk_181 2 13 (dk_at dksX0_sheet_2 0 rfl rfl)
theorem dX0_sheet_50 : decode cX0_sheet 50 = .ok (.iconst 1, 1) := dk_4 (dk_at dksX0_sheet_2 3 rfl rfl)
theorem dX0_sheet_51 : decode cX0_sheet 51 = .ok (.ireturn, 1) := dk_172 (dk_at dksX0_sheet_2 4 rfl rfl)
theorem dX0_sheet_52 : decode cX0_sheet 52 = .ok (.astore 4, 2) := dk_58 4 (dk_at dksX0_sheet_2 5 rfl rfl)
theorem dX0_sheet_54 : decode cX0_sheet 54 = .ok (.bipush (-14), 2) := dk_16 242 (dk_at dksX0_sheet_2 7 rfl rfl)
theorem dX0_sheet_56 : decode cX0_sheet 56 = .ok (.ireturn, 1) := dk_172 (dk_at dksX0_sheet_2 9 rfl rfl)
abbrev cX0_isShelf : ByteArray := prog_1_method_101_code
def yX0_isShelf : MethodName := ⟨RX0, "isShelf", "(I)Z"⟩
def dkwX0_isShelf_0 : List UInt8 := [26, 3, 6, 184, 0, 150, 172]
abbrev dktX0_isShelf_0 : List UInt8 := dkwX0_isShelf_0 ++ []
theorem dksX0_isShelf_0 : cX0_isShelf.data.toList.drop 0 = dktX0_isShelf_0 := by decide +kernel
theorem dX0_isShelf_0 : decode cX0_isShelf 0 = .ok (.iload_n 0, 1) := dk_26 (dk_at dksX0_isShelf_0 0 rfl rfl)
theorem dX0_isShelf_1 : decode cX0_isShelf 1 = .ok (.iconst 0, 1) := dk_3 (dk_at dksX0_isShelf_0 1 rfl rfl)
theorem dX0_isShelf_2 : decode cX0_isShelf 2 = .ok (.iconst 3, 1) := dk_6 (dk_at dksX0_isShelf_0 2 rfl rfl)
theorem dX0_isShelf_3 : decode cX0_isShelf 3 = .ok (.invokestatic 150, 3) := dk_184 0 150 (dk_at dksX0_isShelf_0 3 rfl rfl)
theorem dX0_isShelf_6 : decode cX0_isShelf 6 = .ok (.ireturn, 1) := dk_172 (dk_at dksX0_isShelf_0 6 rfl rfl)
abbrev cX0_rowOf : ByteArray := prog_1_method_102_code
def yX0_rowOf : MethodName := ⟨RX0, "rowOf", "(II)Ljava/lang/Object;"⟩
def dkwX0_rowOf_2 : List UInt8 := [27, 188, 8, 176, 27, 188, 9, 176, 27, 188, 10, 176, 27, 188, 11, 176, 27, 188, 4, 176]
abbrev dktX0_rowOf_2 : List UInt8 := dkwX0_rowOf_2 ++ []
def dkwX0_rowOf_1 : List UInt8 := [170, 0, 0, 0, 0, 0, 47, 0, 0, 0, 0, 0, 0, 0, 3, 0, 0, 0, 31, 0, 0, 0, 35, 0, 0, 0, 39, 0, 0, 0, 43]
abbrev dktX0_rowOf_1 : List UInt8 := dkwX0_rowOf_1 ++ dktX0_rowOf_2
def dkwX0_rowOf_0 : List UInt8 := [26]
abbrev dktX0_rowOf_0 : List UInt8 := dkwX0_rowOf_0 ++ dktX0_rowOf_1
theorem dksX0_rowOf_0 : cX0_rowOf.data.toList.drop 0 = dktX0_rowOf_0 := by decide +kernel
theorem dksX0_rowOf_1 : cX0_rowOf.data.toList.drop 1 = dktX0_rowOf_1 := dk_seg dksX0_rowOf_0 1 rfl rfl
theorem dksX0_rowOf_2 : cX0_rowOf.data.toList.drop 32 = dktX0_rowOf_2 := dk_seg dksX0_rowOf_1 31 rfl rfl
theorem dX0_rowOf_0 : decode cX0_rowOf 0 = .ok (.iload_n 0, 1) := dk_26 (dk_at dksX0_rowOf_0 0 rfl rfl)
theorem dX0_rowOf_1 : decode cX0_rowOf 1 = .ok (.tableswitch 47 0 3 #[31, 35, 39, 43], 31) := by decide +kernel
theorem dX0_rowOf_32 : decode cX0_rowOf 32 = .ok (.iload_n 1, 1) := dk_27 (dk_at dksX0_rowOf_2 0 rfl rfl)
theorem dX0_rowOf_33 : decode cX0_rowOf 33 = .ok (.newarray .byte, 2) := dk_188_8 (dk_at dksX0_rowOf_2 1 rfl rfl)
theorem dX0_rowOf_35 : decode cX0_rowOf 35 = .ok (.areturn, 1) := dk_176 (dk_at dksX0_rowOf_2 3 rfl rfl)
theorem dX0_rowOf_36 : decode cX0_rowOf 36 = .ok (.iload_n 1, 1) := dk_27 (dk_at dksX0_rowOf_2 4 rfl rfl)
theorem dX0_rowOf_37 : decode cX0_rowOf 37 = .ok (.newarray .short, 2) := dk_188_9 (dk_at dksX0_rowOf_2 5 rfl rfl)
theorem dX0_rowOf_39 : decode cX0_rowOf 39 = .ok (.areturn, 1) := dk_176 (dk_at dksX0_rowOf_2 7 rfl rfl)
theorem dX0_rowOf_40 : decode cX0_rowOf 40 = .ok (.iload_n 1, 1) := dk_27 (dk_at dksX0_rowOf_2 8 rfl rfl)
theorem dX0_rowOf_41 : decode cX0_rowOf 41 = .ok (.newarray .int, 2) := dk_188_10 (dk_at dksX0_rowOf_2 9 rfl rfl)
theorem dX0_rowOf_43 : decode cX0_rowOf 43 = .ok (.areturn, 1) := dk_176 (dk_at dksX0_rowOf_2 11 rfl rfl)
theorem dX0_rowOf_44 : decode cX0_rowOf 44 = .ok (.iload_n 1, 1) := dk_27 (dk_at dksX0_rowOf_2 12 rfl rfl)
theorem dX0_rowOf_45 : decode cX0_rowOf 45 = .ok (.newarray .long, 2) := dk_188_11 (dk_at dksX0_rowOf_2 13 rfl rfl)
theorem dX0_rowOf_47 : decode cX0_rowOf 47 = .ok (.areturn, 1) := dk_176 (dk_at dksX0_rowOf_2 15 rfl rfl)
theorem dX0_rowOf_48 : decode cX0_rowOf 48 = .ok (.iload_n 1, 1) := dk_27 (dk_at dksX0_rowOf_2 16 rfl rfl)
theorem dX0_rowOf_49 : decode cX0_rowOf 49 = .ok (.newarray .boolean, 2) := dk_188_4 (dk_at dksX0_rowOf_2 17 rfl rfl)
theorem dX0_rowOf_51 : decode cX0_rowOf 51 = .ok (.areturn, 1) := dk_176 (dk_at dksX0_rowOf_2 19 rfl rfl)
abbrev cX0_write : ByteArray := prog_1_method_106_code
def yX0_write : MethodName := ⟨RX0, "write", "(III)I"⟩
def dkwX0_write_3 : List UInt8 := [172]
abbrev dktX0_write_3 : List UInt8 := dkwX0_write_3 ++ []
def dkwX0_write_2 : List UInt8 := [184, 0, 150, 16, 244, 182, 2, 27, 25, 4, 28, 29, 184, 2, 34, 4, 172, 58, 4, 25, 4, 180, 2, 38]
abbrev dktX0_write_2 : List UInt8 := dkwX0_write_2 ++ dktX0_write_3
def dkwX0_write_1 : List UInt8 := [198, 0, 7, 4, 167, 0, 4, 3, 16, 245, 182, 2, 27, 42, 28, 3, 25, 4, 184, 2, 31, 4, 100]
abbrev dktX0_write_1 : List UInt8 := dkwX0_write_1 ++ dktX0_write_2
def dkwX0_write_0 : List UInt8 := [27, 184, 2, 6, 154, 0, 5, 2, 172, 42, 180, 0, 135, 27, 50, 180, 2, 13, 58, 4, 42, 25, 4]
abbrev dktX0_write_0 : List UInt8 := dkwX0_write_0 ++ dktX0_write_1
theorem dksX0_write_0 : cX0_write.data.toList.drop 0 = dktX0_write_0 := by decide +kernel
theorem dksX0_write_1 : cX0_write.data.toList.drop 23 = dktX0_write_1 := dk_seg dksX0_write_0 23 rfl rfl
theorem dksX0_write_2 : cX0_write.data.toList.drop 46 = dktX0_write_2 := dk_seg dksX0_write_1 23 rfl rfl
theorem dksX0_write_3 : cX0_write.data.toList.drop 70 = dktX0_write_3 := dk_seg dksX0_write_2 24 rfl rfl
theorem dX0_write_0 : decode cX0_write 0 = .ok (.iload_n 1, 1) := dk_27 (dk_at dksX0_write_0 0 rfl rfl)
theorem dX0_write_1 : decode cX0_write 1 = .ok (.invokestatic 518, 3) := dk_184 2 6 (dk_at dksX0_write_0 1 rfl rfl)
theorem dX0_write_4 : decode cX0_write 4 = .ok (.ifCond .ne 5, 3) := dk_154 0 5 (dk_at dksX0_write_0 4 rfl rfl)
theorem dX0_write_7 : decode cX0_write 7 = .ok (.iconst (-1), 1) := dk_2 (dk_at dksX0_write_0 7 rfl rfl)
theorem dX0_write_8 : decode cX0_write 8 = .ok (.ireturn, 1) := dk_172 (dk_at dksX0_write_0 8 rfl rfl)
theorem dX0_write_9 : decode cX0_write 9 = .ok (.aload_n 0, 1) := dk_42 (dk_at dksX0_write_0 9 rfl rfl)
theorem dX0_write_10 : decode cX0_write 10 = .ok (.getfield 135, 3) := dk_180 0 135 (dk_at dksX0_write_0 10 rfl rfl)
theorem dX0_write_13 : decode cX0_write 13 = .ok (.iload_n 1, 1) := dk_27 (dk_at dksX0_write_0 13 rfl rfl)
theorem dX0_write_14 : decode cX0_write 14 = .ok (.aaload, 1) := dk_50 (dk_at dksX0_write_0 14 rfl rfl)
theorem dX0_write_15 : decode cX0_write 15 = .ok (.getfield 525, 3) := dk_180 2 13 (dk_at dksX0_write_0 15 rfl rfl)
theorem dX0_write_18 : decode cX0_write 18 = .ok (.astore 4, 2) := dk_58 4 (dk_at dksX0_write_0 18 rfl rfl)
theorem dX0_write_20 : decode cX0_write 20 = .ok (.aload_n 0, 1) := dk_42 (dk_at dksX0_write_0 20 rfl rfl)
theorem dX0_write_21 : decode cX0_write 21 = .ok (.aload 4, 2) := dk_25 4 (dk_at dksX0_write_0 21 rfl rfl)
theorem dX0_write_23 : decode cX0_write 23 = .ok (.ifnull 7, 3) := dk_198 0 7 (dk_at dksX0_write_1 0 rfl rfl)
theorem dX0_write_26 : decode cX0_write 26 = .ok (.iconst 1, 1) := dk_4 (dk_at dksX0_write_1 3 rfl rfl)
theorem dX0_write_27 : decode cX0_write 27 = .ok (.goto 4, 3) := dk_167 0 4 (dk_at dksX0_write_1 4 rfl rfl)
theorem dX0_write_30 : decode cX0_write 30 = .ok (.iconst 0, 1) := dk_3 (dk_at dksX0_write_1 7 rfl rfl)
theorem dX0_write_31 : decode cX0_write 31 = .ok (.bipush (-11), 2) := dk_16 245 (dk_at dksX0_write_1 8 rfl rfl)
theorem dX0_write_33 : decode cX0_write 33 = .ok (.invokevirtual 539, 3) := dk_182 2 27 (dk_at dksX0_write_1 10 rfl rfl)
theorem dX0_write_36 : decode cX0_write 36 = .ok (.aload_n 0, 1) := dk_42 (dk_at dksX0_write_1 13 rfl rfl)
theorem dX0_write_37 : decode cX0_write 37 = .ok (.iload_n 2, 1) := dk_28 (dk_at dksX0_write_1 14 rfl rfl)
theorem dX0_write_38 : decode cX0_write 38 = .ok (.iconst 0, 1) := dk_3 (dk_at dksX0_write_1 15 rfl rfl)
theorem dX0_write_39 : decode cX0_write 39 = .ok (.aload 4, 2) := dk_25 4 (dk_at dksX0_write_1 16 rfl rfl)
theorem dX0_write_41 : decode cX0_write 41 = .ok (.invokestatic 543, 3) := dk_184 2 31 (dk_at dksX0_write_1 18 rfl rfl)
theorem dX0_write_44 : decode cX0_write 44 = .ok (.iconst 1, 1) := dk_4 (dk_at dksX0_write_1 21 rfl rfl)
theorem dX0_write_45 : decode cX0_write 45 = .ok (.isub, 1) := dk_100 (dk_at dksX0_write_1 22 rfl rfl)
theorem dX0_write_46 : decode cX0_write 46 = .ok (.invokestatic 150, 3) := dk_184 0 150 (dk_at dksX0_write_2 0 rfl rfl)
theorem dX0_write_49 : decode cX0_write 49 = .ok (.bipush (-12), 2) := dk_16 244 (dk_at dksX0_write_2 3 rfl rfl)
theorem dX0_write_51 : decode cX0_write 51 = .ok (.invokevirtual 539, 3) := dk_182 2 27 (dk_at dksX0_write_2 5 rfl rfl)
theorem dX0_write_54 : decode cX0_write 54 = .ok (.aload 4, 2) := dk_25 4 (dk_at dksX0_write_2 8 rfl rfl)
theorem dX0_write_56 : decode cX0_write 56 = .ok (.iload_n 2, 1) := dk_28 (dk_at dksX0_write_2 10 rfl rfl)
theorem dX0_write_57 : decode cX0_write 57 = .ok (.iload_n 3, 1) := dk_29 (dk_at dksX0_write_2 11 rfl rfl)
theorem dX0_write_58 : decode cX0_write 58 = .ok (.invokestatic 546, 3) := dk_184 2 34 (dk_at dksX0_write_2 12 rfl rfl)
theorem dX0_write_61 : decode cX0_write 61 = .ok (.iconst 1, 1) := dk_4 (dk_at dksX0_write_2 15 rfl rfl)
theorem dX0_write_62 : decode cX0_write 62 = .ok (.ireturn, 1) := dk_172 (dk_at dksX0_write_2 16 rfl rfl)
theorem dX0_write_63 : decode cX0_write 63 = .ok (.astore 4, 2) := dk_58 4 (dk_at dksX0_write_2 17 rfl rfl)
theorem dX0_write_65 : decode cX0_write 65 = .ok (.aload 4, 2) := dk_25 4 (dk_at dksX0_write_2 19 rfl rfl)
theorem dX0_write_67 : decode cX0_write 67 = .ok (.getfield 550, 3) := dk_180 2 38 (dk_at dksX0_write_2 21 rfl rfl)
theorem dX0_write_70 : decode cX0_write 70 = .ok (.ireturn, 1) := dk_172 (dk_at dksX0_write_3 0 rfl rfl)
abbrev cX0_must : ByteArray := prog_1_method_2_code
def yX0_must : MethodName := ⟨RX0, "must", "(ZI)V"⟩
def dkwX0_must_0 : List UInt8 := [27, 154, 0, 12, 42, 180, 0, 3, 28, 182, 0, 7, 191, 177]
abbrev dktX0_must_0 : List UInt8 := dkwX0_must_0 ++ []
theorem dksX0_must_0 : cX0_must.data.toList.drop 0 = dktX0_must_0 := by decide +kernel
theorem dX0_must_0 : decode cX0_must 0 = .ok (.iload_n 1, 1) := dk_27 (dk_at dksX0_must_0 0 rfl rfl)
theorem dX0_must_1 : decode cX0_must 1 = .ok (.ifCond .ne 12, 3) := dk_154 0 12 (dk_at dksX0_must_0 1 rfl rfl)
theorem dX0_must_4 : decode cX0_must 4 = .ok (.aload_n 0, 1) := dk_42 (dk_at dksX0_must_0 4 rfl rfl)
theorem dX0_must_5 : decode cX0_must 5 = .ok (.getfield 3, 3) := dk_180 0 3 (dk_at dksX0_must_0 5 rfl rfl)
theorem dX0_must_8 : decode cX0_must 8 = .ok (.iload_n 2, 1) := dk_28 (dk_at dksX0_must_0 8 rfl rfl)
theorem dX0_must_9 : decode cX0_must 9 = .ok (.invokevirtual 7, 3) := dk_182 0 7 (dk_at dksX0_must_0 9 rfl rfl)
theorem dX0_must_12 : decode cX0_must 12 = .ok (.athrow, 1) := dk_191 (dk_at dksX0_must_0 12 rfl rfl)
theorem dX0_must_13 : decode cX0_must 13 = .ok (.return_, 1) := dk_177 (dk_at dksX0_must_0 13 rfl rfl)
abbrev cX0_length : ByteArray := prog_1_method_104_code
def yX0_length : MethodName := ⟨RX0, "length", "(Ljava/lang/Object;)I"⟩
def dkwX0_length_2 : List UInt8 := [192, 2, 23, 190, 172, 42, 192, 2, 25, 190, 172]
abbrev dktX0_length_2 : List UInt8 := dkwX0_length_2 ++ []
def dkwX0_length_1 : List UInt8 := [190, 172, 42, 193, 2, 22, 153, 0, 9, 42, 192, 2, 22, 190, 172, 42, 193, 2, 23, 153, 0, 9, 42]
abbrev dktX0_length_1 : List UInt8 := dkwX0_length_1 ++ dktX0_length_2
def dkwX0_length_0 : List UInt8 := [42, 193, 2, 19, 153, 0, 9, 42, 192, 2, 19, 190, 172, 42, 193, 2, 20, 153, 0, 9, 42, 192, 2, 20]
abbrev dktX0_length_0 : List UInt8 := dkwX0_length_0 ++ dktX0_length_1
theorem dksX0_length_0 : cX0_length.data.toList.drop 0 = dktX0_length_0 := by decide +kernel
theorem dksX0_length_1 : cX0_length.data.toList.drop 24 = dktX0_length_1 := dk_seg dksX0_length_0 24 rfl rfl
theorem dksX0_length_2 : cX0_length.data.toList.drop 47 = dktX0_length_2 := dk_seg dksX0_length_1 23 rfl rfl
theorem dX0_length_0 : decode cX0_length 0 = .ok (.aload_n 0, 1) := dk_42 (dk_at dksX0_length_0 0 rfl rfl)
theorem dX0_length_1 : decode cX0_length 1 = .ok (.instanceof 531, 3) := dk_193 2 19 (dk_at dksX0_length_0 1 rfl rfl)
theorem dX0_length_4 : decode cX0_length 4 = .ok (.ifCond .eq 9, 3) := dk_153 0 9 (dk_at dksX0_length_0 4 rfl rfl)
theorem dX0_length_7 : decode cX0_length 7 = .ok (.aload_n 0, 1) := dk_42 (dk_at dksX0_length_0 7 rfl rfl)
theorem dX0_length_8 : decode cX0_length 8 = .ok (.checkcast 531, 3) := dk_192 2 19 (dk_at dksX0_length_0 8 rfl rfl)
theorem dX0_length_11 : decode cX0_length 11 = .ok (.arraylength, 1) := dk_190 (dk_at dksX0_length_0 11 rfl rfl)
theorem dX0_length_12 : decode cX0_length 12 = .ok (.ireturn, 1) := dk_172 (dk_at dksX0_length_0 12 rfl rfl)
theorem dX0_length_13 : decode cX0_length 13 = .ok (.aload_n 0, 1) := dk_42 (dk_at dksX0_length_0 13 rfl rfl)
theorem dX0_length_14 : decode cX0_length 14 = .ok (.instanceof 532, 3) := dk_193 2 20 (dk_at dksX0_length_0 14 rfl rfl)
theorem dX0_length_17 : decode cX0_length 17 = .ok (.ifCond .eq 9, 3) := dk_153 0 9 (dk_at dksX0_length_0 17 rfl rfl)
theorem dX0_length_20 : decode cX0_length 20 = .ok (.aload_n 0, 1) := dk_42 (dk_at dksX0_length_0 20 rfl rfl)
theorem dX0_length_21 : decode cX0_length 21 = .ok (.checkcast 532, 3) := dk_192 2 20 (dk_at dksX0_length_0 21 rfl rfl)
theorem dX0_length_24 : decode cX0_length 24 = .ok (.arraylength, 1) := dk_190 (dk_at dksX0_length_1 0 rfl rfl)
theorem dX0_length_25 : decode cX0_length 25 = .ok (.ireturn, 1) := dk_172 (dk_at dksX0_length_1 1 rfl rfl)
theorem dX0_length_26 : decode cX0_length 26 = .ok (.aload_n 0, 1) := dk_42 (dk_at dksX0_length_1 2 rfl rfl)
theorem dX0_length_27 : decode cX0_length 27 = .ok (.instanceof 534, 3) := dk_193 2 22 (dk_at dksX0_length_1 3 rfl rfl)
theorem dX0_length_30 : decode cX0_length 30 = .ok (.ifCond .eq 9, 3) := dk_153 0 9 (dk_at dksX0_length_1 6 rfl rfl)
theorem dX0_length_33 : decode cX0_length 33 = .ok (.aload_n 0, 1) := dk_42 (dk_at dksX0_length_1 9 rfl rfl)
theorem dX0_length_34 : decode cX0_length 34 = .ok (.checkcast 534, 3) := dk_192 2 22 (dk_at dksX0_length_1 10 rfl rfl)
theorem dX0_length_37 : decode cX0_length 37 = .ok (.arraylength, 1) := dk_190 (dk_at dksX0_length_1 13 rfl rfl)
theorem dX0_length_38 : decode cX0_length 38 = .ok (.ireturn, 1) := dk_172 (dk_at dksX0_length_1 14 rfl rfl)
theorem dX0_length_39 : decode cX0_length 39 = .ok (.aload_n 0, 1) := dk_42 (dk_at dksX0_length_1 15 rfl rfl)
theorem dX0_length_40 : decode cX0_length 40 = .ok (.instanceof 535, 3) := dk_193 2 23 (dk_at dksX0_length_1 16 rfl rfl)
theorem dX0_length_43 : decode cX0_length 43 = .ok (.ifCond .eq 9, 3) := dk_153 0 9 (dk_at dksX0_length_1 19 rfl rfl)
theorem dX0_length_46 : decode cX0_length 46 = .ok (.aload_n 0, 1) := dk_42 (dk_at dksX0_length_1 22 rfl rfl)
theorem dX0_length_47 : decode cX0_length 47 = .ok (.checkcast 535, 3) := dk_192 2 23 (dk_at dksX0_length_2 0 rfl rfl)
theorem dX0_length_50 : decode cX0_length 50 = .ok (.arraylength, 1) := dk_190 (dk_at dksX0_length_2 3 rfl rfl)
theorem dX0_length_51 : decode cX0_length 51 = .ok (.ireturn, 1) := dk_172 (dk_at dksX0_length_2 4 rfl rfl)
theorem dX0_length_52 : decode cX0_length 52 = .ok (.aload_n 0, 1) := dk_42 (dk_at dksX0_length_2 5 rfl rfl)
theorem dX0_length_53 : decode cX0_length 53 = .ok (.checkcast 537, 3) := dk_192 2 25 (dk_at dksX0_length_2 6 rfl rfl)
theorem dX0_length_56 : decode cX0_length 56 = .ok (.arraylength, 1) := dk_190 (dk_at dksX0_length_2 9 rfl rfl)
theorem dX0_length_57 : decode cX0_length 57 = .ok (.ireturn, 1) := dk_172 (dk_at dksX0_length_2 10 rfl rfl)
abbrev cX0_set : ByteArray := prog_1_method_105_code
def yX0_set : MethodName := ⟨RX0, "set", "(Ljava/lang/Object;II)V"⟩
def dkwX0_set_3 : List UInt8 := [167, 0, 18, 42, 192, 2, 25, 27, 28, 153, 0, 7, 4, 167, 0, 4, 3, 84, 177]
abbrev dktX0_set_3 : List UInt8 := dkwX0_set_3 ++ []
def dkwX0_set_2 : List UInt8 := [192, 2, 22, 27, 28, 79, 167, 0, 36, 42, 193, 2, 23, 153, 0, 14, 42, 192, 2, 23, 27, 28, 133, 80]
abbrev dktX0_set_2 : List UInt8 := dkwX0_set_2 ++ dktX0_set_3
def dkwX0_set_1 : List UInt8 := [153, 0, 14, 42, 192, 2, 20, 27, 28, 147, 86, 167, 0, 53, 42, 193, 2, 22, 153, 0, 13, 42]
abbrev dktX0_set_1 : List UInt8 := dkwX0_set_1 ++ dktX0_set_2
def dkwX0_set_0 : List UInt8 := [42, 193, 2, 19, 153, 0, 14, 42, 192, 2, 19, 27, 28, 145, 84, 167, 0, 71, 42, 193, 2, 20]
abbrev dktX0_set_0 : List UInt8 := dkwX0_set_0 ++ dktX0_set_1
theorem dksX0_set_0 : cX0_set.data.toList.drop 0 = dktX0_set_0 := by decide +kernel
theorem dksX0_set_1 : cX0_set.data.toList.drop 22 = dktX0_set_1 := dk_seg dksX0_set_0 22 rfl rfl
theorem dksX0_set_2 : cX0_set.data.toList.drop 44 = dktX0_set_2 := dk_seg dksX0_set_1 22 rfl rfl
theorem dksX0_set_3 : cX0_set.data.toList.drop 68 = dktX0_set_3 := dk_seg dksX0_set_2 24 rfl rfl
theorem dX0_set_0 : decode cX0_set 0 = .ok (.aload_n 0, 1) := dk_42 (dk_at dksX0_set_0 0 rfl rfl)
theorem dX0_set_1 : decode cX0_set 1 = .ok (.instanceof 531, 3) := dk_193 2 19 (dk_at dksX0_set_0 1 rfl rfl)
theorem dX0_set_4 : decode cX0_set 4 = .ok (.ifCond .eq 14, 3) := dk_153 0 14 (dk_at dksX0_set_0 4 rfl rfl)
theorem dX0_set_7 : decode cX0_set 7 = .ok (.aload_n 0, 1) := dk_42 (dk_at dksX0_set_0 7 rfl rfl)
theorem dX0_set_8 : decode cX0_set 8 = .ok (.checkcast 531, 3) := dk_192 2 19 (dk_at dksX0_set_0 8 rfl rfl)
theorem dX0_set_11 : decode cX0_set 11 = .ok (.iload_n 1, 1) := dk_27 (dk_at dksX0_set_0 11 rfl rfl)
theorem dX0_set_12 : decode cX0_set 12 = .ok (.iload_n 2, 1) := dk_28 (dk_at dksX0_set_0 12 rfl rfl)
theorem dX0_set_13 : decode cX0_set 13 = .ok (.i2b, 1) := dk_145 (dk_at dksX0_set_0 13 rfl rfl)
theorem dX0_set_14 : decode cX0_set 14 = .ok (.bastore, 1) := dk_84 (dk_at dksX0_set_0 14 rfl rfl)
theorem dX0_set_15 : decode cX0_set 15 = .ok (.goto 71, 3) := dk_167 0 71 (dk_at dksX0_set_0 15 rfl rfl)
theorem dX0_set_18 : decode cX0_set 18 = .ok (.aload_n 0, 1) := dk_42 (dk_at dksX0_set_0 18 rfl rfl)
theorem dX0_set_19 : decode cX0_set 19 = .ok (.instanceof 532, 3) := dk_193 2 20 (dk_at dksX0_set_0 19 rfl rfl)
theorem dX0_set_22 : decode cX0_set 22 = .ok (.ifCond .eq 14, 3) := dk_153 0 14 (dk_at dksX0_set_1 0 rfl rfl)
theorem dX0_set_25 : decode cX0_set 25 = .ok (.aload_n 0, 1) := dk_42 (dk_at dksX0_set_1 3 rfl rfl)
theorem dX0_set_26 : decode cX0_set 26 = .ok (.checkcast 532, 3) := dk_192 2 20 (dk_at dksX0_set_1 4 rfl rfl)
theorem dX0_set_29 : decode cX0_set 29 = .ok (.iload_n 1, 1) := dk_27 (dk_at dksX0_set_1 7 rfl rfl)
theorem dX0_set_30 : decode cX0_set 30 = .ok (.iload_n 2, 1) := dk_28 (dk_at dksX0_set_1 8 rfl rfl)
theorem dX0_set_31 : decode cX0_set 31 = .ok (.i2s, 1) := dk_147 (dk_at dksX0_set_1 9 rfl rfl)
theorem dX0_set_32 : decode cX0_set 32 = .ok (.sastore, 1) := dk_86 (dk_at dksX0_set_1 10 rfl rfl)
theorem dX0_set_33 : decode cX0_set 33 = .ok (.goto 53, 3) := dk_167 0 53 (dk_at dksX0_set_1 11 rfl rfl)
theorem dX0_set_36 : decode cX0_set 36 = .ok (.aload_n 0, 1) := dk_42 (dk_at dksX0_set_1 14 rfl rfl)
theorem dX0_set_37 : decode cX0_set 37 = .ok (.instanceof 534, 3) := dk_193 2 22 (dk_at dksX0_set_1 15 rfl rfl)
theorem dX0_set_40 : decode cX0_set 40 = .ok (.ifCond .eq 13, 3) := dk_153 0 13 (dk_at dksX0_set_1 18 rfl rfl)
theorem dX0_set_43 : decode cX0_set 43 = .ok (.aload_n 0, 1) := dk_42 (dk_at dksX0_set_1 21 rfl rfl)
theorem dX0_set_44 : decode cX0_set 44 = .ok (.checkcast 534, 3) := dk_192 2 22 (dk_at dksX0_set_2 0 rfl rfl)
theorem dX0_set_47 : decode cX0_set 47 = .ok (.iload_n 1, 1) := dk_27 (dk_at dksX0_set_2 3 rfl rfl)
theorem dX0_set_48 : decode cX0_set 48 = .ok (.iload_n 2, 1) := dk_28 (dk_at dksX0_set_2 4 rfl rfl)
theorem dX0_set_49 : decode cX0_set 49 = .ok (.iastore, 1) := dk_79 (dk_at dksX0_set_2 5 rfl rfl)
theorem dX0_set_50 : decode cX0_set 50 = .ok (.goto 36, 3) := dk_167 0 36 (dk_at dksX0_set_2 6 rfl rfl)
theorem dX0_set_53 : decode cX0_set 53 = .ok (.aload_n 0, 1) := dk_42 (dk_at dksX0_set_2 9 rfl rfl)
theorem dX0_set_54 : decode cX0_set 54 = .ok (.instanceof 535, 3) := dk_193 2 23 (dk_at dksX0_set_2 10 rfl rfl)
theorem dX0_set_57 : decode cX0_set 57 = .ok (.ifCond .eq 14, 3) := dk_153 0 14 (dk_at dksX0_set_2 13 rfl rfl)
theorem dX0_set_60 : decode cX0_set 60 = .ok (.aload_n 0, 1) := dk_42 (dk_at dksX0_set_2 16 rfl rfl)
theorem dX0_set_61 : decode cX0_set 61 = .ok (.checkcast 535, 3) := dk_192 2 23 (dk_at dksX0_set_2 17 rfl rfl)
theorem dX0_set_64 : decode cX0_set 64 = .ok (.iload_n 1, 1) := dk_27 (dk_at dksX0_set_2 20 rfl rfl)
theorem dX0_set_65 : decode cX0_set 65 = .ok (.iload_n 2, 1) := dk_28 (dk_at dksX0_set_2 21 rfl rfl)
theorem dX0_set_66 : decode cX0_set 66 = .ok (.i2l, 1) := dk_133 (dk_at dksX0_set_2 22 rfl rfl)
theorem dX0_set_67 : decode cX0_set 67 = .ok (.lastore, 1) := dk_80 (dk_at dksX0_set_2 23 rfl rfl)
theorem dX0_set_68 : decode cX0_set 68 = .ok (.goto 18, 3) := dk_167 0 18 (dk_at dksX0_set_3 0 rfl rfl)
theorem dX0_set_71 : decode cX0_set 71 = .ok (.aload_n 0, 1) := dk_42 (dk_at dksX0_set_3 3 rfl rfl)
theorem dX0_set_72 : decode cX0_set 72 = .ok (.checkcast 537, 3) := dk_192 2 25 (dk_at dksX0_set_3 4 rfl rfl)
theorem dX0_set_75 : decode cX0_set 75 = .ok (.iload_n 1, 1) := dk_27 (dk_at dksX0_set_3 7 rfl rfl)
theorem dX0_set_76 : decode cX0_set 76 = .ok (.iload_n 2, 1) := dk_28 (dk_at dksX0_set_3 8 rfl rfl)
theorem dX0_set_77 : decode cX0_set 77 = .ok (.ifCond .eq 7, 3) := dk_153 0 7 (dk_at dksX0_set_3 9 rfl rfl)
theorem dX0_set_80 : decode cX0_set 80 = .ok (.iconst 1, 1) := dk_4 (dk_at dksX0_set_3 12 rfl rfl)
theorem dX0_set_81 : decode cX0_set 81 = .ok (.goto 4, 3) := dk_167 0 4 (dk_at dksX0_set_3 13 rfl rfl)
theorem dX0_set_84 : decode cX0_set 84 = .ok (.iconst 0, 1) := dk_3 (dk_at dksX0_set_3 16 rfl rfl)
theorem dX0_set_85 : decode cX0_set 85 = .ok (.bastore, 1) := dk_84 (dk_at dksX0_set_3 17 rfl rfl)
theorem dX0_set_86 : decode cX0_set 86 = .ok (.return_, 1) := dk_177 (dk_at dksX0_set_3 18 rfl rfl)
abbrev cX0_item : ByteArray := prog_1_method_109_code
def yX0_item : MethodName := ⟨RX0, "item", "(III)I"⟩
def dkwX0_item_2 : List UInt8 := [180, 2, 38, 172]
abbrev dktX0_item_2 : List UInt8 := dkwX0_item_2 ++ []
def dkwX0_item_1 : List UInt8 := [50, 180, 2, 13, 28, 29, 182, 2, 43, 172, 58, 4, 16, 243, 172, 58, 4, 16, 245, 172, 58, 4, 25, 4]
abbrev dktX0_item_1 : List UInt8 := dkwX0_item_1 ++ dktX0_item_2
def dkwX0_item_0 : List UInt8 := [27, 184, 2, 6, 153, 0, 12, 28, 3, 7, 184, 0, 150, 154, 0, 5, 2, 172, 42, 42, 180, 0, 135, 27]
abbrev dktX0_item_0 : List UInt8 := dkwX0_item_0 ++ dktX0_item_1
theorem dksX0_item_0 : cX0_item.data.toList.drop 0 = dktX0_item_0 := by decide +kernel
theorem dksX0_item_1 : cX0_item.data.toList.drop 24 = dktX0_item_1 := dk_seg dksX0_item_0 24 rfl rfl
theorem dksX0_item_2 : cX0_item.data.toList.drop 48 = dktX0_item_2 := dk_seg dksX0_item_1 24 rfl rfl
theorem dX0_item_0 : decode cX0_item 0 = .ok (.iload_n 1, 1) := dk_27 (dk_at dksX0_item_0 0 rfl rfl)
theorem dX0_item_1 : decode cX0_item 1 = .ok (.invokestatic 518, 3) := dk_184 2 6 (dk_at dksX0_item_0 1 rfl rfl)
theorem dX0_item_4 : decode cX0_item 4 = .ok (.ifCond .eq 12, 3) := dk_153 0 12 (dk_at dksX0_item_0 4 rfl rfl)
theorem dX0_item_7 : decode cX0_item 7 = .ok (.iload_n 2, 1) := dk_28 (dk_at dksX0_item_0 7 rfl rfl)
theorem dX0_item_8 : decode cX0_item 8 = .ok (.iconst 0, 1) := dk_3 (dk_at dksX0_item_0 8 rfl rfl)
theorem dX0_item_9 : decode cX0_item 9 = .ok (.iconst 4, 1) := dk_7 (dk_at dksX0_item_0 9 rfl rfl)
theorem dX0_item_10 : decode cX0_item 10 = .ok (.invokestatic 150, 3) := dk_184 0 150 (dk_at dksX0_item_0 10 rfl rfl)
theorem dX0_item_13 : decode cX0_item 13 = .ok (.ifCond .ne 5, 3) := dk_154 0 5 (dk_at dksX0_item_0 13 rfl rfl)
theorem dX0_item_16 : decode cX0_item 16 = .ok (.iconst (-1), 1) := dk_2 (dk_at dksX0_item_0 16 rfl rfl)
theorem dX0_item_17 : decode cX0_item 17 = .ok (.ireturn, 1) := dk_172 (dk_at dksX0_item_0 17 rfl rfl)
theorem dX0_item_18 : decode cX0_item 18 = .ok (.aload_n 0, 1) := dk_42 (dk_at dksX0_item_0 18 rfl rfl)
theorem dX0_item_19 : decode cX0_item 19 = .ok (.aload_n 0, 1) := dk_42 (dk_at dksX0_item_0 19 rfl rfl)
theorem dX0_item_20 : decode cX0_item 20 = .ok (.getfield 135, 3) := dk_180 0 135 (dk_at dksX0_item_0 20 rfl rfl)
theorem dX0_item_23 : decode cX0_item 23 = .ok (.iload_n 1, 1) := dk_27 (dk_at dksX0_item_0 23 rfl rfl)
theorem dX0_item_24 : decode cX0_item 24 = .ok (.aaload, 1) := dk_50 (dk_at dksX0_item_1 0 rfl rfl)
theorem dX0_item_25 : decode cX0_item 25 = .ok (.getfield 525, 3) := dk_180 2 13 (dk_at dksX0_item_1 1 rfl rfl)
theorem dX0_item_28 : decode cX0_item 28 = .ok (.iload_n 2, 1) := dk_28 (dk_at dksX0_item_1 4 rfl rfl)
theorem dX0_item_29 : decode cX0_item 29 = .ok (.iload_n 3, 1) := dk_29 (dk_at dksX0_item_1 5 rfl rfl)
theorem dX0_item_30 : decode cX0_item 30 = .ok (.invokevirtual 555, 3) := dk_182 2 43 (dk_at dksX0_item_1 6 rfl rfl)
theorem dX0_item_33 : decode cX0_item 33 = .ok (.ireturn, 1) := dk_172 (dk_at dksX0_item_1 9 rfl rfl)
theorem dX0_item_34 : decode cX0_item 34 = .ok (.astore 4, 2) := dk_58 4 (dk_at dksX0_item_1 10 rfl rfl)
theorem dX0_item_36 : decode cX0_item 36 = .ok (.bipush (-13), 2) := dk_16 243 (dk_at dksX0_item_1 12 rfl rfl)
theorem dX0_item_38 : decode cX0_item 38 = .ok (.ireturn, 1) := dk_172 (dk_at dksX0_item_1 14 rfl rfl)
theorem dX0_item_39 : decode cX0_item 39 = .ok (.astore 4, 2) := dk_58 4 (dk_at dksX0_item_1 15 rfl rfl)
theorem dX0_item_41 : decode cX0_item 41 = .ok (.bipush (-11), 2) := dk_16 245 (dk_at dksX0_item_1 17 rfl rfl)
theorem dX0_item_43 : decode cX0_item 43 = .ok (.ireturn, 1) := dk_172 (dk_at dksX0_item_1 19 rfl rfl)
theorem dX0_item_44 : decode cX0_item 44 = .ok (.astore 4, 2) := dk_58 4 (dk_at dksX0_item_1 20 rfl rfl)
theorem dX0_item_46 : decode cX0_item 46 = .ok (.aload 4, 2) := dk_25 4 (dk_at dksX0_item_1 22 rfl rfl)
theorem dX0_item_48 : decode cX0_item 48 = .ok (.getfield 550, 3) := dk_180 2 38 (dk_at dksX0_item_2 0 rfl rfl)
theorem dX0_item_51 : decode cX0_item 51 = .ok (.ireturn, 1) := dk_172 (dk_at dksX0_item_2 3 rfl rfl)
abbrev cX0_itemOf : ByteArray := prog_1_method_108_code
def yX0_itemOf : MethodName := ⟨RX0, "itemOf", "(Ljava/lang/Object;II)I"⟩
def dkwX0_itemOf_3 : List UInt8 := [192, 2, 23, 29, 47, 136, 172, 43, 192, 2, 25, 29, 51, 153, 0, 7, 4, 167, 0, 4, 3, 172]
abbrev dktX0_itemOf_3 : List UInt8 := dkwX0_itemOf_3 ++ []
def dkwX0_itemOf_2 : List UInt8 := [43, 192, 2, 19, 29, 51, 172, 43, 192, 2, 20, 29, 53, 172, 43, 192, 2, 22, 29, 46, 172, 43]
abbrev dktX0_itemOf_2 : List UInt8 := dkwX0_itemOf_2 ++ dktX0_itemOf_3
def dkwX0_itemOf_1 : List UInt8 := [170, 0, 0, 0, 58, 0, 0, 0, 0, 0, 0, 0, 3, 0, 0, 0, 29, 0, 0, 0, 36, 0, 0, 0, 43, 0, 0, 0, 50]
abbrev dktX0_itemOf_1 : List UInt8 := dkwX0_itemOf_1 ++ dktX0_itemOf_2
def dkwX0_itemOf_0 : List UInt8 := [42, 29, 3, 43, 28, 184, 2, 39, 4, 100, 184, 0, 150, 16, 244, 182, 2, 27, 28]
abbrev dktX0_itemOf_0 : List UInt8 := dkwX0_itemOf_0 ++ dktX0_itemOf_1
theorem dksX0_itemOf_0 : cX0_itemOf.data.toList.drop 0 = dktX0_itemOf_0 := by decide +kernel
theorem dksX0_itemOf_1 : cX0_itemOf.data.toList.drop 19 = dktX0_itemOf_1 := dk_seg dksX0_itemOf_0 19 rfl rfl
theorem dksX0_itemOf_2 : cX0_itemOf.data.toList.drop 48 = dktX0_itemOf_2 := dk_seg dksX0_itemOf_1 29 rfl rfl
theorem dksX0_itemOf_3 : cX0_itemOf.data.toList.drop 70 = dktX0_itemOf_3 := dk_seg dksX0_itemOf_2 22 rfl rfl
theorem dX0_itemOf_0 : decode cX0_itemOf 0 = .ok (.aload_n 0, 1) := dk_42 (dk_at dksX0_itemOf_0 0 rfl rfl)
theorem dX0_itemOf_1 : decode cX0_itemOf 1 = .ok (.iload_n 3, 1) := dk_29 (dk_at dksX0_itemOf_0 1 rfl rfl)
theorem dX0_itemOf_2 : decode cX0_itemOf 2 = .ok (.iconst 0, 1) := dk_3 (dk_at dksX0_itemOf_0 2 rfl rfl)
theorem dX0_itemOf_3 : decode cX0_itemOf 3 = .ok (.aload_n 1, 1) := dk_43 (dk_at dksX0_itemOf_0 3 rfl rfl)
theorem dX0_itemOf_4 : decode cX0_itemOf 4 = .ok (.iload_n 2, 1) := dk_28 (dk_at dksX0_itemOf_0 4 rfl rfl)
theorem dX0_itemOf_5 : decode cX0_itemOf 5 = .ok (.invokestatic 551, 3) := dk_184 2 39 (dk_at dksX0_itemOf_0 5 rfl rfl)
theorem dX0_itemOf_8 : decode cX0_itemOf 8 = .ok (.iconst 1, 1) := dk_4 (dk_at dksX0_itemOf_0 8 rfl rfl)
theorem dX0_itemOf_9 : decode cX0_itemOf 9 = .ok (.isub, 1) := dk_100 (dk_at dksX0_itemOf_0 9 rfl rfl)
theorem dX0_itemOf_10 : decode cX0_itemOf 10 = .ok (.invokestatic 150, 3) := dk_184 0 150 (dk_at dksX0_itemOf_0 10 rfl rfl)
theorem dX0_itemOf_13 : decode cX0_itemOf 13 = .ok (.bipush (-12), 2) := dk_16 244 (dk_at dksX0_itemOf_0 13 rfl rfl)
theorem dX0_itemOf_15 : decode cX0_itemOf 15 = .ok (.invokevirtual 539, 3) := dk_182 2 27 (dk_at dksX0_itemOf_0 15 rfl rfl)
theorem dX0_itemOf_18 : decode cX0_itemOf 18 = .ok (.iload_n 2, 1) := dk_28 (dk_at dksX0_itemOf_0 18 rfl rfl)
theorem dX0_itemOf_19 : decode cX0_itemOf 19 = .ok (.tableswitch 58 0 3 #[29, 36, 43, 50], 29) := by decide +kernel
theorem dX0_itemOf_48 : decode cX0_itemOf 48 = .ok (.aload_n 1, 1) := dk_43 (dk_at dksX0_itemOf_2 0 rfl rfl)
theorem dX0_itemOf_49 : decode cX0_itemOf 49 = .ok (.checkcast 531, 3) := dk_192 2 19 (dk_at dksX0_itemOf_2 1 rfl rfl)
theorem dX0_itemOf_52 : decode cX0_itemOf 52 = .ok (.iload_n 3, 1) := dk_29 (dk_at dksX0_itemOf_2 4 rfl rfl)
theorem dX0_itemOf_53 : decode cX0_itemOf 53 = .ok (.baload, 1) := dk_51 (dk_at dksX0_itemOf_2 5 rfl rfl)
theorem dX0_itemOf_54 : decode cX0_itemOf 54 = .ok (.ireturn, 1) := dk_172 (dk_at dksX0_itemOf_2 6 rfl rfl)
theorem dX0_itemOf_55 : decode cX0_itemOf 55 = .ok (.aload_n 1, 1) := dk_43 (dk_at dksX0_itemOf_2 7 rfl rfl)
theorem dX0_itemOf_56 : decode cX0_itemOf 56 = .ok (.checkcast 532, 3) := dk_192 2 20 (dk_at dksX0_itemOf_2 8 rfl rfl)
theorem dX0_itemOf_59 : decode cX0_itemOf 59 = .ok (.iload_n 3, 1) := dk_29 (dk_at dksX0_itemOf_2 11 rfl rfl)
theorem dX0_itemOf_60 : decode cX0_itemOf 60 = .ok (.saload, 1) := dk_53 (dk_at dksX0_itemOf_2 12 rfl rfl)
theorem dX0_itemOf_61 : decode cX0_itemOf 61 = .ok (.ireturn, 1) := dk_172 (dk_at dksX0_itemOf_2 13 rfl rfl)
theorem dX0_itemOf_62 : decode cX0_itemOf 62 = .ok (.aload_n 1, 1) := dk_43 (dk_at dksX0_itemOf_2 14 rfl rfl)
theorem dX0_itemOf_63 : decode cX0_itemOf 63 = .ok (.checkcast 534, 3) := dk_192 2 22 (dk_at dksX0_itemOf_2 15 rfl rfl)
theorem dX0_itemOf_66 : decode cX0_itemOf 66 = .ok (.iload_n 3, 1) := dk_29 (dk_at dksX0_itemOf_2 18 rfl rfl)
theorem dX0_itemOf_67 : decode cX0_itemOf 67 = .ok (.iaload, 1) := dk_46 (dk_at dksX0_itemOf_2 19 rfl rfl)
theorem dX0_itemOf_68 : decode cX0_itemOf 68 = .ok (.ireturn, 1) := dk_172 (dk_at dksX0_itemOf_2 20 rfl rfl)
theorem dX0_itemOf_69 : decode cX0_itemOf 69 = .ok (.aload_n 1, 1) := dk_43 (dk_at dksX0_itemOf_2 21 rfl rfl)
theorem dX0_itemOf_70 : decode cX0_itemOf 70 = .ok (.checkcast 535, 3) := dk_192 2 23 (dk_at dksX0_itemOf_3 0 rfl rfl)
theorem dX0_itemOf_73 : decode cX0_itemOf 73 = .ok (.iload_n 3, 1) := dk_29 (dk_at dksX0_itemOf_3 3 rfl rfl)
theorem dX0_itemOf_74 : decode cX0_itemOf 74 = .ok (.laload, 1) := dk_47 (dk_at dksX0_itemOf_3 4 rfl rfl)
theorem dX0_itemOf_75 : decode cX0_itemOf 75 = .ok (.l2i, 1) := dk_136 (dk_at dksX0_itemOf_3 5 rfl rfl)
theorem dX0_itemOf_76 : decode cX0_itemOf 76 = .ok (.ireturn, 1) := dk_172 (dk_at dksX0_itemOf_3 6 rfl rfl)
theorem dX0_itemOf_77 : decode cX0_itemOf 77 = .ok (.aload_n 1, 1) := dk_43 (dk_at dksX0_itemOf_3 7 rfl rfl)
theorem dX0_itemOf_78 : decode cX0_itemOf 78 = .ok (.checkcast 537, 3) := dk_192 2 25 (dk_at dksX0_itemOf_3 8 rfl rfl)
theorem dX0_itemOf_81 : decode cX0_itemOf 81 = .ok (.iload_n 3, 1) := dk_29 (dk_at dksX0_itemOf_3 11 rfl rfl)
theorem dX0_itemOf_82 : decode cX0_itemOf 82 = .ok (.baload, 1) := dk_51 (dk_at dksX0_itemOf_3 12 rfl rfl)
theorem dX0_itemOf_83 : decode cX0_itemOf 83 = .ok (.ifCond .eq 7, 3) := dk_153 0 7 (dk_at dksX0_itemOf_3 13 rfl rfl)
theorem dX0_itemOf_86 : decode cX0_itemOf 86 = .ok (.iconst 1, 1) := dk_4 (dk_at dksX0_itemOf_3 16 rfl rfl)
theorem dX0_itemOf_87 : decode cX0_itemOf 87 = .ok (.goto 4, 3) := dk_167 0 4 (dk_at dksX0_itemOf_3 17 rfl rfl)
theorem dX0_itemOf_90 : decode cX0_itemOf 90 = .ok (.iconst 0, 1) := dk_3 (dk_at dksX0_itemOf_3 20 rfl rfl)
theorem dX0_itemOf_91 : decode cX0_itemOf 91 = .ok (.ireturn, 1) := dk_172 (dk_at dksX0_itemOf_3 21 rfl rfl)
abbrev cX0_manyOf : ByteArray := prog_1_method_107_code
def yX0_manyOf : MethodName := ⟨RX0, "manyOf", "(Ljava/lang/Object;I)I"⟩
def dkwX0_manyOf_3 : List UInt8 := [42, 192, 2, 25, 190, 172]
abbrev dktX0_manyOf_3 : List UInt8 := dkwX0_manyOf_3 ++ []
def dkwX0_manyOf_2 : List UInt8 := [42, 192, 2, 19, 190, 172, 42, 192, 2, 20, 190, 172, 42, 192, 2, 22, 190, 172, 42, 192, 2, 23, 190, 172]
abbrev dktX0_manyOf_2 : List UInt8 := dkwX0_manyOf_2 ++ dktX0_manyOf_3
def dkwX0_manyOf_1 : List UInt8 := [170, 0, 0, 0, 0, 0, 55, 0, 0, 0, 0, 0, 0, 0, 3, 0, 0, 0, 31, 0, 0, 0, 37, 0, 0, 0, 43, 0, 0, 0, 49]
abbrev dktX0_manyOf_1 : List UInt8 := dkwX0_manyOf_1 ++ dktX0_manyOf_2
def dkwX0_manyOf_0 : List UInt8 := [27]
abbrev dktX0_manyOf_0 : List UInt8 := dkwX0_manyOf_0 ++ dktX0_manyOf_1
theorem dksX0_manyOf_0 : cX0_manyOf.data.toList.drop 0 = dktX0_manyOf_0 := by decide +kernel
theorem dksX0_manyOf_1 : cX0_manyOf.data.toList.drop 1 = dktX0_manyOf_1 := dk_seg dksX0_manyOf_0 1 rfl rfl
theorem dksX0_manyOf_2 : cX0_manyOf.data.toList.drop 32 = dktX0_manyOf_2 := dk_seg dksX0_manyOf_1 31 rfl rfl
theorem dksX0_manyOf_3 : cX0_manyOf.data.toList.drop 56 = dktX0_manyOf_3 := dk_seg dksX0_manyOf_2 24 rfl rfl
theorem dX0_manyOf_0 : decode cX0_manyOf 0 = .ok (.iload_n 1, 1) := dk_27 (dk_at dksX0_manyOf_0 0 rfl rfl)
theorem dX0_manyOf_1 : decode cX0_manyOf 1 = .ok (.tableswitch 55 0 3 #[31, 37, 43, 49], 31) := by decide +kernel
theorem dX0_manyOf_32 : decode cX0_manyOf 32 = .ok (.aload_n 0, 1) := dk_42 (dk_at dksX0_manyOf_2 0 rfl rfl)
theorem dX0_manyOf_33 : decode cX0_manyOf 33 = .ok (.checkcast 531, 3) := dk_192 2 19 (dk_at dksX0_manyOf_2 1 rfl rfl)
theorem dX0_manyOf_36 : decode cX0_manyOf 36 = .ok (.arraylength, 1) := dk_190 (dk_at dksX0_manyOf_2 4 rfl rfl)
theorem dX0_manyOf_37 : decode cX0_manyOf 37 = .ok (.ireturn, 1) := dk_172 (dk_at dksX0_manyOf_2 5 rfl rfl)
theorem dX0_manyOf_38 : decode cX0_manyOf 38 = .ok (.aload_n 0, 1) := dk_42 (dk_at dksX0_manyOf_2 6 rfl rfl)
theorem dX0_manyOf_39 : decode cX0_manyOf 39 = .ok (.checkcast 532, 3) := dk_192 2 20 (dk_at dksX0_manyOf_2 7 rfl rfl)
theorem dX0_manyOf_42 : decode cX0_manyOf 42 = .ok (.arraylength, 1) := dk_190 (dk_at dksX0_manyOf_2 10 rfl rfl)
theorem dX0_manyOf_43 : decode cX0_manyOf 43 = .ok (.ireturn, 1) := dk_172 (dk_at dksX0_manyOf_2 11 rfl rfl)
theorem dX0_manyOf_44 : decode cX0_manyOf 44 = .ok (.aload_n 0, 1) := dk_42 (dk_at dksX0_manyOf_2 12 rfl rfl)
theorem dX0_manyOf_45 : decode cX0_manyOf 45 = .ok (.checkcast 534, 3) := dk_192 2 22 (dk_at dksX0_manyOf_2 13 rfl rfl)
theorem dX0_manyOf_48 : decode cX0_manyOf 48 = .ok (.arraylength, 1) := dk_190 (dk_at dksX0_manyOf_2 16 rfl rfl)
theorem dX0_manyOf_49 : decode cX0_manyOf 49 = .ok (.ireturn, 1) := dk_172 (dk_at dksX0_manyOf_2 17 rfl rfl)
theorem dX0_manyOf_50 : decode cX0_manyOf 50 = .ok (.aload_n 0, 1) := dk_42 (dk_at dksX0_manyOf_2 18 rfl rfl)
theorem dX0_manyOf_51 : decode cX0_manyOf 51 = .ok (.checkcast 535, 3) := dk_192 2 23 (dk_at dksX0_manyOf_2 19 rfl rfl)
theorem dX0_manyOf_54 : decode cX0_manyOf 54 = .ok (.arraylength, 1) := dk_190 (dk_at dksX0_manyOf_2 22 rfl rfl)
theorem dX0_manyOf_55 : decode cX0_manyOf 55 = .ok (.ireturn, 1) := dk_172 (dk_at dksX0_manyOf_2 23 rfl rfl)
theorem dX0_manyOf_56 : decode cX0_manyOf 56 = .ok (.aload_n 0, 1) := dk_42 (dk_at dksX0_manyOf_3 0 rfl rfl)
theorem dX0_manyOf_57 : decode cX0_manyOf 57 = .ok (.checkcast 537, 3) := dk_192 2 25 (dk_at dksX0_manyOf_3 1 rfl rfl)
theorem dX0_manyOf_60 : decode cX0_manyOf 60 = .ok (.arraylength, 1) := dk_190 (dk_at dksX0_manyOf_3 4 rfl rfl)
theorem dX0_manyOf_61 : decode cX0_manyOf 61 = .ok (.ireturn, 1) := dk_172 (dk_at dksX0_manyOf_3 5 rfl rfl)
abbrev cX0_goAll : ByteArray := prog_1_method_110_code
def yX0_goAll : MethodName := ⟨RX0, "goAll", "(III)I"⟩
def dkwX0_goAll_6 : List UInt8 := [172, 58, 4, 25, 4, 180, 2, 38, 172]
abbrev dktX0_goAll_6 : List UInt8 := dkwX0_goAll_6 ++ []
def dkwX0_goAll_5 : List UInt8 := [182, 1, 124, 96, 54, 6, 132, 7, 1, 167, 255, 173, 21, 6, 172, 58, 4, 16, 243, 172, 58, 4, 16, 245]
abbrev dktX0_goAll_5 : List UInt8 := dkwX0_goAll_5 ++ dktX0_goAll_6
def dkwX0_goAll_4 : List UInt8 := [153, 0, 29, 42, 180, 0, 47, 182, 0, 226, 153, 0, 6, 167, 0, 16, 21, 6, 42, 21, 8, 4, 100]
abbrev dktX0_goAll_4 : List UInt8 := dkwX0_goAll_4 ++ dktX0_goAll_5
def dkwX0_goAll_3 : List UInt8 := [16, 244, 182, 2, 27, 42, 25, 4, 3, 28, 21, 7, 96, 182, 2, 43, 54, 8, 42, 21, 8, 182, 2, 3]
abbrev dktX0_goAll_3 : List UInt8 := dkwX0_goAll_3 ++ dktX0_goAll_4
def dkwX0_goAll_2 : List UInt8 := [162, 0, 83, 42, 28, 155, 0, 18, 28, 21, 5, 4, 100, 21, 7, 100, 163, 0, 7, 4, 167, 0, 4, 3]
abbrev dktX0_goAll_2 : List UInt8 := dkwX0_goAll_2 ++ dktX0_goAll_3
def dkwX0_goAll_1 : List UInt8 := [50, 180, 2, 13, 58, 4, 25, 4, 3, 184, 2, 39, 54, 5, 3, 54, 6, 3, 54, 7, 21, 7, 29]
abbrev dktX0_goAll_1 : List UInt8 := dkwX0_goAll_1 ++ dktX0_goAll_2
def dkwX0_goAll_0 : List UInt8 := [27, 184, 2, 6, 153, 0, 13, 29, 3, 16, 20, 184, 0, 150, 154, 0, 5, 2, 172, 42, 180, 0, 135, 27]
abbrev dktX0_goAll_0 : List UInt8 := dkwX0_goAll_0 ++ dktX0_goAll_1
theorem dksX0_goAll_0 : cX0_goAll.data.toList.drop 0 = dktX0_goAll_0 := by decide +kernel
theorem dksX0_goAll_1 : cX0_goAll.data.toList.drop 24 = dktX0_goAll_1 := dk_seg dksX0_goAll_0 24 rfl rfl
theorem dksX0_goAll_2 : cX0_goAll.data.toList.drop 47 = dktX0_goAll_2 := dk_seg dksX0_goAll_1 23 rfl rfl
theorem dksX0_goAll_3 : cX0_goAll.data.toList.drop 71 = dktX0_goAll_3 := dk_seg dksX0_goAll_2 24 rfl rfl
theorem dksX0_goAll_4 : cX0_goAll.data.toList.drop 95 = dktX0_goAll_4 := dk_seg dksX0_goAll_3 24 rfl rfl
theorem dksX0_goAll_5 : cX0_goAll.data.toList.drop 118 = dktX0_goAll_5 := dk_seg dksX0_goAll_4 23 rfl rfl
theorem dksX0_goAll_6 : cX0_goAll.data.toList.drop 142 = dktX0_goAll_6 := dk_seg dksX0_goAll_5 24 rfl rfl
theorem dX0_goAll_0 : decode cX0_goAll 0 = .ok (.iload_n 1, 1) := dk_27 (dk_at dksX0_goAll_0 0 rfl rfl)
theorem dX0_goAll_1 : decode cX0_goAll 1 = .ok (.invokestatic 518, 3) := dk_184 2 6 (dk_at dksX0_goAll_0 1 rfl rfl)
theorem dX0_goAll_4 : decode cX0_goAll 4 = .ok (.ifCond .eq 13, 3) := dk_153 0 13 (dk_at dksX0_goAll_0 4 rfl rfl)
theorem dX0_goAll_7 : decode cX0_goAll 7 = .ok (.iload_n 3, 1) := dk_29 (dk_at dksX0_goAll_0 7 rfl rfl)
theorem dX0_goAll_8 : decode cX0_goAll 8 = .ok (.iconst 0, 1) := dk_3 (dk_at dksX0_goAll_0 8 rfl rfl)
theorem dX0_goAll_9 : decode cX0_goAll 9 = .ok (.bipush 20, 2) := dk_16 20 (dk_at dksX0_goAll_0 9 rfl rfl)
theorem dX0_goAll_11 : decode cX0_goAll 11 = .ok (.invokestatic 150, 3) := dk_184 0 150 (dk_at dksX0_goAll_0 11 rfl rfl)
theorem dX0_goAll_14 : decode cX0_goAll 14 = .ok (.ifCond .ne 5, 3) := dk_154 0 5 (dk_at dksX0_goAll_0 14 rfl rfl)
theorem dX0_goAll_17 : decode cX0_goAll 17 = .ok (.iconst (-1), 1) := dk_2 (dk_at dksX0_goAll_0 17 rfl rfl)
theorem dX0_goAll_18 : decode cX0_goAll 18 = .ok (.ireturn, 1) := dk_172 (dk_at dksX0_goAll_0 18 rfl rfl)
theorem dX0_goAll_19 : decode cX0_goAll 19 = .ok (.aload_n 0, 1) := dk_42 (dk_at dksX0_goAll_0 19 rfl rfl)
theorem dX0_goAll_20 : decode cX0_goAll 20 = .ok (.getfield 135, 3) := dk_180 0 135 (dk_at dksX0_goAll_0 20 rfl rfl)
theorem dX0_goAll_23 : decode cX0_goAll 23 = .ok (.iload_n 1, 1) := dk_27 (dk_at dksX0_goAll_0 23 rfl rfl)
theorem dX0_goAll_24 : decode cX0_goAll 24 = .ok (.aaload, 1) := dk_50 (dk_at dksX0_goAll_1 0 rfl rfl)
theorem dX0_goAll_25 : decode cX0_goAll 25 = .ok (.getfield 525, 3) := dk_180 2 13 (dk_at dksX0_goAll_1 1 rfl rfl)
theorem dX0_goAll_28 : decode cX0_goAll 28 = .ok (.astore 4, 2) := dk_58 4 (dk_at dksX0_goAll_1 4 rfl rfl)
theorem dX0_goAll_30 : decode cX0_goAll 30 = .ok (.aload 4, 2) := dk_25 4 (dk_at dksX0_goAll_1 6 rfl rfl)
theorem dX0_goAll_32 : decode cX0_goAll 32 = .ok (.iconst 0, 1) := dk_3 (dk_at dksX0_goAll_1 8 rfl rfl)
theorem dX0_goAll_33 : decode cX0_goAll 33 = .ok (.invokestatic 551, 3) := dk_184 2 39 (dk_at dksX0_goAll_1 9 rfl rfl)
theorem dX0_goAll_36 : decode cX0_goAll 36 = .ok (.istore 5, 2) := dk_54 5 (dk_at dksX0_goAll_1 12 rfl rfl)
theorem dX0_goAll_38 : decode cX0_goAll 38 = .ok (.iconst 0, 1) := dk_3 (dk_at dksX0_goAll_1 14 rfl rfl)
theorem dX0_goAll_39 : decode cX0_goAll 39 = .ok (.istore 6, 2) := dk_54 6 (dk_at dksX0_goAll_1 15 rfl rfl)
theorem dX0_goAll_41 : decode cX0_goAll 41 = .ok (.iconst 0, 1) := dk_3 (dk_at dksX0_goAll_1 17 rfl rfl)
theorem dX0_goAll_42 : decode cX0_goAll 42 = .ok (.istore 7, 2) := dk_54 7 (dk_at dksX0_goAll_1 18 rfl rfl)
theorem dX0_goAll_44 : decode cX0_goAll 44 = .ok (.iload 7, 2) := dk_21 7 (dk_at dksX0_goAll_1 20 rfl rfl)
theorem dX0_goAll_46 : decode cX0_goAll 46 = .ok (.iload_n 3, 1) := dk_29 (dk_at dksX0_goAll_1 22 rfl rfl)
theorem dX0_goAll_47 : decode cX0_goAll 47 = .ok (.if_icmp .ge 83, 3) := dk_162 0 83 (dk_at dksX0_goAll_2 0 rfl rfl)
theorem dX0_goAll_50 : decode cX0_goAll 50 = .ok (.aload_n 0, 1) := dk_42 (dk_at dksX0_goAll_2 3 rfl rfl)
theorem dX0_goAll_51 : decode cX0_goAll 51 = .ok (.iload_n 2, 1) := dk_28 (dk_at dksX0_goAll_2 4 rfl rfl)
theorem dX0_goAll_52 : decode cX0_goAll 52 = .ok (.ifCond .lt 18, 3) := dk_155 0 18 (dk_at dksX0_goAll_2 5 rfl rfl)
theorem dX0_goAll_55 : decode cX0_goAll 55 = .ok (.iload_n 2, 1) := dk_28 (dk_at dksX0_goAll_2 8 rfl rfl)
theorem dX0_goAll_56 : decode cX0_goAll 56 = .ok (.iload 5, 2) := dk_21 5 (dk_at dksX0_goAll_2 9 rfl rfl)
theorem dX0_goAll_58 : decode cX0_goAll 58 = .ok (.iconst 1, 1) := dk_4 (dk_at dksX0_goAll_2 11 rfl rfl)
theorem dX0_goAll_59 : decode cX0_goAll 59 = .ok (.isub, 1) := dk_100 (dk_at dksX0_goAll_2 12 rfl rfl)
theorem dX0_goAll_60 : decode cX0_goAll 60 = .ok (.iload 7, 2) := dk_21 7 (dk_at dksX0_goAll_2 13 rfl rfl)
theorem dX0_goAll_62 : decode cX0_goAll 62 = .ok (.isub, 1) := dk_100 (dk_at dksX0_goAll_2 15 rfl rfl)
theorem dX0_goAll_63 : decode cX0_goAll 63 = .ok (.if_icmp .gt 7, 3) := dk_163 0 7 (dk_at dksX0_goAll_2 16 rfl rfl)
theorem dX0_goAll_66 : decode cX0_goAll 66 = .ok (.iconst 1, 1) := dk_4 (dk_at dksX0_goAll_2 19 rfl rfl)
theorem dX0_goAll_67 : decode cX0_goAll 67 = .ok (.goto 4, 3) := dk_167 0 4 (dk_at dksX0_goAll_2 20 rfl rfl)
theorem dX0_goAll_70 : decode cX0_goAll 70 = .ok (.iconst 0, 1) := dk_3 (dk_at dksX0_goAll_2 23 rfl rfl)
theorem dX0_goAll_71 : decode cX0_goAll 71 = .ok (.bipush (-12), 2) := dk_16 244 (dk_at dksX0_goAll_3 0 rfl rfl)
theorem dX0_goAll_73 : decode cX0_goAll 73 = .ok (.invokevirtual 539, 3) := dk_182 2 27 (dk_at dksX0_goAll_3 2 rfl rfl)
theorem dX0_goAll_76 : decode cX0_goAll 76 = .ok (.aload_n 0, 1) := dk_42 (dk_at dksX0_goAll_3 5 rfl rfl)
theorem dX0_goAll_77 : decode cX0_goAll 77 = .ok (.aload 4, 2) := dk_25 4 (dk_at dksX0_goAll_3 6 rfl rfl)
theorem dX0_goAll_79 : decode cX0_goAll 79 = .ok (.iconst 0, 1) := dk_3 (dk_at dksX0_goAll_3 8 rfl rfl)
theorem dX0_goAll_80 : decode cX0_goAll 80 = .ok (.iload_n 2, 1) := dk_28 (dk_at dksX0_goAll_3 9 rfl rfl)
theorem dX0_goAll_81 : decode cX0_goAll 81 = .ok (.iload 7, 2) := dk_21 7 (dk_at dksX0_goAll_3 10 rfl rfl)
theorem dX0_goAll_83 : decode cX0_goAll 83 = .ok (.iadd, 1) := dk_96 (dk_at dksX0_goAll_3 12 rfl rfl)
theorem dX0_goAll_84 : decode cX0_goAll 84 = .ok (.invokevirtual 555, 3) := dk_182 2 43 (dk_at dksX0_goAll_3 13 rfl rfl)
theorem dX0_goAll_87 : decode cX0_goAll 87 = .ok (.istore 8, 2) := dk_54 8 (dk_at dksX0_goAll_3 16 rfl rfl)
theorem dX0_goAll_89 : decode cX0_goAll 89 = .ok (.aload_n 0, 1) := dk_42 (dk_at dksX0_goAll_3 18 rfl rfl)
theorem dX0_goAll_90 : decode cX0_goAll 90 = .ok (.iload 8, 2) := dk_21 8 (dk_at dksX0_goAll_3 19 rfl rfl)
theorem dX0_goAll_92 : decode cX0_goAll 92 = .ok (.invokevirtual 515, 3) := dk_182 2 3 (dk_at dksX0_goAll_3 21 rfl rfl)
theorem dX0_goAll_95 : decode cX0_goAll 95 = .ok (.ifCond .eq 29, 3) := dk_153 0 29 (dk_at dksX0_goAll_4 0 rfl rfl)
theorem dX0_goAll_98 : decode cX0_goAll 98 = .ok (.aload_n 0, 1) := dk_42 (dk_at dksX0_goAll_4 3 rfl rfl)
theorem dX0_goAll_99 : decode cX0_goAll 99 = .ok (.getfield 47, 3) := dk_180 0 47 (dk_at dksX0_goAll_4 4 rfl rfl)
theorem dX0_goAll_102 : decode cX0_goAll 102 = .ok (.invokevirtual 226, 3) := dk_182 0 226 (dk_at dksX0_goAll_4 7 rfl rfl)
theorem dX0_goAll_105 : decode cX0_goAll 105 = .ok (.ifCond .eq 6, 3) := dk_153 0 6 (dk_at dksX0_goAll_4 10 rfl rfl)
theorem dX0_goAll_108 : decode cX0_goAll 108 = .ok (.goto 16, 3) := dk_167 0 16 (dk_at dksX0_goAll_4 13 rfl rfl)
theorem dX0_goAll_111 : decode cX0_goAll 111 = .ok (.iload 6, 2) := dk_21 6 (dk_at dksX0_goAll_4 16 rfl rfl)
theorem dX0_goAll_113 : decode cX0_goAll 113 = .ok (.aload_n 0, 1) := dk_42 (dk_at dksX0_goAll_4 18 rfl rfl)
theorem dX0_goAll_114 : decode cX0_goAll 114 = .ok (.iload 8, 2) := dk_21 8 (dk_at dksX0_goAll_4 19 rfl rfl)
theorem dX0_goAll_116 : decode cX0_goAll 116 = .ok (.iconst 1, 1) := dk_4 (dk_at dksX0_goAll_4 21 rfl rfl)
theorem dX0_goAll_117 : decode cX0_goAll 117 = .ok (.isub, 1) := dk_100 (dk_at dksX0_goAll_4 22 rfl rfl)
theorem dX0_goAll_118 : decode cX0_goAll 118 = .ok (.invokevirtual 380, 3) := dk_182 1 124 (dk_at dksX0_goAll_5 0 rfl rfl)
theorem dX0_goAll_121 : decode cX0_goAll 121 = .ok (.iadd, 1) := dk_96 (dk_at dksX0_goAll_5 3 rfl rfl)
theorem dX0_goAll_122 : decode cX0_goAll 122 = .ok (.istore 6, 2) := dk_54 6 (dk_at dksX0_goAll_5 4 rfl rfl)
theorem dX0_goAll_124 : decode cX0_goAll 124 = .ok (.iinc 7 1, 3) := dk_132 7 1 (dk_at dksX0_goAll_5 6 rfl rfl)
theorem dX0_goAll_127 : decode cX0_goAll 127 = .ok (.goto (-83), 3) := dk_167 255 173 (dk_at dksX0_goAll_5 9 rfl rfl)
theorem dX0_goAll_130 : decode cX0_goAll 130 = .ok (.iload 6, 2) := dk_21 6 (dk_at dksX0_goAll_5 12 rfl rfl)
theorem dX0_goAll_132 : decode cX0_goAll 132 = .ok (.ireturn, 1) := dk_172 (dk_at dksX0_goAll_5 14 rfl rfl)
theorem dX0_goAll_133 : decode cX0_goAll 133 = .ok (.astore 4, 2) := dk_58 4 (dk_at dksX0_goAll_5 15 rfl rfl)
theorem dX0_goAll_135 : decode cX0_goAll 135 = .ok (.bipush (-13), 2) := dk_16 243 (dk_at dksX0_goAll_5 17 rfl rfl)
theorem dX0_goAll_137 : decode cX0_goAll 137 = .ok (.ireturn, 1) := dk_172 (dk_at dksX0_goAll_5 19 rfl rfl)
theorem dX0_goAll_138 : decode cX0_goAll 138 = .ok (.astore 4, 2) := dk_58 4 (dk_at dksX0_goAll_5 20 rfl rfl)
theorem dX0_goAll_140 : decode cX0_goAll 140 = .ok (.bipush (-11), 2) := dk_16 245 (dk_at dksX0_goAll_5 22 rfl rfl)
theorem dX0_goAll_142 : decode cX0_goAll 142 = .ok (.ireturn, 1) := dk_172 (dk_at dksX0_goAll_6 0 rfl rfl)
theorem dX0_goAll_143 : decode cX0_goAll 143 = .ok (.astore 4, 2) := dk_58 4 (dk_at dksX0_goAll_6 1 rfl rfl)
theorem dX0_goAll_145 : decode cX0_goAll 145 = .ok (.aload 4, 2) := dk_25 4 (dk_at dksX0_goAll_6 3 rfl rfl)
theorem dX0_goAll_147 : decode cX0_goAll 147 = .ok (.getfield 550, 3) := dk_180 2 38 (dk_at dksX0_goAll_6 5 rfl rfl)
theorem dX0_goAll_150 : decode cX0_goAll 150 = .ok (.ireturn, 1) := dk_172 (dk_at dksX0_goAll_6 8 rfl rfl)
abbrev cX0_wouldBe : ByteArray := prog_1_method_111_code
def yX0_wouldBe : MethodName := ⟨RX0, "wouldBe", "(III)I"⟩
def dkwX0_wouldBe_10 : List UInt8 := [180, 0, 47, 42, 180, 0, 54, 182, 1, 130, 25, 9, 191]
abbrev dktX0_wouldBe_10 : List UInt8 := dkwX0_wouldBe_10 ++ []
def dkwX0_wouldBe_9 : List UInt8 := [180, 2, 38, 54, 5, 42, 180, 0, 47, 42, 180, 0, 54, 182, 1, 130, 21, 5, 172, 58, 9, 42]
abbrev dktX0_wouldBe_9 : List UInt8 := dkwX0_wouldBe_9 ++ dktX0_wouldBe_10
def dkwX0_wouldBe_8 : List UInt8 := [58, 4, 16, 245, 54, 5, 42, 180, 0, 47, 42, 180, 0, 54, 182, 1, 130, 21, 5, 172, 58, 4, 25, 4]
abbrev dktX0_wouldBe_8 : List UInt8 := dkwX0_wouldBe_8 ++ dktX0_wouldBe_9
def dkwX0_wouldBe_7 : List UInt8 := [21, 7, 172, 58, 4, 16, 243, 54, 5, 42, 180, 0, 47, 42, 180, 0, 54, 182, 1, 130, 21, 5, 172]
abbrev dktX0_wouldBe_7 : List UInt8 := dkwX0_wouldBe_7 ++ dktX0_wouldBe_8
def dkwX0_wouldBe_6 : List UInt8 := [54, 6, 132, 7, 1, 167, 255, 165, 21, 6, 54, 7, 42, 180, 0, 47, 42, 180, 0, 54, 182, 1, 130]
abbrev dktX0_wouldBe_6 : List UInt8 := dkwX0_wouldBe_6 ++ dktX0_wouldBe_7
def dkwX0_wouldBe_5 : List UInt8 := [154, 0, 7, 4, 167, 0, 4, 3, 16, 252, 182, 2, 27, 21, 6, 42, 21, 8, 4, 100, 182, 1, 124, 96]
abbrev dktX0_wouldBe_5 : List UInt8 := dkwX0_wouldBe_5 ++ dktX0_wouldBe_6
def dkwX0_wouldBe_4 : List UInt8 := [182, 2, 43, 54, 8, 42, 42, 21, 8, 182, 2, 3, 153, 0, 17, 42, 180, 0, 47, 182, 0, 226]
abbrev dktX0_wouldBe_4 : List UInt8 := dkwX0_wouldBe_4 ++ dktX0_wouldBe_5
def dkwX0_wouldBe_3 : List UInt8 := [21, 7, 100, 163, 0, 7, 4, 167, 0, 4, 3, 16, 244, 182, 2, 27, 42, 25, 4, 3, 28, 21, 7, 96]
abbrev dktX0_wouldBe_3 : List UInt8 := dkwX0_wouldBe_3 ++ dktX0_wouldBe_4
def dkwX0_wouldBe_2 : List UInt8 := [54, 5, 3, 54, 6, 3, 54, 7, 21, 7, 29, 162, 0, 91, 42, 28, 155, 0, 18, 28, 21, 5, 4, 100]
abbrev dktX0_wouldBe_2 : List UInt8 := dkwX0_wouldBe_2 ++ dktX0_wouldBe_3
def dkwX0_wouldBe_1 : List UInt8 := [180, 0, 47, 182, 1, 130, 42, 180, 0, 135, 27, 50, 180, 2, 13, 58, 4, 25, 4, 3, 184, 2, 39]
abbrev dktX0_wouldBe_1 : List UInt8 := dkwX0_wouldBe_1 ++ dktX0_wouldBe_2
def dkwX0_wouldBe_0 : List UInt8 := [27, 184, 2, 6, 153, 0, 13, 29, 3, 16, 20, 184, 0, 150, 154, 0, 5, 2, 172, 42, 180, 0, 54, 42]
abbrev dktX0_wouldBe_0 : List UInt8 := dkwX0_wouldBe_0 ++ dktX0_wouldBe_1
theorem dksX0_wouldBe_0 : cX0_wouldBe.data.toList.drop 0 = dktX0_wouldBe_0 := by decide +kernel
theorem dksX0_wouldBe_1 : cX0_wouldBe.data.toList.drop 24 = dktX0_wouldBe_1 := dk_seg dksX0_wouldBe_0 24 rfl rfl
theorem dksX0_wouldBe_2 : cX0_wouldBe.data.toList.drop 47 = dktX0_wouldBe_2 := dk_seg dksX0_wouldBe_1 23 rfl rfl
theorem dksX0_wouldBe_3 : cX0_wouldBe.data.toList.drop 71 = dktX0_wouldBe_3 := dk_seg dksX0_wouldBe_2 24 rfl rfl
theorem dksX0_wouldBe_4 : cX0_wouldBe.data.toList.drop 95 = dktX0_wouldBe_4 := dk_seg dksX0_wouldBe_3 24 rfl rfl
theorem dksX0_wouldBe_5 : cX0_wouldBe.data.toList.drop 117 = dktX0_wouldBe_5 := dk_seg dksX0_wouldBe_4 22 rfl rfl
theorem dksX0_wouldBe_6 : cX0_wouldBe.data.toList.drop 141 = dktX0_wouldBe_6 := dk_seg dksX0_wouldBe_5 24 rfl rfl
theorem dksX0_wouldBe_7 : cX0_wouldBe.data.toList.drop 164 = dktX0_wouldBe_7 := dk_seg dksX0_wouldBe_6 23 rfl rfl
theorem dksX0_wouldBe_8 : cX0_wouldBe.data.toList.drop 187 = dktX0_wouldBe_8 := dk_seg dksX0_wouldBe_7 23 rfl rfl
theorem dksX0_wouldBe_9 : cX0_wouldBe.data.toList.drop 211 = dktX0_wouldBe_9 := dk_seg dksX0_wouldBe_8 24 rfl rfl
theorem dksX0_wouldBe_10 : cX0_wouldBe.data.toList.drop 233 = dktX0_wouldBe_10 := dk_seg dksX0_wouldBe_9 22 rfl rfl
theorem dX0_wouldBe_0 : decode cX0_wouldBe 0 = .ok (.iload_n 1, 1) := dk_27 (dk_at dksX0_wouldBe_0 0 rfl rfl)
theorem dX0_wouldBe_1 : decode cX0_wouldBe 1 = .ok (.invokestatic 518, 3) := dk_184 2 6 (dk_at dksX0_wouldBe_0 1 rfl rfl)
theorem dX0_wouldBe_4 : decode cX0_wouldBe 4 = .ok (.ifCond .eq 13, 3) := dk_153 0 13 (dk_at dksX0_wouldBe_0 4 rfl rfl)
theorem dX0_wouldBe_7 : decode cX0_wouldBe 7 = .ok (.iload_n 3, 1) := dk_29 (dk_at dksX0_wouldBe_0 7 rfl rfl)
theorem dX0_wouldBe_8 : decode cX0_wouldBe 8 = .ok (.iconst 0, 1) := dk_3 (dk_at dksX0_wouldBe_0 8 rfl rfl)
theorem dX0_wouldBe_9 : decode cX0_wouldBe 9 = .ok (.bipush 20, 2) := dk_16 20 (dk_at dksX0_wouldBe_0 9 rfl rfl)
theorem dX0_wouldBe_11 : decode cX0_wouldBe 11 = .ok (.invokestatic 150, 3) := dk_184 0 150 (dk_at dksX0_wouldBe_0 11 rfl rfl)
theorem dX0_wouldBe_14 : decode cX0_wouldBe 14 = .ok (.ifCond .ne 5, 3) := dk_154 0 5 (dk_at dksX0_wouldBe_0 14 rfl rfl)
theorem dX0_wouldBe_17 : decode cX0_wouldBe 17 = .ok (.iconst (-1), 1) := dk_2 (dk_at dksX0_wouldBe_0 17 rfl rfl)
theorem dX0_wouldBe_18 : decode cX0_wouldBe 18 = .ok (.ireturn, 1) := dk_172 (dk_at dksX0_wouldBe_0 18 rfl rfl)
theorem dX0_wouldBe_19 : decode cX0_wouldBe 19 = .ok (.aload_n 0, 1) := dk_42 (dk_at dksX0_wouldBe_0 19 rfl rfl)
theorem dX0_wouldBe_20 : decode cX0_wouldBe 20 = .ok (.getfield 54, 3) := dk_180 0 54 (dk_at dksX0_wouldBe_0 20 rfl rfl)
theorem dX0_wouldBe_23 : decode cX0_wouldBe 23 = .ok (.aload_n 0, 1) := dk_42 (dk_at dksX0_wouldBe_0 23 rfl rfl)
theorem dX0_wouldBe_24 : decode cX0_wouldBe 24 = .ok (.getfield 47, 3) := dk_180 0 47 (dk_at dksX0_wouldBe_1 0 rfl rfl)
theorem dX0_wouldBe_27 : decode cX0_wouldBe 27 = .ok (.invokevirtual 386, 3) := dk_182 1 130 (dk_at dksX0_wouldBe_1 3 rfl rfl)
theorem dX0_wouldBe_30 : decode cX0_wouldBe 30 = .ok (.aload_n 0, 1) := dk_42 (dk_at dksX0_wouldBe_1 6 rfl rfl)
theorem dX0_wouldBe_31 : decode cX0_wouldBe 31 = .ok (.getfield 135, 3) := dk_180 0 135 (dk_at dksX0_wouldBe_1 7 rfl rfl)
theorem dX0_wouldBe_34 : decode cX0_wouldBe 34 = .ok (.iload_n 1, 1) := dk_27 (dk_at dksX0_wouldBe_1 10 rfl rfl)
theorem dX0_wouldBe_35 : decode cX0_wouldBe 35 = .ok (.aaload, 1) := dk_50 (dk_at dksX0_wouldBe_1 11 rfl rfl)
theorem dX0_wouldBe_36 : decode cX0_wouldBe 36 = .ok (.getfield 525, 3) := dk_180 2 13 (dk_at dksX0_wouldBe_1 12 rfl rfl)
theorem dX0_wouldBe_39 : decode cX0_wouldBe 39 = .ok (.astore 4, 2) := dk_58 4 (dk_at dksX0_wouldBe_1 15 rfl rfl)
theorem dX0_wouldBe_41 : decode cX0_wouldBe 41 = .ok (.aload 4, 2) := dk_25 4 (dk_at dksX0_wouldBe_1 17 rfl rfl)
theorem dX0_wouldBe_43 : decode cX0_wouldBe 43 = .ok (.iconst 0, 1) := dk_3 (dk_at dksX0_wouldBe_1 19 rfl rfl)
theorem dX0_wouldBe_44 : decode cX0_wouldBe 44 = .ok (.invokestatic 551, 3) := dk_184 2 39 (dk_at dksX0_wouldBe_1 20 rfl rfl)
theorem dX0_wouldBe_47 : decode cX0_wouldBe 47 = .ok (.istore 5, 2) := dk_54 5 (dk_at dksX0_wouldBe_2 0 rfl rfl)
theorem dX0_wouldBe_49 : decode cX0_wouldBe 49 = .ok (.iconst 0, 1) := dk_3 (dk_at dksX0_wouldBe_2 2 rfl rfl)
theorem dX0_wouldBe_50 : decode cX0_wouldBe 50 = .ok (.istore 6, 2) := dk_54 6 (dk_at dksX0_wouldBe_2 3 rfl rfl)
theorem dX0_wouldBe_52 : decode cX0_wouldBe 52 = .ok (.iconst 0, 1) := dk_3 (dk_at dksX0_wouldBe_2 5 rfl rfl)
theorem dX0_wouldBe_53 : decode cX0_wouldBe 53 = .ok (.istore 7, 2) := dk_54 7 (dk_at dksX0_wouldBe_2 6 rfl rfl)
theorem dX0_wouldBe_55 : decode cX0_wouldBe 55 = .ok (.iload 7, 2) := dk_21 7 (dk_at dksX0_wouldBe_2 8 rfl rfl)
theorem dX0_wouldBe_57 : decode cX0_wouldBe 57 = .ok (.iload_n 3, 1) := dk_29 (dk_at dksX0_wouldBe_2 10 rfl rfl)
theorem dX0_wouldBe_58 : decode cX0_wouldBe 58 = .ok (.if_icmp .ge 91, 3) := dk_162 0 91 (dk_at dksX0_wouldBe_2 11 rfl rfl)
theorem dX0_wouldBe_61 : decode cX0_wouldBe 61 = .ok (.aload_n 0, 1) := dk_42 (dk_at dksX0_wouldBe_2 14 rfl rfl)
theorem dX0_wouldBe_62 : decode cX0_wouldBe 62 = .ok (.iload_n 2, 1) := dk_28 (dk_at dksX0_wouldBe_2 15 rfl rfl)
theorem dX0_wouldBe_63 : decode cX0_wouldBe 63 = .ok (.ifCond .lt 18, 3) := dk_155 0 18 (dk_at dksX0_wouldBe_2 16 rfl rfl)
theorem dX0_wouldBe_66 : decode cX0_wouldBe 66 = .ok (.iload_n 2, 1) := dk_28 (dk_at dksX0_wouldBe_2 19 rfl rfl)
theorem dX0_wouldBe_67 : decode cX0_wouldBe 67 = .ok (.iload 5, 2) := dk_21 5 (dk_at dksX0_wouldBe_2 20 rfl rfl)
theorem dX0_wouldBe_69 : decode cX0_wouldBe 69 = .ok (.iconst 1, 1) := dk_4 (dk_at dksX0_wouldBe_2 22 rfl rfl)
theorem dX0_wouldBe_70 : decode cX0_wouldBe 70 = .ok (.isub, 1) := dk_100 (dk_at dksX0_wouldBe_2 23 rfl rfl)
theorem dX0_wouldBe_71 : decode cX0_wouldBe 71 = .ok (.iload 7, 2) := dk_21 7 (dk_at dksX0_wouldBe_3 0 rfl rfl)
theorem dX0_wouldBe_73 : decode cX0_wouldBe 73 = .ok (.isub, 1) := dk_100 (dk_at dksX0_wouldBe_3 2 rfl rfl)
theorem dX0_wouldBe_74 : decode cX0_wouldBe 74 = .ok (.if_icmp .gt 7, 3) := dk_163 0 7 (dk_at dksX0_wouldBe_3 3 rfl rfl)
theorem dX0_wouldBe_77 : decode cX0_wouldBe 77 = .ok (.iconst 1, 1) := dk_4 (dk_at dksX0_wouldBe_3 6 rfl rfl)
theorem dX0_wouldBe_78 : decode cX0_wouldBe 78 = .ok (.goto 4, 3) := dk_167 0 4 (dk_at dksX0_wouldBe_3 7 rfl rfl)
theorem dX0_wouldBe_81 : decode cX0_wouldBe 81 = .ok (.iconst 0, 1) := dk_3 (dk_at dksX0_wouldBe_3 10 rfl rfl)
theorem dX0_wouldBe_82 : decode cX0_wouldBe 82 = .ok (.bipush (-12), 2) := dk_16 244 (dk_at dksX0_wouldBe_3 11 rfl rfl)
theorem dX0_wouldBe_84 : decode cX0_wouldBe 84 = .ok (.invokevirtual 539, 3) := dk_182 2 27 (dk_at dksX0_wouldBe_3 13 rfl rfl)
theorem dX0_wouldBe_87 : decode cX0_wouldBe 87 = .ok (.aload_n 0, 1) := dk_42 (dk_at dksX0_wouldBe_3 16 rfl rfl)
theorem dX0_wouldBe_88 : decode cX0_wouldBe 88 = .ok (.aload 4, 2) := dk_25 4 (dk_at dksX0_wouldBe_3 17 rfl rfl)
theorem dX0_wouldBe_90 : decode cX0_wouldBe 90 = .ok (.iconst 0, 1) := dk_3 (dk_at dksX0_wouldBe_3 19 rfl rfl)
theorem dX0_wouldBe_91 : decode cX0_wouldBe 91 = .ok (.iload_n 2, 1) := dk_28 (dk_at dksX0_wouldBe_3 20 rfl rfl)
theorem dX0_wouldBe_92 : decode cX0_wouldBe 92 = .ok (.iload 7, 2) := dk_21 7 (dk_at dksX0_wouldBe_3 21 rfl rfl)
theorem dX0_wouldBe_94 : decode cX0_wouldBe 94 = .ok (.iadd, 1) := dk_96 (dk_at dksX0_wouldBe_3 23 rfl rfl)
theorem dX0_wouldBe_95 : decode cX0_wouldBe 95 = .ok (.invokevirtual 555, 3) := dk_182 2 43 (dk_at dksX0_wouldBe_4 0 rfl rfl)
theorem dX0_wouldBe_98 : decode cX0_wouldBe 98 = .ok (.istore 8, 2) := dk_54 8 (dk_at dksX0_wouldBe_4 3 rfl rfl)
theorem dX0_wouldBe_100 : decode cX0_wouldBe 100 = .ok (.aload_n 0, 1) := dk_42 (dk_at dksX0_wouldBe_4 5 rfl rfl)
theorem dX0_wouldBe_101 : decode cX0_wouldBe 101 = .ok (.aload_n 0, 1) := dk_42 (dk_at dksX0_wouldBe_4 6 rfl rfl)
theorem dX0_wouldBe_102 : decode cX0_wouldBe 102 = .ok (.iload 8, 2) := dk_21 8 (dk_at dksX0_wouldBe_4 7 rfl rfl)
theorem dX0_wouldBe_104 : decode cX0_wouldBe 104 = .ok (.invokevirtual 515, 3) := dk_182 2 3 (dk_at dksX0_wouldBe_4 9 rfl rfl)
theorem dX0_wouldBe_107 : decode cX0_wouldBe 107 = .ok (.ifCond .eq 17, 3) := dk_153 0 17 (dk_at dksX0_wouldBe_4 12 rfl rfl)
theorem dX0_wouldBe_110 : decode cX0_wouldBe 110 = .ok (.aload_n 0, 1) := dk_42 (dk_at dksX0_wouldBe_4 15 rfl rfl)
theorem dX0_wouldBe_111 : decode cX0_wouldBe 111 = .ok (.getfield 47, 3) := dk_180 0 47 (dk_at dksX0_wouldBe_4 16 rfl rfl)
theorem dX0_wouldBe_114 : decode cX0_wouldBe 114 = .ok (.invokevirtual 226, 3) := dk_182 0 226 (dk_at dksX0_wouldBe_4 19 rfl rfl)
theorem dX0_wouldBe_117 : decode cX0_wouldBe 117 = .ok (.ifCond .ne 7, 3) := dk_154 0 7 (dk_at dksX0_wouldBe_5 0 rfl rfl)
theorem dX0_wouldBe_120 : decode cX0_wouldBe 120 = .ok (.iconst 1, 1) := dk_4 (dk_at dksX0_wouldBe_5 3 rfl rfl)
theorem dX0_wouldBe_121 : decode cX0_wouldBe 121 = .ok (.goto 4, 3) := dk_167 0 4 (dk_at dksX0_wouldBe_5 4 rfl rfl)
theorem dX0_wouldBe_124 : decode cX0_wouldBe 124 = .ok (.iconst 0, 1) := dk_3 (dk_at dksX0_wouldBe_5 7 rfl rfl)
theorem dX0_wouldBe_125 : decode cX0_wouldBe 125 = .ok (.bipush (-4), 2) := dk_16 252 (dk_at dksX0_wouldBe_5 8 rfl rfl)
theorem dX0_wouldBe_127 : decode cX0_wouldBe 127 = .ok (.invokevirtual 539, 3) := dk_182 2 27 (dk_at dksX0_wouldBe_5 10 rfl rfl)
theorem dX0_wouldBe_130 : decode cX0_wouldBe 130 = .ok (.iload 6, 2) := dk_21 6 (dk_at dksX0_wouldBe_5 13 rfl rfl)
theorem dX0_wouldBe_132 : decode cX0_wouldBe 132 = .ok (.aload_n 0, 1) := dk_42 (dk_at dksX0_wouldBe_5 15 rfl rfl)
theorem dX0_wouldBe_133 : decode cX0_wouldBe 133 = .ok (.iload 8, 2) := dk_21 8 (dk_at dksX0_wouldBe_5 16 rfl rfl)
theorem dX0_wouldBe_135 : decode cX0_wouldBe 135 = .ok (.iconst 1, 1) := dk_4 (dk_at dksX0_wouldBe_5 18 rfl rfl)
theorem dX0_wouldBe_136 : decode cX0_wouldBe 136 = .ok (.isub, 1) := dk_100 (dk_at dksX0_wouldBe_5 19 rfl rfl)
theorem dX0_wouldBe_137 : decode cX0_wouldBe 137 = .ok (.invokevirtual 380, 3) := dk_182 1 124 (dk_at dksX0_wouldBe_5 20 rfl rfl)
theorem dX0_wouldBe_140 : decode cX0_wouldBe 140 = .ok (.iadd, 1) := dk_96 (dk_at dksX0_wouldBe_5 23 rfl rfl)
theorem dX0_wouldBe_141 : decode cX0_wouldBe 141 = .ok (.istore 6, 2) := dk_54 6 (dk_at dksX0_wouldBe_6 0 rfl rfl)
theorem dX0_wouldBe_143 : decode cX0_wouldBe 143 = .ok (.iinc 7 1, 3) := dk_132 7 1 (dk_at dksX0_wouldBe_6 2 rfl rfl)
theorem dX0_wouldBe_146 : decode cX0_wouldBe 146 = .ok (.goto (-91), 3) := dk_167 255 165 (dk_at dksX0_wouldBe_6 5 rfl rfl)
theorem dX0_wouldBe_149 : decode cX0_wouldBe 149 = .ok (.iload 6, 2) := dk_21 6 (dk_at dksX0_wouldBe_6 8 rfl rfl)
theorem dX0_wouldBe_151 : decode cX0_wouldBe 151 = .ok (.istore 7, 2) := dk_54 7 (dk_at dksX0_wouldBe_6 10 rfl rfl)
theorem dX0_wouldBe_153 : decode cX0_wouldBe 153 = .ok (.aload_n 0, 1) := dk_42 (dk_at dksX0_wouldBe_6 12 rfl rfl)
theorem dX0_wouldBe_154 : decode cX0_wouldBe 154 = .ok (.getfield 47, 3) := dk_180 0 47 (dk_at dksX0_wouldBe_6 13 rfl rfl)
theorem dX0_wouldBe_157 : decode cX0_wouldBe 157 = .ok (.aload_n 0, 1) := dk_42 (dk_at dksX0_wouldBe_6 16 rfl rfl)
theorem dX0_wouldBe_158 : decode cX0_wouldBe 158 = .ok (.getfield 54, 3) := dk_180 0 54 (dk_at dksX0_wouldBe_6 17 rfl rfl)
theorem dX0_wouldBe_161 : decode cX0_wouldBe 161 = .ok (.invokevirtual 386, 3) := dk_182 1 130 (dk_at dksX0_wouldBe_6 20 rfl rfl)
theorem dX0_wouldBe_164 : decode cX0_wouldBe 164 = .ok (.iload 7, 2) := dk_21 7 (dk_at dksX0_wouldBe_7 0 rfl rfl)
theorem dX0_wouldBe_166 : decode cX0_wouldBe 166 = .ok (.ireturn, 1) := dk_172 (dk_at dksX0_wouldBe_7 2 rfl rfl)
theorem dX0_wouldBe_167 : decode cX0_wouldBe 167 = .ok (.astore 4, 2) := dk_58 4 (dk_at dksX0_wouldBe_7 3 rfl rfl)
theorem dX0_wouldBe_169 : decode cX0_wouldBe 169 = .ok (.bipush (-13), 2) := dk_16 243 (dk_at dksX0_wouldBe_7 5 rfl rfl)
theorem dX0_wouldBe_171 : decode cX0_wouldBe 171 = .ok (.istore 5, 2) := dk_54 5 (dk_at dksX0_wouldBe_7 7 rfl rfl)
theorem dX0_wouldBe_173 : decode cX0_wouldBe 173 = .ok (.aload_n 0, 1) := dk_42 (dk_at dksX0_wouldBe_7 9 rfl rfl)
theorem dX0_wouldBe_174 : decode cX0_wouldBe 174 = .ok (.getfield 47, 3) := dk_180 0 47 (dk_at dksX0_wouldBe_7 10 rfl rfl)
theorem dX0_wouldBe_177 : decode cX0_wouldBe 177 = .ok (.aload_n 0, 1) := dk_42 (dk_at dksX0_wouldBe_7 13 rfl rfl)
theorem dX0_wouldBe_178 : decode cX0_wouldBe 178 = .ok (.getfield 54, 3) := dk_180 0 54 (dk_at dksX0_wouldBe_7 14 rfl rfl)
theorem dX0_wouldBe_181 : decode cX0_wouldBe 181 = .ok (.invokevirtual 386, 3) := dk_182 1 130 (dk_at dksX0_wouldBe_7 17 rfl rfl)
theorem dX0_wouldBe_184 : decode cX0_wouldBe 184 = .ok (.iload 5, 2) := dk_21 5 (dk_at dksX0_wouldBe_7 20 rfl rfl)
theorem dX0_wouldBe_186 : decode cX0_wouldBe 186 = .ok (.ireturn, 1) := dk_172 (dk_at dksX0_wouldBe_7 22 rfl rfl)
theorem dX0_wouldBe_187 : decode cX0_wouldBe 187 = .ok (.astore 4, 2) := dk_58 4 (dk_at dksX0_wouldBe_8 0 rfl rfl)
theorem dX0_wouldBe_189 : decode cX0_wouldBe 189 = .ok (.bipush (-11), 2) := dk_16 245 (dk_at dksX0_wouldBe_8 2 rfl rfl)
theorem dX0_wouldBe_191 : decode cX0_wouldBe 191 = .ok (.istore 5, 2) := dk_54 5 (dk_at dksX0_wouldBe_8 4 rfl rfl)
theorem dX0_wouldBe_193 : decode cX0_wouldBe 193 = .ok (.aload_n 0, 1) := dk_42 (dk_at dksX0_wouldBe_8 6 rfl rfl)
theorem dX0_wouldBe_194 : decode cX0_wouldBe 194 = .ok (.getfield 47, 3) := dk_180 0 47 (dk_at dksX0_wouldBe_8 7 rfl rfl)
theorem dX0_wouldBe_197 : decode cX0_wouldBe 197 = .ok (.aload_n 0, 1) := dk_42 (dk_at dksX0_wouldBe_8 10 rfl rfl)
theorem dX0_wouldBe_198 : decode cX0_wouldBe 198 = .ok (.getfield 54, 3) := dk_180 0 54 (dk_at dksX0_wouldBe_8 11 rfl rfl)
theorem dX0_wouldBe_201 : decode cX0_wouldBe 201 = .ok (.invokevirtual 386, 3) := dk_182 1 130 (dk_at dksX0_wouldBe_8 14 rfl rfl)
theorem dX0_wouldBe_204 : decode cX0_wouldBe 204 = .ok (.iload 5, 2) := dk_21 5 (dk_at dksX0_wouldBe_8 17 rfl rfl)
theorem dX0_wouldBe_206 : decode cX0_wouldBe 206 = .ok (.ireturn, 1) := dk_172 (dk_at dksX0_wouldBe_8 19 rfl rfl)
theorem dX0_wouldBe_207 : decode cX0_wouldBe 207 = .ok (.astore 4, 2) := dk_58 4 (dk_at dksX0_wouldBe_8 20 rfl rfl)
theorem dX0_wouldBe_209 : decode cX0_wouldBe 209 = .ok (.aload 4, 2) := dk_25 4 (dk_at dksX0_wouldBe_8 22 rfl rfl)
theorem dX0_wouldBe_211 : decode cX0_wouldBe 211 = .ok (.getfield 550, 3) := dk_180 2 38 (dk_at dksX0_wouldBe_9 0 rfl rfl)
theorem dX0_wouldBe_214 : decode cX0_wouldBe 214 = .ok (.istore 5, 2) := dk_54 5 (dk_at dksX0_wouldBe_9 3 rfl rfl)
theorem dX0_wouldBe_216 : decode cX0_wouldBe 216 = .ok (.aload_n 0, 1) := dk_42 (dk_at dksX0_wouldBe_9 5 rfl rfl)
theorem dX0_wouldBe_217 : decode cX0_wouldBe 217 = .ok (.getfield 47, 3) := dk_180 0 47 (dk_at dksX0_wouldBe_9 6 rfl rfl)
theorem dX0_wouldBe_220 : decode cX0_wouldBe 220 = .ok (.aload_n 0, 1) := dk_42 (dk_at dksX0_wouldBe_9 9 rfl rfl)
theorem dX0_wouldBe_221 : decode cX0_wouldBe 221 = .ok (.getfield 54, 3) := dk_180 0 54 (dk_at dksX0_wouldBe_9 10 rfl rfl)
theorem dX0_wouldBe_224 : decode cX0_wouldBe 224 = .ok (.invokevirtual 386, 3) := dk_182 1 130 (dk_at dksX0_wouldBe_9 13 rfl rfl)
theorem dX0_wouldBe_227 : decode cX0_wouldBe 227 = .ok (.iload 5, 2) := dk_21 5 (dk_at dksX0_wouldBe_9 16 rfl rfl)
theorem dX0_wouldBe_229 : decode cX0_wouldBe 229 = .ok (.ireturn, 1) := dk_172 (dk_at dksX0_wouldBe_9 18 rfl rfl)
theorem dX0_wouldBe_230 : decode cX0_wouldBe 230 = .ok (.astore 9, 2) := dk_58 9 (dk_at dksX0_wouldBe_9 19 rfl rfl)
theorem dX0_wouldBe_232 : decode cX0_wouldBe 232 = .ok (.aload_n 0, 1) := dk_42 (dk_at dksX0_wouldBe_9 21 rfl rfl)
theorem dX0_wouldBe_233 : decode cX0_wouldBe 233 = .ok (.getfield 47, 3) := dk_180 0 47 (dk_at dksX0_wouldBe_10 0 rfl rfl)
theorem dX0_wouldBe_236 : decode cX0_wouldBe 236 = .ok (.aload_n 0, 1) := dk_42 (dk_at dksX0_wouldBe_10 3 rfl rfl)
theorem dX0_wouldBe_237 : decode cX0_wouldBe 237 = .ok (.getfield 54, 3) := dk_180 0 54 (dk_at dksX0_wouldBe_10 4 rfl rfl)
theorem dX0_wouldBe_240 : decode cX0_wouldBe 240 = .ok (.invokevirtual 386, 3) := dk_182 1 130 (dk_at dksX0_wouldBe_10 7 rfl rfl)
theorem dX0_wouldBe_243 : decode cX0_wouldBe 243 = .ok (.aload 9, 2) := dk_25 9 (dk_at dksX0_wouldBe_10 10 rfl rfl)
theorem dX0_wouldBe_245 : decode cX0_wouldBe 245 = .ok (.athrow, 1) := dk_191 (dk_at dksX0_wouldBe_10 12 rfl rfl)
abbrev cX0_shelf : ByteArray := prog_1_method_112_code
def yX0_shelf : MethodName := ⟨RX0, "shelf", "(III)I"⟩
def dkwX0_shelf_3 : List UInt8 := [180, 0, 135, 29, 50, 180, 2, 13, 167, 0, 4, 1, 181, 2, 13, 4, 172]
abbrev dktX0_shelf_3 : List UInt8 := dkwX0_shelf_3 ++ []
def dkwX0_shelf_2 : List UInt8 := [27, 50, 28, 154, 0, 14, 187, 2, 51, 89, 29, 183, 2, 53, 167, 0, 21, 28, 4, 160, 0, 15, 42]
abbrev dktX0_shelf_2 : List UInt8 := dkwX0_shelf_2 ++ dktX0_shelf_3
def dkwX0_shelf_1 : List UInt8 := [184, 2, 6, 153, 0, 15, 28, 154, 0, 13, 42, 29, 182, 0, 179, 154, 0, 5, 2, 172, 42, 180, 0, 131]
abbrev dktX0_shelf_1 : List UInt8 := dkwX0_shelf_1 ++ dktX0_shelf_2
def dkwX0_shelf_0 : List UInt8 := [27, 184, 2, 6, 153, 0, 36, 28, 3, 5, 184, 0, 150, 153, 0, 27, 28, 4, 160, 0, 10, 29]
abbrev dktX0_shelf_0 : List UInt8 := dkwX0_shelf_0 ++ dktX0_shelf_1
theorem dksX0_shelf_0 : cX0_shelf.data.toList.drop 0 = dktX0_shelf_0 := by decide +kernel
theorem dksX0_shelf_1 : cX0_shelf.data.toList.drop 22 = dktX0_shelf_1 := dk_seg dksX0_shelf_0 22 rfl rfl
theorem dksX0_shelf_2 : cX0_shelf.data.toList.drop 46 = dktX0_shelf_2 := dk_seg dksX0_shelf_1 24 rfl rfl
theorem dksX0_shelf_3 : cX0_shelf.data.toList.drop 69 = dktX0_shelf_3 := dk_seg dksX0_shelf_2 23 rfl rfl
theorem dX0_shelf_0 : decode cX0_shelf 0 = .ok (.iload_n 1, 1) := dk_27 (dk_at dksX0_shelf_0 0 rfl rfl)
theorem dX0_shelf_1 : decode cX0_shelf 1 = .ok (.invokestatic 518, 3) := dk_184 2 6 (dk_at dksX0_shelf_0 1 rfl rfl)
theorem dX0_shelf_4 : decode cX0_shelf 4 = .ok (.ifCond .eq 36, 3) := dk_153 0 36 (dk_at dksX0_shelf_0 4 rfl rfl)
theorem dX0_shelf_7 : decode cX0_shelf 7 = .ok (.iload_n 2, 1) := dk_28 (dk_at dksX0_shelf_0 7 rfl rfl)
theorem dX0_shelf_8 : decode cX0_shelf 8 = .ok (.iconst 0, 1) := dk_3 (dk_at dksX0_shelf_0 8 rfl rfl)
theorem dX0_shelf_9 : decode cX0_shelf 9 = .ok (.iconst 2, 1) := dk_5 (dk_at dksX0_shelf_0 9 rfl rfl)
theorem dX0_shelf_10 : decode cX0_shelf 10 = .ok (.invokestatic 150, 3) := dk_184 0 150 (dk_at dksX0_shelf_0 10 rfl rfl)
theorem dX0_shelf_13 : decode cX0_shelf 13 = .ok (.ifCond .eq 27, 3) := dk_153 0 27 (dk_at dksX0_shelf_0 13 rfl rfl)
theorem dX0_shelf_16 : decode cX0_shelf 16 = .ok (.iload_n 2, 1) := dk_28 (dk_at dksX0_shelf_0 16 rfl rfl)
theorem dX0_shelf_17 : decode cX0_shelf 17 = .ok (.iconst 1, 1) := dk_4 (dk_at dksX0_shelf_0 17 rfl rfl)
theorem dX0_shelf_18 : decode cX0_shelf 18 = .ok (.if_icmp .ne 10, 3) := dk_160 0 10 (dk_at dksX0_shelf_0 18 rfl rfl)
theorem dX0_shelf_21 : decode cX0_shelf 21 = .ok (.iload_n 3, 1) := dk_29 (dk_at dksX0_shelf_0 21 rfl rfl)
theorem dX0_shelf_22 : decode cX0_shelf 22 = .ok (.invokestatic 518, 3) := dk_184 2 6 (dk_at dksX0_shelf_1 0 rfl rfl)
theorem dX0_shelf_25 : decode cX0_shelf 25 = .ok (.ifCond .eq 15, 3) := dk_153 0 15 (dk_at dksX0_shelf_1 3 rfl rfl)
theorem dX0_shelf_28 : decode cX0_shelf 28 = .ok (.iload_n 2, 1) := dk_28 (dk_at dksX0_shelf_1 6 rfl rfl)
theorem dX0_shelf_29 : decode cX0_shelf 29 = .ok (.ifCond .ne 13, 3) := dk_154 0 13 (dk_at dksX0_shelf_1 7 rfl rfl)
theorem dX0_shelf_32 : decode cX0_shelf 32 = .ok (.aload_n 0, 1) := dk_42 (dk_at dksX0_shelf_1 10 rfl rfl)
theorem dX0_shelf_33 : decode cX0_shelf 33 = .ok (.iload_n 3, 1) := dk_29 (dk_at dksX0_shelf_1 11 rfl rfl)
theorem dX0_shelf_34 : decode cX0_shelf 34 = .ok (.invokevirtual 179, 3) := dk_182 0 179 (dk_at dksX0_shelf_1 12 rfl rfl)
theorem dX0_shelf_37 : decode cX0_shelf 37 = .ok (.ifCond .ne 5, 3) := dk_154 0 5 (dk_at dksX0_shelf_1 15 rfl rfl)
theorem dX0_shelf_40 : decode cX0_shelf 40 = .ok (.iconst (-1), 1) := dk_2 (dk_at dksX0_shelf_1 18 rfl rfl)
theorem dX0_shelf_41 : decode cX0_shelf 41 = .ok (.ireturn, 1) := dk_172 (dk_at dksX0_shelf_1 19 rfl rfl)
theorem dX0_shelf_42 : decode cX0_shelf 42 = .ok (.aload_n 0, 1) := dk_42 (dk_at dksX0_shelf_1 20 rfl rfl)
theorem dX0_shelf_43 : decode cX0_shelf 43 = .ok (.getfield 131, 3) := dk_180 0 131 (dk_at dksX0_shelf_1 21 rfl rfl)
theorem dX0_shelf_46 : decode cX0_shelf 46 = .ok (.iload_n 1, 1) := dk_27 (dk_at dksX0_shelf_2 0 rfl rfl)
theorem dX0_shelf_47 : decode cX0_shelf 47 = .ok (.aaload, 1) := dk_50 (dk_at dksX0_shelf_2 1 rfl rfl)
theorem dX0_shelf_48 : decode cX0_shelf 48 = .ok (.iload_n 2, 1) := dk_28 (dk_at dksX0_shelf_2 2 rfl rfl)
theorem dX0_shelf_49 : decode cX0_shelf 49 = .ok (.ifCond .ne 14, 3) := dk_154 0 14 (dk_at dksX0_shelf_2 3 rfl rfl)
theorem dX0_shelf_52 : decode cX0_shelf 52 = .ok (.new 563, 3) := dk_187 2 51 (dk_at dksX0_shelf_2 6 rfl rfl)
theorem dX0_shelf_55 : decode cX0_shelf 55 = .ok (.dup, 1) := dk_89 (dk_at dksX0_shelf_2 9 rfl rfl)
theorem dX0_shelf_56 : decode cX0_shelf 56 = .ok (.iload_n 3, 1) := dk_29 (dk_at dksX0_shelf_2 10 rfl rfl)
theorem dX0_shelf_57 : decode cX0_shelf 57 = .ok (.invokespecial 565, 3) := dk_183 2 53 (dk_at dksX0_shelf_2 11 rfl rfl)
theorem dX0_shelf_60 : decode cX0_shelf 60 = .ok (.goto 21, 3) := dk_167 0 21 (dk_at dksX0_shelf_2 14 rfl rfl)
theorem dX0_shelf_63 : decode cX0_shelf 63 = .ok (.iload_n 2, 1) := dk_28 (dk_at dksX0_shelf_2 17 rfl rfl)
theorem dX0_shelf_64 : decode cX0_shelf 64 = .ok (.iconst 1, 1) := dk_4 (dk_at dksX0_shelf_2 18 rfl rfl)
theorem dX0_shelf_65 : decode cX0_shelf 65 = .ok (.if_icmp .ne 15, 3) := dk_160 0 15 (dk_at dksX0_shelf_2 19 rfl rfl)
theorem dX0_shelf_68 : decode cX0_shelf 68 = .ok (.aload_n 0, 1) := dk_42 (dk_at dksX0_shelf_2 22 rfl rfl)
theorem dX0_shelf_69 : decode cX0_shelf 69 = .ok (.getfield 135, 3) := dk_180 0 135 (dk_at dksX0_shelf_3 0 rfl rfl)
theorem dX0_shelf_72 : decode cX0_shelf 72 = .ok (.iload_n 3, 1) := dk_29 (dk_at dksX0_shelf_3 3 rfl rfl)
theorem dX0_shelf_73 : decode cX0_shelf 73 = .ok (.aaload, 1) := dk_50 (dk_at dksX0_shelf_3 4 rfl rfl)
theorem dX0_shelf_74 : decode cX0_shelf 74 = .ok (.getfield 525, 3) := dk_180 2 13 (dk_at dksX0_shelf_3 5 rfl rfl)
theorem dX0_shelf_77 : decode cX0_shelf 77 = .ok (.goto 4, 3) := dk_167 0 4 (dk_at dksX0_shelf_3 8 rfl rfl)
theorem dX0_shelf_80 : decode cX0_shelf 80 = .ok (.aconst_null, 1) := dk_1 (dk_at dksX0_shelf_3 11 rfl rfl)
theorem dX0_shelf_81 : decode cX0_shelf 81 = .ok (.putfield 525, 3) := dk_181 2 13 (dk_at dksX0_shelf_3 12 rfl rfl)
theorem dX0_shelf_84 : decode cX0_shelf 84 = .ok (.iconst 1, 1) := dk_4 (dk_at dksX0_shelf_3 15 rfl rfl)
theorem dX0_shelf_85 : decode cX0_shelf 85 = .ok (.ireturn, 1) := dk_172 (dk_at dksX0_shelf_3 16 rfl rfl)
abbrev cX0_taken : ByteArray := prog_1_method_116_code
def yX0_taken : MethodName := ⟨RX0, "taken", "(II)I"⟩
def dkwX0_taken_1 : List UInt8 := [154, 0, 5, 2, 172, 42, 27, 182, 2, 63, 28, 184, 2, 66, 172, 78, 16, 243, 172, 78, 16, 245, 172]
abbrev dktX0_taken_1 : List UInt8 := dkwX0_taken_1 ++ []
def dkwX0_taken_0 : List UInt8 := [27, 184, 2, 6, 153, 0, 23, 28, 3, 8, 184, 0, 150, 154, 0, 16, 28, 16, 10, 16, 14, 184, 0, 150]
abbrev dktX0_taken_0 : List UInt8 := dkwX0_taken_0 ++ dktX0_taken_1
theorem dksX0_taken_0 : cX0_taken.data.toList.drop 0 = dktX0_taken_0 := by decide +kernel
theorem dksX0_taken_1 : cX0_taken.data.toList.drop 24 = dktX0_taken_1 := dk_seg dksX0_taken_0 24 rfl rfl
theorem dX0_taken_0 : decode cX0_taken 0 = .ok (.iload_n 1, 1) := dk_27 (dk_at dksX0_taken_0 0 rfl rfl)
theorem dX0_taken_1 : decode cX0_taken 1 = .ok (.invokestatic 518, 3) := dk_184 2 6 (dk_at dksX0_taken_0 1 rfl rfl)
theorem dX0_taken_4 : decode cX0_taken 4 = .ok (.ifCond .eq 23, 3) := dk_153 0 23 (dk_at dksX0_taken_0 4 rfl rfl)
theorem dX0_taken_7 : decode cX0_taken 7 = .ok (.iload_n 2, 1) := dk_28 (dk_at dksX0_taken_0 7 rfl rfl)
theorem dX0_taken_8 : decode cX0_taken 8 = .ok (.iconst 0, 1) := dk_3 (dk_at dksX0_taken_0 8 rfl rfl)
theorem dX0_taken_9 : decode cX0_taken 9 = .ok (.iconst 5, 1) := dk_8 (dk_at dksX0_taken_0 9 rfl rfl)
theorem dX0_taken_10 : decode cX0_taken 10 = .ok (.invokestatic 150, 3) := dk_184 0 150 (dk_at dksX0_taken_0 10 rfl rfl)
theorem dX0_taken_13 : decode cX0_taken 13 = .ok (.ifCond .ne 16, 3) := dk_154 0 16 (dk_at dksX0_taken_0 13 rfl rfl)
theorem dX0_taken_16 : decode cX0_taken 16 = .ok (.iload_n 2, 1) := dk_28 (dk_at dksX0_taken_0 16 rfl rfl)
theorem dX0_taken_17 : decode cX0_taken 17 = .ok (.bipush 10, 2) := dk_16 10 (dk_at dksX0_taken_0 17 rfl rfl)
theorem dX0_taken_19 : decode cX0_taken 19 = .ok (.bipush 14, 2) := dk_16 14 (dk_at dksX0_taken_0 19 rfl rfl)
theorem dX0_taken_21 : decode cX0_taken 21 = .ok (.invokestatic 150, 3) := dk_184 0 150 (dk_at dksX0_taken_0 21 rfl rfl)
theorem dX0_taken_24 : decode cX0_taken 24 = .ok (.ifCond .ne 5, 3) := dk_154 0 5 (dk_at dksX0_taken_1 0 rfl rfl)
theorem dX0_taken_27 : decode cX0_taken 27 = .ok (.iconst (-1), 1) := dk_2 (dk_at dksX0_taken_1 3 rfl rfl)
theorem dX0_taken_28 : decode cX0_taken 28 = .ok (.ireturn, 1) := dk_172 (dk_at dksX0_taken_1 4 rfl rfl)
theorem dX0_taken_29 : decode cX0_taken 29 = .ok (.aload_n 0, 1) := dk_42 (dk_at dksX0_taken_1 5 rfl rfl)
theorem dX0_taken_30 : decode cX0_taken 30 = .ok (.iload_n 1, 1) := dk_27 (dk_at dksX0_taken_1 6 rfl rfl)
theorem dX0_taken_31 : decode cX0_taken 31 = .ok (.invokevirtual 575, 3) := dk_182 2 63 (dk_at dksX0_taken_1 7 rfl rfl)
theorem dX0_taken_34 : decode cX0_taken 34 = .ok (.iload_n 2, 1) := dk_28 (dk_at dksX0_taken_1 10 rfl rfl)
theorem dX0_taken_35 : decode cX0_taken 35 = .ok (.invokestatic 578, 3) := dk_184 2 66 (dk_at dksX0_taken_1 11 rfl rfl)
theorem dX0_taken_38 : decode cX0_taken 38 = .ok (.ireturn, 1) := dk_172 (dk_at dksX0_taken_1 14 rfl rfl)
theorem dX0_taken_39 : decode cX0_taken 39 = .ok (.astore_n 3, 1) := dk_78 (dk_at dksX0_taken_1 15 rfl rfl)
theorem dX0_taken_40 : decode cX0_taken 40 = .ok (.bipush (-13), 2) := dk_16 243 (dk_at dksX0_taken_1 16 rfl rfl)
theorem dX0_taken_42 : decode cX0_taken 42 = .ok (.ireturn, 1) := dk_172 (dk_at dksX0_taken_1 18 rfl rfl)
theorem dX0_taken_43 : decode cX0_taken 43 = .ok (.astore_n 3, 1) := dk_78 (dk_at dksX0_taken_1 19 rfl rfl)
theorem dX0_taken_44 : decode cX0_taken 44 = .ok (.bipush (-11), 2) := dk_16 245 (dk_at dksX0_taken_1 20 rfl rfl)
theorem dX0_taken_46 : decode cX0_taken 46 = .ok (.ireturn, 1) := dk_172 (dk_at dksX0_taken_1 22 rfl rfl)
abbrev cX0_held : ByteArray := prog_1_method_113_code
def yX0_held : MethodName := ⟨RX0, "held", "(I)Ljava/lang/Object;"⟩
def dkwX0_held_2 : List UInt8 := [176]
abbrev dktX0_held_2 : List UInt8 := dkwX0_held_2 ++ []
def dkwX0_held_1 : List UInt8 := [42, 45, 180, 2, 55, 182, 0, 179, 153, 0, 15, 42, 180, 0, 59, 45, 180, 2, 55, 50, 167, 0, 4, 1]
abbrev dktX0_held_1 : List UInt8 := dkwX0_held_1 ++ dktX0_held_2
def dkwX0_held_0 : List UInt8 := [42, 180, 0, 131, 27, 50, 180, 2, 13, 77, 44, 193, 2, 51, 154, 0, 5, 44, 176, 44, 192, 2, 51, 78]
abbrev dktX0_held_0 : List UInt8 := dkwX0_held_0 ++ dktX0_held_1
theorem dksX0_held_0 : cX0_held.data.toList.drop 0 = dktX0_held_0 := by decide +kernel
theorem dksX0_held_1 : cX0_held.data.toList.drop 24 = dktX0_held_1 := dk_seg dksX0_held_0 24 rfl rfl
theorem dksX0_held_2 : cX0_held.data.toList.drop 48 = dktX0_held_2 := dk_seg dksX0_held_1 24 rfl rfl
theorem dX0_held_0 : decode cX0_held 0 = .ok (.aload_n 0, 1) := dk_42 (dk_at dksX0_held_0 0 rfl rfl)
theorem dX0_held_1 : decode cX0_held 1 = .ok (.getfield 131, 3) := dk_180 0 131 (dk_at dksX0_held_0 1 rfl rfl)
theorem dX0_held_4 : decode cX0_held 4 = .ok (.iload_n 1, 1) := dk_27 (dk_at dksX0_held_0 4 rfl rfl)
theorem dX0_held_5 : decode cX0_held 5 = .ok (.aaload, 1) := dk_50 (dk_at dksX0_held_0 5 rfl rfl)
theorem dX0_held_6 : decode cX0_held 6 = .ok (.getfield 525, 3) := dk_180 2 13 (dk_at dksX0_held_0 6 rfl rfl)
theorem dX0_held_9 : decode cX0_held 9 = .ok (.astore_n 2, 1) := dk_77 (dk_at dksX0_held_0 9 rfl rfl)
theorem dX0_held_10 : decode cX0_held 10 = .ok (.aload_n 2, 1) := dk_44 (dk_at dksX0_held_0 10 rfl rfl)
theorem dX0_held_11 : decode cX0_held 11 = .ok (.instanceof 563, 3) := dk_193 2 51 (dk_at dksX0_held_0 11 rfl rfl)
theorem dX0_held_14 : decode cX0_held 14 = .ok (.ifCond .ne 5, 3) := dk_154 0 5 (dk_at dksX0_held_0 14 rfl rfl)
theorem dX0_held_17 : decode cX0_held 17 = .ok (.aload_n 2, 1) := dk_44 (dk_at dksX0_held_0 17 rfl rfl)
theorem dX0_held_18 : decode cX0_held 18 = .ok (.areturn, 1) := dk_176 (dk_at dksX0_held_0 18 rfl rfl)
theorem dX0_held_19 : decode cX0_held 19 = .ok (.aload_n 2, 1) := dk_44 (dk_at dksX0_held_0 19 rfl rfl)
theorem dX0_held_20 : decode cX0_held 20 = .ok (.checkcast 563, 3) := dk_192 2 51 (dk_at dksX0_held_0 20 rfl rfl)
theorem dX0_held_23 : decode cX0_held 23 = .ok (.astore_n 3, 1) := dk_78 (dk_at dksX0_held_0 23 rfl rfl)
theorem dX0_held_24 : decode cX0_held 24 = .ok (.aload_n 0, 1) := dk_42 (dk_at dksX0_held_1 0 rfl rfl)
theorem dX0_held_25 : decode cX0_held 25 = .ok (.aload_n 3, 1) := dk_45 (dk_at dksX0_held_1 1 rfl rfl)
theorem dX0_held_26 : decode cX0_held 26 = .ok (.getfield 567, 3) := dk_180 2 55 (dk_at dksX0_held_1 2 rfl rfl)
theorem dX0_held_29 : decode cX0_held 29 = .ok (.invokevirtual 179, 3) := dk_182 0 179 (dk_at dksX0_held_1 5 rfl rfl)
theorem dX0_held_32 : decode cX0_held 32 = .ok (.ifCond .eq 15, 3) := dk_153 0 15 (dk_at dksX0_held_1 8 rfl rfl)
theorem dX0_held_35 : decode cX0_held 35 = .ok (.aload_n 0, 1) := dk_42 (dk_at dksX0_held_1 11 rfl rfl)
theorem dX0_held_36 : decode cX0_held 36 = .ok (.getfield 59, 3) := dk_180 0 59 (dk_at dksX0_held_1 12 rfl rfl)
theorem dX0_held_39 : decode cX0_held 39 = .ok (.aload_n 3, 1) := dk_45 (dk_at dksX0_held_1 15 rfl rfl)
theorem dX0_held_40 : decode cX0_held 40 = .ok (.getfield 567, 3) := dk_180 2 55 (dk_at dksX0_held_1 16 rfl rfl)
theorem dX0_held_43 : decode cX0_held 43 = .ok (.aaload, 1) := dk_50 (dk_at dksX0_held_1 19 rfl rfl)
theorem dX0_held_44 : decode cX0_held 44 = .ok (.goto 4, 3) := dk_167 0 4 (dk_at dksX0_held_1 20 rfl rfl)
theorem dX0_held_47 : decode cX0_held 47 = .ok (.aconst_null, 1) := dk_1 (dk_at dksX0_held_1 23 rfl rfl)
theorem dX0_held_48 : decode cX0_held 48 = .ok (.areturn, 1) := dk_176 (dk_at dksX0_held_2 0 rfl rfl)
abbrev cX0_takenAs : ByteArray := prog_1_method_115_code
def yX0_takenAs : MethodName := ⟨RX0, "takenAs", "(Ljava/lang/Object;I)I"⟩
def dkwX0_takenAs_1 : List UInt8 := [182, 2, 61, 172]
abbrev dktX0_takenAs_1 : List UInt8 := dkwX0_takenAs_1 ++ []
def dkwX0_takenAs_0 : List UInt8 := [27, 16, 10, 161, 0, 14, 42, 27, 16, 10, 100, 184, 2, 39, 167, 0, 11, 42, 27, 184, 2, 57]
abbrev dktX0_takenAs_0 : List UInt8 := dkwX0_takenAs_0 ++ dktX0_takenAs_1
theorem dksX0_takenAs_0 : cX0_takenAs.data.toList.drop 0 = dktX0_takenAs_0 := by decide +kernel
theorem dksX0_takenAs_1 : cX0_takenAs.data.toList.drop 22 = dktX0_takenAs_1 := dk_seg dksX0_takenAs_0 22 rfl rfl
theorem dX0_takenAs_0 : decode cX0_takenAs 0 = .ok (.iload_n 1, 1) := dk_27 (dk_at dksX0_takenAs_0 0 rfl rfl)
theorem dX0_takenAs_1 : decode cX0_takenAs 1 = .ok (.bipush 10, 2) := dk_16 10 (dk_at dksX0_takenAs_0 1 rfl rfl)
theorem dX0_takenAs_3 : decode cX0_takenAs 3 = .ok (.if_icmp .lt 14, 3) := dk_161 0 14 (dk_at dksX0_takenAs_0 3 rfl rfl)
theorem dX0_takenAs_6 : decode cX0_takenAs 6 = .ok (.aload_n 0, 1) := dk_42 (dk_at dksX0_takenAs_0 6 rfl rfl)
theorem dX0_takenAs_7 : decode cX0_takenAs 7 = .ok (.iload_n 1, 1) := dk_27 (dk_at dksX0_takenAs_0 7 rfl rfl)
theorem dX0_takenAs_8 : decode cX0_takenAs 8 = .ok (.bipush 10, 2) := dk_16 10 (dk_at dksX0_takenAs_0 8 rfl rfl)
theorem dX0_takenAs_10 : decode cX0_takenAs 10 = .ok (.isub, 1) := dk_100 (dk_at dksX0_takenAs_0 10 rfl rfl)
theorem dX0_takenAs_11 : decode cX0_takenAs 11 = .ok (.invokestatic 551, 3) := dk_184 2 39 (dk_at dksX0_takenAs_0 11 rfl rfl)
theorem dX0_takenAs_14 : decode cX0_takenAs 14 = .ok (.goto 11, 3) := dk_167 0 11 (dk_at dksX0_takenAs_0 14 rfl rfl)
theorem dX0_takenAs_17 : decode cX0_takenAs 17 = .ok (.aload_n 0, 1) := dk_42 (dk_at dksX0_takenAs_0 17 rfl rfl)
theorem dX0_takenAs_18 : decode cX0_takenAs 18 = .ok (.iload_n 1, 1) := dk_27 (dk_at dksX0_takenAs_0 18 rfl rfl)
theorem dX0_takenAs_19 : decode cX0_takenAs 19 = .ok (.invokestatic 569, 3) := dk_184 2 57 (dk_at dksX0_takenAs_0 19 rfl rfl)
theorem dX0_takenAs_22 : decode cX0_takenAs 22 = .ok (.invokevirtual 573, 3) := dk_182 2 61 (dk_at dksX0_takenAs_1 0 rfl rfl)
theorem dX0_takenAs_25 : decode cX0_takenAs 25 = .ok (.ireturn, 1) := dk_172 (dk_at dksX0_takenAs_1 3 rfl rfl)
abbrev cX0_personAs : ByteArray := prog_1_method_114_code
def yX0_personAs : MethodName := ⟨RX0, "personAs", "(Ljava/lang/Object;I)LLeftUndoes$Hand;"⟩
def dkwX0_personAs_3 : List UInt8 := [176, 42, 192, 0, 28, 176]
abbrev dktX0_personAs_3 : List UInt8 := dkwX0_personAs_3 ++ []
def dkwX0_personAs_2 : List UInt8 := [42, 192, 0, 57, 176, 42, 192, 0, 13, 176, 42, 192, 0, 19, 176, 42, 192, 0, 22, 176, 42, 192, 0, 25]
abbrev dktX0_personAs_2 : List UInt8 := dkwX0_personAs_2 ++ dktX0_personAs_3
def dkwX0_personAs_1 : List UInt8 := [170, 0, 0, 0, 0, 0, 60, 0, 0, 0, 0, 0, 0, 0, 4, 0, 0, 0, 35, 0, 0, 0, 40, 0, 0, 0, 45, 0, 0, 0, 50, 0, 0, 0, 55]
abbrev dktX0_personAs_1 : List UInt8 := dkwX0_personAs_1 ++ dktX0_personAs_2
def dkwX0_personAs_0 : List UInt8 := [27]
abbrev dktX0_personAs_0 : List UInt8 := dkwX0_personAs_0 ++ dktX0_personAs_1
theorem dksX0_personAs_0 : cX0_personAs.data.toList.drop 0 = dktX0_personAs_0 := by decide +kernel
theorem dksX0_personAs_1 : cX0_personAs.data.toList.drop 1 = dktX0_personAs_1 := dk_seg dksX0_personAs_0 1 rfl rfl
theorem dksX0_personAs_2 : cX0_personAs.data.toList.drop 36 = dktX0_personAs_2 := dk_seg dksX0_personAs_1 35 rfl rfl
theorem dksX0_personAs_3 : cX0_personAs.data.toList.drop 60 = dktX0_personAs_3 := dk_seg dksX0_personAs_2 24 rfl rfl
theorem dX0_personAs_0 : decode cX0_personAs 0 = .ok (.iload_n 1, 1) := dk_27 (dk_at dksX0_personAs_0 0 rfl rfl)
theorem dX0_personAs_1 : decode cX0_personAs 1 = .ok (.tableswitch 60 0 4 #[35, 40, 45, 50, 55], 35) := by decide +kernel
theorem dX0_personAs_36 : decode cX0_personAs 36 = .ok (.aload_n 0, 1) := dk_42 (dk_at dksX0_personAs_2 0 rfl rfl)
theorem dX0_personAs_37 : decode cX0_personAs 37 = .ok (.checkcast 57, 3) := dk_192 0 57 (dk_at dksX0_personAs_2 1 rfl rfl)
theorem dX0_personAs_40 : decode cX0_personAs 40 = .ok (.areturn, 1) := dk_176 (dk_at dksX0_personAs_2 4 rfl rfl)
theorem dX0_personAs_41 : decode cX0_personAs 41 = .ok (.aload_n 0, 1) := dk_42 (dk_at dksX0_personAs_2 5 rfl rfl)
theorem dX0_personAs_42 : decode cX0_personAs 42 = .ok (.checkcast 13, 3) := dk_192 0 13 (dk_at dksX0_personAs_2 6 rfl rfl)
theorem dX0_personAs_45 : decode cX0_personAs 45 = .ok (.areturn, 1) := dk_176 (dk_at dksX0_personAs_2 9 rfl rfl)
theorem dX0_personAs_46 : decode cX0_personAs 46 = .ok (.aload_n 0, 1) := dk_42 (dk_at dksX0_personAs_2 10 rfl rfl)
theorem dX0_personAs_47 : decode cX0_personAs 47 = .ok (.checkcast 19, 3) := dk_192 0 19 (dk_at dksX0_personAs_2 11 rfl rfl)
theorem dX0_personAs_50 : decode cX0_personAs 50 = .ok (.areturn, 1) := dk_176 (dk_at dksX0_personAs_2 14 rfl rfl)
theorem dX0_personAs_51 : decode cX0_personAs 51 = .ok (.aload_n 0, 1) := dk_42 (dk_at dksX0_personAs_2 15 rfl rfl)
theorem dX0_personAs_52 : decode cX0_personAs 52 = .ok (.checkcast 22, 3) := dk_192 0 22 (dk_at dksX0_personAs_2 16 rfl rfl)
theorem dX0_personAs_55 : decode cX0_personAs 55 = .ok (.areturn, 1) := dk_176 (dk_at dksX0_personAs_2 19 rfl rfl)
theorem dX0_personAs_56 : decode cX0_personAs 56 = .ok (.aload_n 0, 1) := dk_42 (dk_at dksX0_personAs_2 20 rfl rfl)
theorem dX0_personAs_57 : decode cX0_personAs 57 = .ok (.checkcast 25, 3) := dk_192 0 25 (dk_at dksX0_personAs_2 21 rfl rfl)
theorem dX0_personAs_60 : decode cX0_personAs 60 = .ok (.areturn, 1) := dk_176 (dk_at dksX0_personAs_3 0 rfl rfl)
theorem dX0_personAs_61 : decode cX0_personAs 61 = .ok (.aload_n 0, 1) := dk_42 (dk_at dksX0_personAs_3 1 rfl rfl)
theorem dX0_personAs_62 : decode cX0_personAs 62 = .ok (.checkcast 28, 3) := dk_192 0 28 (dk_at dksX0_personAs_3 2 rfl rfl)
theorem dX0_personAs_65 : decode cX0_personAs 65 = .ok (.areturn, 1) := dk_176 (dk_at dksX0_personAs_3 5 rfl rfl)
abbrev cX0_act : ByteArray := prog_1_method_117_code
def yX0_act : MethodName := ⟨RX0, "act", "(III)I"⟩
def dkwX0_act_6 : List UInt8 := [180, 0, 141, 185, 2, 84, 3, 0, 172, 58, 6, 16, 241, 172]
abbrev dktX0_act_6 : List UInt8 := dkwX0_act_6 ++ []
def dkwX0_act_5 : List UInt8 := [185, 2, 78, 3, 0, 172, 25, 5, 29, 42, 180, 0, 141, 185, 2, 81, 3, 0, 172, 25, 5, 29, 42]
abbrev dktX0_act_5 : List UInt8 := dkwX0_act_5 ++ dktX0_act_6
def dkwX0_act_4 : List UInt8 := [25, 5, 29, 42, 180, 0, 141, 185, 2, 74, 3, 0, 172, 25, 5, 29, 42, 180, 0, 141]
abbrev dktX0_act_4 : List UInt8 := dkwX0_act_4 ++ dktX0_act_5
def dkwX0_act_3 : List UInt8 := [170, 0, 0, 0, 0, 0, 66, 0, 0, 0, 0, 0, 0, 0, 2, 0, 0, 0, 27, 0, 0, 0, 40, 0, 0, 0, 53]
abbrev dktX0_act_3 : List UInt8 := dkwX0_act_3 ++ dktX0_act_4
def dkwX0_act_2 : List UInt8 := [192, 2, 72, 58, 5, 28]
abbrev dktX0_act_2 : List UInt8 := dkwX0_act_2 ++ dktX0_act_3
def dkwX0_act_1 : List UInt8 := [42, 27, 182, 2, 63, 167, 0, 4, 1, 58, 4, 25, 4, 193, 2, 72, 154, 0, 5, 3, 172, 25, 4]
abbrev dktX0_act_1 : List UInt8 := dkwX0_act_1 ++ dktX0_act_2
def dkwX0_act_0 : List UInt8 := [42, 180, 0, 141, 3, 181, 2, 69, 27, 184, 2, 6, 153, 0, 20, 28, 3, 6, 184, 0, 150, 153, 0, 11]
abbrev dktX0_act_0 : List UInt8 := dkwX0_act_0 ++ dktX0_act_1
theorem dksX0_act_0 : cX0_act.data.toList.drop 0 = dktX0_act_0 := by decide +kernel
theorem dksX0_act_1 : cX0_act.data.toList.drop 24 = dktX0_act_1 := dk_seg dksX0_act_0 24 rfl rfl
theorem dksX0_act_2 : cX0_act.data.toList.drop 47 = dktX0_act_2 := dk_seg dksX0_act_1 23 rfl rfl
theorem dksX0_act_3 : cX0_act.data.toList.drop 53 = dktX0_act_3 := dk_seg dksX0_act_2 6 rfl rfl
theorem dksX0_act_4 : cX0_act.data.toList.drop 80 = dktX0_act_4 := dk_seg dksX0_act_3 27 rfl rfl
theorem dksX0_act_5 : cX0_act.data.toList.drop 100 = dktX0_act_5 := dk_seg dksX0_act_4 20 rfl rfl
theorem dksX0_act_6 : cX0_act.data.toList.drop 123 = dktX0_act_6 := dk_seg dksX0_act_5 23 rfl rfl
theorem dX0_act_0 : decode cX0_act 0 = .ok (.aload_n 0, 1) := dk_42 (dk_at dksX0_act_0 0 rfl rfl)
theorem dX0_act_1 : decode cX0_act 1 = .ok (.getfield 141, 3) := dk_180 0 141 (dk_at dksX0_act_0 1 rfl rfl)
theorem dX0_act_4 : decode cX0_act 4 = .ok (.iconst 0, 1) := dk_3 (dk_at dksX0_act_0 4 rfl rfl)
theorem dX0_act_5 : decode cX0_act 5 = .ok (.putfield 581, 3) := dk_181 2 69 (dk_at dksX0_act_0 5 rfl rfl)
theorem dX0_act_8 : decode cX0_act 8 = .ok (.iload_n 1, 1) := dk_27 (dk_at dksX0_act_0 8 rfl rfl)
theorem dX0_act_9 : decode cX0_act 9 = .ok (.invokestatic 518, 3) := dk_184 2 6 (dk_at dksX0_act_0 9 rfl rfl)
theorem dX0_act_12 : decode cX0_act 12 = .ok (.ifCond .eq 20, 3) := dk_153 0 20 (dk_at dksX0_act_0 12 rfl rfl)
theorem dX0_act_15 : decode cX0_act 15 = .ok (.iload_n 2, 1) := dk_28 (dk_at dksX0_act_0 15 rfl rfl)
theorem dX0_act_16 : decode cX0_act 16 = .ok (.iconst 0, 1) := dk_3 (dk_at dksX0_act_0 16 rfl rfl)
theorem dX0_act_17 : decode cX0_act 17 = .ok (.iconst 3, 1) := dk_6 (dk_at dksX0_act_0 17 rfl rfl)
theorem dX0_act_18 : decode cX0_act 18 = .ok (.invokestatic 150, 3) := dk_184 0 150 (dk_at dksX0_act_0 18 rfl rfl)
theorem dX0_act_21 : decode cX0_act 21 = .ok (.ifCond .eq 11, 3) := dk_153 0 11 (dk_at dksX0_act_0 21 rfl rfl)
theorem dX0_act_24 : decode cX0_act 24 = .ok (.aload_n 0, 1) := dk_42 (dk_at dksX0_act_1 0 rfl rfl)
theorem dX0_act_25 : decode cX0_act 25 = .ok (.iload_n 1, 1) := dk_27 (dk_at dksX0_act_1 1 rfl rfl)
theorem dX0_act_26 : decode cX0_act 26 = .ok (.invokevirtual 575, 3) := dk_182 2 63 (dk_at dksX0_act_1 2 rfl rfl)
theorem dX0_act_29 : decode cX0_act 29 = .ok (.goto 4, 3) := dk_167 0 4 (dk_at dksX0_act_1 5 rfl rfl)
theorem dX0_act_32 : decode cX0_act 32 = .ok (.aconst_null, 1) := dk_1 (dk_at dksX0_act_1 8 rfl rfl)
theorem dX0_act_33 : decode cX0_act 33 = .ok (.astore 4, 2) := dk_58 4 (dk_at dksX0_act_1 9 rfl rfl)
theorem dX0_act_35 : decode cX0_act 35 = .ok (.aload 4, 2) := dk_25 4 (dk_at dksX0_act_1 11 rfl rfl)
theorem dX0_act_37 : decode cX0_act 37 = .ok (.instanceof 584, 3) := dk_193 2 72 (dk_at dksX0_act_1 13 rfl rfl)
theorem dX0_act_40 : decode cX0_act 40 = .ok (.ifCond .ne 5, 3) := dk_154 0 5 (dk_at dksX0_act_1 16 rfl rfl)
theorem dX0_act_43 : decode cX0_act 43 = .ok (.iconst 0, 1) := dk_3 (dk_at dksX0_act_1 19 rfl rfl)
theorem dX0_act_44 : decode cX0_act 44 = .ok (.ireturn, 1) := dk_172 (dk_at dksX0_act_1 20 rfl rfl)
theorem dX0_act_45 : decode cX0_act 45 = .ok (.aload 4, 2) := dk_25 4 (dk_at dksX0_act_1 21 rfl rfl)
theorem dX0_act_47 : decode cX0_act 47 = .ok (.checkcast 584, 3) := dk_192 2 72 (dk_at dksX0_act_2 0 rfl rfl)
theorem dX0_act_50 : decode cX0_act 50 = .ok (.astore 5, 2) := dk_58 5 (dk_at dksX0_act_2 3 rfl rfl)
theorem dX0_act_52 : decode cX0_act 52 = .ok (.iload_n 2, 1) := dk_28 (dk_at dksX0_act_2 5 rfl rfl)
theorem dX0_act_53 : decode cX0_act 53 = .ok (.tableswitch 66 0 2 #[27, 40, 53], 27) := by decide +kernel
theorem dX0_act_80 : decode cX0_act 80 = .ok (.aload 5, 2) := dk_25 5 (dk_at dksX0_act_4 0 rfl rfl)
theorem dX0_act_82 : decode cX0_act 82 = .ok (.iload_n 3, 1) := dk_29 (dk_at dksX0_act_4 2 rfl rfl)
theorem dX0_act_83 : decode cX0_act 83 = .ok (.aload_n 0, 1) := dk_42 (dk_at dksX0_act_4 3 rfl rfl)
theorem dX0_act_84 : decode cX0_act 84 = .ok (.getfield 141, 3) := dk_180 0 141 (dk_at dksX0_act_4 4 rfl rfl)
theorem dX0_act_87 : decode cX0_act 87 = .ok (.invokeinterface 586 3, 5) := by decide +kernel
theorem dX0_act_92 : decode cX0_act 92 = .ok (.ireturn, 1) := dk_172 (dk_at dksX0_act_4 12 rfl rfl)
theorem dX0_act_93 : decode cX0_act 93 = .ok (.aload 5, 2) := dk_25 5 (dk_at dksX0_act_4 13 rfl rfl)
theorem dX0_act_95 : decode cX0_act 95 = .ok (.iload_n 3, 1) := dk_29 (dk_at dksX0_act_4 15 rfl rfl)
theorem dX0_act_96 : decode cX0_act 96 = .ok (.aload_n 0, 1) := dk_42 (dk_at dksX0_act_4 16 rfl rfl)
theorem dX0_act_97 : decode cX0_act 97 = .ok (.getfield 141, 3) := dk_180 0 141 (dk_at dksX0_act_4 17 rfl rfl)
theorem dX0_act_100 : decode cX0_act 100 = .ok (.invokeinterface 590 3, 5) := by decide +kernel
theorem dX0_act_105 : decode cX0_act 105 = .ok (.ireturn, 1) := dk_172 (dk_at dksX0_act_5 5 rfl rfl)
theorem dX0_act_106 : decode cX0_act 106 = .ok (.aload 5, 2) := dk_25 5 (dk_at dksX0_act_5 6 rfl rfl)
theorem dX0_act_108 : decode cX0_act 108 = .ok (.iload_n 3, 1) := dk_29 (dk_at dksX0_act_5 8 rfl rfl)
theorem dX0_act_109 : decode cX0_act 109 = .ok (.aload_n 0, 1) := dk_42 (dk_at dksX0_act_5 9 rfl rfl)
theorem dX0_act_110 : decode cX0_act 110 = .ok (.getfield 141, 3) := dk_180 0 141 (dk_at dksX0_act_5 10 rfl rfl)
theorem dX0_act_113 : decode cX0_act 113 = .ok (.invokeinterface 593 3, 5) := by decide +kernel
theorem dX0_act_118 : decode cX0_act 118 = .ok (.ireturn, 1) := dk_172 (dk_at dksX0_act_5 18 rfl rfl)
theorem dX0_act_119 : decode cX0_act 119 = .ok (.aload 5, 2) := dk_25 5 (dk_at dksX0_act_5 19 rfl rfl)
theorem dX0_act_121 : decode cX0_act 121 = .ok (.iload_n 3, 1) := dk_29 (dk_at dksX0_act_5 21 rfl rfl)
theorem dX0_act_122 : decode cX0_act 122 = .ok (.aload_n 0, 1) := dk_42 (dk_at dksX0_act_5 22 rfl rfl)
theorem dX0_act_123 : decode cX0_act 123 = .ok (.getfield 141, 3) := dk_180 0 141 (dk_at dksX0_act_6 0 rfl rfl)
theorem dX0_act_126 : decode cX0_act 126 = .ok (.invokeinterface 596 3, 5) := by decide +kernel
theorem dX0_act_131 : decode cX0_act 131 = .ok (.ireturn, 1) := dk_172 (dk_at dksX0_act_6 8 rfl rfl)
theorem dX0_act_132 : decode cX0_act 132 = .ok (.astore 6, 2) := dk_58 6 (dk_at dksX0_act_6 9 rfl rfl)
theorem dX0_act_134 : decode cX0_act 134 = .ok (.bipush (-15), 2) := dk_16 241 (dk_at dksX0_act_6 11 rfl rfl)
theorem dX0_act_136 : decode cX0_act 136 = .ok (.ireturn, 1) := dk_172 (dk_at dksX0_act_6 13 rfl rfl)
abbrev cX0_trace : ByteArray := prog_1_method_118_code
def yX0_trace : MethodName := ⟨RX0, "trace", "(I)I"⟩
def dkwX0_trace_1 : List UInt8 := [27, 46, 167, 0, 5, 16, 253, 172]
abbrev dktX0_trace_1 : List UInt8 := dkwX0_trace_1 ++ []
def dkwX0_trace_0 : List UInt8 := [27, 3, 42, 180, 0, 141, 180, 2, 69, 4, 100, 184, 0, 150, 153, 0, 15, 42, 180, 0, 141, 180, 2, 89]
abbrev dktX0_trace_0 : List UInt8 := dkwX0_trace_0 ++ dktX0_trace_1
theorem dksX0_trace_0 : cX0_trace.data.toList.drop 0 = dktX0_trace_0 := by decide +kernel
theorem dksX0_trace_1 : cX0_trace.data.toList.drop 24 = dktX0_trace_1 := dk_seg dksX0_trace_0 24 rfl rfl
theorem dX0_trace_0 : decode cX0_trace 0 = .ok (.iload_n 1, 1) := dk_27 (dk_at dksX0_trace_0 0 rfl rfl)
theorem dX0_trace_1 : decode cX0_trace 1 = .ok (.iconst 0, 1) := dk_3 (dk_at dksX0_trace_0 1 rfl rfl)
theorem dX0_trace_2 : decode cX0_trace 2 = .ok (.aload_n 0, 1) := dk_42 (dk_at dksX0_trace_0 2 rfl rfl)
theorem dX0_trace_3 : decode cX0_trace 3 = .ok (.getfield 141, 3) := dk_180 0 141 (dk_at dksX0_trace_0 3 rfl rfl)
theorem dX0_trace_6 : decode cX0_trace 6 = .ok (.getfield 581, 3) := dk_180 2 69 (dk_at dksX0_trace_0 6 rfl rfl)
theorem dX0_trace_9 : decode cX0_trace 9 = .ok (.iconst 1, 1) := dk_4 (dk_at dksX0_trace_0 9 rfl rfl)
theorem dX0_trace_10 : decode cX0_trace 10 = .ok (.isub, 1) := dk_100 (dk_at dksX0_trace_0 10 rfl rfl)
theorem dX0_trace_11 : decode cX0_trace 11 = .ok (.invokestatic 150, 3) := dk_184 0 150 (dk_at dksX0_trace_0 11 rfl rfl)
theorem dX0_trace_14 : decode cX0_trace 14 = .ok (.ifCond .eq 15, 3) := dk_153 0 15 (dk_at dksX0_trace_0 14 rfl rfl)
theorem dX0_trace_17 : decode cX0_trace 17 = .ok (.aload_n 0, 1) := dk_42 (dk_at dksX0_trace_0 17 rfl rfl)
theorem dX0_trace_18 : decode cX0_trace 18 = .ok (.getfield 141, 3) := dk_180 0 141 (dk_at dksX0_trace_0 18 rfl rfl)
theorem dX0_trace_21 : decode cX0_trace 21 = .ok (.getfield 601, 3) := dk_180 2 89 (dk_at dksX0_trace_0 21 rfl rfl)
theorem dX0_trace_24 : decode cX0_trace 24 = .ok (.iload_n 1, 1) := dk_27 (dk_at dksX0_trace_1 0 rfl rfl)
theorem dX0_trace_25 : decode cX0_trace 25 = .ok (.iaload, 1) := dk_46 (dk_at dksX0_trace_1 1 rfl rfl)
theorem dX0_trace_26 : decode cX0_trace 26 = .ok (.goto 5, 3) := dk_167 0 5 (dk_at dksX0_trace_1 2 rfl rfl)
theorem dX0_trace_29 : decode cX0_trace 29 = .ok (.bipush (-3), 2) := dk_16 253 (dk_at dksX0_trace_1 5 rfl rfl)
theorem dX0_trace_31 : decode cX0_trace 31 = .ok (.ireturn, 1) := dk_172 (dk_at dksX0_trace_1 7 rfl rfl)
abbrev cX0_many : ByteArray := prog_1_method_120_code
def yX0_many : MethodName := ⟨RX0, "many", "(I)I"⟩
def dkwX0_many_4 : List UInt8 := [180, 2, 69, 172, 42, 182, 2, 92, 172, 2, 172]
abbrev dktX0_many_4 : List UInt8 := dkwX0_many_4 ++ []
def dkwX0_many_3 : List UInt8 := [172, 42, 180, 0, 47, 180, 1, 215, 172, 42, 180, 1, 253, 172, 42, 180, 0, 230, 172, 42, 180, 0, 141]
abbrev dktX0_many_3 : List UInt8 := dkwX0_many_3 ++ dktX0_many_4
def dkwX0_many_2 : List UInt8 := [42, 180, 0, 47, 180, 0, 146, 172, 42, 180, 0, 47, 180, 1, 91, 190, 172, 42, 180, 0, 47, 180, 0, 154]
abbrev dktX0_many_2 : List UInt8 := dkwX0_many_2 ++ dktX0_many_3
def dkwX0_many_1 : List UInt8 := [170, 0, 0, 0, 0, 0, 103, 0, 0, 0, 0, 0, 0, 0, 7, 0, 0, 0, 47, 0, 0, 0, 55, 0, 0, 0, 64, 0, 0, 0, 72, 0, 0, 0, 80, 0, 0, 0, 85, 0, 0, 0, 90, 0, 0, 0, 98]
abbrev dktX0_many_1 : List UInt8 := dkwX0_many_1 ++ dktX0_many_2
def dkwX0_many_0 : List UInt8 := [27]
abbrev dktX0_many_0 : List UInt8 := dkwX0_many_0 ++ dktX0_many_1
theorem dksX0_many_0 : cX0_many.data.toList.drop 0 = dktX0_many_0 := by decide +kernel
theorem dksX0_many_1 : cX0_many.data.toList.drop 1 = dktX0_many_1 := dk_seg dksX0_many_0 1 rfl rfl
theorem dksX0_many_2 : cX0_many.data.toList.drop 48 = dktX0_many_2 := dk_seg dksX0_many_1 47 rfl rfl
theorem dksX0_many_3 : cX0_many.data.toList.drop 72 = dktX0_many_3 := dk_seg dksX0_many_2 24 rfl rfl
theorem dksX0_many_4 : cX0_many.data.toList.drop 95 = dktX0_many_4 := dk_seg dksX0_many_3 23 rfl rfl
theorem dX0_many_0 : decode cX0_many 0 = .ok (.iload_n 1, 1) := dk_27 (dk_at dksX0_many_0 0 rfl rfl)
theorem dX0_many_1 : decode cX0_many 1 = .ok (.tableswitch 103 0 7 #[47, 55, 64, 72, 80, 85, 90, 98], 47) := by decide +kernel
theorem dX0_many_48 : decode cX0_many 48 = .ok (.aload_n 0, 1) := dk_42 (dk_at dksX0_many_2 0 rfl rfl)
theorem dX0_many_49 : decode cX0_many 49 = .ok (.getfield 47, 3) := dk_180 0 47 (dk_at dksX0_many_2 1 rfl rfl)
theorem dX0_many_52 : decode cX0_many 52 = .ok (.getfield 146, 3) := dk_180 0 146 (dk_at dksX0_many_2 4 rfl rfl)
theorem dX0_many_55 : decode cX0_many 55 = .ok (.ireturn, 1) := dk_172 (dk_at dksX0_many_2 7 rfl rfl)
theorem dX0_many_56 : decode cX0_many 56 = .ok (.aload_n 0, 1) := dk_42 (dk_at dksX0_many_2 8 rfl rfl)
theorem dX0_many_57 : decode cX0_many 57 = .ok (.getfield 47, 3) := dk_180 0 47 (dk_at dksX0_many_2 9 rfl rfl)
theorem dX0_many_60 : decode cX0_many 60 = .ok (.getfield 347, 3) := dk_180 1 91 (dk_at dksX0_many_2 12 rfl rfl)
theorem dX0_many_63 : decode cX0_many 63 = .ok (.arraylength, 1) := dk_190 (dk_at dksX0_many_2 15 rfl rfl)
theorem dX0_many_64 : decode cX0_many 64 = .ok (.ireturn, 1) := dk_172 (dk_at dksX0_many_2 16 rfl rfl)
theorem dX0_many_65 : decode cX0_many 65 = .ok (.aload_n 0, 1) := dk_42 (dk_at dksX0_many_2 17 rfl rfl)
theorem dX0_many_66 : decode cX0_many 66 = .ok (.getfield 47, 3) := dk_180 0 47 (dk_at dksX0_many_2 18 rfl rfl)
theorem dX0_many_69 : decode cX0_many 69 = .ok (.getfield 154, 3) := dk_180 0 154 (dk_at dksX0_many_2 21 rfl rfl)
theorem dX0_many_72 : decode cX0_many 72 = .ok (.ireturn, 1) := dk_172 (dk_at dksX0_many_3 0 rfl rfl)
theorem dX0_many_73 : decode cX0_many 73 = .ok (.aload_n 0, 1) := dk_42 (dk_at dksX0_many_3 1 rfl rfl)
theorem dX0_many_74 : decode cX0_many 74 = .ok (.getfield 47, 3) := dk_180 0 47 (dk_at dksX0_many_3 2 rfl rfl)
theorem dX0_many_77 : decode cX0_many 77 = .ok (.getfield 471, 3) := dk_180 1 215 (dk_at dksX0_many_3 5 rfl rfl)
theorem dX0_many_80 : decode cX0_many 80 = .ok (.ireturn, 1) := dk_172 (dk_at dksX0_many_3 8 rfl rfl)
theorem dX0_many_81 : decode cX0_many 81 = .ok (.aload_n 0, 1) := dk_42 (dk_at dksX0_many_3 9 rfl rfl)
theorem dX0_many_82 : decode cX0_many 82 = .ok (.getfield 509, 3) := dk_180 1 253 (dk_at dksX0_many_3 10 rfl rfl)
theorem dX0_many_85 : decode cX0_many 85 = .ok (.ireturn, 1) := dk_172 (dk_at dksX0_many_3 13 rfl rfl)
theorem dX0_many_86 : decode cX0_many 86 = .ok (.aload_n 0, 1) := dk_42 (dk_at dksX0_many_3 14 rfl rfl)
theorem dX0_many_87 : decode cX0_many 87 = .ok (.getfield 230, 3) := dk_180 0 230 (dk_at dksX0_many_3 15 rfl rfl)
theorem dX0_many_90 : decode cX0_many 90 = .ok (.ireturn, 1) := dk_172 (dk_at dksX0_many_3 18 rfl rfl)
theorem dX0_many_91 : decode cX0_many 91 = .ok (.aload_n 0, 1) := dk_42 (dk_at dksX0_many_3 19 rfl rfl)
theorem dX0_many_92 : decode cX0_many 92 = .ok (.getfield 141, 3) := dk_180 0 141 (dk_at dksX0_many_3 20 rfl rfl)
theorem dX0_many_95 : decode cX0_many 95 = .ok (.getfield 581, 3) := dk_180 2 69 (dk_at dksX0_many_4 0 rfl rfl)
theorem dX0_many_98 : decode cX0_many 98 = .ok (.ireturn, 1) := dk_172 (dk_at dksX0_many_4 3 rfl rfl)
theorem dX0_many_99 : decode cX0_many 99 = .ok (.aload_n 0, 1) := dk_42 (dk_at dksX0_many_4 4 rfl rfl)
theorem dX0_many_100 : decode cX0_many 100 = .ok (.invokevirtual 604, 3) := dk_182 2 92 (dk_at dksX0_many_4 5 rfl rfl)
theorem dX0_many_103 : decode cX0_many 103 = .ok (.ireturn, 1) := dk_172 (dk_at dksX0_many_4 8 rfl rfl)
theorem dX0_many_104 : decode cX0_many 104 = .ok (.iconst (-1), 1) := dk_2 (dk_at dksX0_many_4 9 rfl rfl)
theorem dX0_many_105 : decode cX0_many 105 = .ok (.ireturn, 1) := dk_172 (dk_at dksX0_many_4 10 rfl rfl)
abbrev cX0_loans : ByteArray := prog_1_method_119_code
def yX0_loans : MethodName := ⟨RX0, "loans", "()I"⟩
def dkwX0_loans_1 : List UInt8 := [167, 0, 4, 3, 96, 60, 132, 2, 1, 167, 255, 227, 27, 172]
abbrev dktX0_loans_1 : List UInt8 := dkwX0_loans_1 ++ []
def dkwX0_loans_0 : List UInt8 := [3, 60, 3, 61, 28, 16, 36, 162, 0, 29, 27, 42, 180, 0, 47, 180, 1, 154, 28, 46, 158, 0, 7, 4]
abbrev dktX0_loans_0 : List UInt8 := dkwX0_loans_0 ++ dktX0_loans_1
theorem dksX0_loans_0 : cX0_loans.data.toList.drop 0 = dktX0_loans_0 := by decide +kernel
theorem dksX0_loans_1 : cX0_loans.data.toList.drop 24 = dktX0_loans_1 := dk_seg dksX0_loans_0 24 rfl rfl
theorem dX0_loans_0 : decode cX0_loans 0 = .ok (.iconst 0, 1) := dk_3 (dk_at dksX0_loans_0 0 rfl rfl)
theorem dX0_loans_1 : decode cX0_loans 1 = .ok (.istore_n 1, 1) := dk_60 (dk_at dksX0_loans_0 1 rfl rfl)
theorem dX0_loans_2 : decode cX0_loans 2 = .ok (.iconst 0, 1) := dk_3 (dk_at dksX0_loans_0 2 rfl rfl)
theorem dX0_loans_3 : decode cX0_loans 3 = .ok (.istore_n 2, 1) := dk_61 (dk_at dksX0_loans_0 3 rfl rfl)
theorem dX0_loans_4 : decode cX0_loans 4 = .ok (.iload_n 2, 1) := dk_28 (dk_at dksX0_loans_0 4 rfl rfl)
theorem dX0_loans_5 : decode cX0_loans 5 = .ok (.bipush 36, 2) := dk_16 36 (dk_at dksX0_loans_0 5 rfl rfl)
theorem dX0_loans_7 : decode cX0_loans 7 = .ok (.if_icmp .ge 29, 3) := dk_162 0 29 (dk_at dksX0_loans_0 7 rfl rfl)
theorem dX0_loans_10 : decode cX0_loans 10 = .ok (.iload_n 1, 1) := dk_27 (dk_at dksX0_loans_0 10 rfl rfl)
theorem dX0_loans_11 : decode cX0_loans 11 = .ok (.aload_n 0, 1) := dk_42 (dk_at dksX0_loans_0 11 rfl rfl)
theorem dX0_loans_12 : decode cX0_loans 12 = .ok (.getfield 47, 3) := dk_180 0 47 (dk_at dksX0_loans_0 12 rfl rfl)
theorem dX0_loans_15 : decode cX0_loans 15 = .ok (.getfield 410, 3) := dk_180 1 154 (dk_at dksX0_loans_0 15 rfl rfl)
theorem dX0_loans_18 : decode cX0_loans 18 = .ok (.iload_n 2, 1) := dk_28 (dk_at dksX0_loans_0 18 rfl rfl)
theorem dX0_loans_19 : decode cX0_loans 19 = .ok (.iaload, 1) := dk_46 (dk_at dksX0_loans_0 19 rfl rfl)
theorem dX0_loans_20 : decode cX0_loans 20 = .ok (.ifCond .le 7, 3) := dk_158 0 7 (dk_at dksX0_loans_0 20 rfl rfl)
theorem dX0_loans_23 : decode cX0_loans 23 = .ok (.iconst 1, 1) := dk_4 (dk_at dksX0_loans_0 23 rfl rfl)
theorem dX0_loans_24 : decode cX0_loans 24 = .ok (.goto 4, 3) := dk_167 0 4 (dk_at dksX0_loans_1 0 rfl rfl)
theorem dX0_loans_27 : decode cX0_loans 27 = .ok (.iconst 0, 1) := dk_3 (dk_at dksX0_loans_1 3 rfl rfl)
theorem dX0_loans_28 : decode cX0_loans 28 = .ok (.iadd, 1) := dk_96 (dk_at dksX0_loans_1 4 rfl rfl)
theorem dX0_loans_29 : decode cX0_loans 29 = .ok (.istore_n 1, 1) := dk_60 (dk_at dksX0_loans_1 5 rfl rfl)
theorem dX0_loans_30 : decode cX0_loans 30 = .ok (.iinc 2 1, 3) := dk_132 2 1 (dk_at dksX0_loans_1 6 rfl rfl)
theorem dX0_loans_33 : decode cX0_loans 33 = .ok (.goto (-29), 3) := dk_167 255 227 (dk_at dksX0_loans_1 9 rfl rfl)
theorem dX0_loans_36 : decode cX0_loans 36 = .ok (.iload_n 1, 1) := dk_27 (dk_at dksX0_loans_1 12 rfl rfl)
theorem dX0_loans_37 : decode cX0_loans 37 = .ok (.ireturn, 1) := dk_172 (dk_at dksX0_loans_1 13 rfl rfl)
abbrev cX0_keep : ByteArray := prog_1_method_121_code
def yX0_keep : MethodName := ⟨RX0, "keep", "()I"⟩
def dkwX0_keep_0 : List UInt8 := [42, 180, 0, 51, 42, 180, 0, 47, 182, 1, 130, 42, 4, 181, 2, 95, 4, 172]
abbrev dktX0_keep_0 : List UInt8 := dkwX0_keep_0 ++ []
theorem dksX0_keep_0 : cX0_keep.data.toList.drop 0 = dktX0_keep_0 := by decide +kernel
theorem dX0_keep_0 : decode cX0_keep 0 = .ok (.aload_n 0, 1) := dk_42 (dk_at dksX0_keep_0 0 rfl rfl)
theorem dX0_keep_1 : decode cX0_keep 1 = .ok (.getfield 51, 3) := dk_180 0 51 (dk_at dksX0_keep_0 1 rfl rfl)
theorem dX0_keep_4 : decode cX0_keep 4 = .ok (.aload_n 0, 1) := dk_42 (dk_at dksX0_keep_0 4 rfl rfl)
theorem dX0_keep_5 : decode cX0_keep 5 = .ok (.getfield 47, 3) := dk_180 0 47 (dk_at dksX0_keep_0 5 rfl rfl)
theorem dX0_keep_8 : decode cX0_keep 8 = .ok (.invokevirtual 386, 3) := dk_182 1 130 (dk_at dksX0_keep_0 8 rfl rfl)
theorem dX0_keep_11 : decode cX0_keep 11 = .ok (.aload_n 0, 1) := dk_42 (dk_at dksX0_keep_0 11 rfl rfl)
theorem dX0_keep_12 : decode cX0_keep 12 = .ok (.iconst 1, 1) := dk_4 (dk_at dksX0_keep_0 12 rfl rfl)
theorem dX0_keep_13 : decode cX0_keep 13 = .ok (.putfield 607, 3) := dk_181 2 95 (dk_at dksX0_keep_0 13 rfl rfl)
theorem dX0_keep_16 : decode cX0_keep 16 = .ok (.iconst 1, 1) := dk_4 (dk_at dksX0_keep_0 16 rfl rfl)
theorem dX0_keep_17 : decode cX0_keep 17 = .ok (.ireturn, 1) := dk_172 (dk_at dksX0_keep_0 17 rfl rfl)
abbrev cX0_again : ByteArray := prog_1_method_122_code
def yX0_again : MethodName := ⟨RX0, "again", "()I"⟩
def dkwX0_again_2 : List UInt8 := [180, 0, 47, 180, 0, 146, 172]
abbrev dktX0_again_2 : List UInt8 := dkwX0_again_2 ++ []
def dkwX0_again_1 : List UInt8 := [42, 180, 0, 47, 180, 0, 146, 162, 0, 14, 42, 27, 182, 0, 175, 132, 1, 1, 167, 255, 237, 42]
abbrev dktX0_again_1 : List UInt8 := dkwX0_again_1 ++ dktX0_again_2
def dkwX0_again_0 : List UInt8 := [42, 180, 2, 95, 154, 0, 6, 16, 253, 172, 42, 180, 0, 47, 42, 180, 0, 51, 182, 1, 130, 3, 60, 27]
abbrev dktX0_again_0 : List UInt8 := dkwX0_again_0 ++ dktX0_again_1
theorem dksX0_again_0 : cX0_again.data.toList.drop 0 = dktX0_again_0 := by decide +kernel
theorem dksX0_again_1 : cX0_again.data.toList.drop 24 = dktX0_again_1 := dk_seg dksX0_again_0 24 rfl rfl
theorem dksX0_again_2 : cX0_again.data.toList.drop 46 = dktX0_again_2 := dk_seg dksX0_again_1 22 rfl rfl
theorem dX0_again_0 : decode cX0_again 0 = .ok (.aload_n 0, 1) := dk_42 (dk_at dksX0_again_0 0 rfl rfl)
theorem dX0_again_1 : decode cX0_again 1 = .ok (.getfield 607, 3) := dk_180 2 95 (dk_at dksX0_again_0 1 rfl rfl)
theorem dX0_again_4 : decode cX0_again 4 = .ok (.ifCond .ne 6, 3) := dk_154 0 6 (dk_at dksX0_again_0 4 rfl rfl)
theorem dX0_again_7 : decode cX0_again 7 = .ok (.bipush (-3), 2) := dk_16 253 (dk_at dksX0_again_0 7 rfl rfl)
theorem dX0_again_9 : decode cX0_again 9 = .ok (.ireturn, 1) := dk_172 (dk_at dksX0_again_0 9 rfl rfl)
theorem dX0_again_10 : decode cX0_again 10 = .ok (.aload_n 0, 1) := dk_42 (dk_at dksX0_again_0 10 rfl rfl)
theorem dX0_again_11 : decode cX0_again 11 = .ok (.getfield 47, 3) := dk_180 0 47 (dk_at dksX0_again_0 11 rfl rfl)
theorem dX0_again_14 : decode cX0_again 14 = .ok (.aload_n 0, 1) := dk_42 (dk_at dksX0_again_0 14 rfl rfl)
theorem dX0_again_15 : decode cX0_again 15 = .ok (.getfield 51, 3) := dk_180 0 51 (dk_at dksX0_again_0 15 rfl rfl)
theorem dX0_again_18 : decode cX0_again 18 = .ok (.invokevirtual 386, 3) := dk_182 1 130 (dk_at dksX0_again_0 18 rfl rfl)
theorem dX0_again_21 : decode cX0_again 21 = .ok (.iconst 0, 1) := dk_3 (dk_at dksX0_again_0 21 rfl rfl)
theorem dX0_again_22 : decode cX0_again 22 = .ok (.istore_n 1, 1) := dk_60 (dk_at dksX0_again_0 22 rfl rfl)
theorem dX0_again_23 : decode cX0_again 23 = .ok (.iload_n 1, 1) := dk_27 (dk_at dksX0_again_0 23 rfl rfl)
theorem dX0_again_24 : decode cX0_again 24 = .ok (.aload_n 0, 1) := dk_42 (dk_at dksX0_again_1 0 rfl rfl)
theorem dX0_again_25 : decode cX0_again 25 = .ok (.getfield 47, 3) := dk_180 0 47 (dk_at dksX0_again_1 1 rfl rfl)
theorem dX0_again_28 : decode cX0_again 28 = .ok (.getfield 146, 3) := dk_180 0 146 (dk_at dksX0_again_1 4 rfl rfl)
theorem dX0_again_31 : decode cX0_again 31 = .ok (.if_icmp .ge 14, 3) := dk_162 0 14 (dk_at dksX0_again_1 7 rfl rfl)
theorem dX0_again_34 : decode cX0_again 34 = .ok (.aload_n 0, 1) := dk_42 (dk_at dksX0_again_1 10 rfl rfl)
theorem dX0_again_35 : decode cX0_again 35 = .ok (.iload_n 1, 1) := dk_27 (dk_at dksX0_again_1 11 rfl rfl)
theorem dX0_again_36 : decode cX0_again 36 = .ok (.invokevirtual 175, 3) := dk_182 0 175 (dk_at dksX0_again_1 12 rfl rfl)
theorem dX0_again_39 : decode cX0_again 39 = .ok (.iinc 1 1, 3) := dk_132 1 1 (dk_at dksX0_again_1 15 rfl rfl)
theorem dX0_again_42 : decode cX0_again 42 = .ok (.goto (-19), 3) := dk_167 255 237 (dk_at dksX0_again_1 18 rfl rfl)
theorem dX0_again_45 : decode cX0_again 45 = .ok (.aload_n 0, 1) := dk_42 (dk_at dksX0_again_1 21 rfl rfl)
theorem dX0_again_46 : decode cX0_again 46 = .ok (.getfield 47, 3) := dk_180 0 47 (dk_at dksX0_again_2 0 rfl rfl)
theorem dX0_again_49 : decode cX0_again 49 = .ok (.getfield 146, 3) := dk_180 0 146 (dk_at dksX0_again_2 3 rfl rfl)
theorem dX0_again_52 : decode cX0_again 52 = .ok (.ireturn, 1) := dk_172 (dk_at dksX0_again_2 6 rfl rfl)
theorem q118 : (Jvm.Cond.initialized "LeftUndoes") ∈ lw_all := lw_g (lw_at lw_m1 1 rfl) rfl
theorem q154 : (Jvm.Cond.instantiable "LeftUndoes" (32 : Nat)) ∈ lw_all := lw_g (lw_at lw_m1 37 rfl) rfl
theorem q156 : (Jvm.Cond.instanceMethod ({ cls := "LeftUndoes", name := "<init>", desc := "()V" } : Jvm.MethodName)) ∈ lw_all := lw_g (lw_at lw_m1 39 rfl) rfl
theorem q157 : (Jvm.Cond.code ({ cls := "LeftUndoes", name := "<init>", desc := "()V" } : Jvm.MethodName) prog_1_method_5_code (2 : Nat) (Option.none : Option Jvm.ClassFile.FieldType)) ∈ lw_all := lw_g (lw_at lw_m1 40 rfl) rfl
theorem q158 : (Jvm.Cond.methodLink "LeftUndoes" (31 : Nat) ({ cls := "java/lang/Object", name := "<init>", desc := "()V" } : Jvm.MethodName)) ∈ lw_all := lw_g (lw_at lw_m1 41 rfl) rfl
theorem q161 : (Jvm.Cond.classLink "LeftUndoes" (8 : Nat) "LeftUndoes$Refusal") ∈ lw_all := lw_g (lw_at lw_m1 44 rfl) rfl
theorem q218 : (Jvm.Cond.methodLink "LeftUndoes" (36 : Nat) ({ cls := "LeftUndoes$Refusal", name := "<init>", desc := "()V" } : Jvm.MethodName)) ∈ lw_all := lw_g (lw_at lw_m1 101 rfl) rfl
theorem q231 : (Jvm.Cond.fieldLink "LeftUndoes" (351 : Nat) "LeftUndoes$Fault" "answer" "I") ∈ lw_all := lw_g (lw_at lw_m1 114 rfl) rfl
theorem q233 : (Jvm.Cond.fieldLink "LeftUndoes" (550 : Nat) "LeftUndoes$Refusal" "answer" "I") ∈ lw_all := lw_g (lw_at lw_m1 116 rfl) rfl
theorem q249 : (Jvm.Cond.classLink "LeftUndoes" (37 : Nat) "LeftUndoes$Fault") ∈ lw_all := lw_g (lw_at lw_m1 132 rfl) rfl
theorem q259 : (Jvm.Cond.methodLinkNest "LeftUndoes" (39 : Nat) ({ cls := "LeftUndoes$Fault", name := "<init>", desc := "()V" } : Jvm.MethodName) "LeftUndoes") ∈ lw_tbl := lw_at lw_m1 142 rfl
theorem q266 : (Jvm.Cond.classLink "LeftUndoes" (44 : Nat) "LeftUndoes$Town") ∈ lw_all := lw_g (lw_at lw_m1 149 rfl) rfl
theorem q268 : (Jvm.Cond.methodLinkNest "LeftUndoes" (46 : Nat) ({ cls := "LeftUndoes$Town", name := "<init>", desc := "()V" } : Jvm.MethodName) "LeftUndoes") ∈ lw_tbl := lw_at lw_m1 151 rfl
theorem q275 : (Jvm.Cond.fieldLink "LeftUndoes" (146 : Nat) "LeftUndoes$Town" "people" "I") ∈ lw_all := lw_g (lw_at lw_m1 158 rfl) rfl
theorem q277 : (Jvm.Cond.fieldLink "LeftUndoes" (154 : Nat) "LeftUndoes$Town" "deeds" "I") ∈ lw_all := lw_g (lw_at lw_m1 160 rfl) rfl
theorem q279 : (Jvm.Cond.fieldLink "LeftUndoes" (220 : Nat) "LeftUndoes$Town" "end" "I") ∈ lw_all := lw_g (lw_at lw_m1 162 rfl) rfl
theorem q281 : (Jvm.Cond.fieldLink "LeftUndoes" (186 : Nat) "LeftUndoes$Town" "year" "I") ∈ lw_all := lw_g (lw_at lw_m1 164 rfl) rfl
theorem q283 : (Jvm.Cond.fieldLink "LeftUndoes" (223 : Nat) "LeftUndoes$Town" "score" "I") ∈ lw_all := lw_g (lw_at lw_m1 166 rfl) rfl
theorem q285 : (Jvm.Cond.fieldLink "LeftUndoes" (471 : Nat) "LeftUndoes$Town" "reports" "I") ∈ lw_all := lw_g (lw_at lw_m1 168 rfl) rfl
theorem q287 : (Jvm.Cond.fieldLink "LeftUndoes" (499 : Nat) "LeftUndoes$Town" "z" "I") ∈ lw_all := lw_g (lw_at lw_m1 170 rfl) rfl
theorem q289 : (Jvm.Cond.fieldLink "LeftUndoes" (157 : Nat) "LeftUndoes$Town" "kind" "[I") ∈ lw_all := lw_g (lw_at lw_m1 172 rfl) rfl
theorem q291 : (Jvm.Cond.fieldLink "LeftUndoes" (160 : Nat) "LeftUndoes$Town" "grace" "[I") ∈ lw_all := lw_g (lw_at lw_m1 174 rfl) rfl
theorem q293 : (Jvm.Cond.fieldLink "LeftUndoes" (173 : Nat) "LeftUndoes$Town" "strength" "[I") ∈ lw_all := lw_g (lw_at lw_m1 176 rfl) rfl
theorem q295 : (Jvm.Cond.fieldLink "LeftUndoes" (198 : Nat) "LeftUndoes$Town" "whose" "[I") ∈ lw_all := lw_g (lw_at lw_m1 178 rfl) rfl
theorem q297 : (Jvm.Cond.fieldLink "LeftUndoes" (201 : Nat) "LeftUndoes$Town" "when" "[I") ∈ lw_all := lw_g (lw_at lw_m1 180 rfl) rfl
theorem q299 : (Jvm.Cond.fieldLink "LeftUndoes" (204 : Nat) "LeftUndoes$Town" "weight" "[I") ∈ lw_all := lw_g (lw_at lw_m1 182 rfl) rfl
theorem q301 : (Jvm.Cond.fieldLink "LeftUndoes" (207 : Nat) "LeftUndoes$Town" "need" "[I") ∈ lw_all := lw_g (lw_at lw_m1 184 rfl) rfl
theorem q303 : (Jvm.Cond.fieldLink "LeftUndoes" (210 : Nat) "LeftUndoes$Town" "so" "[I") ∈ lw_all := lw_g (lw_at lw_m1 186 rfl) rfl
theorem q305 : (Jvm.Cond.fieldLink "LeftUndoes" (410 : Nat) "LeftUndoes$Town" "owed" "[I") ∈ lw_all := lw_g (lw_at lw_m1 188 rfl) rfl
theorem q307 : (Jvm.Cond.fieldLink "LeftUndoes" (474 : Nat) "LeftUndoes$Town" "heavy" "[I") ∈ lw_all := lw_g (lw_at lw_m1 190 rfl) rfl
theorem q309 : (Jvm.Cond.fieldLink "LeftUndoes" (477 : Nat) "LeftUndoes$Town" "done" "[I") ∈ lw_all := lw_g (lw_at lw_m1 192 rfl) rfl
theorem q311 : (Jvm.Cond.fieldLink "LeftUndoes" (480 : Nat) "LeftUndoes$Town" "by" "[I") ∈ lw_all := lw_g (lw_at lw_m1 194 rfl) rfl
theorem q313 : (Jvm.Cond.fieldLink "LeftUndoes" (483 : Nat) "LeftUndoes$Town" "was" "[I") ∈ lw_all := lw_g (lw_at lw_m1 196 rfl) rfl
theorem q315 : (Jvm.Cond.fieldLink "LeftUndoes" (347 : Nat) "LeftUndoes$Town" "rules" "[LLeftUndoes$Rule;") ∈ lw_all := lw_g (lw_at lw_m1 198 rfl) rfl
theorem q360 : (Jvm.Cond.classLink "LeftUndoes" (57 : Nat) "LeftUndoes$Hand") ∈ lw_all := lw_g (lw_at lw_m2 3 rfl) rfl
theorem q362 : (Jvm.Cond.classLink "LeftUndoes" (63 : Nat) "java/lang/String") ∈ lw_all := lw_g (lw_at lw_m2 5 rfl) rfl
theorem q364 : (Jvm.Cond.stringRef "LeftUndoes" (65 : Nat) "hand") ∈ lw_tbl := lw_at lw_m2 7 rfl
theorem q365 : (Jvm.Cond.stringRef "LeftUndoes" (67 : Nat) "clasped") ∈ lw_tbl := lw_at lw_m2 8 rfl
theorem q366 : (Jvm.Cond.stringRef "LeftUndoes" (69 : Nat) "forger") ∈ lw_tbl := lw_at lw_m2 9 rfl
theorem q367 : (Jvm.Cond.stringRef "LeftUndoes" (71 : Nat) "twin") ∈ lw_tbl := lw_at lw_m2 10 rfl
theorem q368 : (Jvm.Cond.stringRef "LeftUndoes" (73 : Nat) "slow") ∈ lw_tbl := lw_at lw_m2 11 rfl
theorem q369 : (Jvm.Cond.stringRef "LeftUndoes" (75 : Nat) "heir") ∈ lw_tbl := lw_at lw_m2 12 rfl
theorem q370 : (Jvm.Cond.stringRef "LeftUndoes" (81 : Nat) "early") ∈ lw_tbl := lw_at lw_m2 13 rfl
theorem q371 : (Jvm.Cond.stringRef "LeftUndoes" (83 : Nat) "late") ∈ lw_tbl := lw_at lw_m2 14 rfl
theorem q372 : (Jvm.Cond.stringRef "LeftUndoes" (85 : Nat) "spare") ∈ lw_tbl := lw_at lw_m2 15 rfl
theorem q373 : (Jvm.Cond.stringRef "LeftUndoes" (90 : Nat) "year") ∈ lw_tbl := lw_at lw_m2 16 rfl
theorem q374 : (Jvm.Cond.stringRef "LeftUndoes" (92 : Nat) "stands") ∈ lw_tbl := lw_at lw_m2 17 rfl
theorem q375 : (Jvm.Cond.stringRef "LeftUndoes" (94 : Nat) "grace") ∈ lw_tbl := lw_at lw_m2 18 rfl
theorem q376 : (Jvm.Cond.stringRef "LeftUndoes" (96 : Nat) "strength") ∈ lw_tbl := lw_at lw_m2 19 rfl
theorem q377 : (Jvm.Cond.stringRef "LeftUndoes" (98 : Nat) "number") ∈ lw_tbl := lw_at lw_m2 20 rfl
theorem q378 : (Jvm.Cond.classLink "LeftUndoes" (129 : Nat) "LeftUndoes$Shelf") ∈ lw_all := lw_g (lw_at lw_m2 21 rfl) rfl
theorem q380 : (Jvm.Cond.classLink "LeftUndoes" (138 : Nat) "LeftUndoes$Trace") ∈ lw_all := lw_g (lw_at lw_m2 23 rfl) rfl
theorem q382 : (Jvm.Cond.methodLinkNest "LeftUndoes" (140 : Nat) ({ cls := "LeftUndoes$Trace", name := "<init>", desc := "()V" } : Jvm.MethodName) "LeftUndoes") ∈ lw_tbl := lw_at lw_m2 25 rfl
theorem q387 : (Jvm.Cond.fieldLinkNest "LeftUndoes" (601 : Nat) "LeftUndoes$Trace" "bodies" "[I" "LeftUndoes") ∈ lw_tbl := lw_at lw_m2 30 rfl
theorem q389 : (Jvm.Cond.fieldLinkNest "LeftUndoes" (581 : Nat) "LeftUndoes$Trace" "many" "I" "LeftUndoes") ∈ lw_tbl := lw_at lw_m2 32 rfl
theorem q397 : (Jvm.Cond.methodLinkNest "LeftUndoes" (145 : Nat) ({ cls := "LeftUndoes$Shelf", name := "<init>", desc := "()V" } : Jvm.MethodName) "LeftUndoes") ∈ lw_tbl := lw_at lw_m2 40 rfl
theorem q401 : (Jvm.Cond.fieldLinkNest "LeftUndoes" (525 : Nat) "LeftUndoes$Shelf" "held" "Ljava/lang/Object;" "LeftUndoes") ∈ lw_tbl := lw_at lw_m2 44 rfl
theorem q405 : (Jvm.Cond.fieldLink "LeftUndoes" (3 : Nat) "LeftUndoes" "refusal" "LLeftUndoes$Refusal;") ∈ lw_all := lw_g (lw_at lw_m2 48 rfl) rfl
theorem q406 : (Jvm.Cond.fieldLink "LeftUndoes" (40 : Nat) "LeftUndoes" "fault" "LLeftUndoes$Fault;") ∈ lw_all := lw_g (lw_at lw_m2 49 rfl) rfl
theorem q407 : (Jvm.Cond.fieldLink "LeftUndoes" (47 : Nat) "LeftUndoes" "now" "LLeftUndoes$Town;") ∈ lw_all := lw_g (lw_at lw_m2 50 rfl) rfl
theorem q408 : (Jvm.Cond.fieldLink "LeftUndoes" (51 : Nat) "LeftUndoes" "kept" "LLeftUndoes$Town;") ∈ lw_all := lw_g (lw_at lw_m2 51 rfl) rfl
theorem q409 : (Jvm.Cond.fieldLink "LeftUndoes" (54 : Nat) "LeftUndoes" "tried" "LLeftUndoes$Town;") ∈ lw_all := lw_g (lw_at lw_m2 52 rfl) rfl
theorem q410 : (Jvm.Cond.fieldLink "LeftUndoes" (59 : Nat) "LeftUndoes" "hands" "[LLeftUndoes$Hand;") ∈ lw_all := lw_g (lw_at lw_m2 53 rfl) rfl
theorem q411 : (Jvm.Cond.fieldLink "LeftUndoes" (607 : Nat) "LeftUndoes" "isKept" "Z") ∈ lw_all := lw_g (lw_at lw_m2 54 rfl) rfl
theorem q412 : (Jvm.Cond.fieldLink "LeftUndoes" (77 : Nat) "LeftUndoes" "kindNames" "[Ljava/lang/String;") ∈ lw_all := lw_g (lw_at lw_m2 55 rfl) rfl
theorem q413 : (Jvm.Cond.fieldLink "LeftUndoes" (87 : Nat) "LeftUndoes" "doings" "[Ljava/lang/String;") ∈ lw_all := lw_g (lw_at lw_m2 56 rfl) rfl
theorem q414 : (Jvm.Cond.fieldLink "LeftUndoes" (100 : Nat) "LeftUndoes" "names" "[Ljava/lang/String;") ∈ lw_all := lw_g (lw_at lw_m2 57 rfl) rfl
theorem q415 : (Jvm.Cond.fieldLink "LeftUndoes" (103 : Nat) "LeftUndoes" "tape" "[B") ∈ lw_all := lw_g (lw_at lw_m2 58 rfl) rfl
theorem q416 : (Jvm.Cond.fieldLink "LeftUndoes" (230 : Nat) "LeftUndoes" "tapeMany" "I") ∈ lw_all := lw_g (lw_at lw_m2 59 rfl) rfl
theorem q417 : (Jvm.Cond.fieldLink "LeftUndoes" (234 : Nat) "LeftUndoes" "at" "I") ∈ lw_all := lw_g (lw_at lw_m2 60 rfl) rfl
theorem q418 : (Jvm.Cond.fieldLink "LeftUndoes" (233 : Nat) "LeftUndoes" "end" "I") ∈ lw_all := lw_g (lw_at lw_m2 61 rfl) rfl
theorem q419 : (Jvm.Cond.fieldLink "LeftUndoes" (107 : Nat) "LeftUndoes" "facts" "[I") ∈ lw_all := lw_g (lw_at lw_m2 62 rfl) rfl
theorem q420 : (Jvm.Cond.fieldLink "LeftUndoes" (111 : Nat) "LeftUndoes" "sos" "[I") ∈ lw_all := lw_g (lw_at lw_m2 63 rfl) rfl
theorem q421 : (Jvm.Cond.fieldLink "LeftUndoes" (114 : Nat) "LeftUndoes" "parts" "[I") ∈ lw_all := lw_g (lw_at lw_m2 64 rfl) rfl
theorem q422 : (Jvm.Cond.fieldLink "LeftUndoes" (117 : Nat) "LeftUndoes" "told" "[I") ∈ lw_all := lw_g (lw_at lw_m2 65 rfl) rfl
theorem q423 : (Jvm.Cond.fieldLink "LeftUndoes" (120 : Nat) "LeftUndoes" "plan" "[I") ∈ lw_all := lw_g (lw_at lw_m2 66 rfl) rfl
theorem q424 : (Jvm.Cond.fieldLink "LeftUndoes" (424 : Nat) "LeftUndoes" "most" "I") ∈ lw_all := lw_g (lw_at lw_m2 67 rfl) rfl
theorem q425 : (Jvm.Cond.fieldLink "LeftUndoes" (427 : Nat) "LeftUndoes" "ways" "I") ∈ lw_all := lw_g (lw_at lw_m2 68 rfl) rfl
theorem q426 : (Jvm.Cond.fieldLink "LeftUndoes" (430 : Nat) "LeftUndoes" "planLong" "I") ∈ lw_all := lw_g (lw_at lw_m2 69 rfl) rfl
theorem q427 : (Jvm.Cond.fieldLink "LeftUndoes" (446 : Nat) "LeftUndoes" "wanted" "I") ∈ lw_all := lw_g (lw_at lw_m2 70 rfl) rfl
theorem q428 : (Jvm.Cond.fieldLink "LeftUndoes" (449 : Nat) "LeftUndoes" "fewest" "I") ∈ lw_all := lw_g (lw_at lw_m2 71 rfl) rfl
theorem q429 : (Jvm.Cond.fieldLink "LeftUndoes" (443 : Nat) "LeftUndoes" "stoodEver" "I") ∈ lw_all := lw_g (lw_at lw_m2 72 rfl) rfl
theorem q430 : (Jvm.Cond.fieldLink "LeftUndoes" (123 : Nat) "LeftUndoes" "strangers" "[LLeftUndoes$Hand;") ∈ lw_all := lw_g (lw_at lw_m2 73 rfl) rfl
theorem q431 : (Jvm.Cond.fieldLink "LeftUndoes" (493 : Nat) "LeftUndoes" "firstFit" "I") ∈ lw_all := lw_g (lw_at lw_m2 74 rfl) rfl
theorem q432 : (Jvm.Cond.fieldLink "LeftUndoes" (126 : Nat) "LeftUndoes" "rows" "[I") ∈ lw_all := lw_g (lw_at lw_m2 75 rfl) rfl
theorem q433 : (Jvm.Cond.fieldLink "LeftUndoes" (509 : Nat) "LeftUndoes" "rowMany" "I") ∈ lw_all := lw_g (lw_at lw_m2 76 rfl) rfl
theorem q434 : (Jvm.Cond.fieldLink "LeftUndoes" (131 : Nat) "LeftUndoes" "shelves" "[LLeftUndoes$Shelf;") ∈ lw_all := lw_g (lw_at lw_m2 77 rfl) rfl
theorem q435 : (Jvm.Cond.fieldLink "LeftUndoes" (135 : Nat) "LeftUndoes" "sheets" "[LLeftUndoes$Shelf;") ∈ lw_all := lw_g (lw_at lw_m2 78 rfl) rfl
theorem q436 : (Jvm.Cond.fieldLink "LeftUndoes" (141 : Nat) "LeftUndoes" "trace" "LLeftUndoes$Trace;") ∈ lw_all := lw_g (lw_at lw_m2 79 rfl) rfl
theorem q437 : (Jvm.Cond.laysFinal "LeftUndoes" "LeftUndoes" "refusal" "LLeftUndoes$Refusal;") ∈ lw_all := lw_g (lw_at lw_m2 80 rfl) rfl
theorem q438 : (Jvm.Cond.soleField "LeftUndoes" "refusal") ∈ lw_all := lw_g (lw_at lw_m2 81 rfl) rfl
theorem q439 : (Jvm.Cond.laysFinal "LeftUndoes" "LeftUndoes" "fault" "LLeftUndoes$Fault;") ∈ lw_all := lw_g (lw_at lw_m2 82 rfl) rfl
theorem q440 : (Jvm.Cond.soleField "LeftUndoes" "fault") ∈ lw_all := lw_g (lw_at lw_m2 83 rfl) rfl
theorem q441 : (Jvm.Cond.laysFinal "LeftUndoes" "LeftUndoes" "now" "LLeftUndoes$Town;") ∈ lw_all := lw_g (lw_at lw_m2 84 rfl) rfl
theorem q442 : (Jvm.Cond.soleField "LeftUndoes" "now") ∈ lw_all := lw_g (lw_at lw_m2 85 rfl) rfl
theorem q443 : (Jvm.Cond.laysFinal "LeftUndoes" "LeftUndoes" "kept" "LLeftUndoes$Town;") ∈ lw_all := lw_g (lw_at lw_m2 86 rfl) rfl
theorem q444 : (Jvm.Cond.soleField "LeftUndoes" "kept") ∈ lw_all := lw_g (lw_at lw_m2 87 rfl) rfl
theorem q445 : (Jvm.Cond.laysFinal "LeftUndoes" "LeftUndoes" "tried" "LLeftUndoes$Town;") ∈ lw_all := lw_g (lw_at lw_m2 88 rfl) rfl
theorem q446 : (Jvm.Cond.soleField "LeftUndoes" "tried") ∈ lw_all := lw_g (lw_at lw_m2 89 rfl) rfl
theorem q447 : (Jvm.Cond.laysFinal "LeftUndoes" "LeftUndoes" "hands" "[LLeftUndoes$Hand;") ∈ lw_all := lw_g (lw_at lw_m2 90 rfl) rfl
theorem q448 : (Jvm.Cond.soleField "LeftUndoes" "hands") ∈ lw_all := lw_g (lw_at lw_m2 91 rfl) rfl
theorem q449 : (Jvm.Cond.lays "LeftUndoes" "LeftUndoes" "isKept" "Z") ∈ lw_all := lw_g (lw_at lw_m2 92 rfl) rfl
theorem q450 : (Jvm.Cond.soleField "LeftUndoes" "isKept") ∈ lw_all := lw_g (lw_at lw_m2 93 rfl) rfl
theorem q451 : (Jvm.Cond.laysFinal "LeftUndoes" "LeftUndoes" "kindNames" "[Ljava/lang/String;") ∈ lw_all := lw_g (lw_at lw_m2 94 rfl) rfl
theorem q452 : (Jvm.Cond.soleField "LeftUndoes" "kindNames") ∈ lw_all := lw_g (lw_at lw_m2 95 rfl) rfl
theorem q453 : (Jvm.Cond.laysFinal "LeftUndoes" "LeftUndoes" "doings" "[Ljava/lang/String;") ∈ lw_all := lw_g (lw_at lw_m2 96 rfl) rfl
theorem q454 : (Jvm.Cond.soleField "LeftUndoes" "doings") ∈ lw_all := lw_g (lw_at lw_m2 97 rfl) rfl
theorem q455 : (Jvm.Cond.laysFinal "LeftUndoes" "LeftUndoes" "names" "[Ljava/lang/String;") ∈ lw_all := lw_g (lw_at lw_m2 98 rfl) rfl
theorem q456 : (Jvm.Cond.soleField "LeftUndoes" "names") ∈ lw_all := lw_g (lw_at lw_m2 99 rfl) rfl
theorem q457 : (Jvm.Cond.laysFinal "LeftUndoes" "LeftUndoes" "tape" "[B") ∈ lw_all := lw_g (lw_at lw_m2 100 rfl) rfl
theorem q458 : (Jvm.Cond.soleField "LeftUndoes" "tape") ∈ lw_all := lw_g (lw_at lw_m2 101 rfl) rfl
theorem q459 : (Jvm.Cond.lays "LeftUndoes" "LeftUndoes" "tapeMany" "I") ∈ lw_all := lw_g (lw_at lw_m2 102 rfl) rfl
theorem q460 : (Jvm.Cond.soleField "LeftUndoes" "tapeMany") ∈ lw_all := lw_g (lw_at lw_m2 103 rfl) rfl
theorem q461 : (Jvm.Cond.lays "LeftUndoes" "LeftUndoes" "at" "I") ∈ lw_all := lw_g (lw_at lw_m2 104 rfl) rfl
theorem q462 : (Jvm.Cond.soleField "LeftUndoes" "at") ∈ lw_all := lw_g (lw_at lw_m2 105 rfl) rfl
theorem q463 : (Jvm.Cond.lays "LeftUndoes" "LeftUndoes" "end" "I") ∈ lw_all := lw_g (lw_at lw_m2 106 rfl) rfl
theorem q464 : (Jvm.Cond.soleField "LeftUndoes" "end") ∈ lw_all := lw_g (lw_at lw_m2 107 rfl) rfl
theorem q465 : (Jvm.Cond.laysFinal "LeftUndoes" "LeftUndoes" "facts" "[I") ∈ lw_all := lw_g (lw_at lw_m2 108 rfl) rfl
theorem q466 : (Jvm.Cond.soleField "LeftUndoes" "facts") ∈ lw_all := lw_g (lw_at lw_m2 109 rfl) rfl
theorem q467 : (Jvm.Cond.laysFinal "LeftUndoes" "LeftUndoes" "sos" "[I") ∈ lw_all := lw_g (lw_at lw_m2 110 rfl) rfl
theorem q468 : (Jvm.Cond.soleField "LeftUndoes" "sos") ∈ lw_all := lw_g (lw_at lw_m2 111 rfl) rfl
theorem q469 : (Jvm.Cond.laysFinal "LeftUndoes" "LeftUndoes" "parts" "[I") ∈ lw_all := lw_g (lw_at lw_m2 112 rfl) rfl
theorem q470 : (Jvm.Cond.soleField "LeftUndoes" "parts") ∈ lw_all := lw_g (lw_at lw_m2 113 rfl) rfl
theorem q471 : (Jvm.Cond.laysFinal "LeftUndoes" "LeftUndoes" "told" "[I") ∈ lw_all := lw_g (lw_at lw_m2 114 rfl) rfl
theorem q472 : (Jvm.Cond.soleField "LeftUndoes" "told") ∈ lw_all := lw_g (lw_at lw_m2 115 rfl) rfl
theorem q473 : (Jvm.Cond.laysFinal "LeftUndoes" "LeftUndoes" "plan" "[I") ∈ lw_all := lw_g (lw_at lw_m2 116 rfl) rfl
theorem q474 : (Jvm.Cond.soleField "LeftUndoes" "plan") ∈ lw_all := lw_g (lw_at lw_m2 117 rfl) rfl
theorem q475 : (Jvm.Cond.lays "LeftUndoes" "LeftUndoes" "most" "I") ∈ lw_all := lw_g (lw_at lw_m2 118 rfl) rfl
theorem q476 : (Jvm.Cond.soleField "LeftUndoes" "most") ∈ lw_all := lw_g (lw_at lw_m2 119 rfl) rfl
theorem q477 : (Jvm.Cond.lays "LeftUndoes" "LeftUndoes" "ways" "I") ∈ lw_all := lw_g (lw_at lw_m2 120 rfl) rfl
theorem q478 : (Jvm.Cond.soleField "LeftUndoes" "ways") ∈ lw_all := lw_g (lw_at lw_m2 121 rfl) rfl
theorem q479 : (Jvm.Cond.lays "LeftUndoes" "LeftUndoes" "planLong" "I") ∈ lw_all := lw_g (lw_at lw_m2 122 rfl) rfl
theorem q480 : (Jvm.Cond.soleField "LeftUndoes" "planLong") ∈ lw_all := lw_g (lw_at lw_m2 123 rfl) rfl
theorem q481 : (Jvm.Cond.lays "LeftUndoes" "LeftUndoes" "wanted" "I") ∈ lw_all := lw_g (lw_at lw_m2 124 rfl) rfl
theorem q482 : (Jvm.Cond.soleField "LeftUndoes" "wanted") ∈ lw_all := lw_g (lw_at lw_m2 125 rfl) rfl
theorem q483 : (Jvm.Cond.lays "LeftUndoes" "LeftUndoes" "fewest" "I") ∈ lw_all := lw_g (lw_at lw_m2 126 rfl) rfl
theorem q484 : (Jvm.Cond.soleField "LeftUndoes" "fewest") ∈ lw_all := lw_g (lw_at lw_m2 127 rfl) rfl
theorem q485 : (Jvm.Cond.lays "LeftUndoes" "LeftUndoes" "stoodEver" "I") ∈ lw_all := lw_g (lw_at lw_m2 128 rfl) rfl
theorem q486 : (Jvm.Cond.soleField "LeftUndoes" "stoodEver") ∈ lw_all := lw_g (lw_at lw_m2 129 rfl) rfl
theorem q487 : (Jvm.Cond.laysFinal "LeftUndoes" "LeftUndoes" "strangers" "[LLeftUndoes$Hand;") ∈ lw_all := lw_g (lw_at lw_m2 130 rfl) rfl
theorem q488 : (Jvm.Cond.soleField "LeftUndoes" "strangers") ∈ lw_all := lw_g (lw_at lw_m2 131 rfl) rfl
theorem q489 : (Jvm.Cond.lays "LeftUndoes" "LeftUndoes" "firstFit" "I") ∈ lw_all := lw_g (lw_at lw_m2 132 rfl) rfl
theorem q490 : (Jvm.Cond.soleField "LeftUndoes" "firstFit") ∈ lw_all := lw_g (lw_at lw_m2 133 rfl) rfl
theorem q491 : (Jvm.Cond.laysFinal "LeftUndoes" "LeftUndoes" "rows" "[I") ∈ lw_all := lw_g (lw_at lw_m2 134 rfl) rfl
theorem q492 : (Jvm.Cond.soleField "LeftUndoes" "rows") ∈ lw_all := lw_g (lw_at lw_m2 135 rfl) rfl
theorem q493 : (Jvm.Cond.lays "LeftUndoes" "LeftUndoes" "rowMany" "I") ∈ lw_all := lw_g (lw_at lw_m2 136 rfl) rfl
theorem q494 : (Jvm.Cond.soleField "LeftUndoes" "rowMany") ∈ lw_all := lw_g (lw_at lw_m2 137 rfl) rfl
theorem q495 : (Jvm.Cond.laysFinal "LeftUndoes" "LeftUndoes" "shelves" "[LLeftUndoes$Shelf;") ∈ lw_all := lw_g (lw_at lw_m2 138 rfl) rfl
theorem q496 : (Jvm.Cond.soleField "LeftUndoes" "shelves") ∈ lw_all := lw_g (lw_at lw_m2 139 rfl) rfl
theorem q497 : (Jvm.Cond.laysFinal "LeftUndoes" "LeftUndoes" "sheets" "[LLeftUndoes$Shelf;") ∈ lw_all := lw_g (lw_at lw_m2 140 rfl) rfl
theorem q498 : (Jvm.Cond.soleField "LeftUndoes" "sheets") ∈ lw_all := lw_g (lw_at lw_m2 141 rfl) rfl
theorem q499 : (Jvm.Cond.laysFinal "LeftUndoes" "LeftUndoes" "trace" "LLeftUndoes$Trace;") ∈ lw_all := lw_g (lw_at lw_m2 142 rfl) rfl
theorem q500 : (Jvm.Cond.soleField "LeftUndoes" "trace") ∈ lw_all := lw_g (lw_at lw_m2 143 rfl) rfl
theorem q501 : (Jvm.Cond.superclass "LeftUndoes" "java/lang/Object") ∈ lw_all := lw_g (lw_at lw_m2 144 rfl) rfl
theorem q503 : (Jvm.Cond.instanceMethod ({ cls := "LeftUndoes", name := "person", desc := "(III)I" } : Jvm.MethodName)) ∈ lw_all := lw_g (lw_at lw_m2 146 rfl) rfl
theorem q504 : (Jvm.Cond.selects "LeftUndoes" ({ cls := "LeftUndoes", name := "person", desc := "(III)I" } : Jvm.MethodName) ({ cls := "LeftUndoes", name := "person", desc := "(III)I" } : Jvm.MethodName)) ∈ lw_all := lw_g (lw_at lw_m2 147 rfl) rfl
theorem q505 : (Jvm.Cond.code ({ cls := "LeftUndoes", name := "person", desc := "(III)I" } : Jvm.MethodName) prog_1_method_11_code (5 : Nat) (Option.some Jvm.ClassFile.FieldType.int)) ∈ lw_all := lw_g (lw_at lw_m2 148 rfl) rfl
theorem q506 : (Jvm.Cond.methodLink "LeftUndoes" (166 : Nat) ({ cls := "LeftUndoes", name := "isKind", desc := "(I)Z" } : Jvm.MethodName)) ∈ lw_all := lw_g (lw_at lw_m2 149 rfl) rfl
theorem q507 : (Jvm.Cond.static ({ cls := "LeftUndoes", name := "isKind", desc := "(I)Z" } : Jvm.MethodName)) ∈ lw_all := lw_g (lw_at lw_m2 150 rfl) rfl
theorem q508 : (Jvm.Cond.code ({ cls := "LeftUndoes", name := "isKind", desc := "(I)Z" } : Jvm.MethodName) prog_1_method_8_code (1 : Nat) (Option.some Jvm.ClassFile.FieldType.boolean)) ∈ lw_all := lw_g (lw_at lw_m2 151 rfl) rfl
theorem q509 : (Jvm.Cond.methodLink "LeftUndoes" (150 : Nat) ({ cls := "LeftUndoes", name := "isIn", desc := "(III)Z" } : Jvm.MethodName)) ∈ lw_all := lw_g (lw_at lw_m2 152 rfl) rfl
theorem q510 : (Jvm.Cond.static ({ cls := "LeftUndoes", name := "isIn", desc := "(III)Z" } : Jvm.MethodName)) ∈ lw_all := lw_g (lw_at lw_m2 153 rfl) rfl
theorem q511 : (Jvm.Cond.code ({ cls := "LeftUndoes", name := "isIn", desc := "(III)Z" } : Jvm.MethodName) prog_1_method_1_code (3 : Nat) (Option.some Jvm.ClassFile.FieldType.boolean)) ∈ lw_all := lw_g (lw_at lw_m2 154 rfl) rfl
theorem q512 : (Jvm.Cond.methodLink "LeftUndoes" (170 : Nat) ({ cls := "LeftUndoes", name := "isPart", desc := "(I)Z" } : Jvm.MethodName)) ∈ lw_all := lw_g (lw_at lw_m2 155 rfl) rfl
theorem q513 : (Jvm.Cond.static ({ cls := "LeftUndoes", name := "isPart", desc := "(I)Z" } : Jvm.MethodName)) ∈ lw_all := lw_g (lw_at lw_m2 156 rfl) rfl
theorem q514 : (Jvm.Cond.code ({ cls := "LeftUndoes", name := "isPart", desc := "(I)Z" } : Jvm.MethodName) prog_1_method_9_code (1 : Nat) (Option.some Jvm.ClassFile.FieldType.boolean)) ∈ lw_all := lw_g (lw_at lw_m2 157 rfl) rfl
theorem q515 : (Jvm.Cond.methodLink "LeftUndoes" (175 : Nat) ({ cls := "LeftUndoes", name := "renew", desc := "(I)V" } : Jvm.MethodName)) ∈ lw_all := lw_g (lw_at lw_m2 158 rfl) rfl
theorem q516 : (Jvm.Cond.privateMethod ({ cls := "LeftUndoes", name := "renew", desc := "(I)V" } : Jvm.MethodName)) ∈ lw_tbl := lw_at lw_m2 159 rfl
theorem q517 : (Jvm.Cond.instanceMethod ({ cls := "LeftUndoes", name := "renew", desc := "(I)V" } : Jvm.MethodName)) ∈ lw_all := lw_g (lw_at lw_m2 160 rfl) rfl
theorem q518 : (Jvm.Cond.code ({ cls := "LeftUndoes", name := "renew", desc := "(I)V" } : Jvm.MethodName) prog_1_method_10_code (2 : Nat) (Option.none : Option Jvm.ClassFile.FieldType)) ∈ lw_all := lw_g (lw_at lw_m2 161 rfl) rfl
theorem q519 : (Jvm.Cond.methodLink "LeftUndoes" (162 : Nat) ({ cls := "LeftUndoes", name := "made", desc := "(III)LLeftUndoes$Hand;" } : Jvm.MethodName)) ∈ lw_all := lw_g (lw_at lw_m2 162 rfl) rfl
theorem q520 : (Jvm.Cond.static ({ cls := "LeftUndoes", name := "made", desc := "(III)LLeftUndoes$Hand;" } : Jvm.MethodName)) ∈ lw_all := lw_g (lw_at lw_m2 163 rfl) rfl
theorem q521 : (Jvm.Cond.code ({ cls := "LeftUndoes", name := "made", desc := "(III)LLeftUndoes$Hand;" } : Jvm.MethodName) prog_1_method_3_code (3 : Nat) (Option.some (Jvm.ClassFile.FieldType.object "LeftUndoes$Hand"))) ∈ lw_all := lw_g (lw_at lw_m2 164 rfl) rfl
theorem q522 : (Jvm.Cond.classLink "LeftUndoes" (13 : Nat) "LeftUndoes$Clasped") ∈ lw_all := lw_g (lw_at lw_m2 165 rfl) rfl
theorem q524 : (Jvm.Cond.methodLink "LeftUndoes" (15 : Nat) ({ cls := "LeftUndoes$Clasped", name := "<init>", desc := "(II)V" } : Jvm.MethodName)) ∈ lw_all := lw_g (lw_at lw_m2 167 rfl) rfl
theorem q538 : (Jvm.Cond.classLink "LeftUndoes" (19 : Nat) "LeftUndoes$Forger") ∈ lw_all := lw_g (lw_at lw_m2 181 rfl) rfl
theorem q540 : (Jvm.Cond.methodLink "LeftUndoes" (21 : Nat) ({ cls := "LeftUndoes$Forger", name := "<init>", desc := "(II)V" } : Jvm.MethodName)) ∈ lw_all := lw_g (lw_at lw_m2 183 rfl) rfl
theorem q547 : (Jvm.Cond.classLink "LeftUndoes" (22 : Nat) "LeftUndoes$Twin") ∈ lw_all := lw_g (lw_at lw_m2 190 rfl) rfl
theorem q549 : (Jvm.Cond.methodLink "LeftUndoes" (24 : Nat) ({ cls := "LeftUndoes$Twin", name := "<init>", desc := "(II)V" } : Jvm.MethodName)) ∈ lw_all := lw_g (lw_at lw_m2 192 rfl) rfl
theorem q556 : (Jvm.Cond.classLink "LeftUndoes" (25 : Nat) "LeftUndoes$Slow") ∈ lw_all := lw_g (lw_at lw_m2 199 rfl) rfl
theorem q558 : (Jvm.Cond.methodLink "LeftUndoes" (27 : Nat) ({ cls := "LeftUndoes$Slow", name := "<init>", desc := "(II)V" } : Jvm.MethodName)) ∈ lw_all := lw_g (lw_at lw_m2 201 rfl) rfl
theorem q565 : (Jvm.Cond.classLink "LeftUndoes" (28 : Nat) "LeftUndoes$Heir") ∈ lw_all := lw_g (lw_at lw_m2 208 rfl) rfl
theorem q567 : (Jvm.Cond.methodLink "LeftUndoes" (30 : Nat) ({ cls := "LeftUndoes$Heir", name := "<init>", desc := "(II)V" } : Jvm.MethodName)) ∈ lw_all := lw_g (lw_at lw_m2 210 rfl) rfl
theorem q575 : (Jvm.Cond.instanceMethod ({ cls := "LeftUndoes", name := "personOf", desc := "(II)I" } : Jvm.MethodName)) ∈ lw_all := lw_g (lw_at lw_m2 218 rfl) rfl
theorem q576 : (Jvm.Cond.selects "LeftUndoes" ({ cls := "LeftUndoes", name := "personOf", desc := "(II)I" } : Jvm.MethodName) ({ cls := "LeftUndoes", name := "personOf", desc := "(II)I" } : Jvm.MethodName)) ∈ lw_all := lw_g (lw_at lw_m2 219 rfl) rfl
theorem q577 : (Jvm.Cond.code ({ cls := "LeftUndoes", name := "personOf", desc := "(II)I" } : Jvm.MethodName) prog_1_method_12_code (3 : Nat) (Option.some Jvm.ClassFile.FieldType.int)) ∈ lw_all := lw_g (lw_at lw_m2 220 rfl) rfl
theorem q578 : (Jvm.Cond.methodLink "LeftUndoes" (179 : Nat) ({ cls := "LeftUndoes", name := "isPerson", desc := "(I)Z" } : Jvm.MethodName)) ∈ lw_all := lw_g (lw_at lw_m2 221 rfl) rfl
theorem q579 : (Jvm.Cond.privateMethod ({ cls := "LeftUndoes", name := "isPerson", desc := "(I)Z" } : Jvm.MethodName)) ∈ lw_tbl := lw_at lw_m2 222 rfl
theorem q580 : (Jvm.Cond.instanceMethod ({ cls := "LeftUndoes", name := "isPerson", desc := "(I)Z" } : Jvm.MethodName)) ∈ lw_all := lw_g (lw_at lw_m2 223 rfl) rfl
theorem q581 : (Jvm.Cond.code ({ cls := "LeftUndoes", name := "isPerson", desc := "(I)Z" } : Jvm.MethodName) prog_1_method_6_code (2 : Nat) (Option.some Jvm.ClassFile.FieldType.boolean)) ∈ lw_all := lw_g (lw_at lw_m2 224 rfl) rfl
theorem q582 : (Jvm.Cond.methodLink "LeftUndoes" (182 : Nat) ({ cls := "LeftUndoes", name := "standsOf", desc := "(I)I" } : Jvm.MethodName)) ∈ lw_all := lw_g (lw_at lw_m2 225 rfl) rfl
theorem q583 : (Jvm.Cond.privateMethod ({ cls := "LeftUndoes", name := "standsOf", desc := "(I)I" } : Jvm.MethodName)) ∈ lw_tbl := lw_at lw_m2 226 rfl
theorem q584 : (Jvm.Cond.instanceMethod ({ cls := "LeftUndoes", name := "standsOf", desc := "(I)I" } : Jvm.MethodName)) ∈ lw_all := lw_g (lw_at lw_m2 227 rfl) rfl
theorem q585 : (Jvm.Cond.code ({ cls := "LeftUndoes", name := "standsOf", desc := "(I)I" } : Jvm.MethodName) prog_1_method_39_code (4 : Nat) (Option.some Jvm.ClassFile.FieldType.int)) ∈ lw_all := lw_g (lw_at lw_m2 228 rfl) rfl
theorem q586 : (Jvm.Cond.methodLink "LeftUndoes" (188 : Nat) ({ cls := "LeftUndoes$Hand", name := "pull", desc := "(II)I" } : Jvm.MethodName)) ∈ lw_all := lw_g (lw_at lw_m2 229 rfl) rfl
theorem q609 : (Jvm.Cond.methodLink "LeftUndoes" (192 : Nat) ({ cls := "LeftUndoes", name := "choiceOf", desc := "(I)I" } : Jvm.MethodName)) ∈ lw_all := lw_g (lw_at lw_m3 12 rfl) rfl
theorem q610 : (Jvm.Cond.privateMethod ({ cls := "LeftUndoes", name := "choiceOf", desc := "(I)I" } : Jvm.MethodName)) ∈ lw_tbl := lw_at lw_m3 13 rfl
theorem q611 : (Jvm.Cond.instanceMethod ({ cls := "LeftUndoes", name := "choiceOf", desc := "(I)I" } : Jvm.MethodName)) ∈ lw_all := lw_g (lw_at lw_m3 14 rfl) rfl
theorem q612 : (Jvm.Cond.code ({ cls := "LeftUndoes", name := "choiceOf", desc := "(I)I" } : Jvm.MethodName) prog_1_method_41_code (6 : Nat) (Option.some Jvm.ClassFile.FieldType.int)) ∈ lw_all := lw_g (lw_at lw_m3 15 rfl) rfl
theorem q613 : (Jvm.Cond.methodLink "LeftUndoes" (364 : Nat) ({ cls := "LeftUndoes", name := "reachOf", desc := "(I)I" } : Jvm.MethodName)) ∈ lw_all := lw_g (lw_at lw_m3 16 rfl) rfl
theorem q614 : (Jvm.Cond.privateMethod ({ cls := "LeftUndoes", name := "reachOf", desc := "(I)I" } : Jvm.MethodName)) ∈ lw_tbl := lw_at lw_m3 17 rfl
theorem q615 : (Jvm.Cond.instanceMethod ({ cls := "LeftUndoes", name := "reachOf", desc := "(I)I" } : Jvm.MethodName)) ∈ lw_all := lw_g (lw_at lw_m3 18 rfl) rfl
theorem q616 : (Jvm.Cond.code ({ cls := "LeftUndoes", name := "reachOf", desc := "(I)I" } : Jvm.MethodName) prog_1_method_40_code (4 : Nat) (Option.some Jvm.ClassFile.FieldType.int)) ∈ lw_all := lw_g (lw_at lw_m3 19 rfl) rfl
theorem q617 : (Jvm.Cond.methodLink "LeftUndoes" (354 : Nat) ({ cls := "LeftUndoes$Rule", name := "isFor", desc := "(I[I)Z" } : Jvm.MethodName)) ∈ lw_all := lw_g (lw_at lw_m3 20 rfl) rfl
theorem q622 : (Jvm.Cond.static ({ cls := "LeftUndoes", name := "isOf", desc := "(II)Z" } : Jvm.MethodName)) ∈ lw_all := lw_g (lw_at lw_m3 25 rfl) rfl
theorem q623 : (Jvm.Cond.code ({ cls := "LeftUndoes", name := "isOf", desc := "(II)Z" } : Jvm.MethodName) prog_1_method_4_code (2 : Nat) (Option.some Jvm.ClassFile.FieldType.boolean)) ∈ lw_all := lw_g (lw_at lw_m3 26 rfl) rfl
theorem q646 : (Jvm.Cond.methodLink "LeftUndoes" (361 : Nat) ({ cls := "LeftUndoes$Rule", name := "reaches", desc := "(I)I" } : Jvm.MethodName)) ∈ lw_all := lw_g (lw_at lw_m3 49 rfl) rfl
theorem q650 : (Jvm.Cond.methodLink "LeftUndoes" (217 : Nat) ({ cls := "LeftUndoes", name := "dueOf", desc := "(I)I" } : Jvm.MethodName)) ∈ lw_all := lw_g (lw_at lw_m3 53 rfl) rfl
theorem q651 : (Jvm.Cond.privateMethod ({ cls := "LeftUndoes", name := "dueOf", desc := "(I)I" } : Jvm.MethodName)) ∈ lw_tbl := lw_at lw_m3 54 rfl
theorem q652 : (Jvm.Cond.instanceMethod ({ cls := "LeftUndoes", name := "dueOf", desc := "(I)I" } : Jvm.MethodName)) ∈ lw_all := lw_g (lw_at lw_m3 55 rfl) rfl
theorem q653 : (Jvm.Cond.code ({ cls := "LeftUndoes", name := "dueOf", desc := "(I)I" } : Jvm.MethodName) prog_1_method_16_code (2 : Nat) (Option.some Jvm.ClassFile.FieldType.int)) ∈ lw_all := lw_g (lw_at lw_m3 56 rfl) rfl
theorem q654 : (Jvm.Cond.methodLink "LeftUndoes" (213 : Nat) ({ cls := "LeftUndoes$Hand", name := "term", desc := "()I" } : Jvm.MethodName)) ∈ lw_all := lw_g (lw_at lw_m3 57 rfl) rfl
theorem q676 : (Jvm.Cond.instanceMethod ({ cls := "LeftUndoes", name := "change", desc := "(III)I" } : Jvm.MethodName)) ∈ lw_all := lw_g (lw_at lw_m3 79 rfl) rfl
theorem q677 : (Jvm.Cond.selects "LeftUndoes" ({ cls := "LeftUndoes", name := "change", desc := "(III)I" } : Jvm.MethodName) ({ cls := "LeftUndoes", name := "change", desc := "(III)I" } : Jvm.MethodName)) ∈ lw_all := lw_g (lw_at lw_m3 80 rfl) rfl
theorem q678 : (Jvm.Cond.code ({ cls := "LeftUndoes", name := "change", desc := "(III)I" } : Jvm.MethodName) prog_1_method_13_code (6 : Nat) (Option.some Jvm.ClassFile.FieldType.int)) ∈ lw_all := lw_g (lw_at lw_m3 81 rfl) rfl
theorem q680 : (Jvm.Cond.instanceMethod ({ cls := "LeftUndoes", name := "remake", desc := "(II)I" } : Jvm.MethodName)) ∈ lw_all := lw_g (lw_at lw_m3 83 rfl) rfl
theorem q681 : (Jvm.Cond.selects "LeftUndoes" ({ cls := "LeftUndoes", name := "remake", desc := "(II)I" } : Jvm.MethodName) ({ cls := "LeftUndoes", name := "remake", desc := "(II)I" } : Jvm.MethodName)) ∈ lw_all := lw_g (lw_at lw_m3 84 rfl) rfl
theorem q682 : (Jvm.Cond.code ({ cls := "LeftUndoes", name := "remake", desc := "(II)I" } : Jvm.MethodName) prog_1_method_14_code (4 : Nat) (Option.some Jvm.ClassFile.FieldType.int)) ∈ lw_all := lw_g (lw_at lw_m3 85 rfl) rfl
theorem q684 : (Jvm.Cond.instanceMethod ({ cls := "LeftUndoes", name := "deed", desc := "(IIII)I" } : Jvm.MethodName)) ∈ lw_all := lw_g (lw_at lw_m3 87 rfl) rfl
theorem q685 : (Jvm.Cond.selects "LeftUndoes" ({ cls := "LeftUndoes", name := "deed", desc := "(IIII)I" } : Jvm.MethodName) ({ cls := "LeftUndoes", name := "deed", desc := "(IIII)I" } : Jvm.MethodName)) ∈ lw_all := lw_g (lw_at lw_m3 88 rfl) rfl
theorem q686 : (Jvm.Cond.code ({ cls := "LeftUndoes", name := "deed", desc := "(IIII)I" } : Jvm.MethodName) prog_1_method_15_code (6 : Nat) (Option.some Jvm.ClassFile.FieldType.int)) ∈ lw_all := lw_g (lw_at lw_m3 89 rfl) rfl
theorem q687 : (Jvm.Cond.methodLink "LeftUndoes" (195 : Nat) ({ cls := "LeftUndoes", name := "isDeed", desc := "(I)Z" } : Jvm.MethodName)) ∈ lw_all := lw_g (lw_at lw_m3 90 rfl) rfl
theorem q688 : (Jvm.Cond.privateMethod ({ cls := "LeftUndoes", name := "isDeed", desc := "(I)Z" } : Jvm.MethodName)) ∈ lw_tbl := lw_at lw_m3 91 rfl
theorem q689 : (Jvm.Cond.instanceMethod ({ cls := "LeftUndoes", name := "isDeed", desc := "(I)Z" } : Jvm.MethodName)) ∈ lw_all := lw_g (lw_at lw_m3 92 rfl) rfl
theorem q690 : (Jvm.Cond.code ({ cls := "LeftUndoes", name := "isDeed", desc := "(I)Z" } : Jvm.MethodName) prog_1_method_7_code (2 : Nat) (Option.some Jvm.ClassFile.FieldType.boolean)) ∈ lw_all := lw_g (lw_at lw_m3 93 rfl) rfl
theorem q692 : (Jvm.Cond.instanceMethod ({ cls := "LeftUndoes", name := "deedOf", desc := "(II)I" } : Jvm.MethodName)) ∈ lw_all := lw_g (lw_at lw_m3 95 rfl) rfl
theorem q693 : (Jvm.Cond.selects "LeftUndoes" ({ cls := "LeftUndoes", name := "deedOf", desc := "(II)I" } : Jvm.MethodName) ({ cls := "LeftUndoes", name := "deedOf", desc := "(II)I" } : Jvm.MethodName)) ∈ lw_all := lw_g (lw_at lw_m3 96 rfl) rfl
theorem q694 : (Jvm.Cond.code ({ cls := "LeftUndoes", name := "deedOf", desc := "(II)I" } : Jvm.MethodName) prog_1_method_17_code (3 : Nat) (Option.some Jvm.ClassFile.FieldType.int)) ∈ lw_all := lw_g (lw_at lw_m3 97 rfl) rfl
theorem q696 : (Jvm.Cond.instanceMethod ({ cls := "LeftUndoes", name := "ends", desc := "(I)I" } : Jvm.MethodName)) ∈ lw_all := lw_g (lw_at lw_m3 99 rfl) rfl
theorem q697 : (Jvm.Cond.selects "LeftUndoes" ({ cls := "LeftUndoes", name := "ends", desc := "(I)I" } : Jvm.MethodName) ({ cls := "LeftUndoes", name := "ends", desc := "(I)I" } : Jvm.MethodName)) ∈ lw_all := lw_g (lw_at lw_m3 100 rfl) rfl
theorem q698 : (Jvm.Cond.code ({ cls := "LeftUndoes", name := "ends", desc := "(I)I" } : Jvm.MethodName) prog_1_method_18_code (3 : Nat) (Option.some Jvm.ClassFile.FieldType.int)) ∈ lw_all := lw_g (lw_at lw_m3 101 rfl) rfl
theorem q700 : (Jvm.Cond.instanceMethod ({ cls := "LeftUndoes", name := "anew", desc := "()I" } : Jvm.MethodName)) ∈ lw_all := lw_g (lw_at lw_m3 103 rfl) rfl
theorem q701 : (Jvm.Cond.selects "LeftUndoes" ({ cls := "LeftUndoes", name := "anew", desc := "()I" } : Jvm.MethodName) ({ cls := "LeftUndoes", name := "anew", desc := "()I" } : Jvm.MethodName)) ∈ lw_all := lw_g (lw_at lw_m3 104 rfl) rfl
theorem q702 : (Jvm.Cond.code ({ cls := "LeftUndoes", name := "anew", desc := "()I" } : Jvm.MethodName) prog_1_method_19_code (3 : Nat) (Option.some Jvm.ClassFile.FieldType.int)) ∈ lw_all := lw_g (lw_at lw_m3 105 rfl) rfl
theorem q704 : (Jvm.Cond.instanceMethod ({ cls := "LeftUndoes", name := "state", desc := "(I)I" } : Jvm.MethodName)) ∈ lw_all := lw_g (lw_at lw_m3 107 rfl) rfl
theorem q705 : (Jvm.Cond.selects "LeftUndoes" ({ cls := "LeftUndoes", name := "state", desc := "(I)I" } : Jvm.MethodName) ({ cls := "LeftUndoes", name := "state", desc := "(I)I" } : Jvm.MethodName)) ∈ lw_all := lw_g (lw_at lw_m3 108 rfl) rfl
theorem q706 : (Jvm.Cond.code ({ cls := "LeftUndoes", name := "state", desc := "(I)I" } : Jvm.MethodName) prog_1_method_20_code (2 : Nat) (Option.some Jvm.ClassFile.FieldType.int)) ∈ lw_all := lw_g (lw_at lw_m3 109 rfl) rfl
theorem q707 : (Jvm.Cond.methodLink "LeftUndoes" (226 : Nat) ({ cls := "LeftUndoes$Town", name := "isOver", desc := "()Z" } : Jvm.MethodName)) ∈ lw_all := lw_g (lw_at lw_m3 110 rfl) rfl
theorem q712 : (Jvm.Cond.instanceMethod ({ cls := "LeftUndoes", name := "feed", desc := "(JI)I" } : Jvm.MethodName)) ∈ lw_all := lw_g (lw_at lw_m3 115 rfl) rfl
theorem q713 : (Jvm.Cond.selects "LeftUndoes" ({ cls := "LeftUndoes", name := "feed", desc := "(JI)I" } : Jvm.MethodName) ({ cls := "LeftUndoes", name := "feed", desc := "(JI)I" } : Jvm.MethodName)) ∈ lw_all := lw_g (lw_at lw_m3 116 rfl) rfl
theorem q714 : (Jvm.Cond.code ({ cls := "LeftUndoes", name := "feed", desc := "(JI)I" } : Jvm.MethodName) prog_1_method_21_code (5 : Nat) (Option.some Jvm.ClassFile.FieldType.int)) ∈ lw_all := lw_g (lw_at lw_m3 117 rfl) rfl
theorem q716 : (Jvm.Cond.instanceMethod ({ cls := "LeftUndoes", name := "rules", desc := "()I" } : Jvm.MethodName)) ∈ lw_all := lw_g (lw_at lw_m3 119 rfl) rfl
theorem q717 : (Jvm.Cond.selects "LeftUndoes" ({ cls := "LeftUndoes", name := "rules", desc := "()I" } : Jvm.MethodName) ({ cls := "LeftUndoes", name := "rules", desc := "()I" } : Jvm.MethodName)) ∈ lw_all := lw_g (lw_at lw_m3 120 rfl) rfl
theorem q718 : (Jvm.Cond.codeWith ({ cls := "LeftUndoes", name := "rules", desc := "()I" } : Jvm.MethodName) prog_1_method_38_code (4 : Nat) (Option.some Jvm.ClassFile.FieldType.int) [((0 : Nat), (20 : Nat), (27 : Nat), (37 : Nat)), ((0 : Nat), (20 : Nat), (43 : Nat), (0 : Nat)), ((27 : Nat), (36 : Nat), (43 : Nat), (0 : Nat))]) ∈ lw_all := lw_g (lw_at lw_m3 121 rfl) rfl
theorem q719 : (Jvm.Cond.methodLink "LeftUndoes" (343 : Nat) ({ cls := "LeftUndoes", name := "allRules", desc := "()[LLeftUndoes$Rule;" } : Jvm.MethodName)) ∈ lw_all := lw_g (lw_at lw_m3 122 rfl) rfl
theorem q720 : (Jvm.Cond.privateMethod ({ cls := "LeftUndoes", name := "allRules", desc := "()[LLeftUndoes$Rule;" } : Jvm.MethodName)) ∈ lw_tbl := lw_at lw_m3 123 rfl
theorem q721 : (Jvm.Cond.instanceMethod ({ cls := "LeftUndoes", name := "allRules", desc := "()[LLeftUndoes$Rule;" } : Jvm.MethodName)) ∈ lw_all := lw_g (lw_at lw_m3 124 rfl) rfl
theorem q722 : (Jvm.Cond.code ({ cls := "LeftUndoes", name := "allRules", desc := "()[LLeftUndoes$Rule;" } : Jvm.MethodName) prog_1_method_37_code (4 : Nat) (Option.some (Jvm.ClassFile.FieldType.array (Jvm.ClassFile.FieldType.object "LeftUndoes$Rule")))) ∈ lw_all := lw_g (lw_at lw_m3 125 rfl) rfl
theorem q723 : (Jvm.Cond.classLink "LeftUndoes" (328 : Nat) "LeftUndoes$Rule") ∈ lw_all := lw_g (lw_at lw_m3 126 rfl) rfl
theorem q724 : (Jvm.Cond.methodLink "LeftUndoes" (255 : Nat) ({ cls := "LeftUndoes", name := "next", desc := "()V" } : Jvm.MethodName)) ∈ lw_all := lw_g (lw_at lw_m3 127 rfl) rfl
theorem q725 : (Jvm.Cond.privateMethod ({ cls := "LeftUndoes", name := "next", desc := "()V" } : Jvm.MethodName)) ∈ lw_tbl := lw_at lw_m3 128 rfl
theorem q726 : (Jvm.Cond.instanceMethod ({ cls := "LeftUndoes", name := "next", desc := "()V" } : Jvm.MethodName)) ∈ lw_all := lw_g (lw_at lw_m3 129 rfl) rfl
theorem q727 : (Jvm.Cond.code ({ cls := "LeftUndoes", name := "next", desc := "()V" } : Jvm.MethodName) prog_1_method_24_code (4 : Nat) (Option.none : Option Jvm.ClassFile.FieldType)) ∈ lw_all := lw_g (lw_at lw_m3 130 rfl) rfl
theorem q728 : (Jvm.Cond.methodLink "LeftUndoes" (237 : Nat) ({ cls := "LeftUndoes", name := "isLetter", desc := "(I)Z" } : Jvm.MethodName)) ∈ lw_all := lw_g (lw_at lw_m3 131 rfl) rfl
theorem q729 : (Jvm.Cond.static ({ cls := "LeftUndoes", name := "isLetter", desc := "(I)Z" } : Jvm.MethodName)) ∈ lw_all := lw_g (lw_at lw_m3 132 rfl) rfl
theorem q730 : (Jvm.Cond.code ({ cls := "LeftUndoes", name := "isLetter", desc := "(I)Z" } : Jvm.MethodName) prog_1_method_23_code (1 : Nat) (Option.some Jvm.ClassFile.FieldType.boolean)) ∈ lw_all := lw_g (lw_at lw_m3 133 rfl) rfl
theorem q731 : (Jvm.Cond.methodLink "LeftUndoes" (240 : Nat) ({ cls := "LeftUndoes", name := "isDigit", desc := "(I)Z" } : Jvm.MethodName)) ∈ lw_all := lw_g (lw_at lw_m3 134 rfl) rfl
theorem q732 : (Jvm.Cond.static ({ cls := "LeftUndoes", name := "isDigit", desc := "(I)Z" } : Jvm.MethodName)) ∈ lw_all := lw_g (lw_at lw_m3 135 rfl) rfl
theorem q733 : (Jvm.Cond.code ({ cls := "LeftUndoes", name := "isDigit", desc := "(I)Z" } : Jvm.MethodName) prog_1_method_22_code (1 : Nat) (Option.some Jvm.ClassFile.FieldType.boolean)) ∈ lw_all := lw_g (lw_at lw_m3 136 rfl) rfl
theorem q734 : (Jvm.Cond.methodLink "LeftUndoes" (261 : Nat) ({ cls := "LeftUndoes", name := "faultHere", desc := "()LLeftUndoes$Refusal;" } : Jvm.MethodName)) ∈ lw_all := lw_g (lw_at lw_m3 137 rfl) rfl
theorem q735 : (Jvm.Cond.privateMethod ({ cls := "LeftUndoes", name := "faultHere", desc := "()LLeftUndoes$Refusal;" } : Jvm.MethodName)) ∈ lw_tbl := lw_at lw_m3 138 rfl
theorem q736 : (Jvm.Cond.instanceMethod ({ cls := "LeftUndoes", name := "faultHere", desc := "()LLeftUndoes$Refusal;" } : Jvm.MethodName)) ∈ lw_all := lw_g (lw_at lw_m3 139 rfl) rfl
theorem q737 : (Jvm.Cond.code ({ cls := "LeftUndoes", name := "faultHere", desc := "()LLeftUndoes$Refusal;" } : Jvm.MethodName) prog_1_method_25_code (1 : Nat) (Option.some (Jvm.ClassFile.FieldType.object "LeftUndoes$Refusal"))) ∈ lw_all := lw_g (lw_at lw_m3 140 rfl) rfl
theorem q738 : (Jvm.Cond.methodLink "LeftUndoes" (243 : Nat) ({ cls := "LeftUndoes$Fault", name := "of", desc := "(I)LLeftUndoes$Refusal;" } : Jvm.MethodName)) ∈ lw_all := lw_g (lw_at lw_m3 141 rfl) rfl
theorem q744 : (Jvm.Cond.methodLink "LeftUndoes" (333 : Nat) ({ cls := "LeftUndoes", name := "rule", desc := "()LLeftUndoes$Rule;" } : Jvm.MethodName)) ∈ lw_all := lw_g (lw_at lw_m3 147 rfl) rfl
theorem q745 : (Jvm.Cond.privateMethod ({ cls := "LeftUndoes", name := "rule", desc := "()LLeftUndoes$Rule;" } : Jvm.MethodName)) ∈ lw_tbl := lw_at lw_m3 148 rfl
theorem q746 : (Jvm.Cond.instanceMethod ({ cls := "LeftUndoes", name := "rule", desc := "()LLeftUndoes$Rule;" } : Jvm.MethodName)) ∈ lw_all := lw_g (lw_at lw_m3 149 rfl) rfl
theorem q747 : (Jvm.Cond.code ({ cls := "LeftUndoes", name := "rule", desc := "()LLeftUndoes$Rule;" } : Jvm.MethodName) prog_1_method_36_code (5 : Nat) (Option.some (Jvm.ClassFile.FieldType.object "LeftUndoes$Rule"))) ∈ lw_all := lw_g (lw_at lw_m3 150 rfl) rfl
theorem q748 : (Jvm.Cond.methodLink "LeftUndoes" (265 : Nat) ({ cls := "LeftUndoes", name := "nameOf", desc := "([Ljava/lang/String;)I" } : Jvm.MethodName)) ∈ lw_all := lw_g (lw_at lw_m3 151 rfl) rfl
theorem q749 : (Jvm.Cond.privateMethod ({ cls := "LeftUndoes", name := "nameOf", desc := "([Ljava/lang/String;)I" } : Jvm.MethodName)) ∈ lw_tbl := lw_at lw_m3 152 rfl
theorem q750 : (Jvm.Cond.instanceMethod ({ cls := "LeftUndoes", name := "nameOf", desc := "([Ljava/lang/String;)I" } : Jvm.MethodName)) ∈ lw_all := lw_g (lw_at lw_m3 153 rfl) rfl
theorem q751 : (Jvm.Cond.code ({ cls := "LeftUndoes", name := "nameOf", desc := "([Ljava/lang/String;)I" } : Jvm.MethodName) prog_1_method_30_code (3 : Nat) (Option.some Jvm.ClassFile.FieldType.int)) ∈ lw_all := lw_g (lw_at lw_m3 154 rfl) rfl
theorem q752 : (Jvm.Cond.methodLink "LeftUndoes" (251 : Nat) ({ cls := "LeftUndoes", name := "isName", desc := "(Ljava/lang/String;)Z" } : Jvm.MethodName)) ∈ lw_all := lw_g (lw_at lw_m3 155 rfl) rfl
theorem q753 : (Jvm.Cond.privateMethod ({ cls := "LeftUndoes", name := "isName", desc := "(Ljava/lang/String;)Z" } : Jvm.MethodName)) ∈ lw_tbl := lw_at lw_m3 156 rfl
theorem q754 : (Jvm.Cond.instanceMethod ({ cls := "LeftUndoes", name := "isName", desc := "(Ljava/lang/String;)Z" } : Jvm.MethodName)) ∈ lw_all := lw_g (lw_at lw_m3 157 rfl) rfl
theorem q755 : (Jvm.Cond.code ({ cls := "LeftUndoes", name := "isName", desc := "(Ljava/lang/String;)Z" } : Jvm.MethodName) prog_1_method_26_code (3 : Nat) (Option.some Jvm.ClassFile.FieldType.boolean)) ∈ lw_all := lw_g (lw_at lw_m3 158 rfl) rfl
theorem q756 : (Jvm.Cond.methodLink "LeftUndoes" (244 : Nat) ({ cls := "java/lang/String", name := "length", desc := "()I" } : Jvm.MethodName)) ∈ lw_all := lw_g (lw_at lw_m3 159 rfl) rfl
theorem q766 : (Jvm.Cond.methodLink "LeftUndoes" (247 : Nat) ({ cls := "java/lang/String", name := "charAt", desc := "(I)C" } : Jvm.MethodName)) ∈ lw_all := lw_g (lw_at lw_m3 169 rfl) rfl
theorem q804 : (Jvm.Cond.stringRef "LeftUndoes" (321 : Nat) "if") ∈ lw_tbl := lw_at lw_m3 207 rfl
theorem q805 : (Jvm.Cond.methodLink "LeftUndoes" (258 : Nat) ({ cls := "LeftUndoes", name := "goesOn", desc := "(Ljava/lang/String;)Z" } : Jvm.MethodName)) ∈ lw_all := lw_g (lw_at lw_m3 208 rfl) rfl
theorem q806 : (Jvm.Cond.privateMethod ({ cls := "LeftUndoes", name := "goesOn", desc := "(Ljava/lang/String;)Z" } : Jvm.MethodName)) ∈ lw_tbl := lw_at lw_m3 209 rfl
theorem q807 : (Jvm.Cond.instanceMethod ({ cls := "LeftUndoes", name := "goesOn", desc := "(Ljava/lang/String;)Z" } : Jvm.MethodName)) ∈ lw_all := lw_g (lw_at lw_m3 210 rfl) rfl
theorem q808 : (Jvm.Cond.code ({ cls := "LeftUndoes", name := "goesOn", desc := "(Ljava/lang/String;)Z" } : Jvm.MethodName) prog_1_method_27_code (2 : Nat) (Option.some Jvm.ClassFile.FieldType.boolean)) ∈ lw_all := lw_g (lw_at lw_m3 211 rfl) rfl
theorem q809 : (Jvm.Cond.methodLink "LeftUndoes" (288 : Nat) ({ cls := "LeftUndoes", name := "cond", desc := "(I)LLeftUndoes$Cond;" } : Jvm.MethodName)) ∈ lw_all := lw_g (lw_at lw_m3 212 rfl) rfl
theorem q810 : (Jvm.Cond.privateMethod ({ cls := "LeftUndoes", name := "cond", desc := "(I)LLeftUndoes$Cond;" } : Jvm.MethodName)) ∈ lw_tbl := lw_at lw_m3 213 rfl
theorem q811 : (Jvm.Cond.instanceMethod ({ cls := "LeftUndoes", name := "cond", desc := "(I)LLeftUndoes$Cond;" } : Jvm.MethodName)) ∈ lw_all := lw_g (lw_at lw_m3 214 rfl) rfl
theorem q812 : (Jvm.Cond.code ({ cls := "LeftUndoes", name := "cond", desc := "(I)LLeftUndoes$Cond;" } : Jvm.MethodName) prog_1_method_34_code (3 : Nat) (Option.some (Jvm.ClassFile.FieldType.object "LeftUndoes$Cond"))) ∈ lw_all := lw_g (lw_at lw_m3 215 rfl) rfl
theorem q813 : (Jvm.Cond.methodLink "LeftUndoes" (313 : Nat) ({ cls := "LeftUndoes", name := "all", desc := "(I)LLeftUndoes$Cond;" } : Jvm.MethodName)) ∈ lw_all := lw_g (lw_at lw_m3 216 rfl) rfl
theorem q814 : (Jvm.Cond.privateMethod ({ cls := "LeftUndoes", name := "all", desc := "(I)LLeftUndoes$Cond;" } : Jvm.MethodName)) ∈ lw_tbl := lw_at lw_m3 217 rfl
theorem q815 : (Jvm.Cond.instanceMethod ({ cls := "LeftUndoes", name := "all", desc := "(I)LLeftUndoes$Cond;" } : Jvm.MethodName)) ∈ lw_all := lw_g (lw_at lw_m3 218 rfl) rfl
theorem q816 : (Jvm.Cond.code ({ cls := "LeftUndoes", name := "all", desc := "(I)LLeftUndoes$Cond;" } : Jvm.MethodName) prog_1_method_33_code (3 : Nat) (Option.some (Jvm.ClassFile.FieldType.object "LeftUndoes$Cond"))) ∈ lw_all := lw_g (lw_at lw_m3 219 rfl) rfl
theorem q817 : (Jvm.Cond.methodLink "LeftUndoes" (279 : Nat) ({ cls := "LeftUndoes", name := "oneOf", desc := "(I)LLeftUndoes$Cond;" } : Jvm.MethodName)) ∈ lw_all := lw_g (lw_at lw_m3 220 rfl) rfl
theorem q818 : (Jvm.Cond.privateMethod ({ cls := "LeftUndoes", name := "oneOf", desc := "(I)LLeftUndoes$Cond;" } : Jvm.MethodName)) ∈ lw_tbl := lw_at lw_m3 221 rfl
theorem q819 : (Jvm.Cond.instanceMethod ({ cls := "LeftUndoes", name := "oneOf", desc := "(I)LLeftUndoes$Cond;" } : Jvm.MethodName)) ∈ lw_all := lw_g (lw_at lw_m3 222 rfl) rfl
theorem q820 : (Jvm.Cond.code ({ cls := "LeftUndoes", name := "oneOf", desc := "(I)LLeftUndoes$Cond;" } : Jvm.MethodName) prog_1_method_32_code (4 : Nat) (Option.some (Jvm.ClassFile.FieldType.object "LeftUndoes$Cond"))) ∈ lw_all := lw_g (lw_at lw_m3 223 rfl) rfl
theorem q821 : (Jvm.Cond.stringRef "LeftUndoes" (275 : Nat) "not") ∈ lw_tbl := lw_at lw_m3 224 rfl
theorem q822 : (Jvm.Cond.classLink "LeftUndoes" (277 : Nat) "LeftUndoes$Not") ∈ lw_all := lw_g (lw_at lw_m3 225 rfl) rfl
theorem q824 : (Jvm.Cond.methodLink "LeftUndoes" (283 : Nat) ({ cls := "LeftUndoes$Not", name := "<init>", desc := "(LLeftUndoes$Cond;)V" } : Jvm.MethodName)) ∈ lw_all := lw_g (lw_at lw_m3 227 rfl) rfl
theorem q835 : (Jvm.Cond.stringRef "LeftUndoes" (286 : Nat) "(") ∈ lw_tbl := lw_at lw_m3 238 rfl
theorem q836 : (Jvm.Cond.stringRef "LeftUndoes" (291 : Nat) ")") ∈ lw_tbl := lw_at lw_m3 239 rfl
theorem q837 : (Jvm.Cond.methodLink "LeftUndoes" (293 : Nat) ({ cls := "LeftUndoes", name := "want", desc := "(Ljava/lang/String;)V" } : Jvm.MethodName)) ∈ lw_all := lw_g (lw_at lw_m4 0 rfl) rfl
theorem q838 : (Jvm.Cond.privateMethod ({ cls := "LeftUndoes", name := "want", desc := "(Ljava/lang/String;)V" } : Jvm.MethodName)) ∈ lw_tbl := lw_at lw_m4 1 rfl
theorem q839 : (Jvm.Cond.instanceMethod ({ cls := "LeftUndoes", name := "want", desc := "(Ljava/lang/String;)V" } : Jvm.MethodName)) ∈ lw_all := lw_g (lw_at lw_m4 2 rfl) rfl
theorem q840 : (Jvm.Cond.code ({ cls := "LeftUndoes", name := "want", desc := "(Ljava/lang/String;)V" } : Jvm.MethodName) prog_1_method_28_code (2 : Nat) (Option.none : Option Jvm.ClassFile.FieldType)) ∈ lw_all := lw_g (lw_at lw_m4 3 rfl) rfl
theorem q841 : (Jvm.Cond.methodLink "LeftUndoes" (297 : Nat) ({ cls := "LeftUndoes", name := "value", desc := "()LLeftUndoes$Value;" } : Jvm.MethodName)) ∈ lw_all := lw_g (lw_at lw_m4 4 rfl) rfl
theorem q842 : (Jvm.Cond.privateMethod ({ cls := "LeftUndoes", name := "value", desc := "()LLeftUndoes$Value;" } : Jvm.MethodName)) ∈ lw_tbl := lw_at lw_m4 5 rfl
theorem q843 : (Jvm.Cond.instanceMethod ({ cls := "LeftUndoes", name := "value", desc := "()LLeftUndoes$Value;" } : Jvm.MethodName)) ∈ lw_all := lw_g (lw_at lw_m4 6 rfl) rfl
theorem q844 : (Jvm.Cond.code ({ cls := "LeftUndoes", name := "value", desc := "()LLeftUndoes$Value;" } : Jvm.MethodName) prog_1_method_31_code (2 : Nat) (Option.some (Jvm.ClassFile.FieldType.object "LeftUndoes$Value"))) ∈ lw_all := lw_g (lw_at lw_m4 7 rfl) rfl
theorem q845 : (Jvm.Cond.classLink "LeftUndoes" (269 : Nat) "LeftUndoes$Value") ∈ lw_all := lw_g (lw_at lw_m4 8 rfl) rfl
theorem q847 : (Jvm.Cond.methodLink "LeftUndoes" (271 : Nat) ({ cls := "LeftUndoes$Value", name := "<init>", desc := "(II)V" } : Jvm.MethodName)) ∈ lw_all := lw_g (lw_at lw_m4 10 rfl) rfl
theorem q858 : (Jvm.Cond.methodLink "LeftUndoes" (272 : Nat) ({ cls := "LeftUndoes", name := "figure", desc := "()I" } : Jvm.MethodName)) ∈ lw_all := lw_g (lw_at lw_m4 21 rfl) rfl
theorem q859 : (Jvm.Cond.privateMethod ({ cls := "LeftUndoes", name := "figure", desc := "()I" } : Jvm.MethodName)) ∈ lw_tbl := lw_at lw_m4 22 rfl
theorem q860 : (Jvm.Cond.instanceMethod ({ cls := "LeftUndoes", name := "figure", desc := "()I" } : Jvm.MethodName)) ∈ lw_all := lw_g (lw_at lw_m4 23 rfl) rfl
theorem q861 : (Jvm.Cond.code ({ cls := "LeftUndoes", name := "figure", desc := "()I" } : Jvm.MethodName) prog_1_method_29_code (4 : Nat) (Option.some Jvm.ClassFile.FieldType.int)) ∈ lw_all := lw_g (lw_at lw_m4 24 rfl) rfl
theorem q862 : (Jvm.Cond.classLink "LeftUndoes" (301 : Nat) "LeftUndoes$Asks") ∈ lw_all := lw_g (lw_at lw_m4 25 rfl) rfl
theorem q864 : (Jvm.Cond.methodLink "LeftUndoes" (303 : Nat) ({ cls := "LeftUndoes$Asks", name := "<init>", desc := "(LLeftUndoes$Value;ILLeftUndoes$Value;)V" } : Jvm.MethodName)) ∈ lw_all := lw_g (lw_at lw_m4 27 rfl) rfl
theorem q878 : (Jvm.Cond.stringRef "LeftUndoes" (306 : Nat) "and") ∈ lw_tbl := lw_at lw_m4 41 rfl
theorem q879 : (Jvm.Cond.classLink "LeftUndoes" (308 : Nat) "LeftUndoes$All") ∈ lw_all := lw_g (lw_at lw_m4 42 rfl) rfl
theorem q881 : (Jvm.Cond.methodLink "LeftUndoes" (310 : Nat) ({ cls := "LeftUndoes$All", name := "<init>", desc := "(LLeftUndoes$Cond;LLeftUndoes$Cond;)V" } : Jvm.MethodName)) ∈ lw_all := lw_g (lw_at lw_m4 44 rfl) rfl
theorem q896 : (Jvm.Cond.stringRef "LeftUndoes" (316 : Nat) "or") ∈ lw_tbl := lw_at lw_m4 59 rfl
theorem q897 : (Jvm.Cond.classLink "LeftUndoes" (318 : Nat) "LeftUndoes$Some") ∈ lw_all := lw_g (lw_at lw_m4 60 rfl) rfl
theorem q899 : (Jvm.Cond.methodLink "LeftUndoes" (320 : Nat) ({ cls := "LeftUndoes$Some", name := "<init>", desc := "(LLeftUndoes$Cond;LLeftUndoes$Cond;)V" } : Jvm.MethodName)) ∈ lw_all := lw_g (lw_at lw_m4 62 rfl) rfl
theorem q906 : (Jvm.Cond.methodLink "LeftUndoes" (323 : Nat) ({ cls := "LeftUndoes", name := "upTo", desc := "(I)I" } : Jvm.MethodName)) ∈ lw_all := lw_g (lw_at lw_m4 69 rfl) rfl
theorem q907 : (Jvm.Cond.privateMethod ({ cls := "LeftUndoes", name := "upTo", desc := "(I)I" } : Jvm.MethodName)) ∈ lw_tbl := lw_at lw_m4 70 rfl
theorem q908 : (Jvm.Cond.instanceMethod ({ cls := "LeftUndoes", name := "upTo", desc := "(I)I" } : Jvm.MethodName)) ∈ lw_all := lw_g (lw_at lw_m4 71 rfl) rfl
theorem q909 : (Jvm.Cond.code ({ cls := "LeftUndoes", name := "upTo", desc := "(I)I" } : Jvm.MethodName) prog_1_method_35_code (4 : Nat) (Option.some Jvm.ClassFile.FieldType.int)) ∈ lw_all := lw_g (lw_at lw_m4 72 rfl) rfl
theorem q910 : (Jvm.Cond.stringRef "LeftUndoes" (326 : Nat) ";") ∈ lw_tbl := lw_at lw_m4 73 rfl
theorem q912 : (Jvm.Cond.methodLink "LeftUndoes" (330 : Nat) ({ cls := "LeftUndoes$Rule", name := "<init>", desc := "(ILLeftUndoes$Cond;II)V" } : Jvm.MethodName)) ∈ lw_all := lw_g (lw_at lw_m4 75 rfl) rfl
theorem q918 : (Jvm.Cond.fieldLink "LeftUndoes" (358 : Nat) "LeftUndoes$Rule" "does" "I") ∈ lw_all := lw_g (lw_at lw_m4 81 rfl) rfl
theorem q930 : (Jvm.Cond.methodLink "LeftUndoes" (337 : Nat) ({ cls := "java/lang/System", name := "arraycopy", desc := "(Ljava/lang/Object;ILjava/lang/Object;II)V" } : Jvm.MethodName)) ∈ lw_all := lw_g (lw_at lw_m4 93 rfl) rfl
theorem q934 : (Jvm.Cond.instanceMethod ({ cls := "LeftUndoes", name := "year", desc := "()I" } : Jvm.MethodName)) ∈ lw_all := lw_g (lw_at lw_m4 97 rfl) rfl
theorem q935 : (Jvm.Cond.selects "LeftUndoes" ({ cls := "LeftUndoes", name := "year", desc := "()I" } : Jvm.MethodName) ({ cls := "LeftUndoes", name := "year", desc := "()I" } : Jvm.MethodName)) ∈ lw_all := lw_g (lw_at lw_m4 98 rfl) rfl
theorem q936 : (Jvm.Cond.code ({ cls := "LeftUndoes", name := "year", desc := "()I" } : Jvm.MethodName) prog_1_method_49_code (1 : Nat) (Option.some Jvm.ClassFile.FieldType.int)) ∈ lw_all := lw_g (lw_at lw_m4 99 rfl) rfl
theorem q937 : (Jvm.Cond.methodLink "LeftUndoes" (380 : Nat) ({ cls := "LeftUndoes", name := "goes", desc := "(I)I" } : Jvm.MethodName)) ∈ lw_all := lw_g (lw_at lw_m4 100 rfl) rfl
theorem q938 : (Jvm.Cond.privateMethod ({ cls := "LeftUndoes", name := "goes", desc := "(I)I" } : Jvm.MethodName)) ∈ lw_tbl := lw_at lw_m4 101 rfl
theorem q939 : (Jvm.Cond.instanceMethod ({ cls := "LeftUndoes", name := "goes", desc := "(I)I" } : Jvm.MethodName)) ∈ lw_all := lw_g (lw_at lw_m4 102 rfl) rfl
theorem q940 : (Jvm.Cond.code ({ cls := "LeftUndoes", name := "goes", desc := "(I)I" } : Jvm.MethodName) prog_1_method_48_code (3 : Nat) (Option.some Jvm.ClassFile.FieldType.int)) ∈ lw_all := lw_g (lw_at lw_m4 103 rfl) rfl
theorem q941 : (Jvm.Cond.methodLink "LeftUndoes" (377 : Nat) ({ cls := "LeftUndoes", name := "passes", desc := "(I)I" } : Jvm.MethodName)) ∈ lw_all := lw_g (lw_at lw_m4 104 rfl) rfl
theorem q942 : (Jvm.Cond.privateMethod ({ cls := "LeftUndoes", name := "passes", desc := "(I)I" } : Jvm.MethodName)) ∈ lw_tbl := lw_at lw_m4 105 rfl
theorem q943 : (Jvm.Cond.instanceMethod ({ cls := "LeftUndoes", name := "passes", desc := "(I)I" } : Jvm.MethodName)) ∈ lw_all := lw_g (lw_at lw_m4 106 rfl) rfl
theorem q944 : (Jvm.Cond.code ({ cls := "LeftUndoes", name := "passes", desc := "(I)I" } : Jvm.MethodName) prog_1_method_46_code (4 : Nat) (Option.some Jvm.ClassFile.FieldType.int)) ∈ lw_all := lw_g (lw_at lw_m4 107 rfl) rfl
theorem q945 : (Jvm.Cond.methodLink "LeftUndoes" (367 : Nat) ({ cls := "LeftUndoes", name := "rightHands", desc := "()V" } : Jvm.MethodName)) ∈ lw_all := lw_g (lw_at lw_m4 108 rfl) rfl
theorem q946 : (Jvm.Cond.privateMethod ({ cls := "LeftUndoes", name := "rightHands", desc := "()V" } : Jvm.MethodName)) ∈ lw_tbl := lw_at lw_m4 109 rfl
theorem q947 : (Jvm.Cond.instanceMethod ({ cls := "LeftUndoes", name := "rightHands", desc := "()V" } : Jvm.MethodName)) ∈ lw_all := lw_g (lw_at lw_m4 110 rfl) rfl
theorem q948 : (Jvm.Cond.code ({ cls := "LeftUndoes", name := "rightHands", desc := "()V" } : Jvm.MethodName) prog_1_method_43_code (2 : Nat) (Option.none : Option Jvm.ClassFile.FieldType)) ∈ lw_all := lw_g (lw_at lw_m4 111 rfl) rfl
theorem q949 : (Jvm.Cond.methodLink "LeftUndoes" (370 : Nat) ({ cls := "LeftUndoes", name := "undo", desc := "(I)V" } : Jvm.MethodName)) ∈ lw_all := lw_g (lw_at lw_m4 112 rfl) rfl
theorem q950 : (Jvm.Cond.privateMethod ({ cls := "LeftUndoes", name := "undo", desc := "(I)V" } : Jvm.MethodName)) ∈ lw_tbl := lw_at lw_m4 113 rfl
theorem q951 : (Jvm.Cond.instanceMethod ({ cls := "LeftUndoes", name := "undo", desc := "(I)V" } : Jvm.MethodName)) ∈ lw_all := lw_g (lw_at lw_m4 114 rfl) rfl
theorem q952 : (Jvm.Cond.code ({ cls := "LeftUndoes", name := "undo", desc := "(I)V" } : Jvm.MethodName) prog_1_method_42_code (5 : Nat) (Option.none : Option Jvm.ClassFile.FieldType)) ∈ lw_all := lw_g (lw_at lw_m4 115 rfl) rfl
theorem q953 : (Jvm.Cond.methodLink "LeftUndoes" (373 : Nat) ({ cls := "LeftUndoes", name := "isOverdue", desc := "(II)Z" } : Jvm.MethodName)) ∈ lw_all := lw_g (lw_at lw_m4 116 rfl) rfl
theorem q954 : (Jvm.Cond.privateMethod ({ cls := "LeftUndoes", name := "isOverdue", desc := "(II)Z" } : Jvm.MethodName)) ∈ lw_tbl := lw_at lw_m4 117 rfl
theorem q955 : (Jvm.Cond.instanceMethod ({ cls := "LeftUndoes", name := "isOverdue", desc := "(II)Z" } : Jvm.MethodName)) ∈ lw_all := lw_g (lw_at lw_m4 118 rfl) rfl
theorem q956 : (Jvm.Cond.code ({ cls := "LeftUndoes", name := "isOverdue", desc := "(II)Z" } : Jvm.MethodName) prog_1_method_44_code (3 : Nat) (Option.some Jvm.ClassFile.FieldType.boolean)) ∈ lw_all := lw_g (lw_at lw_m4 119 rfl) rfl
theorem q958 : (Jvm.Cond.instanceMethod ({ cls := "LeftUndoes", name := "standing", desc := "(I)I" } : Jvm.MethodName)) ∈ lw_all := lw_g (lw_at lw_m4 121 rfl) rfl
theorem q959 : (Jvm.Cond.selects "LeftUndoes" ({ cls := "LeftUndoes", name := "standing", desc := "(I)I" } : Jvm.MethodName) ({ cls := "LeftUndoes", name := "standing", desc := "(I)I" } : Jvm.MethodName)) ∈ lw_all := lw_g (lw_at lw_m4 122 rfl) rfl
theorem q960 : (Jvm.Cond.code ({ cls := "LeftUndoes", name := "standing", desc := "(I)I" } : Jvm.MethodName) prog_1_method_51_code (2 : Nat) (Option.some Jvm.ClassFile.FieldType.int)) ∈ lw_all := lw_g (lw_at lw_m4 123 rfl) rfl
theorem q961 : (Jvm.Cond.methodLink "LeftUndoes" (383 : Nat) ({ cls := "LeftUndoes", name := "setOf", desc := "(I)I" } : Jvm.MethodName)) ∈ lw_all := lw_g (lw_at lw_m4 124 rfl) rfl
theorem q962 : (Jvm.Cond.privateMethod ({ cls := "LeftUndoes", name := "setOf", desc := "(I)I" } : Jvm.MethodName)) ∈ lw_tbl := lw_at lw_m4 125 rfl
theorem q963 : (Jvm.Cond.instanceMethod ({ cls := "LeftUndoes", name := "setOf", desc := "(I)I" } : Jvm.MethodName)) ∈ lw_all := lw_g (lw_at lw_m4 126 rfl) rfl
theorem q964 : (Jvm.Cond.code ({ cls := "LeftUndoes", name := "setOf", desc := "(I)I" } : Jvm.MethodName) prog_1_method_50_code (4 : Nat) (Option.some Jvm.ClassFile.FieldType.int)) ∈ lw_all := lw_g (lw_at lw_m4 127 rfl) rfl
theorem q966 : (Jvm.Cond.instanceMethod ({ cls := "LeftUndoes", name := "leaves", desc := "(I)I" } : Jvm.MethodName)) ∈ lw_all := lw_g (lw_at lw_m4 129 rfl) rfl
theorem q967 : (Jvm.Cond.selects "LeftUndoes" ({ cls := "LeftUndoes", name := "leaves", desc := "(I)I" } : Jvm.MethodName) ({ cls := "LeftUndoes", name := "leaves", desc := "(I)I" } : Jvm.MethodName)) ∈ lw_all := lw_g (lw_at lw_m4 130 rfl) rfl
theorem q968 : (Jvm.Cond.code ({ cls := "LeftUndoes", name := "leaves", desc := "(I)I" } : Jvm.MethodName) prog_1_method_54_code (4 : Nat) (Option.some Jvm.ClassFile.FieldType.int)) ∈ lw_all := lw_g (lw_at lw_m4 131 rfl) rfl
theorem q969 : (Jvm.Cond.methodLink "LeftUndoes" (386 : Nat) ({ cls := "LeftUndoes$Town", name := "become", desc := "(LLeftUndoes$Town;)V" } : Jvm.MethodName)) ∈ lw_all := lw_g (lw_at lw_m4 132 rfl) rfl
theorem q974 : (Jvm.Cond.methodLink "LeftUndoes" (390 : Nat) ({ cls := "LeftUndoes", name := "runs", desc := "(I)I" } : Jvm.MethodName)) ∈ lw_all := lw_g (lw_at lw_m4 137 rfl) rfl
theorem q975 : (Jvm.Cond.privateMethod ({ cls := "LeftUndoes", name := "runs", desc := "(I)I" } : Jvm.MethodName)) ∈ lw_tbl := lw_at lw_m4 138 rfl
theorem q976 : (Jvm.Cond.instanceMethod ({ cls := "LeftUndoes", name := "runs", desc := "(I)I" } : Jvm.MethodName)) ∈ lw_all := lw_g (lw_at lw_m4 139 rfl) rfl
theorem q977 : (Jvm.Cond.code ({ cls := "LeftUndoes", name := "runs", desc := "(I)I" } : Jvm.MethodName) prog_1_method_52_code (4 : Nat) (Option.some Jvm.ClassFile.FieldType.int)) ∈ lw_all := lw_g (lw_at lw_m4 140 rfl) rfl
theorem q979 : (Jvm.Cond.instanceMethod ({ cls := "LeftUndoes", name := "on", desc := "(I)I" } : Jvm.MethodName)) ∈ lw_all := lw_g (lw_at lw_m4 142 rfl) rfl
theorem q980 : (Jvm.Cond.selects "LeftUndoes" ({ cls := "LeftUndoes", name := "on", desc := "(I)I" } : Jvm.MethodName) ({ cls := "LeftUndoes", name := "on", desc := "(I)I" } : Jvm.MethodName)) ∈ lw_all := lw_g (lw_at lw_m4 143 rfl) rfl
theorem q981 : (Jvm.Cond.code ({ cls := "LeftUndoes", name := "on", desc := "(I)I" } : Jvm.MethodName) prog_1_method_55_code (3 : Nat) (Option.some Jvm.ClassFile.FieldType.int)) ∈ lw_all := lw_g (lw_at lw_m4 144 rfl) rfl
theorem q983 : (Jvm.Cond.instanceMethod ({ cls := "LeftUndoes", name := "until", desc := "(I)I" } : Jvm.MethodName)) ∈ lw_all := lw_g (lw_at lw_m4 146 rfl) rfl
theorem q984 : (Jvm.Cond.selects "LeftUndoes" ({ cls := "LeftUndoes", name := "until", desc := "(I)I" } : Jvm.MethodName) ({ cls := "LeftUndoes", name := "until", desc := "(I)I" } : Jvm.MethodName)) ∈ lw_all := lw_g (lw_at lw_m4 147 rfl) rfl
theorem q985 : (Jvm.Cond.code ({ cls := "LeftUndoes", name := "until", desc := "(I)I" } : Jvm.MethodName) prog_1_method_56_code (5 : Nat) (Option.some Jvm.ClassFile.FieldType.int)) ∈ lw_all := lw_g (lw_at lw_m4 148 rfl) rfl
theorem q987 : (Jvm.Cond.instanceMethod ({ cls := "LeftUndoes", name := "overdue", desc := "()I" } : Jvm.MethodName)) ∈ lw_all := lw_g (lw_at lw_m4 150 rfl) rfl
theorem q988 : (Jvm.Cond.selects "LeftUndoes" ({ cls := "LeftUndoes", name := "overdue", desc := "()I" } : Jvm.MethodName) ({ cls := "LeftUndoes", name := "overdue", desc := "()I" } : Jvm.MethodName)) ∈ lw_all := lw_g (lw_at lw_m4 151 rfl) rfl
theorem q989 : (Jvm.Cond.code ({ cls := "LeftUndoes", name := "overdue", desc := "()I" } : Jvm.MethodName) prog_1_method_58_code (1 : Nat) (Option.some Jvm.ClassFile.FieldType.int)) ∈ lw_all := lw_g (lw_at lw_m4 152 rfl) rfl
theorem q990 : (Jvm.Cond.methodLink "LeftUndoes" (393 : Nat) ({ cls := "LeftUndoes", name := "lateSet", desc := "()I" } : Jvm.MethodName)) ∈ lw_all := lw_g (lw_at lw_m4 153 rfl) rfl
theorem q991 : (Jvm.Cond.privateMethod ({ cls := "LeftUndoes", name := "lateSet", desc := "()I" } : Jvm.MethodName)) ∈ lw_tbl := lw_at lw_m4 154 rfl
theorem q992 : (Jvm.Cond.instanceMethod ({ cls := "LeftUndoes", name := "lateSet", desc := "()I" } : Jvm.MethodName)) ∈ lw_all := lw_g (lw_at lw_m4 155 rfl) rfl
theorem q993 : (Jvm.Cond.code ({ cls := "LeftUndoes", name := "lateSet", desc := "()I" } : Jvm.MethodName) prog_1_method_57_code (4 : Nat) (Option.some Jvm.ClassFile.FieldType.int)) ∈ lw_all := lw_g (lw_at lw_m4 156 rfl) rfl
theorem q995 : (Jvm.Cond.instanceMethod ({ cls := "LeftUndoes", name := "falls", desc := "(I)I" } : Jvm.MethodName)) ∈ lw_all := lw_g (lw_at lw_m4 158 rfl) rfl
theorem q996 : (Jvm.Cond.selects "LeftUndoes" ({ cls := "LeftUndoes", name := "falls", desc := "(I)I" } : Jvm.MethodName) ({ cls := "LeftUndoes", name := "falls", desc := "(I)I" } : Jvm.MethodName)) ∈ lw_all := lw_g (lw_at lw_m4 159 rfl) rfl
theorem q997 : (Jvm.Cond.code ({ cls := "LeftUndoes", name := "falls", desc := "(I)I" } : Jvm.MethodName) prog_1_method_59_code (4 : Nat) (Option.some Jvm.ClassFile.FieldType.int)) ∈ lw_all := lw_g (lw_at lw_m4 160 rfl) rfl
theorem q998 : (Jvm.Cond.methodLink "LeftUndoes" (396 : Nat) ({ cls := "LeftUndoes", name := "saves", desc := "(I)V" } : Jvm.MethodName)) ∈ lw_all := lw_g (lw_at lw_m4 161 rfl) rfl
theorem q999 : (Jvm.Cond.privateMethod ({ cls := "LeftUndoes", name := "saves", desc := "(I)V" } : Jvm.MethodName)) ∈ lw_tbl := lw_at lw_m4 162 rfl
theorem q1000 : (Jvm.Cond.instanceMethod ({ cls := "LeftUndoes", name := "saves", desc := "(I)V" } : Jvm.MethodName)) ∈ lw_all := lw_g (lw_at lw_m4 163 rfl) rfl
theorem q1001 : (Jvm.Cond.code ({ cls := "LeftUndoes", name := "saves", desc := "(I)V" } : Jvm.MethodName) prog_1_method_45_code (2 : Nat) (Option.none : Option Jvm.ClassFile.FieldType)) ∈ lw_all := lw_g (lw_at lw_m4 164 rfl) rfl
theorem q1003 : (Jvm.Cond.instanceMethod ({ cls := "LeftUndoes", name := "graceFor", desc := "(I)I" } : Jvm.MethodName)) ∈ lw_all := lw_g (lw_at lw_m4 166 rfl) rfl
theorem q1004 : (Jvm.Cond.selects "LeftUndoes" ({ cls := "LeftUndoes", name := "graceFor", desc := "(I)I" } : Jvm.MethodName) ({ cls := "LeftUndoes", name := "graceFor", desc := "(I)I" } : Jvm.MethodName)) ∈ lw_all := lw_g (lw_at lw_m4 167 rfl) rfl
theorem q1005 : (Jvm.Cond.codeWith ({ cls := "LeftUndoes", name := "graceFor", desc := "(I)I" } : Jvm.MethodName) prog_1_method_60_code (8 : Nat) (Option.some Jvm.ClassFile.FieldType.int) [((25 : Nat), (89 : Nat), (107 : Nat), (0 : Nat)), ((107 : Nat), (109 : Nat), (107 : Nat), (0 : Nat))]) ∈ lw_all := lw_g (lw_at lw_m4 168 rfl) rfl
theorem q1006 : (Jvm.Cond.methodLink "LeftUndoes" (399 : Nat) ({ cls := "LeftUndoes", name := "restWorth", desc := "()I" } : Jvm.MethodName)) ∈ lw_all := lw_g (lw_at lw_m4 169 rfl) rfl
theorem q1007 : (Jvm.Cond.privateMethod ({ cls := "LeftUndoes", name := "restWorth", desc := "()I" } : Jvm.MethodName)) ∈ lw_tbl := lw_at lw_m4 170 rfl
theorem q1008 : (Jvm.Cond.instanceMethod ({ cls := "LeftUndoes", name := "restWorth", desc := "()I" } : Jvm.MethodName)) ∈ lw_all := lw_g (lw_at lw_m4 171 rfl) rfl
theorem q1009 : (Jvm.Cond.code ({ cls := "LeftUndoes", name := "restWorth", desc := "()I" } : Jvm.MethodName) prog_1_method_53_code (2 : Nat) (Option.some Jvm.ClassFile.FieldType.int)) ∈ lw_all := lw_g (lw_at lw_m4 172 rfl) rfl
theorem q1010 : (Jvm.Cond.methodLink "LeftUndoes" (402 : Nat) ({ cls := "java/lang/Math", name := "max", desc := "(II)I" } : Jvm.MethodName)) ∈ lw_all := lw_g (lw_at lw_m4 173 rfl) rfl
theorem q1014 : (Jvm.Cond.instanceMethod ({ cls := "LeftUndoes", name := "strengthFor", desc := "(I)I" } : Jvm.MethodName)) ∈ lw_all := lw_g (lw_at lw_m4 177 rfl) rfl
theorem q1015 : (Jvm.Cond.selects "LeftUndoes" ({ cls := "LeftUndoes", name := "strengthFor", desc := "(I)I" } : Jvm.MethodName) ({ cls := "LeftUndoes", name := "strengthFor", desc := "(I)I" } : Jvm.MethodName)) ∈ lw_all := lw_g (lw_at lw_m4 178 rfl) rfl
theorem q1016 : (Jvm.Cond.codeWith ({ cls := "LeftUndoes", name := "strengthFor", desc := "(I)I" } : Jvm.MethodName) prog_1_method_61_code (5 : Nat) (Option.some Jvm.ClassFile.FieldType.int) [((20 : Nat), (65 : Nat), (108 : Nat), (0 : Nat)), ((77 : Nat), (96 : Nat), (108 : Nat), (0 : Nat)), ((108 : Nat), (110 : Nat), (108 : Nat), (0 : Nat))]) ∈ lw_all := lw_g (lw_at lw_m4 179 rfl) rfl
theorem q1018 : (Jvm.Cond.instanceMethod ({ cls := "LeftUndoes", name := "owe", desc := "(III)I" } : Jvm.MethodName)) ∈ lw_all := lw_g (lw_at lw_m4 181 rfl) rfl
theorem q1019 : (Jvm.Cond.selects "LeftUndoes" ({ cls := "LeftUndoes", name := "owe", desc := "(III)I" } : Jvm.MethodName) ({ cls := "LeftUndoes", name := "owe", desc := "(III)I" } : Jvm.MethodName)) ∈ lw_all := lw_g (lw_at lw_m4 182 rfl) rfl
theorem q1020 : (Jvm.Cond.code ({ cls := "LeftUndoes", name := "owe", desc := "(III)I" } : Jvm.MethodName) prog_1_method_63_code (5 : Nat) (Option.some Jvm.ClassFile.FieldType.int)) ∈ lw_all := lw_g (lw_at lw_m4 183 rfl) rfl
theorem q1021 : (Jvm.Cond.methodLink "LeftUndoes" (407 : Nat) ({ cls := "LeftUndoes", name := "areTwo", desc := "(II)Z" } : Jvm.MethodName)) ∈ lw_all := lw_g (lw_at lw_m4 184 rfl) rfl
theorem q1022 : (Jvm.Cond.privateMethod ({ cls := "LeftUndoes", name := "areTwo", desc := "(II)Z" } : Jvm.MethodName)) ∈ lw_tbl := lw_at lw_m4 185 rfl
theorem q1023 : (Jvm.Cond.instanceMethod ({ cls := "LeftUndoes", name := "areTwo", desc := "(II)Z" } : Jvm.MethodName)) ∈ lw_all := lw_g (lw_at lw_m4 186 rfl) rfl
theorem q1024 : (Jvm.Cond.code ({ cls := "LeftUndoes", name := "areTwo", desc := "(II)Z" } : Jvm.MethodName) prog_1_method_62_code (3 : Nat) (Option.some Jvm.ClassFile.FieldType.boolean)) ∈ lw_all := lw_g (lw_at lw_m4 187 rfl) rfl
theorem q1026 : (Jvm.Cond.instanceMethod ({ cls := "LeftUndoes", name := "owes", desc := "(II)I" } : Jvm.MethodName)) ∈ lw_all := lw_g (lw_at lw_m4 189 rfl) rfl
theorem q1027 : (Jvm.Cond.selects "LeftUndoes" ({ cls := "LeftUndoes", name := "owes", desc := "(II)I" } : Jvm.MethodName) ({ cls := "LeftUndoes", name := "owes", desc := "(II)I" } : Jvm.MethodName)) ∈ lw_all := lw_g (lw_at lw_m4 190 rfl) rfl
theorem q1028 : (Jvm.Cond.code ({ cls := "LeftUndoes", name := "owes", desc := "(II)I" } : Jvm.MethodName) prog_1_method_64_code (3 : Nat) (Option.some Jvm.ClassFile.FieldType.int)) ∈ lw_all := lw_g (lw_at lw_m4 191 rfl) rfl
theorem q1030 : (Jvm.Cond.instanceMethod ({ cls := "LeftUndoes", name := "net", desc := "(I)I" } : Jvm.MethodName)) ∈ lw_all := lw_g (lw_at lw_m4 193 rfl) rfl
theorem q1031 : (Jvm.Cond.selects "LeftUndoes" ({ cls := "LeftUndoes", name := "net", desc := "(I)I" } : Jvm.MethodName) ({ cls := "LeftUndoes", name := "net", desc := "(I)I" } : Jvm.MethodName)) ∈ lw_all := lw_g (lw_at lw_m4 194 rfl) rfl
theorem q1032 : (Jvm.Cond.code ({ cls := "LeftUndoes", name := "net", desc := "(I)I" } : Jvm.MethodName) prog_1_method_66_code (2 : Nat) (Option.some Jvm.ClassFile.FieldType.int)) ∈ lw_all := lw_g (lw_at lw_m4 195 rfl) rfl
theorem q1033 : (Jvm.Cond.methodLink "LeftUndoes" (413 : Nat) ({ cls := "LeftUndoes", name := "netOf", desc := "(I)I" } : Jvm.MethodName)) ∈ lw_all := lw_g (lw_at lw_m4 196 rfl) rfl
theorem q1034 : (Jvm.Cond.privateMethod ({ cls := "LeftUndoes", name := "netOf", desc := "(I)I" } : Jvm.MethodName)) ∈ lw_tbl := lw_at lw_m4 197 rfl
theorem q1035 : (Jvm.Cond.instanceMethod ({ cls := "LeftUndoes", name := "netOf", desc := "(I)I" } : Jvm.MethodName)) ∈ lw_all := lw_g (lw_at lw_m4 198 rfl) rfl
theorem q1036 : (Jvm.Cond.code ({ cls := "LeftUndoes", name := "netOf", desc := "(I)I" } : Jvm.MethodName) prog_1_method_65_code (4 : Nat) (Option.some Jvm.ClassFile.FieldType.int)) ∈ lw_all := lw_g (lw_at lw_m4 199 rfl) rfl
theorem q1038 : (Jvm.Cond.instanceMethod ({ cls := "LeftUndoes", name := "ring", desc := "(I)I" } : Jvm.MethodName)) ∈ lw_all := lw_g (lw_at lw_m4 201 rfl) rfl
theorem q1039 : (Jvm.Cond.selects "LeftUndoes" ({ cls := "LeftUndoes", name := "ring", desc := "(I)I" } : Jvm.MethodName) ({ cls := "LeftUndoes", name := "ring", desc := "(I)I" } : Jvm.MethodName)) ∈ lw_all := lw_g (lw_at lw_m4 202 rfl) rfl
theorem q1040 : (Jvm.Cond.code ({ cls := "LeftUndoes", name := "ring", desc := "(I)I" } : Jvm.MethodName) prog_1_method_68_code (4 : Nat) (Option.some Jvm.ClassFile.FieldType.int)) ∈ lw_all := lw_g (lw_at lw_m4 203 rfl) rfl
theorem q1041 : (Jvm.Cond.methodLink "LeftUndoes" (416 : Nat) ({ cls := "LeftUndoes", name := "reached", desc := "(I)I" } : Jvm.MethodName)) ∈ lw_all := lw_g (lw_at lw_m4 204 rfl) rfl
theorem q1042 : (Jvm.Cond.privateMethod ({ cls := "LeftUndoes", name := "reached", desc := "(I)I" } : Jvm.MethodName)) ∈ lw_tbl := lw_at lw_m4 205 rfl
theorem q1043 : (Jvm.Cond.instanceMethod ({ cls := "LeftUndoes", name := "reached", desc := "(I)I" } : Jvm.MethodName)) ∈ lw_all := lw_g (lw_at lw_m4 206 rfl) rfl
theorem q1044 : (Jvm.Cond.code ({ cls := "LeftUndoes", name := "reached", desc := "(I)I" } : Jvm.MethodName) prog_1_method_67_code (4 : Nat) (Option.some Jvm.ClassFile.FieldType.int)) ∈ lw_all := lw_g (lw_at lw_m4 207 rfl) rfl
theorem q1046 : (Jvm.Cond.instanceMethod ({ cls := "LeftUndoes", name := "payments", desc := "()I" } : Jvm.MethodName)) ∈ lw_all := lw_g (lw_at lw_m4 209 rfl) rfl
theorem q1047 : (Jvm.Cond.selects "LeftUndoes" ({ cls := "LeftUndoes", name := "payments", desc := "()I" } : Jvm.MethodName) ({ cls := "LeftUndoes", name := "payments", desc := "()I" } : Jvm.MethodName)) ∈ lw_all := lw_g (lw_at lw_m4 210 rfl) rfl
theorem q1048 : (Jvm.Cond.code ({ cls := "LeftUndoes", name := "payments", desc := "()I" } : Jvm.MethodName) prog_1_method_69_code (6 : Nat) (Option.some Jvm.ClassFile.FieldType.int)) ∈ lw_all := lw_g (lw_at lw_m4 211 rfl) rfl
theorem q1049 : (Jvm.Cond.methodLink "LeftUndoes" (419 : Nat) ({ cls := "java/lang/Integer", name := "bitCount", desc := "(I)I" } : Jvm.MethodName)) ∈ lw_all := lw_g (lw_at lw_m4 212 rfl) rfl
theorem q1056 : (Jvm.Cond.instanceMethod ({ cls := "LeftUndoes", name := "best", desc := "(I)I" } : Jvm.MethodName)) ∈ lw_all := lw_g (lw_at lw_m4 219 rfl) rfl
theorem q1057 : (Jvm.Cond.selects "LeftUndoes" ({ cls := "LeftUndoes", name := "best", desc := "(I)I" } : Jvm.MethodName) ({ cls := "LeftUndoes", name := "best", desc := "(I)I" } : Jvm.MethodName)) ∈ lw_all := lw_g (lw_at lw_m4 220 rfl) rfl
theorem q1058 : (Jvm.Cond.code ({ cls := "LeftUndoes", name := "best", desc := "(I)I" } : Jvm.MethodName) prog_1_method_73_code (2 : Nat) (Option.some Jvm.ClassFile.FieldType.int)) ∈ lw_all := lw_g (lw_at lw_m4 221 rfl) rfl
theorem q1059 : (Jvm.Cond.methodLink "LeftUndoes" (440 : Nat) ({ cls := "LeftUndoes", name := "findPlans", desc := "(I)V" } : Jvm.MethodName)) ∈ lw_all := lw_g (lw_at lw_m4 222 rfl) rfl
theorem q1060 : (Jvm.Cond.privateMethod ({ cls := "LeftUndoes", name := "findPlans", desc := "(I)V" } : Jvm.MethodName)) ∈ lw_tbl := lw_at lw_m4 223 rfl
theorem q1061 : (Jvm.Cond.instanceMethod ({ cls := "LeftUndoes", name := "findPlans", desc := "(I)V" } : Jvm.MethodName)) ∈ lw_all := lw_g (lw_at lw_m4 224 rfl) rfl
theorem q1062 : (Jvm.Cond.code ({ cls := "LeftUndoes", name := "findPlans", desc := "(I)V" } : Jvm.MethodName) prog_1_method_72_code (2 : Nat) (Option.none : Option Jvm.ClassFile.FieldType)) ∈ lw_all := lw_g (lw_at lw_m4 225 rfl) rfl
theorem q1063 : (Jvm.Cond.methodLink "LeftUndoes" (433 : Nat) ({ cls := "LeftUndoes", name := "plansFrom", desc := "(III)V" } : Jvm.MethodName)) ∈ lw_all := lw_g (lw_at lw_m4 226 rfl) rfl
theorem q1064 : (Jvm.Cond.privateMethod ({ cls := "LeftUndoes", name := "plansFrom", desc := "(III)V" } : Jvm.MethodName)) ∈ lw_tbl := lw_at lw_m4 227 rfl
theorem q1065 : (Jvm.Cond.instanceMethod ({ cls := "LeftUndoes", name := "plansFrom", desc := "(III)V" } : Jvm.MethodName)) ∈ lw_all := lw_g (lw_at lw_m4 228 rfl) rfl
theorem q1066 : (Jvm.Cond.code ({ cls := "LeftUndoes", name := "plansFrom", desc := "(III)V" } : Jvm.MethodName) prog_1_method_71_code (6 : Nat) (Option.none : Option Jvm.ClassFile.FieldType)) ∈ lw_all := lw_g (lw_at lw_m4 229 rfl) rfl
theorem q1067 : (Jvm.Cond.methodLink "LeftUndoes" (437 : Nat) ({ cls := "LeftUndoes", name := "goesBack", desc := "(I)V" } : Jvm.MethodName)) ∈ lw_all := lw_g (lw_at lw_m4 230 rfl) rfl
theorem q1068 : (Jvm.Cond.privateMethod ({ cls := "LeftUndoes", name := "goesBack", desc := "(I)V" } : Jvm.MethodName)) ∈ lw_tbl := lw_at lw_m4 231 rfl
theorem q1069 : (Jvm.Cond.instanceMethod ({ cls := "LeftUndoes", name := "goesBack", desc := "(I)V" } : Jvm.MethodName)) ∈ lw_all := lw_g (lw_at lw_m4 232 rfl) rfl
theorem q1070 : (Jvm.Cond.code ({ cls := "LeftUndoes", name := "goesBack", desc := "(I)V" } : Jvm.MethodName) prog_1_method_47_code (2 : Nat) (Option.none : Option Jvm.ClassFile.FieldType)) ∈ lw_all := lw_g (lw_at lw_m4 233 rfl) rfl
theorem q1072 : (Jvm.Cond.instanceMethod ({ cls := "LeftUndoes", name := "ith", desc := "(II)I" } : Jvm.MethodName)) ∈ lw_all := lw_g (lw_at lw_m4 235 rfl) rfl
theorem q1073 : (Jvm.Cond.selects "LeftUndoes" ({ cls := "LeftUndoes", name := "ith", desc := "(II)I" } : Jvm.MethodName) ({ cls := "LeftUndoes", name := "ith", desc := "(II)I" } : Jvm.MethodName)) ∈ lw_all := lw_g (lw_at lw_m4 236 rfl) rfl
theorem q1074 : (Jvm.Cond.code ({ cls := "LeftUndoes", name := "ith", desc := "(II)I" } : Jvm.MethodName) prog_1_method_74_code (3 : Nat) (Option.some Jvm.ClassFile.FieldType.int)) ∈ lw_all := lw_g (lw_at lw_m4 237 rfl) rfl
theorem q1076 : (Jvm.Cond.instanceMethod ({ cls := "LeftUndoes", name := "ways", desc := "(I)I" } : Jvm.MethodName)) ∈ lw_all := lw_g (lw_at lw_m4 239 rfl) rfl
theorem q1077 : (Jvm.Cond.selects "LeftUndoes" ({ cls := "LeftUndoes", name := "ways", desc := "(I)I" } : Jvm.MethodName) ({ cls := "LeftUndoes", name := "ways", desc := "(I)I" } : Jvm.MethodName)) ∈ lw_all := lw_g (lw_at lw_m5 0 rfl) rfl
theorem q1078 : (Jvm.Cond.code ({ cls := "LeftUndoes", name := "ways", desc := "(I)I" } : Jvm.MethodName) prog_1_method_75_code (2 : Nat) (Option.some Jvm.ClassFile.FieldType.int)) ∈ lw_all := lw_g (lw_at lw_m5 1 rfl) rfl
theorem q1080 : (Jvm.Cond.instanceMethod ({ cls := "LeftUndoes", name := "life", desc := "(II)I" } : Jvm.MethodName)) ∈ lw_all := lw_g (lw_at lw_m5 3 rfl) rfl
theorem q1081 : (Jvm.Cond.selects "LeftUndoes" ({ cls := "LeftUndoes", name := "life", desc := "(II)I" } : Jvm.MethodName) ({ cls := "LeftUndoes", name := "life", desc := "(II)I" } : Jvm.MethodName)) ∈ lw_all := lw_g (lw_at lw_m5 4 rfl) rfl
theorem q1082 : (Jvm.Cond.code ({ cls := "LeftUndoes", name := "life", desc := "(II)I" } : Jvm.MethodName) prog_1_method_79_code (3 : Nat) (Option.some Jvm.ClassFile.FieldType.int)) ∈ lw_all := lw_g (lw_at lw_m5 5 rfl) rfl
theorem q1083 : (Jvm.Cond.methodLink "LeftUndoes" (458 : Nat) ({ cls := "LeftUndoes", name := "isAsked", desc := "(II)Z" } : Jvm.MethodName)) ∈ lw_all := lw_g (lw_at lw_m5 6 rfl) rfl
theorem q1084 : (Jvm.Cond.privateMethod ({ cls := "LeftUndoes", name := "isAsked", desc := "(II)Z" } : Jvm.MethodName)) ∈ lw_tbl := lw_at lw_m5 7 rfl
theorem q1085 : (Jvm.Cond.instanceMethod ({ cls := "LeftUndoes", name := "isAsked", desc := "(II)Z" } : Jvm.MethodName)) ∈ lw_all := lw_g (lw_at lw_m5 8 rfl) rfl
theorem q1086 : (Jvm.Cond.code ({ cls := "LeftUndoes", name := "isAsked", desc := "(II)Z" } : Jvm.MethodName) prog_1_method_77_code (3 : Nat) (Option.some Jvm.ClassFile.FieldType.boolean)) ∈ lw_all := lw_g (lw_at lw_m5 9 rfl) rfl
theorem q1087 : (Jvm.Cond.methodLink "LeftUndoes" (461 : Nat) ({ cls := "LeftUndoes", name := "findLives", desc := "(II)V" } : Jvm.MethodName)) ∈ lw_all := lw_g (lw_at lw_m5 10 rfl) rfl
theorem q1088 : (Jvm.Cond.privateMethod ({ cls := "LeftUndoes", name := "findLives", desc := "(II)V" } : Jvm.MethodName)) ∈ lw_tbl := lw_at lw_m5 11 rfl
theorem q1089 : (Jvm.Cond.instanceMethod ({ cls := "LeftUndoes", name := "findLives", desc := "(II)V" } : Jvm.MethodName)) ∈ lw_all := lw_g (lw_at lw_m5 12 rfl) rfl
theorem q1090 : (Jvm.Cond.code ({ cls := "LeftUndoes", name := "findLives", desc := "(II)V" } : Jvm.MethodName) prog_1_method_78_code (3 : Nat) (Option.none : Option Jvm.ClassFile.FieldType)) ∈ lw_all := lw_g (lw_at lw_m5 13 rfl) rfl
theorem q1091 : (Jvm.Cond.methodLink "LeftUndoes" (455 : Nat) ({ cls := "LeftUndoes", name := "livesFrom", desc := "(III)V" } : Jvm.MethodName)) ∈ lw_all := lw_g (lw_at lw_m5 14 rfl) rfl
theorem q1092 : (Jvm.Cond.privateMethod ({ cls := "LeftUndoes", name := "livesFrom", desc := "(III)V" } : Jvm.MethodName)) ∈ lw_tbl := lw_at lw_m5 15 rfl
theorem q1093 : (Jvm.Cond.instanceMethod ({ cls := "LeftUndoes", name := "livesFrom", desc := "(III)V" } : Jvm.MethodName)) ∈ lw_all := lw_g (lw_at lw_m5 16 rfl) rfl
theorem q1094 : (Jvm.Cond.code ({ cls := "LeftUndoes", name := "livesFrom", desc := "(III)V" } : Jvm.MethodName) prog_1_method_76_code (6 : Nat) (Option.none : Option Jvm.ClassFile.FieldType)) ∈ lw_all := lw_g (lw_at lw_m5 17 rfl) rfl
theorem q1095 : (Jvm.Cond.methodLink "LeftUndoes" (452 : Nat) ({ cls := "java/lang/Math", name := "min", desc := "(II)I" } : Jvm.MethodName)) ∈ lw_all := lw_g (lw_at lw_m5 18 rfl) rfl
theorem q1099 : (Jvm.Cond.instanceMethod ({ cls := "LeftUndoes", name := "bars", desc := "(II)I" } : Jvm.MethodName)) ∈ lw_all := lw_g (lw_at lw_m5 22 rfl) rfl
theorem q1100 : (Jvm.Cond.selects "LeftUndoes" ({ cls := "LeftUndoes", name := "bars", desc := "(II)I" } : Jvm.MethodName) ({ cls := "LeftUndoes", name := "bars", desc := "(II)I" } : Jvm.MethodName)) ∈ lw_all := lw_g (lw_at lw_m5 23 rfl) rfl
theorem q1101 : (Jvm.Cond.code ({ cls := "LeftUndoes", name := "bars", desc := "(II)I" } : Jvm.MethodName) prog_1_method_80_code (4 : Nat) (Option.some Jvm.ClassFile.FieldType.int)) ∈ lw_all := lw_g (lw_at lw_m5 24 rfl) rfl
theorem q1102 : (Jvm.Cond.methodLink "LeftUndoes" (464 : Nat) ({ cls := "java/lang/Integer", name := "numberOfTrailingZeros", desc := "(I)I" } : Jvm.MethodName)) ∈ lw_all := lw_g (lw_at lw_m5 25 rfl) rfl
theorem q1107 : (Jvm.Cond.instanceMethod ({ cls := "LeftUndoes", name := "game", desc := "(I)I" } : Jvm.MethodName)) ∈ lw_all := lw_g (lw_at lw_m5 30 rfl) rfl
theorem q1108 : (Jvm.Cond.selects "LeftUndoes" ({ cls := "LeftUndoes", name := "game", desc := "(I)I" } : Jvm.MethodName) ({ cls := "LeftUndoes", name := "game", desc := "(I)I" } : Jvm.MethodName)) ∈ lw_all := lw_g (lw_at lw_m5 31 rfl) rfl
theorem q1109 : (Jvm.Cond.code ({ cls := "LeftUndoes", name := "game", desc := "(I)I" } : Jvm.MethodName) prog_1_method_82_code (2 : Nat) (Option.some Jvm.ClassFile.FieldType.int)) ∈ lw_all := lw_g (lw_at lw_m5 32 rfl) rfl
theorem q1110 : (Jvm.Cond.methodLink "LeftUndoes" (467 : Nat) ({ cls := "LeftUndoes", name := "valueFrom", desc := "(III)I" } : Jvm.MethodName)) ∈ lw_all := lw_g (lw_at lw_m5 33 rfl) rfl
theorem q1111 : (Jvm.Cond.privateMethod ({ cls := "LeftUndoes", name := "valueFrom", desc := "(III)I" } : Jvm.MethodName)) ∈ lw_tbl := lw_at lw_m5 34 rfl
theorem q1112 : (Jvm.Cond.instanceMethod ({ cls := "LeftUndoes", name := "valueFrom", desc := "(III)I" } : Jvm.MethodName)) ∈ lw_all := lw_g (lw_at lw_m5 35 rfl) rfl
theorem q1113 : (Jvm.Cond.code ({ cls := "LeftUndoes", name := "valueFrom", desc := "(III)I" } : Jvm.MethodName) prog_1_method_81_code (8 : Nat) (Option.some Jvm.ClassFile.FieldType.int)) ∈ lw_all := lw_g (lw_at lw_m5 36 rfl) rfl
theorem q1115 : (Jvm.Cond.instanceMethod ({ cls := "LeftUndoes", name := "play", desc := "(I)I" } : Jvm.MethodName)) ∈ lw_all := lw_g (lw_at lw_m5 38 rfl) rfl
theorem q1116 : (Jvm.Cond.selects "LeftUndoes" ({ cls := "LeftUndoes", name := "play", desc := "(I)I" } : Jvm.MethodName) ({ cls := "LeftUndoes", name := "play", desc := "(I)I" } : Jvm.MethodName)) ∈ lw_all := lw_g (lw_at lw_m5 39 rfl) rfl
theorem q1117 : (Jvm.Cond.code ({ cls := "LeftUndoes", name := "play", desc := "(I)I" } : Jvm.MethodName) prog_1_method_83_code (5 : Nat) (Option.some Jvm.ClassFile.FieldType.int)) ∈ lw_all := lw_g (lw_at lw_m5 40 rfl) rfl
theorem q1119 : (Jvm.Cond.instanceMethod ({ cls := "LeftUndoes", name := "report", desc := "(IIII)I" } : Jvm.MethodName)) ∈ lw_all := lw_g (lw_at lw_m5 42 rfl) rfl
theorem q1120 : (Jvm.Cond.selects "LeftUndoes" ({ cls := "LeftUndoes", name := "report", desc := "(IIII)I" } : Jvm.MethodName) ({ cls := "LeftUndoes", name := "report", desc := "(IIII)I" } : Jvm.MethodName)) ∈ lw_all := lw_g (lw_at lw_m5 43 rfl) rfl
theorem q1121 : (Jvm.Cond.code ({ cls := "LeftUndoes", name := "report", desc := "(IIII)I" } : Jvm.MethodName) prog_1_method_84_code (6 : Nat) (Option.some Jvm.ClassFile.FieldType.int)) ∈ lw_all := lw_g (lw_at lw_m5 44 rfl) rfl
theorem q1123 : (Jvm.Cond.instanceMethod ({ cls := "LeftUndoes", name := "forget", desc := "()I" } : Jvm.MethodName)) ∈ lw_all := lw_g (lw_at lw_m5 46 rfl) rfl
theorem q1124 : (Jvm.Cond.selects "LeftUndoes" ({ cls := "LeftUndoes", name := "forget", desc := "()I" } : Jvm.MethodName) ({ cls := "LeftUndoes", name := "forget", desc := "()I" } : Jvm.MethodName)) ∈ lw_all := lw_g (lw_at lw_m5 47 rfl) rfl
theorem q1125 : (Jvm.Cond.code ({ cls := "LeftUndoes", name := "forget", desc := "()I" } : Jvm.MethodName) prog_1_method_85_code (2 : Nat) (Option.some Jvm.ClassFile.FieldType.int)) ∈ lw_all := lw_g (lw_at lw_m5 48 rfl) rfl
theorem q1127 : (Jvm.Cond.instanceMethod ({ cls := "LeftUndoes", name := "span", desc := "(I)I" } : Jvm.MethodName)) ∈ lw_all := lw_g (lw_at lw_m5 50 rfl) rfl
theorem q1128 : (Jvm.Cond.selects "LeftUndoes" ({ cls := "LeftUndoes", name := "span", desc := "(I)I" } : Jvm.MethodName) ({ cls := "LeftUndoes", name := "span", desc := "(I)I" } : Jvm.MethodName)) ∈ lw_all := lw_g (lw_at lw_m5 51 rfl) rfl
theorem q1129 : (Jvm.Cond.code ({ cls := "LeftUndoes", name := "span", desc := "(I)I" } : Jvm.MethodName) prog_1_method_89_code (3 : Nat) (Option.some Jvm.ClassFile.FieldType.int)) ∈ lw_all := lw_g (lw_at lw_m5 52 rfl) rfl
theorem q1130 : (Jvm.Cond.methodLink "LeftUndoes" (496 : Nat) ({ cls := "LeftUndoes", name := "fitsBut", desc := "(I)I" } : Jvm.MethodName)) ∈ lw_all := lw_g (lw_at lw_m5 53 rfl) rfl
theorem q1131 : (Jvm.Cond.privateMethod ({ cls := "LeftUndoes", name := "fitsBut", desc := "(I)I" } : Jvm.MethodName)) ∈ lw_tbl := lw_at lw_m5 54 rfl
theorem q1132 : (Jvm.Cond.instanceMethod ({ cls := "LeftUndoes", name := "fitsBut", desc := "(I)I" } : Jvm.MethodName)) ∈ lw_all := lw_g (lw_at lw_m5 55 rfl) rfl
theorem q1133 : (Jvm.Cond.code ({ cls := "LeftUndoes", name := "fitsBut", desc := "(I)I" } : Jvm.MethodName) prog_1_method_88_code (5 : Nat) (Option.some Jvm.ClassFile.FieldType.int)) ∈ lw_all := lw_g (lw_at lw_m5 56 rfl) rfl
theorem q1134 : (Jvm.Cond.methodLink "LeftUndoes" (490 : Nat) ({ cls := "LeftUndoes", name := "isSo", desc := "(II)Z" } : Jvm.MethodName)) ∈ lw_all := lw_g (lw_at lw_m5 57 rfl) rfl
theorem q1135 : (Jvm.Cond.privateMethod ({ cls := "LeftUndoes", name := "isSo", desc := "(II)Z" } : Jvm.MethodName)) ∈ lw_tbl := lw_at lw_m5 58 rfl
theorem q1136 : (Jvm.Cond.instanceMethod ({ cls := "LeftUndoes", name := "isSo", desc := "(II)Z" } : Jvm.MethodName)) ∈ lw_all := lw_g (lw_at lw_m5 59 rfl) rfl
theorem q1137 : (Jvm.Cond.code ({ cls := "LeftUndoes", name := "isSo", desc := "(II)Z" } : Jvm.MethodName) prog_1_method_87_code (5 : Nat) (Option.some Jvm.ClassFile.FieldType.boolean)) ∈ lw_all := lw_g (lw_at lw_m5 60 rfl) rfl
theorem q1138 : (Jvm.Cond.methodLink "LeftUndoes" (486 : Nat) ({ cls := "LeftUndoes", name := "strange", desc := "(I)LLeftUndoes$Hand;" } : Jvm.MethodName)) ∈ lw_all := lw_g (lw_at lw_m5 61 rfl) rfl
theorem q1139 : (Jvm.Cond.privateMethod ({ cls := "LeftUndoes", name := "strange", desc := "(I)LLeftUndoes$Hand;" } : Jvm.MethodName)) ∈ lw_tbl := lw_at lw_m5 62 rfl
theorem q1140 : (Jvm.Cond.instanceMethod ({ cls := "LeftUndoes", name := "strange", desc := "(I)LLeftUndoes$Hand;" } : Jvm.MethodName)) ∈ lw_all := lw_g (lw_at lw_m5 63 rfl) rfl
theorem q1141 : (Jvm.Cond.code ({ cls := "LeftUndoes", name := "strange", desc := "(I)LLeftUndoes$Hand;" } : Jvm.MethodName) prog_1_method_86_code (2 : Nat) (Option.some (Jvm.ClassFile.FieldType.object "LeftUndoes$Hand"))) ∈ lw_all := lw_g (lw_at lw_m5 64 rfl) rfl
theorem q1143 : (Jvm.Cond.instanceMethod ({ cls := "LeftUndoes", name := "liar", desc := "()I" } : Jvm.MethodName)) ∈ lw_all := lw_g (lw_at lw_m5 66 rfl) rfl
theorem q1144 : (Jvm.Cond.selects "LeftUndoes" ({ cls := "LeftUndoes", name := "liar", desc := "()I" } : Jvm.MethodName) ({ cls := "LeftUndoes", name := "liar", desc := "()I" } : Jvm.MethodName)) ∈ lw_all := lw_g (lw_at lw_m5 67 rfl) rfl
theorem q1145 : (Jvm.Cond.code ({ cls := "LeftUndoes", name := "liar", desc := "()I" } : Jvm.MethodName) prog_1_method_90_code (2 : Nat) (Option.some Jvm.ClassFile.FieldType.int)) ∈ lw_all := lw_g (lw_at lw_m5 68 rfl) rfl
theorem q1147 : (Jvm.Cond.instanceMethod ({ cls := "LeftUndoes", name := "seed", desc := "(I)I" } : Jvm.MethodName)) ∈ lw_all := lw_g (lw_at lw_m5 70 rfl) rfl
theorem q1148 : (Jvm.Cond.selects "LeftUndoes" ({ cls := "LeftUndoes", name := "seed", desc := "(I)I" } : Jvm.MethodName) ({ cls := "LeftUndoes", name := "seed", desc := "(I)I" } : Jvm.MethodName)) ∈ lw_all := lw_g (lw_at lw_m5 71 rfl) rfl
theorem q1149 : (Jvm.Cond.code ({ cls := "LeftUndoes", name := "seed", desc := "(I)I" } : Jvm.MethodName) prog_1_method_91_code (3 : Nat) (Option.some Jvm.ClassFile.FieldType.int)) ∈ lw_all := lw_g (lw_at lw_m5 72 rfl) rfl
theorem q1151 : (Jvm.Cond.instanceMethod ({ cls := "LeftUndoes", name := "lot", desc := "()I" } : Jvm.MethodName)) ∈ lw_all := lw_g (lw_at lw_m5 74 rfl) rfl
theorem q1152 : (Jvm.Cond.selects "LeftUndoes" ({ cls := "LeftUndoes", name := "lot", desc := "()I" } : Jvm.MethodName) ({ cls := "LeftUndoes", name := "lot", desc := "()I" } : Jvm.MethodName)) ∈ lw_all := lw_g (lw_at lw_m5 75 rfl) rfl
theorem q1153 : (Jvm.Cond.code ({ cls := "LeftUndoes", name := "lot", desc := "()I" } : Jvm.MethodName) prog_1_method_93_code (1 : Nat) (Option.some Jvm.ClassFile.FieldType.int)) ∈ lw_all := lw_g (lw_at lw_m5 76 rfl) rfl
theorem q1154 : (Jvm.Cond.methodLink "LeftUndoes" (503 : Nat) ({ cls := "LeftUndoes", name := "drawn", desc := "()I" } : Jvm.MethodName)) ∈ lw_all := lw_g (lw_at lw_m5 77 rfl) rfl
theorem q1155 : (Jvm.Cond.privateMethod ({ cls := "LeftUndoes", name := "drawn", desc := "()I" } : Jvm.MethodName)) ∈ lw_tbl := lw_at lw_m5 78 rfl
theorem q1156 : (Jvm.Cond.instanceMethod ({ cls := "LeftUndoes", name := "drawn", desc := "()I" } : Jvm.MethodName)) ∈ lw_all := lw_g (lw_at lw_m5 79 rfl) rfl
theorem q1157 : (Jvm.Cond.code ({ cls := "LeftUndoes", name := "drawn", desc := "()I" } : Jvm.MethodName) prog_1_method_92_code (1 : Nat) (Option.some Jvm.ClassFile.FieldType.int)) ∈ lw_all := lw_g (lw_at lw_m5 80 rfl) rfl
theorem q1158 : (Jvm.Cond.constant "LeftUndoes" (502 : Nat) (1103515245 : Int32)) ∈ lw_all := lw_g (lw_at lw_m5 81 rfl) rfl
theorem q1160 : (Jvm.Cond.instanceMethod ({ cls := "LeftUndoes", name := "often", desc := "(II)I" } : Jvm.MethodName)) ∈ lw_all := lw_g (lw_at lw_m5 83 rfl) rfl
theorem q1161 : (Jvm.Cond.selects "LeftUndoes" ({ cls := "LeftUndoes", name := "often", desc := "(II)I" } : Jvm.MethodName) ({ cls := "LeftUndoes", name := "often", desc := "(II)I" } : Jvm.MethodName)) ∈ lw_all := lw_g (lw_at lw_m5 84 rfl) rfl
theorem q1162 : (Jvm.Cond.codeWith ({ cls := "LeftUndoes", name := "often", desc := "(II)I" } : Jvm.MethodName) prog_1_method_95_code (8 : Nat) (Option.some Jvm.ClassFile.FieldType.int) [((45 : Nat), (110 : Nat), (124 : Nat), (0 : Nat)), ((124 : Nat), (126 : Nat), (124 : Nat), (0 : Nat))]) ∈ lw_all := lw_g (lw_at lw_m5 85 rfl) rfl
theorem q1163 : (Jvm.Cond.methodLink "LeftUndoes" (506 : Nat) ({ cls := "LeftUndoes", name := "drawnAll", desc := "()I" } : Jvm.MethodName)) ∈ lw_all := lw_g (lw_at lw_m5 86 rfl) rfl
theorem q1164 : (Jvm.Cond.privateMethod ({ cls := "LeftUndoes", name := "drawnAll", desc := "()I" } : Jvm.MethodName)) ∈ lw_tbl := lw_at lw_m5 87 rfl
theorem q1165 : (Jvm.Cond.instanceMethod ({ cls := "LeftUndoes", name := "drawnAll", desc := "()I" } : Jvm.MethodName)) ∈ lw_all := lw_g (lw_at lw_m5 88 rfl) rfl
theorem q1166 : (Jvm.Cond.code ({ cls := "LeftUndoes", name := "drawnAll", desc := "()I" } : Jvm.MethodName) prog_1_method_94_code (2 : Nat) (Option.some Jvm.ClassFile.FieldType.int)) ∈ lw_all := lw_g (lw_at lw_m5 89 rfl) rfl
theorem q1168 : (Jvm.Cond.instanceMethod ({ cls := "LeftUndoes", name := "prove", desc := "(I)I" } : Jvm.MethodName)) ∈ lw_all := lw_g (lw_at lw_m5 91 rfl) rfl
theorem q1169 : (Jvm.Cond.selects "LeftUndoes" ({ cls := "LeftUndoes", name := "prove", desc := "(I)I" } : Jvm.MethodName) ({ cls := "LeftUndoes", name := "prove", desc := "(I)I" } : Jvm.MethodName)) ∈ lw_all := lw_g (lw_at lw_m5 92 rfl) rfl
theorem q1170 : (Jvm.Cond.code ({ cls := "LeftUndoes", name := "prove", desc := "(I)I" } : Jvm.MethodName) prog_1_method_96_code (3 : Nat) (Option.some Jvm.ClassFile.FieldType.int)) ∈ lw_all := lw_g (lw_at lw_m5 93 rfl) rfl
theorem q1172 : (Jvm.Cond.instanceMethod ({ cls := "LeftUndoes", name := "row", desc := "(II)I" } : Jvm.MethodName)) ∈ lw_all := lw_g (lw_at lw_m5 95 rfl) rfl
theorem q1173 : (Jvm.Cond.selects "LeftUndoes" ({ cls := "LeftUndoes", name := "row", desc := "(II)I" } : Jvm.MethodName) ({ cls := "LeftUndoes", name := "row", desc := "(II)I" } : Jvm.MethodName)) ∈ lw_all := lw_g (lw_at lw_m5 96 rfl) rfl
theorem q1174 : (Jvm.Cond.code ({ cls := "LeftUndoes", name := "row", desc := "(II)I" } : Jvm.MethodName) prog_1_method_98_code (3 : Nat) (Option.some Jvm.ClassFile.FieldType.int)) ∈ lw_all := lw_g (lw_at lw_m5 97 rfl) rfl
theorem q1175 : (Jvm.Cond.methodLink "LeftUndoes" (512 : Nat) ({ cls := "LeftUndoes", name := "isRow", desc := "(II)Z" } : Jvm.MethodName)) ∈ lw_all := lw_g (lw_at lw_m5 98 rfl) rfl
theorem q1176 : (Jvm.Cond.privateMethod ({ cls := "LeftUndoes", name := "isRow", desc := "(II)Z" } : Jvm.MethodName)) ∈ lw_tbl := lw_at lw_m5 99 rfl
theorem q1177 : (Jvm.Cond.instanceMethod ({ cls := "LeftUndoes", name := "isRow", desc := "(II)Z" } : Jvm.MethodName)) ∈ lw_all := lw_g (lw_at lw_m5 100 rfl) rfl
theorem q1178 : (Jvm.Cond.code ({ cls := "LeftUndoes", name := "isRow", desc := "(II)Z" } : Jvm.MethodName) prog_1_method_97_code (3 : Nat) (Option.some Jvm.ClassFile.FieldType.boolean)) ∈ lw_all := lw_g (lw_at lw_m5 101 rfl) rfl
theorem q1180 : (Jvm.Cond.instanceMethod ({ cls := "LeftUndoes", name := "alterRow", desc := "(III)I" } : Jvm.MethodName)) ∈ lw_all := lw_g (lw_at lw_m5 103 rfl) rfl
theorem q1181 : (Jvm.Cond.selects "LeftUndoes" ({ cls := "LeftUndoes", name := "alterRow", desc := "(III)I" } : Jvm.MethodName) ({ cls := "LeftUndoes", name := "alterRow", desc := "(III)I" } : Jvm.MethodName)) ∈ lw_all := lw_g (lw_at lw_m5 104 rfl) rfl
theorem q1182 : (Jvm.Cond.code ({ cls := "LeftUndoes", name := "alterRow", desc := "(III)I" } : Jvm.MethodName) prog_1_method_99_code (5 : Nat) (Option.some Jvm.ClassFile.FieldType.int)) ∈ lw_all := lw_g (lw_at lw_m5 105 rfl) rfl
theorem q1184 : (Jvm.Cond.instanceMethod ({ cls := "LeftUndoes", name := "judge", desc := "()I" } : Jvm.MethodName)) ∈ lw_all := lw_g (lw_at lw_m5 107 rfl) rfl
theorem q1185 : (Jvm.Cond.selects "LeftUndoes" ({ cls := "LeftUndoes", name := "judge", desc := "()I" } : Jvm.MethodName) ({ cls := "LeftUndoes", name := "judge", desc := "()I" } : Jvm.MethodName)) ∈ lw_all := lw_g (lw_at lw_m5 108 rfl) rfl
theorem q1186 : (Jvm.Cond.codeWith ({ cls := "LeftUndoes", name := "judge", desc := "()I" } : Jvm.MethodName) prog_1_method_100_code (6 : Nat) (Option.some Jvm.ClassFile.FieldType.int) [((13 : Nat), (112 : Nat), (125 : Nat), (0 : Nat)), ((125 : Nat), (127 : Nat), (125 : Nat), (0 : Nat))]) ∈ lw_all := lw_g (lw_at lw_m5 109 rfl) rfl
theorem q1187 : (Jvm.Cond.methodLink "LeftUndoes" (515 : Nat) ({ cls := "LeftUndoes", name := "isAct", desc := "(I)Z" } : Jvm.MethodName)) ∈ lw_all := lw_g (lw_at lw_m5 110 rfl) rfl
theorem q1188 : (Jvm.Cond.privateMethod ({ cls := "LeftUndoes", name := "isAct", desc := "(I)Z" } : Jvm.MethodName)) ∈ lw_tbl := lw_at lw_m5 111 rfl
theorem q1189 : (Jvm.Cond.instanceMethod ({ cls := "LeftUndoes", name := "isAct", desc := "(I)Z" } : Jvm.MethodName)) ∈ lw_all := lw_g (lw_at lw_m5 112 rfl) rfl
theorem q1190 : (Jvm.Cond.code ({ cls := "LeftUndoes", name := "isAct", desc := "(I)Z" } : Jvm.MethodName) prog_1_method_70_code (2 : Nat) (Option.some Jvm.ClassFile.FieldType.boolean)) ∈ lw_all := lw_g (lw_at lw_m5 113 rfl) rfl
theorem q1192 : (Jvm.Cond.instanceMethod ({ cls := "LeftUndoes", name := "sheet", desc := "(III)I" } : Jvm.MethodName)) ∈ lw_all := lw_g (lw_at lw_m5 115 rfl) rfl
theorem q1193 : (Jvm.Cond.selects "LeftUndoes" ({ cls := "LeftUndoes", name := "sheet", desc := "(III)I" } : Jvm.MethodName) ({ cls := "LeftUndoes", name := "sheet", desc := "(III)I" } : Jvm.MethodName)) ∈ lw_all := lw_g (lw_at lw_m5 116 rfl) rfl
theorem q1194 : (Jvm.Cond.codeWith ({ cls := "LeftUndoes", name := "sheet", desc := "(III)I" } : Jvm.MethodName) prog_1_method_103_code (5 : Nat) (Option.some Jvm.ClassFile.FieldType.int) [((28 : Nat), (51 : Nat), (52 : Nat), (529 : Nat))]) ∈ lw_all := lw_g (lw_at lw_m5 117 rfl) rfl
theorem q1195 : (Jvm.Cond.classLink "LeftUndoes" (529 : Nat) "java/lang/NegativeArraySizeException") ∈ lw_all := lw_g (lw_at lw_m5 118 rfl) rfl
theorem q1222 : (Jvm.Cond.methodLink "LeftUndoes" (518 : Nat) ({ cls := "LeftUndoes", name := "isShelf", desc := "(I)Z" } : Jvm.MethodName)) ∈ lw_all := lw_g (lw_at lw_m5 145 rfl) rfl
theorem q1223 : (Jvm.Cond.static ({ cls := "LeftUndoes", name := "isShelf", desc := "(I)Z" } : Jvm.MethodName)) ∈ lw_all := lw_g (lw_at lw_m5 146 rfl) rfl
theorem q1224 : (Jvm.Cond.code ({ cls := "LeftUndoes", name := "isShelf", desc := "(I)Z" } : Jvm.MethodName) prog_1_method_101_code (1 : Nat) (Option.some Jvm.ClassFile.FieldType.boolean)) ∈ lw_all := lw_g (lw_at lw_m5 147 rfl) rfl
theorem q1225 : (Jvm.Cond.methodLink "LeftUndoes" (521 : Nat) ({ cls := "LeftUndoes", name := "rowOf", desc := "(II)Ljava/lang/Object;" } : Jvm.MethodName)) ∈ lw_all := lw_g (lw_at lw_m5 148 rfl) rfl
theorem q1226 : (Jvm.Cond.static ({ cls := "LeftUndoes", name := "rowOf", desc := "(II)Ljava/lang/Object;" } : Jvm.MethodName)) ∈ lw_all := lw_g (lw_at lw_m5 149 rfl) rfl
theorem q1227 : (Jvm.Cond.code ({ cls := "LeftUndoes", name := "rowOf", desc := "(II)Ljava/lang/Object;" } : Jvm.MethodName) prog_1_method_102_code (2 : Nat) (Option.some (Jvm.ClassFile.FieldType.object "java/lang/Object"))) ∈ lw_all := lw_g (lw_at lw_m5 150 rfl) rfl
theorem q1232 : (Jvm.Cond.instanceMethod ({ cls := "LeftUndoes", name := "write", desc := "(III)I" } : Jvm.MethodName)) ∈ lw_all := lw_g (lw_at lw_m5 155 rfl) rfl
theorem q1233 : (Jvm.Cond.selects "LeftUndoes" ({ cls := "LeftUndoes", name := "write", desc := "(III)I" } : Jvm.MethodName) ({ cls := "LeftUndoes", name := "write", desc := "(III)I" } : Jvm.MethodName)) ∈ lw_all := lw_g (lw_at lw_m5 156 rfl) rfl
theorem q1234 : (Jvm.Cond.codeWith ({ cls := "LeftUndoes", name := "write", desc := "(III)I" } : Jvm.MethodName) prog_1_method_106_code (5 : Nat) (Option.some Jvm.ClassFile.FieldType.int) [((9 : Nat), (62 : Nat), (63 : Nat), (8 : Nat))]) ∈ lw_all := lw_g (lw_at lw_m5 157 rfl) rfl
theorem q1235 : (Jvm.Cond.methodLink "LeftUndoes" (539 : Nat) ({ cls := "LeftUndoes", name := "must", desc := "(ZI)V" } : Jvm.MethodName)) ∈ lw_all := lw_g (lw_at lw_m5 158 rfl) rfl
theorem q1236 : (Jvm.Cond.privateMethod ({ cls := "LeftUndoes", name := "must", desc := "(ZI)V" } : Jvm.MethodName)) ∈ lw_tbl := lw_at lw_m5 159 rfl
theorem q1237 : (Jvm.Cond.instanceMethod ({ cls := "LeftUndoes", name := "must", desc := "(ZI)V" } : Jvm.MethodName)) ∈ lw_all := lw_g (lw_at lw_m5 160 rfl) rfl
theorem q1238 : (Jvm.Cond.code ({ cls := "LeftUndoes", name := "must", desc := "(ZI)V" } : Jvm.MethodName) prog_1_method_2_code (3 : Nat) (Option.none : Option Jvm.ClassFile.FieldType)) ∈ lw_all := lw_g (lw_at lw_m5 161 rfl) rfl
theorem q1239 : (Jvm.Cond.methodLink "LeftUndoes" (7 : Nat) ({ cls := "LeftUndoes$Refusal", name := "of", desc := "(I)LLeftUndoes$Refusal;" } : Jvm.MethodName)) ∈ lw_all := lw_g (lw_at lw_m5 162 rfl) rfl
theorem q1240 : (Jvm.Cond.methodLink "LeftUndoes" (543 : Nat) ({ cls := "LeftUndoes", name := "length", desc := "(Ljava/lang/Object;)I" } : Jvm.MethodName)) ∈ lw_all := lw_g (lw_at lw_m5 163 rfl) rfl
theorem q1241 : (Jvm.Cond.static ({ cls := "LeftUndoes", name := "length", desc := "(Ljava/lang/Object;)I" } : Jvm.MethodName)) ∈ lw_all := lw_g (lw_at lw_m5 164 rfl) rfl
theorem q1242 : (Jvm.Cond.code ({ cls := "LeftUndoes", name := "length", desc := "(Ljava/lang/Object;)I" } : Jvm.MethodName) prog_1_method_104_code (1 : Nat) (Option.some Jvm.ClassFile.FieldType.int)) ∈ lw_all := lw_g (lw_at lw_m5 165 rfl) rfl
theorem q1243 : (Jvm.Cond.classLink "LeftUndoes" (531 : Nat) "[B") ∈ lw_all := lw_g (lw_at lw_m5 166 rfl) rfl
theorem q1244 : (Jvm.Cond.classLink "LeftUndoes" (532 : Nat) "[S") ∈ lw_all := lw_g (lw_at lw_m5 167 rfl) rfl
theorem q1245 : (Jvm.Cond.classLink "LeftUndoes" (534 : Nat) "[I") ∈ lw_all := lw_g (lw_at lw_m5 168 rfl) rfl
theorem q1246 : (Jvm.Cond.classLink "LeftUndoes" (535 : Nat) "[J") ∈ lw_all := lw_g (lw_at lw_m5 169 rfl) rfl
theorem q1247 : (Jvm.Cond.classLink "LeftUndoes" (537 : Nat) "[Z") ∈ lw_all := lw_g (lw_at lw_m5 170 rfl) rfl
theorem q1248 : (Jvm.Cond.methodLink "LeftUndoes" (546 : Nat) ({ cls := "LeftUndoes", name := "set", desc := "(Ljava/lang/Object;II)V" } : Jvm.MethodName)) ∈ lw_all := lw_g (lw_at lw_m5 171 rfl) rfl
theorem q1249 : (Jvm.Cond.static ({ cls := "LeftUndoes", name := "set", desc := "(Ljava/lang/Object;II)V" } : Jvm.MethodName)) ∈ lw_all := lw_g (lw_at lw_m5 172 rfl) rfl
theorem q1250 : (Jvm.Cond.code ({ cls := "LeftUndoes", name := "set", desc := "(Ljava/lang/Object;II)V" } : Jvm.MethodName) prog_1_method_105_code (3 : Nat) (Option.none : Option Jvm.ClassFile.FieldType)) ∈ lw_all := lw_g (lw_at lw_m5 173 rfl) rfl
theorem q1252 : (Jvm.Cond.instanceMethod ({ cls := "LeftUndoes", name := "item", desc := "(III)I" } : Jvm.MethodName)) ∈ lw_all := lw_g (lw_at lw_m5 175 rfl) rfl
theorem q1253 : (Jvm.Cond.selects "LeftUndoes" ({ cls := "LeftUndoes", name := "item", desc := "(III)I" } : Jvm.MethodName) ({ cls := "LeftUndoes", name := "item", desc := "(III)I" } : Jvm.MethodName)) ∈ lw_all := lw_g (lw_at lw_m5 176 rfl) rfl
theorem q1254 : (Jvm.Cond.codeWith ({ cls := "LeftUndoes", name := "item", desc := "(III)I" } : Jvm.MethodName) prog_1_method_109_code (5 : Nat) (Option.some Jvm.ClassFile.FieldType.int) [((18 : Nat), (33 : Nat), (34 : Nat), (559 : Nat)), ((18 : Nat), (33 : Nat), (39 : Nat), (561 : Nat)), ((18 : Nat), (33 : Nat), (44 : Nat), (8 : Nat))]) ∈ lw_all := lw_g (lw_at lw_m5 177 rfl) rfl
theorem q1255 : (Jvm.Cond.classLink "LeftUndoes" (559 : Nat) "java/lang/ClassCastException") ∈ lw_all := lw_g (lw_at lw_m5 178 rfl) rfl
theorem q1269 : (Jvm.Cond.classLink "LeftUndoes" (561 : Nat) "java/lang/NullPointerException") ∈ lw_all := lw_g (lw_at lw_m5 192 rfl) rfl
theorem q1294 : (Jvm.Cond.methodLink "LeftUndoes" (555 : Nat) ({ cls := "LeftUndoes", name := "itemOf", desc := "(Ljava/lang/Object;II)I" } : Jvm.MethodName)) ∈ lw_all := lw_g (lw_at lw_m5 217 rfl) rfl
theorem q1295 : (Jvm.Cond.privateMethod ({ cls := "LeftUndoes", name := "itemOf", desc := "(Ljava/lang/Object;II)I" } : Jvm.MethodName)) ∈ lw_tbl := lw_at lw_m5 218 rfl
theorem q1296 : (Jvm.Cond.instanceMethod ({ cls := "LeftUndoes", name := "itemOf", desc := "(Ljava/lang/Object;II)I" } : Jvm.MethodName)) ∈ lw_all := lw_g (lw_at lw_m5 219 rfl) rfl
theorem q1297 : (Jvm.Cond.code ({ cls := "LeftUndoes", name := "itemOf", desc := "(Ljava/lang/Object;II)I" } : Jvm.MethodName) prog_1_method_108_code (4 : Nat) (Option.some Jvm.ClassFile.FieldType.int)) ∈ lw_all := lw_g (lw_at lw_m5 220 rfl) rfl
theorem q1298 : (Jvm.Cond.methodLink "LeftUndoes" (551 : Nat) ({ cls := "LeftUndoes", name := "manyOf", desc := "(Ljava/lang/Object;I)I" } : Jvm.MethodName)) ∈ lw_all := lw_g (lw_at lw_m5 221 rfl) rfl
theorem q1299 : (Jvm.Cond.static ({ cls := "LeftUndoes", name := "manyOf", desc := "(Ljava/lang/Object;I)I" } : Jvm.MethodName)) ∈ lw_all := lw_g (lw_at lw_m5 222 rfl) rfl
theorem q1300 : (Jvm.Cond.code ({ cls := "LeftUndoes", name := "manyOf", desc := "(Ljava/lang/Object;I)I" } : Jvm.MethodName) prog_1_method_107_code (2 : Nat) (Option.some Jvm.ClassFile.FieldType.int)) ∈ lw_all := lw_g (lw_at lw_m5 223 rfl) rfl
theorem q1302 : (Jvm.Cond.instanceMethod ({ cls := "LeftUndoes", name := "goAll", desc := "(III)I" } : Jvm.MethodName)) ∈ lw_all := lw_g (lw_at lw_m5 225 rfl) rfl
theorem q1303 : (Jvm.Cond.selects "LeftUndoes" ({ cls := "LeftUndoes", name := "goAll", desc := "(III)I" } : Jvm.MethodName) ({ cls := "LeftUndoes", name := "goAll", desc := "(III)I" } : Jvm.MethodName)) ∈ lw_all := lw_g (lw_at lw_m5 226 rfl) rfl
theorem q1304 : (Jvm.Cond.codeWith ({ cls := "LeftUndoes", name := "goAll", desc := "(III)I" } : Jvm.MethodName) prog_1_method_110_code (9 : Nat) (Option.some Jvm.ClassFile.FieldType.int) [((19 : Nat), (132 : Nat), (133 : Nat), (559 : Nat)), ((19 : Nat), (132 : Nat), (138 : Nat), (561 : Nat)), ((19 : Nat), (132 : Nat), (143 : Nat), (8 : Nat))]) ∈ lw_all := lw_g (lw_at lw_m5 227 rfl) rfl
theorem q1306 : (Jvm.Cond.instanceMethod ({ cls := "LeftUndoes", name := "wouldBe", desc := "(III)I" } : Jvm.MethodName)) ∈ lw_all := lw_g (lw_at lw_m5 229 rfl) rfl
theorem q1307 : (Jvm.Cond.selects "LeftUndoes" ({ cls := "LeftUndoes", name := "wouldBe", desc := "(III)I" } : Jvm.MethodName) ({ cls := "LeftUndoes", name := "wouldBe", desc := "(III)I" } : Jvm.MethodName)) ∈ lw_all := lw_g (lw_at lw_m5 230 rfl) rfl
theorem q1308 : (Jvm.Cond.codeWith ({ cls := "LeftUndoes", name := "wouldBe", desc := "(III)I" } : Jvm.MethodName) prog_1_method_111_code (10 : Nat) (Option.some Jvm.ClassFile.FieldType.int) [((30 : Nat), (153 : Nat), (167 : Nat), (559 : Nat)), ((30 : Nat), (153 : Nat), (187 : Nat), (561 : Nat)), ((30 : Nat), (153 : Nat), (207 : Nat), (8 : Nat)), ((30 : Nat), (153 : Nat), (230 : Nat), (0 : Nat)), ((167 : Nat), (173 : Nat), (230 : Nat), (0 : Nat)), ((187 : Nat), (193 : Nat), (230 : Nat), (0 : Nat)), ((207 : Nat), (216 : Nat), (230 : Nat), (0 : Nat)), ((230 : Nat), (232 : Nat), (230 : Nat), (0 : Nat))]) ∈ lw_all := lw_g (lw_at lw_m5 231 rfl) rfl
theorem q1310 : (Jvm.Cond.instanceMethod ({ cls := "LeftUndoes", name := "shelf", desc := "(III)I" } : Jvm.MethodName)) ∈ lw_all := lw_g (lw_at lw_m5 233 rfl) rfl
theorem q1311 : (Jvm.Cond.selects "LeftUndoes" ({ cls := "LeftUndoes", name := "shelf", desc := "(III)I" } : Jvm.MethodName) ({ cls := "LeftUndoes", name := "shelf", desc := "(III)I" } : Jvm.MethodName)) ∈ lw_all := lw_g (lw_at lw_m5 234 rfl) rfl
theorem q1312 : (Jvm.Cond.code ({ cls := "LeftUndoes", name := "shelf", desc := "(III)I" } : Jvm.MethodName) prog_1_method_112_code (4 : Nat) (Option.some Jvm.ClassFile.FieldType.int)) ∈ lw_all := lw_g (lw_at lw_m5 235 rfl) rfl
theorem q1313 : (Jvm.Cond.classLink "LeftUndoes" (563 : Nat) "LeftUndoes$Ticket") ∈ lw_all := lw_g (lw_at lw_m5 236 rfl) rfl
theorem q1315 : (Jvm.Cond.methodLink "LeftUndoes" (565 : Nat) ({ cls := "LeftUndoes$Ticket", name := "<init>", desc := "(I)V" } : Jvm.MethodName)) ∈ lw_all := lw_g (lw_at lw_m5 238 rfl) rfl
theorem q1320 : (Jvm.Cond.fieldLinkNest "LeftUndoes" (567 : Nat) "LeftUndoes$Ticket" "number" "I" "LeftUndoes") ∈ lw_tbl := lw_at lw_m6 3 rfl
theorem q1325 : (Jvm.Cond.instanceMethod ({ cls := "LeftUndoes", name := "taken", desc := "(II)I" } : Jvm.MethodName)) ∈ lw_all := lw_g (lw_at lw_m6 8 rfl) rfl
theorem q1326 : (Jvm.Cond.selects "LeftUndoes" ({ cls := "LeftUndoes", name := "taken", desc := "(II)I" } : Jvm.MethodName) ({ cls := "LeftUndoes", name := "taken", desc := "(II)I" } : Jvm.MethodName)) ∈ lw_all := lw_g (lw_at lw_m6 9 rfl) rfl
theorem q1327 : (Jvm.Cond.codeWith ({ cls := "LeftUndoes", name := "taken", desc := "(II)I" } : Jvm.MethodName) prog_1_method_116_code (4 : Nat) (Option.some Jvm.ClassFile.FieldType.int) [((29 : Nat), (38 : Nat), (39 : Nat), (559 : Nat)), ((29 : Nat), (38 : Nat), (43 : Nat), (561 : Nat))]) ∈ lw_all := lw_g (lw_at lw_m6 10 rfl) rfl
theorem q1328 : (Jvm.Cond.methodLink "LeftUndoes" (575 : Nat) ({ cls := "LeftUndoes", name := "held", desc := "(I)Ljava/lang/Object;" } : Jvm.MethodName)) ∈ lw_all := lw_g (lw_at lw_m6 11 rfl) rfl
theorem q1329 : (Jvm.Cond.privateMethod ({ cls := "LeftUndoes", name := "held", desc := "(I)Ljava/lang/Object;" } : Jvm.MethodName)) ∈ lw_tbl := lw_at lw_m6 12 rfl
theorem q1330 : (Jvm.Cond.instanceMethod ({ cls := "LeftUndoes", name := "held", desc := "(I)Ljava/lang/Object;" } : Jvm.MethodName)) ∈ lw_all := lw_g (lw_at lw_m6 13 rfl) rfl
theorem q1331 : (Jvm.Cond.code ({ cls := "LeftUndoes", name := "held", desc := "(I)Ljava/lang/Object;" } : Jvm.MethodName) prog_1_method_113_code (4 : Nat) (Option.some (Jvm.ClassFile.FieldType.object "java/lang/Object"))) ∈ lw_all := lw_g (lw_at lw_m6 14 rfl) rfl
theorem q1332 : (Jvm.Cond.methodLink "LeftUndoes" (578 : Nat) ({ cls := "LeftUndoes", name := "takenAs", desc := "(Ljava/lang/Object;I)I" } : Jvm.MethodName)) ∈ lw_all := lw_g (lw_at lw_m6 15 rfl) rfl
theorem q1333 : (Jvm.Cond.static ({ cls := "LeftUndoes", name := "takenAs", desc := "(Ljava/lang/Object;I)I" } : Jvm.MethodName)) ∈ lw_all := lw_g (lw_at lw_m6 16 rfl) rfl
theorem q1334 : (Jvm.Cond.code ({ cls := "LeftUndoes", name := "takenAs", desc := "(Ljava/lang/Object;I)I" } : Jvm.MethodName) prog_1_method_115_code (2 : Nat) (Option.some Jvm.ClassFile.FieldType.int)) ∈ lw_all := lw_g (lw_at lw_m6 17 rfl) rfl
theorem q1335 : (Jvm.Cond.methodLink "LeftUndoes" (569 : Nat) ({ cls := "LeftUndoes", name := "personAs", desc := "(Ljava/lang/Object;I)LLeftUndoes$Hand;" } : Jvm.MethodName)) ∈ lw_all := lw_g (lw_at lw_m6 18 rfl) rfl
theorem q1336 : (Jvm.Cond.static ({ cls := "LeftUndoes", name := "personAs", desc := "(Ljava/lang/Object;I)LLeftUndoes$Hand;" } : Jvm.MethodName)) ∈ lw_all := lw_g (lw_at lw_m6 19 rfl) rfl
theorem q1337 : (Jvm.Cond.code ({ cls := "LeftUndoes", name := "personAs", desc := "(Ljava/lang/Object;I)LLeftUndoes$Hand;" } : Jvm.MethodName) prog_1_method_114_code (2 : Nat) (Option.some (Jvm.ClassFile.FieldType.object "LeftUndoes$Hand"))) ∈ lw_all := lw_g (lw_at lw_m6 20 rfl) rfl
theorem q1338 : (Jvm.Cond.methodLink "LeftUndoes" (573 : Nat) ({ cls := "LeftUndoes$Hand", name := "number", desc := "()I" } : Jvm.MethodName)) ∈ lw_all := lw_g (lw_at lw_m6 21 rfl) rfl
theorem q1348 : (Jvm.Cond.instanceMethod ({ cls := "LeftUndoes", name := "act", desc := "(III)I" } : Jvm.MethodName)) ∈ lw_all := lw_g (lw_at lw_m6 31 rfl) rfl
theorem q1349 : (Jvm.Cond.selects "LeftUndoes" ({ cls := "LeftUndoes", name := "act", desc := "(III)I" } : Jvm.MethodName) ({ cls := "LeftUndoes", name := "act", desc := "(III)I" } : Jvm.MethodName)) ∈ lw_all := lw_g (lw_at lw_m6 32 rfl) rfl
theorem q1350 : (Jvm.Cond.codeWith ({ cls := "LeftUndoes", name := "act", desc := "(III)I" } : Jvm.MethodName) prog_1_method_117_code (7 : Nat) (Option.some Jvm.ClassFile.FieldType.int) [((52 : Nat), (92 : Nat), (132 : Nat), (599 : Nat)), ((93 : Nat), (105 : Nat), (132 : Nat), (599 : Nat)), ((106 : Nat), (118 : Nat), (132 : Nat), (599 : Nat)), ((119 : Nat), (131 : Nat), (132 : Nat), (599 : Nat))]) ∈ lw_all := lw_g (lw_at lw_m6 33 rfl) rfl
theorem q1351 : (Jvm.Cond.classLink "LeftUndoes" (599 : Nat) "java/lang/ArithmeticException") ∈ lw_all := lw_g (lw_at lw_m6 34 rfl) rfl
theorem q1365 : (Jvm.Cond.classLink "LeftUndoes" (584 : Nat) "LeftUndoes$Swears") ∈ lw_all := lw_g (lw_at lw_m6 48 rfl) rfl
theorem q1366 : (Jvm.Cond.interfaceEntry "LeftUndoes" (586 : Nat)) ∈ lw_tbl := lw_at lw_m6 49 rfl
theorem q1422 : (Jvm.Cond.interfaceEntry "LeftUndoes" (590 : Nat)) ∈ lw_tbl := lw_at lw_m6 105 rfl
theorem q1454 : (Jvm.Cond.interfaceEntry "LeftUndoes" (593 : Nat)) ∈ lw_tbl := lw_at lw_m6 137 rfl
theorem q1499 : (Jvm.Cond.interfaceEntry "LeftUndoes" (596 : Nat)) ∈ lw_tbl := lw_at lw_m6 182 rfl
theorem q1500 : (Jvm.Cond.methodLink "LeftUndoes" (596 : Nat) ({ cls := "LeftUndoes$Swears", name := "swears", desc := "(ILLeftUndoes$Trace;)I" } : Jvm.MethodName)) ∈ lw_all := lw_g (lw_at lw_m6 183 rfl) rfl
theorem q1522 : (Jvm.Cond.instanceMethod ({ cls := "LeftUndoes", name := "trace", desc := "(I)I" } : Jvm.MethodName)) ∈ lw_all := lw_g (lw_at lw_m6 205 rfl) rfl
theorem q1523 : (Jvm.Cond.selects "LeftUndoes" ({ cls := "LeftUndoes", name := "trace", desc := "(I)I" } : Jvm.MethodName) ({ cls := "LeftUndoes", name := "trace", desc := "(I)I" } : Jvm.MethodName)) ∈ lw_all := lw_g (lw_at lw_m6 206 rfl) rfl
theorem q1524 : (Jvm.Cond.code ({ cls := "LeftUndoes", name := "trace", desc := "(I)I" } : Jvm.MethodName) prog_1_method_118_code (2 : Nat) (Option.some Jvm.ClassFile.FieldType.int)) ∈ lw_all := lw_g (lw_at lw_m6 207 rfl) rfl
theorem q1526 : (Jvm.Cond.instanceMethod ({ cls := "LeftUndoes", name := "many", desc := "(I)I" } : Jvm.MethodName)) ∈ lw_all := lw_g (lw_at lw_m6 209 rfl) rfl
theorem q1527 : (Jvm.Cond.selects "LeftUndoes" ({ cls := "LeftUndoes", name := "many", desc := "(I)I" } : Jvm.MethodName) ({ cls := "LeftUndoes", name := "many", desc := "(I)I" } : Jvm.MethodName)) ∈ lw_all := lw_g (lw_at lw_m6 210 rfl) rfl
theorem q1528 : (Jvm.Cond.code ({ cls := "LeftUndoes", name := "many", desc := "(I)I" } : Jvm.MethodName) prog_1_method_120_code (2 : Nat) (Option.some Jvm.ClassFile.FieldType.int)) ∈ lw_all := lw_g (lw_at lw_m6 211 rfl) rfl
theorem q1529 : (Jvm.Cond.methodLink "LeftUndoes" (604 : Nat) ({ cls := "LeftUndoes", name := "loans", desc := "()I" } : Jvm.MethodName)) ∈ lw_all := lw_g (lw_at lw_m6 212 rfl) rfl
theorem q1530 : (Jvm.Cond.privateMethod ({ cls := "LeftUndoes", name := "loans", desc := "()I" } : Jvm.MethodName)) ∈ lw_tbl := lw_at lw_m6 213 rfl
theorem q1531 : (Jvm.Cond.instanceMethod ({ cls := "LeftUndoes", name := "loans", desc := "()I" } : Jvm.MethodName)) ∈ lw_all := lw_g (lw_at lw_m6 214 rfl) rfl
theorem q1532 : (Jvm.Cond.code ({ cls := "LeftUndoes", name := "loans", desc := "()I" } : Jvm.MethodName) prog_1_method_119_code (3 : Nat) (Option.some Jvm.ClassFile.FieldType.int)) ∈ lw_all := lw_g (lw_at lw_m6 215 rfl) rfl
theorem q1534 : (Jvm.Cond.instanceMethod ({ cls := "LeftUndoes", name := "keep", desc := "()I" } : Jvm.MethodName)) ∈ lw_all := lw_g (lw_at lw_m6 217 rfl) rfl
theorem q1535 : (Jvm.Cond.selects "LeftUndoes" ({ cls := "LeftUndoes", name := "keep", desc := "()I" } : Jvm.MethodName) ({ cls := "LeftUndoes", name := "keep", desc := "()I" } : Jvm.MethodName)) ∈ lw_all := lw_g (lw_at lw_m6 218 rfl) rfl
theorem q1536 : (Jvm.Cond.code ({ cls := "LeftUndoes", name := "keep", desc := "()I" } : Jvm.MethodName) prog_1_method_121_code (1 : Nat) (Option.some Jvm.ClassFile.FieldType.int)) ∈ lw_all := lw_g (lw_at lw_m6 219 rfl) rfl
theorem q1538 : (Jvm.Cond.instanceMethod ({ cls := "LeftUndoes", name := "again", desc := "()I" } : Jvm.MethodName)) ∈ lw_all := lw_g (lw_at lw_m6 221 rfl) rfl
theorem q1539 : (Jvm.Cond.selects "LeftUndoes" ({ cls := "LeftUndoes", name := "again", desc := "()I" } : Jvm.MethodName) ({ cls := "LeftUndoes", name := "again", desc := "()I" } : Jvm.MethodName)) ∈ lw_all := lw_g (lw_at lw_m6 222 rfl) rfl
theorem q1540 : (Jvm.Cond.code ({ cls := "LeftUndoes", name := "again", desc := "()I" } : Jvm.MethodName) prog_1_method_122_code (2 : Nat) (Option.some Jvm.ClassFile.FieldType.int)) ∈ lw_all := lw_g (lw_at lw_m6 223 rfl) rfl
theorem in_X0 : ∀ w ∈ wsX00, w ∈ lw_all := lw_in wsX00 [437, 439, 441, 443, 445, 447, 449, 451, 453, 455, 457, 459, 461, 463, 465, 467, 469, 471, 473, 475, 477, 479, 481, 483, 485, 487, 489, 491, 493, 495, 497, 499] (by decide +kernel) (by decide +kernel)
