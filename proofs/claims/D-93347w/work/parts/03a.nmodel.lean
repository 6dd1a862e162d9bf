/-! LeftUndoesModel -/
set_option maxRecDepth 100000
def RX6 : String := "LeftUndoesModel"
def TX6 : u_T := fun k => match k with
  | 0 => ("LeftUndoesModel", "s", "[I", true)
  | 1 => ("LeftUndoesModel", "kept", "[I", true)
  | 2 => ("LeftUndoesModel", "other", "[I", true)
  | 3 => ("LeftUndoesModel", "isKept", "Z", false)
  | 4 => ("LeftUndoesModel", "stack", "[I", true)
  | 5 => ("LeftUndoesModel", "nets", "[I", true)
  | 6 => ("LeftUndoesModel", "partsOf", "[I", true)
  | 7 => ("LeftUndoesModel", "saved", "[I", true)
  | 8 => ("LeftUndoesModel", "line", "[I", true)
  | 9 => ("LeftUndoesModel", "first", "[I", true)
  | 10 => ("LeftUndoesModel", "most", "I", false)
  | 11 => ("LeftUndoesModel", "ways", "I", false)
  | 12 => ("LeftUndoesModel", "fewest", "I", false)
  | 13 => ("LeftUndoesModel", "stood", "I", false)
  | 14 => ("LeftUndoesModel", "told", "I", false)
  | 15 => ("LeftUndoesModel", "bestAct", "I", false)
  | 16 => ("LeftUndoesModel", "fitMany", "I", false)
  | 17 => ("LeftUndoesModel", "fitKind", "I", false)
  | 18 => ("LeftUndoesModel", "fitGrace", "I", false)
  | 19 => ("LeftUndoesModel", "fitStrength", "I", false)
  | 20 => ("LeftUndoesModel", "rows", "[I", true)
  | 21 => ("LeftUndoesModel", "rowMany", "I", false)
  | 22 => ("LeftUndoesModel", "tape", "[I", true)
  | 23 => ("LeftUndoesModel", "taped", "I", false)
  | 24 => ("LeftUndoesModel", "from", "I", false)
  | 25 => ("LeftUndoesModel", "to", "I", false)
  | 26 => ("LeftUndoesModel", "value", "I", false)
  | 27 => ("LeftUndoesModel", "open", "I", false)
  | 28 => ("LeftUndoesModel", "coded", "I", false)
  | 29 => ("LeftUndoesModel", "isWrong", "Z", false)
  | 30 => ("LeftUndoesModel", "sortOf", "[I", true)
  | 31 => ("LeftUndoesModel", "sizes", "[I", true)
  | 32 => ("LeftUndoesModel", "items", "[I", true)
  | 33 => ("LeftUndoesModel", "lies", "[I", true)
  | 34 => ("LeftUndoesModel", "liesNumber", "[I", true)
  | 35 => ("LeftUndoesModel", "liesSort", "[I", true)
  | 36 => ("LeftUndoesModel", "ran", "[I", true)
  | 37 => ("LeftUndoesModel", "bodies", "I", false)
  | 38 => ("LeftUndoesModel", "acting", "I", false)
  | 39 => ("LeftUndoesModel", "about", "I", false)
  | 40 => ("LeftUndoesModel", "kindActing", "I", false)
  | _ => ("LeftUndoesModel", "isParted", "Z", false)
def tyX6 : Nat → FieldType := fun k => match k with
  | 0 => .array .int
  | 1 => .array .int
  | 2 => .array .int
  | 3 => .boolean
  | 4 => .array .int
  | 5 => .array .int
  | 6 => .array .int
  | 7 => .array .int
  | 8 => .array .int
  | 9 => .array .int
  | 10 => .int
  | 11 => .int
  | 12 => .int
  | 13 => .int
  | 14 => .int
  | 15 => .int
  | 16 => .int
  | 17 => .int
  | 18 => .int
  | 19 => .int
  | 20 => .array .int
  | 21 => .int
  | 22 => .array .int
  | 23 => .int
  | 24 => .int
  | 25 => .int
  | 26 => .int
  | 27 => .int
  | 28 => .int
  | 29 => .boolean
  | 30 => .array .int
  | 31 => .array .int
  | 32 => .array .int
  | 33 => .array .int
  | 34 => .array .int
  | 35 => .array .int
  | 36 => .array .int
  | 37 => .int
  | 38 => .int
  | 39 => .int
  | 40 => .int
  | _ => .boolean
abbrev wsX60 : List Cond := u_ws RX6 TX6 42
set_option maxRecDepth 100000 in
theorem nmX6 : ∀ a, a < 42 → ∀ b, b < 42 → a ≠ b → (TX6 a).2.1 ≠ (TX6 b).2.1 := by decide +kernel
set_option maxRecDepth 100000 in
theorem tyX6_ok : ∀ k, k < 42 → parseFieldDescriptor (TX6 k).2.2.1 = some (tyX6 k) := by decide +kernel
abbrev cX6_init : ByteArray := prog_26_method_1_code
def yX6_init : MethodName := ⟨RX6, "<init>", "()V"⟩
def dkwX6_init_7 : List UInt8 := [181, 0, 61, 42, 180, 0, 7, 16, 7, 4, 79, 42, 180, 0, 7, 5, 16, 12, 79, 177]
abbrev dktX6_init_7 : List UInt8 := dkwX6_init_7 ++ []
def dkwX6_init_6 : List UInt8 := [181, 0, 52, 42, 7, 188, 10, 181, 0, 55, 42, 7, 188, 10, 181, 0, 58, 42, 16, 30, 188, 10]
abbrev dktX6_init_6 : List UInt8 := dkwX6_init_6 ++ dktX6_init_7
def dkwX6_init_5 : List UInt8 := [181, 0, 43, 42, 7, 188, 10, 181, 0, 46, 42, 17, 0, 160, 188, 10, 181, 0, 49, 42, 7, 188, 10]
abbrev dktX6_init_5 : List UInt8 := dkwX6_init_5 ++ dktX6_init_6
def dkwX6_init_4 : List UInt8 := [181, 0, 40, 42, 7, 188, 10, 89, 3, 2, 79, 89, 4, 2, 79, 89, 5, 2, 79, 89, 6, 2, 79]
abbrev dktX6_init_4 : List UInt8 := dkwX6_init_4 ++ dktX6_init_5
def dkwX6_init_3 : List UInt8 := [181, 0, 31, 42, 7, 188, 10, 181, 0, 34, 42, 16, 12, 188, 10, 181, 0, 37, 42, 17, 0, 200, 188, 10]
abbrev dktX6_init_3 : List UInt8 := dkwX6_init_3 ++ dktX6_init_4
def dkwX6_init_2 : List UInt8 := [181, 0, 22, 42, 16, 64, 188, 10, 181, 0, 25, 42, 16, 60, 188, 10, 181, 0, 28, 42, 7, 188, 10]
abbrev dktX6_init_2 : List UInt8 := dkwX6_init_2 ++ dktX6_init_3
def dkwX6_init_1 : List UInt8 := [17, 1, 112, 188, 10, 181, 0, 16, 42, 17, 0, 200, 188, 10, 181, 0, 19, 42, 16, 64, 188, 10]
abbrev dktX6_init_1 : List UInt8 := dkwX6_init_1 ++ dktX6_init_2
def dkwX6_init_0 : List UInt8 := [42, 183, 0, 1, 42, 17, 1, 112, 188, 10, 181, 0, 7, 42, 17, 1, 112, 188, 10, 181, 0, 13, 42]
abbrev dktX6_init_0 : List UInt8 := dkwX6_init_0 ++ dktX6_init_1
theorem dksX6_init_0 : cX6_init.data.toList.drop 0 = dktX6_init_0 := by decide +kernel
theorem dksX6_init_1 : cX6_init.data.toList.drop 23 = dktX6_init_1 := dk_seg dksX6_init_0 23 rfl rfl
theorem dksX6_init_2 : cX6_init.data.toList.drop 45 = dktX6_init_2 := dk_seg dksX6_init_1 22 rfl rfl
theorem dksX6_init_3 : cX6_init.data.toList.drop 68 = dktX6_init_3 := dk_seg dksX6_init_2 23 rfl rfl
theorem dksX6_init_4 : cX6_init.data.toList.drop 92 = dktX6_init_4 := dk_seg dksX6_init_3 24 rfl rfl
theorem dksX6_init_5 : cX6_init.data.toList.drop 115 = dktX6_init_5 := dk_seg dksX6_init_4 23 rfl rfl
theorem dksX6_init_6 : cX6_init.data.toList.drop 138 = dktX6_init_6 := dk_seg dksX6_init_5 23 rfl rfl
theorem dksX6_init_7 : cX6_init.data.toList.drop 160 = dktX6_init_7 := dk_seg dksX6_init_6 22 rfl rfl
theorem dX6_init_0 : decode cX6_init 0 = .ok (.aload_n 0, 1) := dk_42 (dk_at dksX6_init_0 0 rfl rfl)
theorem dX6_init_1 : decode cX6_init 1 = .ok (.invokespecial 1, 3) := dk_183 0 1 (dk_at dksX6_init_0 1 rfl rfl)
theorem dX6_init_4 : decode cX6_init 4 = .ok (.aload_n 0, 1) := dk_42 (dk_at dksX6_init_0 4 rfl rfl)
theorem dX6_init_5 : decode cX6_init 5 = .ok (.sipush 368, 3) := dk_17 1 112 (dk_at dksX6_init_0 5 rfl rfl)
theorem dX6_init_8 : decode cX6_init 8 = .ok (.newarray .int, 2) := dk_188_10 (dk_at dksX6_init_0 8 rfl rfl)
theorem dX6_init_10 : decode cX6_init 10 = .ok (.putfield 7, 3) := dk_181 0 7 (dk_at dksX6_init_0 10 rfl rfl)
theorem dX6_init_13 : decode cX6_init 13 = .ok (.aload_n 0, 1) := dk_42 (dk_at dksX6_init_0 13 rfl rfl)
theorem dX6_init_14 : decode cX6_init 14 = .ok (.sipush 368, 3) := dk_17 1 112 (dk_at dksX6_init_0 14 rfl rfl)
theorem dX6_init_17 : decode cX6_init 17 = .ok (.newarray .int, 2) := dk_188_10 (dk_at dksX6_init_0 17 rfl rfl)
theorem dX6_init_19 : decode cX6_init 19 = .ok (.putfield 13, 3) := dk_181 0 13 (dk_at dksX6_init_0 19 rfl rfl)
theorem dX6_init_22 : decode cX6_init 22 = .ok (.aload_n 0, 1) := dk_42 (dk_at dksX6_init_0 22 rfl rfl)
theorem dX6_init_23 : decode cX6_init 23 = .ok (.sipush 368, 3) := dk_17 1 112 (dk_at dksX6_init_1 0 rfl rfl)
theorem dX6_init_26 : decode cX6_init 26 = .ok (.newarray .int, 2) := dk_188_10 (dk_at dksX6_init_1 3 rfl rfl)
theorem dX6_init_28 : decode cX6_init 28 = .ok (.putfield 16, 3) := dk_181 0 16 (dk_at dksX6_init_1 5 rfl rfl)
theorem dX6_init_31 : decode cX6_init 31 = .ok (.aload_n 0, 1) := dk_42 (dk_at dksX6_init_1 8 rfl rfl)
theorem dX6_init_32 : decode cX6_init 32 = .ok (.sipush 200, 3) := dk_17 0 200 (dk_at dksX6_init_1 9 rfl rfl)
theorem dX6_init_35 : decode cX6_init 35 = .ok (.newarray .int, 2) := dk_188_10 (dk_at dksX6_init_1 12 rfl rfl)
theorem dX6_init_37 : decode cX6_init 37 = .ok (.putfield 19, 3) := dk_181 0 19 (dk_at dksX6_init_1 14 rfl rfl)
theorem dX6_init_40 : decode cX6_init 40 = .ok (.aload_n 0, 1) := dk_42 (dk_at dksX6_init_1 17 rfl rfl)
theorem dX6_init_41 : decode cX6_init 41 = .ok (.bipush 64, 2) := dk_16 64 (dk_at dksX6_init_1 18 rfl rfl)
theorem dX6_init_43 : decode cX6_init 43 = .ok (.newarray .int, 2) := dk_188_10 (dk_at dksX6_init_1 20 rfl rfl)
theorem dX6_init_45 : decode cX6_init 45 = .ok (.putfield 22, 3) := dk_181 0 22 (dk_at dksX6_init_2 0 rfl rfl)
theorem dX6_init_48 : decode cX6_init 48 = .ok (.aload_n 0, 1) := dk_42 (dk_at dksX6_init_2 3 rfl rfl)
theorem dX6_init_49 : decode cX6_init 49 = .ok (.bipush 64, 2) := dk_16 64 (dk_at dksX6_init_2 4 rfl rfl)
theorem dX6_init_51 : decode cX6_init 51 = .ok (.newarray .int, 2) := dk_188_10 (dk_at dksX6_init_2 6 rfl rfl)
theorem dX6_init_53 : decode cX6_init 53 = .ok (.putfield 25, 3) := dk_181 0 25 (dk_at dksX6_init_2 8 rfl rfl)
theorem dX6_init_56 : decode cX6_init 56 = .ok (.aload_n 0, 1) := dk_42 (dk_at dksX6_init_2 11 rfl rfl)
theorem dX6_init_57 : decode cX6_init 57 = .ok (.bipush 60, 2) := dk_16 60 (dk_at dksX6_init_2 12 rfl rfl)
theorem dX6_init_59 : decode cX6_init 59 = .ok (.newarray .int, 2) := dk_188_10 (dk_at dksX6_init_2 14 rfl rfl)
theorem dX6_init_61 : decode cX6_init 61 = .ok (.putfield 28, 3) := dk_181 0 28 (dk_at dksX6_init_2 16 rfl rfl)
theorem dX6_init_64 : decode cX6_init 64 = .ok (.aload_n 0, 1) := dk_42 (dk_at dksX6_init_2 19 rfl rfl)
theorem dX6_init_65 : decode cX6_init 65 = .ok (.iconst 4, 1) := dk_7 (dk_at dksX6_init_2 20 rfl rfl)
theorem dX6_init_66 : decode cX6_init 66 = .ok (.newarray .int, 2) := dk_188_10 (dk_at dksX6_init_2 21 rfl rfl)
theorem dX6_init_68 : decode cX6_init 68 = .ok (.putfield 31, 3) := dk_181 0 31 (dk_at dksX6_init_3 0 rfl rfl)
theorem dX6_init_71 : decode cX6_init 71 = .ok (.aload_n 0, 1) := dk_42 (dk_at dksX6_init_3 3 rfl rfl)
theorem dX6_init_72 : decode cX6_init 72 = .ok (.iconst 4, 1) := dk_7 (dk_at dksX6_init_3 4 rfl rfl)
theorem dX6_init_73 : decode cX6_init 73 = .ok (.newarray .int, 2) := dk_188_10 (dk_at dksX6_init_3 5 rfl rfl)
theorem dX6_init_75 : decode cX6_init 75 = .ok (.putfield 34, 3) := dk_181 0 34 (dk_at dksX6_init_3 7 rfl rfl)
theorem dX6_init_78 : decode cX6_init 78 = .ok (.aload_n 0, 1) := dk_42 (dk_at dksX6_init_3 10 rfl rfl)
theorem dX6_init_79 : decode cX6_init 79 = .ok (.bipush 12, 2) := dk_16 12 (dk_at dksX6_init_3 11 rfl rfl)
theorem dX6_init_81 : decode cX6_init 81 = .ok (.newarray .int, 2) := dk_188_10 (dk_at dksX6_init_3 13 rfl rfl)
theorem dX6_init_83 : decode cX6_init 83 = .ok (.putfield 37, 3) := dk_181 0 37 (dk_at dksX6_init_3 15 rfl rfl)
theorem dX6_init_86 : decode cX6_init 86 = .ok (.aload_n 0, 1) := dk_42 (dk_at dksX6_init_3 18 rfl rfl)
theorem dX6_init_87 : decode cX6_init 87 = .ok (.sipush 200, 3) := dk_17 0 200 (dk_at dksX6_init_3 19 rfl rfl)
theorem dX6_init_90 : decode cX6_init 90 = .ok (.newarray .int, 2) := dk_188_10 (dk_at dksX6_init_3 22 rfl rfl)
theorem dX6_init_92 : decode cX6_init 92 = .ok (.putfield 40, 3) := dk_181 0 40 (dk_at dksX6_init_4 0 rfl rfl)
theorem dX6_init_95 : decode cX6_init 95 = .ok (.aload_n 0, 1) := dk_42 (dk_at dksX6_init_4 3 rfl rfl)
theorem dX6_init_96 : decode cX6_init 96 = .ok (.iconst 4, 1) := dk_7 (dk_at dksX6_init_4 4 rfl rfl)
theorem dX6_init_97 : decode cX6_init 97 = .ok (.newarray .int, 2) := dk_188_10 (dk_at dksX6_init_4 5 rfl rfl)
theorem dX6_init_99 : decode cX6_init 99 = .ok (.dup, 1) := dk_89 (dk_at dksX6_init_4 7 rfl rfl)
theorem dX6_init_100 : decode cX6_init 100 = .ok (.iconst 0, 1) := dk_3 (dk_at dksX6_init_4 8 rfl rfl)
theorem dX6_init_101 : decode cX6_init 101 = .ok (.iconst (-1), 1) := dk_2 (dk_at dksX6_init_4 9 rfl rfl)
theorem dX6_init_102 : decode cX6_init 102 = .ok (.iastore, 1) := dk_79 (dk_at dksX6_init_4 10 rfl rfl)
theorem dX6_init_103 : decode cX6_init 103 = .ok (.dup, 1) := dk_89 (dk_at dksX6_init_4 11 rfl rfl)
theorem dX6_init_104 : decode cX6_init 104 = .ok (.iconst 1, 1) := dk_4 (dk_at dksX6_init_4 12 rfl rfl)
theorem dX6_init_105 : decode cX6_init 105 = .ok (.iconst (-1), 1) := dk_2 (dk_at dksX6_init_4 13 rfl rfl)
theorem dX6_init_106 : decode cX6_init 106 = .ok (.iastore, 1) := dk_79 (dk_at dksX6_init_4 14 rfl rfl)
theorem dX6_init_107 : decode cX6_init 107 = .ok (.dup, 1) := dk_89 (dk_at dksX6_init_4 15 rfl rfl)
theorem dX6_init_108 : decode cX6_init 108 = .ok (.iconst 2, 1) := dk_5 (dk_at dksX6_init_4 16 rfl rfl)
theorem dX6_init_109 : decode cX6_init 109 = .ok (.iconst (-1), 1) := dk_2 (dk_at dksX6_init_4 17 rfl rfl)
theorem dX6_init_110 : decode cX6_init 110 = .ok (.iastore, 1) := dk_79 (dk_at dksX6_init_4 18 rfl rfl)
theorem dX6_init_111 : decode cX6_init 111 = .ok (.dup, 1) := dk_89 (dk_at dksX6_init_4 19 rfl rfl)
theorem dX6_init_112 : decode cX6_init 112 = .ok (.iconst 3, 1) := dk_6 (dk_at dksX6_init_4 20 rfl rfl)
theorem dX6_init_113 : decode cX6_init 113 = .ok (.iconst (-1), 1) := dk_2 (dk_at dksX6_init_4 21 rfl rfl)
theorem dX6_init_114 : decode cX6_init 114 = .ok (.iastore, 1) := dk_79 (dk_at dksX6_init_4 22 rfl rfl)
theorem dX6_init_115 : decode cX6_init 115 = .ok (.putfield 43, 3) := dk_181 0 43 (dk_at dksX6_init_5 0 rfl rfl)
theorem dX6_init_118 : decode cX6_init 118 = .ok (.aload_n 0, 1) := dk_42 (dk_at dksX6_init_5 3 rfl rfl)
theorem dX6_init_119 : decode cX6_init 119 = .ok (.iconst 4, 1) := dk_7 (dk_at dksX6_init_5 4 rfl rfl)
theorem dX6_init_120 : decode cX6_init 120 = .ok (.newarray .int, 2) := dk_188_10 (dk_at dksX6_init_5 5 rfl rfl)
theorem dX6_init_122 : decode cX6_init 122 = .ok (.putfield 46, 3) := dk_181 0 46 (dk_at dksX6_init_5 7 rfl rfl)
theorem dX6_init_125 : decode cX6_init 125 = .ok (.aload_n 0, 1) := dk_42 (dk_at dksX6_init_5 10 rfl rfl)
theorem dX6_init_126 : decode cX6_init 126 = .ok (.sipush 160, 3) := dk_17 0 160 (dk_at dksX6_init_5 11 rfl rfl)
theorem dX6_init_129 : decode cX6_init 129 = .ok (.newarray .int, 2) := dk_188_10 (dk_at dksX6_init_5 14 rfl rfl)
theorem dX6_init_131 : decode cX6_init 131 = .ok (.putfield 49, 3) := dk_181 0 49 (dk_at dksX6_init_5 16 rfl rfl)
theorem dX6_init_134 : decode cX6_init 134 = .ok (.aload_n 0, 1) := dk_42 (dk_at dksX6_init_5 19 rfl rfl)
theorem dX6_init_135 : decode cX6_init 135 = .ok (.iconst 4, 1) := dk_7 (dk_at dksX6_init_5 20 rfl rfl)
theorem dX6_init_136 : decode cX6_init 136 = .ok (.newarray .int, 2) := dk_188_10 (dk_at dksX6_init_5 21 rfl rfl)
theorem dX6_init_138 : decode cX6_init 138 = .ok (.putfield 52, 3) := dk_181 0 52 (dk_at dksX6_init_6 0 rfl rfl)
theorem dX6_init_141 : decode cX6_init 141 = .ok (.aload_n 0, 1) := dk_42 (dk_at dksX6_init_6 3 rfl rfl)
theorem dX6_init_142 : decode cX6_init 142 = .ok (.iconst 4, 1) := dk_7 (dk_at dksX6_init_6 4 rfl rfl)
theorem dX6_init_143 : decode cX6_init 143 = .ok (.newarray .int, 2) := dk_188_10 (dk_at dksX6_init_6 5 rfl rfl)
theorem dX6_init_145 : decode cX6_init 145 = .ok (.putfield 55, 3) := dk_181 0 55 (dk_at dksX6_init_6 7 rfl rfl)
theorem dX6_init_148 : decode cX6_init 148 = .ok (.aload_n 0, 1) := dk_42 (dk_at dksX6_init_6 10 rfl rfl)
theorem dX6_init_149 : decode cX6_init 149 = .ok (.iconst 4, 1) := dk_7 (dk_at dksX6_init_6 11 rfl rfl)
theorem dX6_init_150 : decode cX6_init 150 = .ok (.newarray .int, 2) := dk_188_10 (dk_at dksX6_init_6 12 rfl rfl)
theorem dX6_init_152 : decode cX6_init 152 = .ok (.putfield 58, 3) := dk_181 0 58 (dk_at dksX6_init_6 14 rfl rfl)
theorem dX6_init_155 : decode cX6_init 155 = .ok (.aload_n 0, 1) := dk_42 (dk_at dksX6_init_6 17 rfl rfl)
theorem dX6_init_156 : decode cX6_init 156 = .ok (.bipush 30, 2) := dk_16 30 (dk_at dksX6_init_6 18 rfl rfl)
theorem dX6_init_158 : decode cX6_init 158 = .ok (.newarray .int, 2) := dk_188_10 (dk_at dksX6_init_6 20 rfl rfl)
theorem dX6_init_160 : decode cX6_init 160 = .ok (.putfield 61, 3) := dk_181 0 61 (dk_at dksX6_init_7 0 rfl rfl)
theorem dX6_init_163 : decode cX6_init 163 = .ok (.aload_n 0, 1) := dk_42 (dk_at dksX6_init_7 3 rfl rfl)
theorem dX6_init_164 : decode cX6_init 164 = .ok (.getfield 7, 3) := dk_180 0 7 (dk_at dksX6_init_7 4 rfl rfl)
theorem dX6_init_167 : decode cX6_init 167 = .ok (.bipush 7, 2) := dk_16 7 (dk_at dksX6_init_7 7 rfl rfl)
theorem dX6_init_169 : decode cX6_init 169 = .ok (.iconst 1, 1) := dk_4 (dk_at dksX6_init_7 9 rfl rfl)
theorem dX6_init_170 : decode cX6_init 170 = .ok (.iastore, 1) := dk_79 (dk_at dksX6_init_7 10 rfl rfl)
theorem dX6_init_171 : decode cX6_init 171 = .ok (.aload_n 0, 1) := dk_42 (dk_at dksX6_init_7 11 rfl rfl)
theorem dX6_init_172 : decode cX6_init 172 = .ok (.getfield 7, 3) := dk_180 0 7 (dk_at dksX6_init_7 12 rfl rfl)
theorem dX6_init_175 : decode cX6_init 175 = .ok (.iconst 2, 1) := dk_5 (dk_at dksX6_init_7 15 rfl rfl)
theorem dX6_init_176 : decode cX6_init 176 = .ok (.bipush 12, 2) := dk_16 12 (dk_at dksX6_init_7 16 rfl rfl)
theorem dX6_init_178 : decode cX6_init 178 = .ok (.iastore, 1) := dk_79 (dk_at dksX6_init_7 18 rfl rfl)
theorem dX6_init_179 : decode cX6_init 179 = .ok (.return_, 1) := dk_177 (dk_at dksX6_init_7 19 rfl rfl)
abbrev cX6_person : ByteArray := prog_26_method_14_code
def yX6_person : MethodName := ⟨RX6, "person", "(III)I"⟩
def dkwX6_person_4 : List UInt8 := [180, 0, 7, 3, 92, 46, 4, 96, 79, 21, 4, 172]
abbrev dktX6_person_4 : List UInt8 := dkwX6_person_4 ++ []
def dkwX6_person_3 : List UInt8 := [180, 0, 7, 21, 4, 4, 184, 0, 68, 28, 79, 42, 180, 0, 7, 21, 4, 5, 184, 0, 68, 29, 79, 42]
abbrev dktX6_person_3 : List UInt8 := dkwX6_person_3 ++ dktX6_person_4
def dkwX6_person_2 : List UInt8 := [172, 42, 180, 0, 7, 3, 46, 54, 4, 42, 180, 0, 7, 21, 4, 3, 184, 0, 68, 27, 79, 42]
abbrev dktX6_person_2 : List UInt8 := dkwX6_person_2 ++ dktX6_person_3
def dkwX6_person_1 : List UInt8 := [20, 0, 81, 184, 0, 64, 154, 0, 5, 2, 172, 42, 180, 0, 7, 3, 46, 16, 6, 160, 0, 6, 16, 254]
abbrev dktX6_person_1 : List UInt8 := dkwX6_person_1 ++ dktX6_person_2
def dkwX6_person_0 : List UInt8 := [27, 184, 0, 77, 153, 0, 27, 28, 133, 10, 20, 0, 81, 184, 0, 64, 153, 0, 15, 29, 133, 10]
abbrev dktX6_person_0 : List UInt8 := dkwX6_person_0 ++ dktX6_person_1
theorem dksX6_person_0 : cX6_person.data.toList.drop 0 = dktX6_person_0 := by decide +kernel
theorem dksX6_person_1 : cX6_person.data.toList.drop 22 = dktX6_person_1 := dk_seg dksX6_person_0 22 rfl rfl
theorem dksX6_person_2 : cX6_person.data.toList.drop 46 = dktX6_person_2 := dk_seg dksX6_person_1 24 rfl rfl
theorem dksX6_person_3 : cX6_person.data.toList.drop 68 = dktX6_person_3 := dk_seg dksX6_person_2 22 rfl rfl
theorem dksX6_person_4 : cX6_person.data.toList.drop 92 = dktX6_person_4 := dk_seg dksX6_person_3 24 rfl rfl
theorem dX6_person_0 : decode cX6_person 0 = .ok (.iload_n 1, 1) := dk_27 (dk_at dksX6_person_0 0 rfl rfl)
theorem dX6_person_1 : decode cX6_person 1 = .ok (.invokestatic 77, 3) := dk_184 0 77 (dk_at dksX6_person_0 1 rfl rfl)
theorem dX6_person_4 : decode cX6_person 4 = .ok (.ifCond .eq 27, 3) := dk_153 0 27 (dk_at dksX6_person_0 4 rfl rfl)
theorem dX6_person_7 : decode cX6_person 7 = .ok (.iload_n 2, 1) := dk_28 (dk_at dksX6_person_0 7 rfl rfl)
theorem dX6_person_8 : decode cX6_person 8 = .ok (.i2l, 1) := dk_133 (dk_at dksX6_person_0 8 rfl rfl)
theorem dX6_person_9 : decode cX6_person 9 = .ok (.lconst 1, 1) := dk_10 (dk_at dksX6_person_0 9 rfl rfl)
theorem dX6_person_10 : decode cX6_person 10 = .ok (.ldc2_w 81, 3) := dk_20 0 81 (dk_at dksX6_person_0 10 rfl rfl)
theorem dX6_person_13 : decode cX6_person 13 = .ok (.invokestatic 64, 3) := dk_184 0 64 (dk_at dksX6_person_0 13 rfl rfl)
theorem dX6_person_16 : decode cX6_person 16 = .ok (.ifCond .eq 15, 3) := dk_153 0 15 (dk_at dksX6_person_0 16 rfl rfl)
theorem dX6_person_19 : decode cX6_person 19 = .ok (.iload_n 3, 1) := dk_29 (dk_at dksX6_person_0 19 rfl rfl)
theorem dX6_person_20 : decode cX6_person 20 = .ok (.i2l, 1) := dk_133 (dk_at dksX6_person_0 20 rfl rfl)
theorem dX6_person_21 : decode cX6_person 21 = .ok (.lconst 1, 1) := dk_10 (dk_at dksX6_person_0 21 rfl rfl)
theorem dX6_person_22 : decode cX6_person 22 = .ok (.ldc2_w 81, 3) := dk_20 0 81 (dk_at dksX6_person_1 0 rfl rfl)
theorem dX6_person_25 : decode cX6_person 25 = .ok (.invokestatic 64, 3) := dk_184 0 64 (dk_at dksX6_person_1 3 rfl rfl)
theorem dX6_person_28 : decode cX6_person 28 = .ok (.ifCond .ne 5, 3) := dk_154 0 5 (dk_at dksX6_person_1 6 rfl rfl)
theorem dX6_person_31 : decode cX6_person 31 = .ok (.iconst (-1), 1) := dk_2 (dk_at dksX6_person_1 9 rfl rfl)
theorem dX6_person_32 : decode cX6_person 32 = .ok (.ireturn, 1) := dk_172 (dk_at dksX6_person_1 10 rfl rfl)
theorem dX6_person_33 : decode cX6_person 33 = .ok (.aload_n 0, 1) := dk_42 (dk_at dksX6_person_1 11 rfl rfl)
theorem dX6_person_34 : decode cX6_person 34 = .ok (.getfield 7, 3) := dk_180 0 7 (dk_at dksX6_person_1 12 rfl rfl)
theorem dX6_person_37 : decode cX6_person 37 = .ok (.iconst 0, 1) := dk_3 (dk_at dksX6_person_1 15 rfl rfl)
theorem dX6_person_38 : decode cX6_person 38 = .ok (.iaload, 1) := dk_46 (dk_at dksX6_person_1 16 rfl rfl)
theorem dX6_person_39 : decode cX6_person 39 = .ok (.bipush 6, 2) := dk_16 6 (dk_at dksX6_person_1 17 rfl rfl)
theorem dX6_person_41 : decode cX6_person 41 = .ok (.if_icmp .ne 6, 3) := dk_160 0 6 (dk_at dksX6_person_1 19 rfl rfl)
theorem dX6_person_44 : decode cX6_person 44 = .ok (.bipush (-2), 2) := dk_16 254 (dk_at dksX6_person_1 22 rfl rfl)
theorem dX6_person_46 : decode cX6_person 46 = .ok (.ireturn, 1) := dk_172 (dk_at dksX6_person_2 0 rfl rfl)
theorem dX6_person_47 : decode cX6_person 47 = .ok (.aload_n 0, 1) := dk_42 (dk_at dksX6_person_2 1 rfl rfl)
theorem dX6_person_48 : decode cX6_person 48 = .ok (.getfield 7, 3) := dk_180 0 7 (dk_at dksX6_person_2 2 rfl rfl)
theorem dX6_person_51 : decode cX6_person 51 = .ok (.iconst 0, 1) := dk_3 (dk_at dksX6_person_2 5 rfl rfl)
theorem dX6_person_52 : decode cX6_person 52 = .ok (.iaload, 1) := dk_46 (dk_at dksX6_person_2 6 rfl rfl)
theorem dX6_person_53 : decode cX6_person 53 = .ok (.istore 4, 2) := dk_54 4 (dk_at dksX6_person_2 7 rfl rfl)
theorem dX6_person_55 : decode cX6_person 55 = .ok (.aload_n 0, 1) := dk_42 (dk_at dksX6_person_2 9 rfl rfl)
theorem dX6_person_56 : decode cX6_person 56 = .ok (.getfield 7, 3) := dk_180 0 7 (dk_at dksX6_person_2 10 rfl rfl)
theorem dX6_person_59 : decode cX6_person 59 = .ok (.iload 4, 2) := dk_21 4 (dk_at dksX6_person_2 13 rfl rfl)
theorem dX6_person_61 : decode cX6_person 61 = .ok (.iconst 0, 1) := dk_3 (dk_at dksX6_person_2 15 rfl rfl)
theorem dX6_person_62 : decode cX6_person 62 = .ok (.invokestatic 68, 3) := dk_184 0 68 (dk_at dksX6_person_2 16 rfl rfl)
theorem dX6_person_65 : decode cX6_person 65 = .ok (.iload_n 1, 1) := dk_27 (dk_at dksX6_person_2 19 rfl rfl)
theorem dX6_person_66 : decode cX6_person 66 = .ok (.iastore, 1) := dk_79 (dk_at dksX6_person_2 20 rfl rfl)
theorem dX6_person_67 : decode cX6_person 67 = .ok (.aload_n 0, 1) := dk_42 (dk_at dksX6_person_2 21 rfl rfl)
theorem dX6_person_68 : decode cX6_person 68 = .ok (.getfield 7, 3) := dk_180 0 7 (dk_at dksX6_person_3 0 rfl rfl)
theorem dX6_person_71 : decode cX6_person 71 = .ok (.iload 4, 2) := dk_21 4 (dk_at dksX6_person_3 3 rfl rfl)
theorem dX6_person_73 : decode cX6_person 73 = .ok (.iconst 1, 1) := dk_4 (dk_at dksX6_person_3 5 rfl rfl)
theorem dX6_person_74 : decode cX6_person 74 = .ok (.invokestatic 68, 3) := dk_184 0 68 (dk_at dksX6_person_3 6 rfl rfl)
theorem dX6_person_77 : decode cX6_person 77 = .ok (.iload_n 2, 1) := dk_28 (dk_at dksX6_person_3 9 rfl rfl)
theorem dX6_person_78 : decode cX6_person 78 = .ok (.iastore, 1) := dk_79 (dk_at dksX6_person_3 10 rfl rfl)
theorem dX6_person_79 : decode cX6_person 79 = .ok (.aload_n 0, 1) := dk_42 (dk_at dksX6_person_3 11 rfl rfl)
theorem dX6_person_80 : decode cX6_person 80 = .ok (.getfield 7, 3) := dk_180 0 7 (dk_at dksX6_person_3 12 rfl rfl)
theorem dX6_person_83 : decode cX6_person 83 = .ok (.iload 4, 2) := dk_21 4 (dk_at dksX6_person_3 15 rfl rfl)
theorem dX6_person_85 : decode cX6_person 85 = .ok (.iconst 2, 1) := dk_5 (dk_at dksX6_person_3 17 rfl rfl)
theorem dX6_person_86 : decode cX6_person 86 = .ok (.invokestatic 68, 3) := dk_184 0 68 (dk_at dksX6_person_3 18 rfl rfl)
theorem dX6_person_89 : decode cX6_person 89 = .ok (.iload_n 3, 1) := dk_29 (dk_at dksX6_person_3 21 rfl rfl)
theorem dX6_person_90 : decode cX6_person 90 = .ok (.iastore, 1) := dk_79 (dk_at dksX6_person_3 22 rfl rfl)
theorem dX6_person_91 : decode cX6_person 91 = .ok (.aload_n 0, 1) := dk_42 (dk_at dksX6_person_3 23 rfl rfl)
theorem dX6_person_92 : decode cX6_person 92 = .ok (.getfield 7, 3) := dk_180 0 7 (dk_at dksX6_person_4 0 rfl rfl)
theorem dX6_person_95 : decode cX6_person 95 = .ok (.iconst 0, 1) := dk_3 (dk_at dksX6_person_4 3 rfl rfl)
theorem dX6_person_96 : decode cX6_person 96 = .ok (.dup2, 1) := dk_92 (dk_at dksX6_person_4 4 rfl rfl)
theorem dX6_person_97 : decode cX6_person 97 = .ok (.iaload, 1) := dk_46 (dk_at dksX6_person_4 5 rfl rfl)
theorem dX6_person_98 : decode cX6_person 98 = .ok (.iconst 1, 1) := dk_4 (dk_at dksX6_person_4 6 rfl rfl)
theorem dX6_person_99 : decode cX6_person 99 = .ok (.iadd, 1) := dk_96 (dk_at dksX6_person_4 7 rfl rfl)
theorem dX6_person_100 : decode cX6_person 100 = .ok (.iastore, 1) := dk_79 (dk_at dksX6_person_4 8 rfl rfl)
theorem dX6_person_101 : decode cX6_person 101 = .ok (.iload 4, 2) := dk_21 4 (dk_at dksX6_person_4 9 rfl rfl)
theorem dX6_person_103 : decode cX6_person 103 = .ok (.ireturn, 1) := dk_172 (dk_at dksX6_person_4 11 rfl rfl)
abbrev cX6_isKind : ByteArray := prog_26_method_13_code
def yX6_isKind : MethodName := ⟨RX6, "isKind", "(I)Z"⟩
def dkwX6_isKind_0 : List UInt8 := [26, 133, 10, 20, 0, 75, 184, 0, 64, 172]
abbrev dktX6_isKind_0 : List UInt8 := dkwX6_isKind_0 ++ []
theorem dksX6_isKind_0 : cX6_isKind.data.toList.drop 0 = dktX6_isKind_0 := by decide +kernel
theorem dX6_isKind_0 : decode cX6_isKind 0 = .ok (.iload_n 0, 1) := dk_26 (dk_at dksX6_isKind_0 0 rfl rfl)
theorem dX6_isKind_1 : decode cX6_isKind 1 = .ok (.i2l, 1) := dk_133 (dk_at dksX6_isKind_0 1 rfl rfl)
theorem dX6_isKind_2 : decode cX6_isKind 2 = .ok (.lconst 1, 1) := dk_10 (dk_at dksX6_isKind_0 2 rfl rfl)
theorem dX6_isKind_3 : decode cX6_isKind 3 = .ok (.ldc2_w 75, 3) := dk_20 0 75 (dk_at dksX6_isKind_0 3 rfl rfl)
theorem dX6_isKind_6 : decode cX6_isKind 6 = .ok (.invokestatic 64, 3) := dk_184 0 64 (dk_at dksX6_isKind_0 6 rfl rfl)
theorem dX6_isKind_9 : decode cX6_isKind 9 = .ok (.ireturn, 1) := dk_172 (dk_at dksX6_isKind_0 9 rfl rfl)
abbrev cX6_in : ByteArray := prog_26_method_2_code
def yX6_in : MethodName := ⟨RX6, "in", "(JJJ)Z"⟩
def dkwX6_in_0 : List UInt8 := [30, 32, 148, 155, 0, 14, 30, 22, 4, 148, 157, 0, 7, 4, 167, 0, 4, 3, 172]
abbrev dktX6_in_0 : List UInt8 := dkwX6_in_0 ++ []
theorem dksX6_in_0 : cX6_in.data.toList.drop 0 = dktX6_in_0 := by decide +kernel
theorem dX6_in_0 : decode cX6_in 0 = .ok (.lload_n 0, 1) := dk_30 (dk_at dksX6_in_0 0 rfl rfl)
theorem dX6_in_1 : decode cX6_in 1 = .ok (.lload_n 2, 1) := dk_32 (dk_at dksX6_in_0 1 rfl rfl)
theorem dX6_in_2 : decode cX6_in 2 = .ok (.lcmp, 1) := dk_148 (dk_at dksX6_in_0 2 rfl rfl)
theorem dX6_in_3 : decode cX6_in 3 = .ok (.ifCond .lt 14, 3) := dk_155 0 14 (dk_at dksX6_in_0 3 rfl rfl)
theorem dX6_in_6 : decode cX6_in 6 = .ok (.lload_n 0, 1) := dk_30 (dk_at dksX6_in_0 6 rfl rfl)
theorem dX6_in_7 : decode cX6_in 7 = .ok (.lload 4, 2) := dk_22 4 (dk_at dksX6_in_0 7 rfl rfl)
theorem dX6_in_9 : decode cX6_in 9 = .ok (.lcmp, 1) := dk_148 (dk_at dksX6_in_0 9 rfl rfl)
theorem dX6_in_10 : decode cX6_in 10 = .ok (.ifCond .gt 7, 3) := dk_157 0 7 (dk_at dksX6_in_0 10 rfl rfl)
theorem dX6_in_13 : decode cX6_in 13 = .ok (.iconst 1, 1) := dk_4 (dk_at dksX6_in_0 13 rfl rfl)
theorem dX6_in_14 : decode cX6_in 14 = .ok (.goto 4, 3) := dk_167 0 4 (dk_at dksX6_in_0 14 rfl rfl)
theorem dX6_in_17 : decode cX6_in 17 = .ok (.iconst 0, 1) := dk_3 (dk_at dksX6_in_0 17 rfl rfl)
theorem dX6_in_18 : decode cX6_in 18 = .ok (.ireturn, 1) := dk_172 (dk_at dksX6_in_0 18 rfl rfl)
abbrev cX6_at : ByteArray := prog_26_method_9_code
def yX6_at : MethodName := ⟨RX6, "at", "(II)I"⟩
def dkwX6_at_0 : List UInt8 := [16, 8, 6, 26, 104, 96, 27, 96, 172]
abbrev dktX6_at_0 : List UInt8 := dkwX6_at_0 ++ []
theorem dksX6_at_0 : cX6_at.data.toList.drop 0 = dktX6_at_0 := by decide +kernel
theorem dX6_at_0 : decode cX6_at 0 = .ok (.bipush 8, 2) := dk_16 8 (dk_at dksX6_at_0 0 rfl rfl)
theorem dX6_at_2 : decode cX6_at 2 = .ok (.iconst 3, 1) := dk_6 (dk_at dksX6_at_0 2 rfl rfl)
theorem dX6_at_3 : decode cX6_at 3 = .ok (.iload_n 0, 1) := dk_26 (dk_at dksX6_at_0 3 rfl rfl)
theorem dX6_at_4 : decode cX6_at 4 = .ok (.imul, 1) := dk_104 (dk_at dksX6_at_0 4 rfl rfl)
theorem dX6_at_5 : decode cX6_at 5 = .ok (.iadd, 1) := dk_96 (dk_at dksX6_at_0 5 rfl rfl)
theorem dX6_at_6 : decode cX6_at 6 = .ok (.iload_n 1, 1) := dk_27 (dk_at dksX6_at_0 6 rfl rfl)
theorem dX6_at_7 : decode cX6_at 7 = .ok (.iadd, 1) := dk_96 (dk_at dksX6_at_0 7 rfl rfl)
theorem dX6_at_8 : decode cX6_at 8 = .ok (.ireturn, 1) := dk_172 (dk_at dksX6_at_0 8 rfl rfl)
abbrev cX6_personOf : ByteArray := prog_26_method_20_code
def yX6_personOf : MethodName := ⟨RX6, "personOf", "(II)I"⟩
def dkwX6_personOf_2 : List UInt8 := [167, 0, 21, 28, 7, 160, 0, 11, 42, 27, 182, 0, 103, 167, 0, 8, 42, 27, 182, 0, 106, 172]
abbrev dktX6_personOf_2 : List UInt8 := dkwX6_personOf_2 ++ []
def dkwX6_personOf_1 : List UInt8 := [162, 0, 12, 42, 27, 28, 182, 0, 83, 167, 0, 34, 28, 6, 160, 0, 11, 42, 27, 182, 0, 99]
abbrev dktX6_personOf_1 : List UInt8 := dkwX6_personOf_1 ++ dktX6_personOf_2
def dkwX6_personOf_0 : List UInt8 := [42, 27, 182, 0, 96, 153, 0, 15, 28, 133, 9, 20, 0, 75, 184, 0, 64, 154, 0, 5, 2, 172, 28, 6]
abbrev dktX6_personOf_0 : List UInt8 := dkwX6_personOf_0 ++ dktX6_personOf_1
theorem dksX6_personOf_0 : cX6_personOf.data.toList.drop 0 = dktX6_personOf_0 := by decide +kernel
theorem dksX6_personOf_1 : cX6_personOf.data.toList.drop 24 = dktX6_personOf_1 := dk_seg dksX6_personOf_0 24 rfl rfl
theorem dksX6_personOf_2 : cX6_personOf.data.toList.drop 46 = dktX6_personOf_2 := dk_seg dksX6_personOf_1 22 rfl rfl
theorem dX6_personOf_0 : decode cX6_personOf 0 = .ok (.aload_n 0, 1) := dk_42 (dk_at dksX6_personOf_0 0 rfl rfl)
theorem dX6_personOf_1 : decode cX6_personOf 1 = .ok (.iload_n 1, 1) := dk_27 (dk_at dksX6_personOf_0 1 rfl rfl)
theorem dX6_personOf_2 : decode cX6_personOf 2 = .ok (.invokevirtual 96, 3) := dk_182 0 96 (dk_at dksX6_personOf_0 2 rfl rfl)
theorem dX6_personOf_5 : decode cX6_personOf 5 = .ok (.ifCond .eq 15, 3) := dk_153 0 15 (dk_at dksX6_personOf_0 5 rfl rfl)
theorem dX6_personOf_8 : decode cX6_personOf 8 = .ok (.iload_n 2, 1) := dk_28 (dk_at dksX6_personOf_0 8 rfl rfl)
theorem dX6_personOf_9 : decode cX6_personOf 9 = .ok (.i2l, 1) := dk_133 (dk_at dksX6_personOf_0 9 rfl rfl)
theorem dX6_personOf_10 : decode cX6_personOf 10 = .ok (.lconst 0, 1) := dk_9 (dk_at dksX6_personOf_0 10 rfl rfl)
theorem dX6_personOf_11 : decode cX6_personOf 11 = .ok (.ldc2_w 75, 3) := dk_20 0 75 (dk_at dksX6_personOf_0 11 rfl rfl)
theorem dX6_personOf_14 : decode cX6_personOf 14 = .ok (.invokestatic 64, 3) := dk_184 0 64 (dk_at dksX6_personOf_0 14 rfl rfl)
theorem dX6_personOf_17 : decode cX6_personOf 17 = .ok (.ifCond .ne 5, 3) := dk_154 0 5 (dk_at dksX6_personOf_0 17 rfl rfl)
theorem dX6_personOf_20 : decode cX6_personOf 20 = .ok (.iconst (-1), 1) := dk_2 (dk_at dksX6_personOf_0 20 rfl rfl)
theorem dX6_personOf_21 : decode cX6_personOf 21 = .ok (.ireturn, 1) := dk_172 (dk_at dksX6_personOf_0 21 rfl rfl)
theorem dX6_personOf_22 : decode cX6_personOf 22 = .ok (.iload_n 2, 1) := dk_28 (dk_at dksX6_personOf_0 22 rfl rfl)
theorem dX6_personOf_23 : decode cX6_personOf 23 = .ok (.iconst 3, 1) := dk_6 (dk_at dksX6_personOf_0 23 rfl rfl)
theorem dX6_personOf_24 : decode cX6_personOf 24 = .ok (.if_icmp .ge 12, 3) := dk_162 0 12 (dk_at dksX6_personOf_1 0 rfl rfl)
theorem dX6_personOf_27 : decode cX6_personOf 27 = .ok (.aload_n 0, 1) := dk_42 (dk_at dksX6_personOf_1 3 rfl rfl)
theorem dX6_personOf_28 : decode cX6_personOf 28 = .ok (.iload_n 1, 1) := dk_27 (dk_at dksX6_personOf_1 4 rfl rfl)
theorem dX6_personOf_29 : decode cX6_personOf 29 = .ok (.iload_n 2, 1) := dk_28 (dk_at dksX6_personOf_1 5 rfl rfl)
theorem dX6_personOf_30 : decode cX6_personOf 30 = .ok (.invokevirtual 83, 3) := dk_182 0 83 (dk_at dksX6_personOf_1 6 rfl rfl)
theorem dX6_personOf_33 : decode cX6_personOf 33 = .ok (.goto 34, 3) := dk_167 0 34 (dk_at dksX6_personOf_1 9 rfl rfl)
theorem dX6_personOf_36 : decode cX6_personOf 36 = .ok (.iload_n 2, 1) := dk_28 (dk_at dksX6_personOf_1 12 rfl rfl)
theorem dX6_personOf_37 : decode cX6_personOf 37 = .ok (.iconst 3, 1) := dk_6 (dk_at dksX6_personOf_1 13 rfl rfl)
theorem dX6_personOf_38 : decode cX6_personOf 38 = .ok (.if_icmp .ne 11, 3) := dk_160 0 11 (dk_at dksX6_personOf_1 14 rfl rfl)
theorem dX6_personOf_41 : decode cX6_personOf 41 = .ok (.aload_n 0, 1) := dk_42 (dk_at dksX6_personOf_1 17 rfl rfl)
theorem dX6_personOf_42 : decode cX6_personOf 42 = .ok (.iload_n 1, 1) := dk_27 (dk_at dksX6_personOf_1 18 rfl rfl)
theorem dX6_personOf_43 : decode cX6_personOf 43 = .ok (.invokevirtual 99, 3) := dk_182 0 99 (dk_at dksX6_personOf_1 19 rfl rfl)
theorem dX6_personOf_46 : decode cX6_personOf 46 = .ok (.goto 21, 3) := dk_167 0 21 (dk_at dksX6_personOf_2 0 rfl rfl)
theorem dX6_personOf_49 : decode cX6_personOf 49 = .ok (.iload_n 2, 1) := dk_28 (dk_at dksX6_personOf_2 3 rfl rfl)
theorem dX6_personOf_50 : decode cX6_personOf 50 = .ok (.iconst 4, 1) := dk_7 (dk_at dksX6_personOf_2 4 rfl rfl)
theorem dX6_personOf_51 : decode cX6_personOf 51 = .ok (.if_icmp .ne 11, 3) := dk_160 0 11 (dk_at dksX6_personOf_2 5 rfl rfl)
theorem dX6_personOf_54 : decode cX6_personOf 54 = .ok (.aload_n 0, 1) := dk_42 (dk_at dksX6_personOf_2 8 rfl rfl)
theorem dX6_personOf_55 : decode cX6_personOf 55 = .ok (.iload_n 1, 1) := dk_27 (dk_at dksX6_personOf_2 9 rfl rfl)
theorem dX6_personOf_56 : decode cX6_personOf 56 = .ok (.invokevirtual 103, 3) := dk_182 0 103 (dk_at dksX6_personOf_2 10 rfl rfl)
theorem dX6_personOf_59 : decode cX6_personOf 59 = .ok (.goto 8, 3) := dk_167 0 8 (dk_at dksX6_personOf_2 13 rfl rfl)
theorem dX6_personOf_62 : decode cX6_personOf 62 = .ok (.aload_n 0, 1) := dk_42 (dk_at dksX6_personOf_2 16 rfl rfl)
theorem dX6_personOf_63 : decode cX6_personOf 63 = .ok (.iload_n 1, 1) := dk_27 (dk_at dksX6_personOf_2 17 rfl rfl)
theorem dX6_personOf_64 : decode cX6_personOf 64 = .ok (.invokevirtual 106, 3) := dk_182 0 106 (dk_at dksX6_personOf_2 18 rfl rfl)
theorem dX6_personOf_67 : decode cX6_personOf 67 = .ok (.ireturn, 1) := dk_172 (dk_at dksX6_personOf_2 21 rfl rfl)
abbrev cX6_isPerson : ByteArray := prog_26_method_3_code
def yX6_isPerson : MethodName := ⟨RX6, "isPerson", "(I)Z"⟩
def dkwX6_isPerson_0 : List UInt8 := [27, 133, 9, 42, 180, 0, 7, 3, 46, 4, 100, 133, 184, 0, 64, 172]
abbrev dktX6_isPerson_0 : List UInt8 := dkwX6_isPerson_0 ++ []
theorem dksX6_isPerson_0 : cX6_isPerson.data.toList.drop 0 = dktX6_isPerson_0 := by decide +kernel
theorem dX6_isPerson_0 : decode cX6_isPerson 0 = .ok (.iload_n 1, 1) := dk_27 (dk_at dksX6_isPerson_0 0 rfl rfl)
theorem dX6_isPerson_1 : decode cX6_isPerson 1 = .ok (.i2l, 1) := dk_133 (dk_at dksX6_isPerson_0 1 rfl rfl)
theorem dX6_isPerson_2 : decode cX6_isPerson 2 = .ok (.lconst 0, 1) := dk_9 (dk_at dksX6_isPerson_0 2 rfl rfl)
theorem dX6_isPerson_3 : decode cX6_isPerson 3 = .ok (.aload_n 0, 1) := dk_42 (dk_at dksX6_isPerson_0 3 rfl rfl)
theorem dX6_isPerson_4 : decode cX6_isPerson 4 = .ok (.getfield 7, 3) := dk_180 0 7 (dk_at dksX6_isPerson_0 4 rfl rfl)
theorem dX6_isPerson_7 : decode cX6_isPerson 7 = .ok (.iconst 0, 1) := dk_3 (dk_at dksX6_isPerson_0 7 rfl rfl)
theorem dX6_isPerson_8 : decode cX6_isPerson 8 = .ok (.iaload, 1) := dk_46 (dk_at dksX6_isPerson_0 8 rfl rfl)
theorem dX6_isPerson_9 : decode cX6_isPerson 9 = .ok (.iconst 1, 1) := dk_4 (dk_at dksX6_isPerson_0 9 rfl rfl)
theorem dX6_isPerson_10 : decode cX6_isPerson 10 = .ok (.isub, 1) := dk_100 (dk_at dksX6_isPerson_0 10 rfl rfl)
theorem dX6_isPerson_11 : decode cX6_isPerson 11 = .ok (.i2l, 1) := dk_133 (dk_at dksX6_isPerson_0 11 rfl rfl)
theorem dX6_isPerson_12 : decode cX6_isPerson 12 = .ok (.invokestatic 64, 3) := dk_184 0 64 (dk_at dksX6_isPerson_0 12 rfl rfl)
theorem dX6_isPerson_15 : decode cX6_isPerson 15 = .ok (.ireturn, 1) := dk_172 (dk_at dksX6_isPerson_0 15 rfl rfl)
abbrev cX6_its : ByteArray := prog_26_method_10_code
def yX6_its : MethodName := ⟨RX6, "its", "(II)I"⟩
def dkwX6_its_0 : List UInt8 := [42, 180, 0, 7, 27, 28, 184, 0, 68, 46, 172]
abbrev dktX6_its_0 : List UInt8 := dkwX6_its_0 ++ []
theorem dksX6_its_0 : cX6_its.data.toList.drop 0 = dktX6_its_0 := by decide +kernel
theorem dX6_its_0 : decode cX6_its 0 = .ok (.aload_n 0, 1) := dk_42 (dk_at dksX6_its_0 0 rfl rfl)
theorem dX6_its_1 : decode cX6_its 1 = .ok (.getfield 7, 3) := dk_180 0 7 (dk_at dksX6_its_0 1 rfl rfl)
theorem dX6_its_4 : decode cX6_its 4 = .ok (.iload_n 1, 1) := dk_27 (dk_at dksX6_its_0 4 rfl rfl)
theorem dX6_its_5 : decode cX6_its 5 = .ok (.iload_n 2, 1) := dk_28 (dk_at dksX6_its_0 5 rfl rfl)
theorem dX6_its_6 : decode cX6_its 6 = .ok (.invokestatic 68, 3) := dk_184 0 68 (dk_at dksX6_its_0 6 rfl rfl)
theorem dX6_its_9 : decode cX6_its 9 = .ok (.iaload, 1) := dk_46 (dk_at dksX6_its_0 9 rfl rfl)
theorem dX6_its_10 : decode cX6_its 10 = .ok (.ireturn, 1) := dk_172 (dk_at dksX6_its_0 10 rfl rfl)
abbrev cX6_standWeight : ByteArray := prog_26_method_19_code
def yX6_standWeight : MethodName := ⟨RX6, "standWeight", "(I)I"⟩
def dkwX6_standWeight_2 : List UInt8 := [167, 0, 4, 3, 96, 61, 132, 3, 1, 167, 255, 206, 28, 172]
abbrev dktX6_standWeight_2 : List UInt8 := dkwX6_standWeight_2 ++ []
def dkwX6_standWeight_1 : List UInt8 := [160, 0, 26, 27, 155, 0, 13, 42, 29, 3, 182, 0, 90, 27, 160, 0, 12, 42, 29, 5, 182, 0, 90]
abbrev dktX6_standWeight_1 : List UInt8 := dkwX6_standWeight_1 ++ dktX6_standWeight_2
def dkwX6_standWeight_0 : List UInt8 := [3, 61, 3, 62, 29, 42, 180, 0, 7, 8, 46, 162, 0, 46, 28, 42, 29, 7, 182, 0, 90, 4]
abbrev dktX6_standWeight_0 : List UInt8 := dkwX6_standWeight_0 ++ dktX6_standWeight_1
theorem dksX6_standWeight_0 : cX6_standWeight.data.toList.drop 0 = dktX6_standWeight_0 := by decide +kernel
theorem dksX6_standWeight_1 : cX6_standWeight.data.toList.drop 22 = dktX6_standWeight_1 := dk_seg dksX6_standWeight_0 22 rfl rfl
theorem dksX6_standWeight_2 : cX6_standWeight.data.toList.drop 45 = dktX6_standWeight_2 := dk_seg dksX6_standWeight_1 23 rfl rfl
theorem dX6_standWeight_0 : decode cX6_standWeight 0 = .ok (.iconst 0, 1) := dk_3 (dk_at dksX6_standWeight_0 0 rfl rfl)
theorem dX6_standWeight_1 : decode cX6_standWeight 1 = .ok (.istore_n 2, 1) := dk_61 (dk_at dksX6_standWeight_0 1 rfl rfl)
theorem dX6_standWeight_2 : decode cX6_standWeight 2 = .ok (.iconst 0, 1) := dk_3 (dk_at dksX6_standWeight_0 2 rfl rfl)
theorem dX6_standWeight_3 : decode cX6_standWeight 3 = .ok (.istore_n 3, 1) := dk_62 (dk_at dksX6_standWeight_0 3 rfl rfl)
theorem dX6_standWeight_4 : decode cX6_standWeight 4 = .ok (.iload_n 3, 1) := dk_29 (dk_at dksX6_standWeight_0 4 rfl rfl)
theorem dX6_standWeight_5 : decode cX6_standWeight 5 = .ok (.aload_n 0, 1) := dk_42 (dk_at dksX6_standWeight_0 5 rfl rfl)
theorem dX6_standWeight_6 : decode cX6_standWeight 6 = .ok (.getfield 7, 3) := dk_180 0 7 (dk_at dksX6_standWeight_0 6 rfl rfl)
theorem dX6_standWeight_9 : decode cX6_standWeight 9 = .ok (.iconst 5, 1) := dk_8 (dk_at dksX6_standWeight_0 9 rfl rfl)
theorem dX6_standWeight_10 : decode cX6_standWeight 10 = .ok (.iaload, 1) := dk_46 (dk_at dksX6_standWeight_0 10 rfl rfl)
theorem dX6_standWeight_11 : decode cX6_standWeight 11 = .ok (.if_icmp .ge 46, 3) := dk_162 0 46 (dk_at dksX6_standWeight_0 11 rfl rfl)
theorem dX6_standWeight_14 : decode cX6_standWeight 14 = .ok (.iload_n 2, 1) := dk_28 (dk_at dksX6_standWeight_0 14 rfl rfl)
theorem dX6_standWeight_15 : decode cX6_standWeight 15 = .ok (.aload_n 0, 1) := dk_42 (dk_at dksX6_standWeight_0 15 rfl rfl)
theorem dX6_standWeight_16 : decode cX6_standWeight 16 = .ok (.iload_n 3, 1) := dk_29 (dk_at dksX6_standWeight_0 16 rfl rfl)
theorem dX6_standWeight_17 : decode cX6_standWeight 17 = .ok (.iconst 4, 1) := dk_7 (dk_at dksX6_standWeight_0 17 rfl rfl)
theorem dX6_standWeight_18 : decode cX6_standWeight 18 = .ok (.invokevirtual 90, 3) := dk_182 0 90 (dk_at dksX6_standWeight_0 18 rfl rfl)
theorem dX6_standWeight_21 : decode cX6_standWeight 21 = .ok (.iconst 1, 1) := dk_4 (dk_at dksX6_standWeight_0 21 rfl rfl)
theorem dX6_standWeight_22 : decode cX6_standWeight 22 = .ok (.if_icmp .ne 26, 3) := dk_160 0 26 (dk_at dksX6_standWeight_1 0 rfl rfl)
theorem dX6_standWeight_25 : decode cX6_standWeight 25 = .ok (.iload_n 1, 1) := dk_27 (dk_at dksX6_standWeight_1 3 rfl rfl)
theorem dX6_standWeight_26 : decode cX6_standWeight 26 = .ok (.ifCond .lt 13, 3) := dk_155 0 13 (dk_at dksX6_standWeight_1 4 rfl rfl)
theorem dX6_standWeight_29 : decode cX6_standWeight 29 = .ok (.aload_n 0, 1) := dk_42 (dk_at dksX6_standWeight_1 7 rfl rfl)
theorem dX6_standWeight_30 : decode cX6_standWeight 30 = .ok (.iload_n 3, 1) := dk_29 (dk_at dksX6_standWeight_1 8 rfl rfl)
theorem dX6_standWeight_31 : decode cX6_standWeight 31 = .ok (.iconst 0, 1) := dk_3 (dk_at dksX6_standWeight_1 9 rfl rfl)
theorem dX6_standWeight_32 : decode cX6_standWeight 32 = .ok (.invokevirtual 90, 3) := dk_182 0 90 (dk_at dksX6_standWeight_1 10 rfl rfl)
theorem dX6_standWeight_35 : decode cX6_standWeight 35 = .ok (.iload_n 1, 1) := dk_27 (dk_at dksX6_standWeight_1 13 rfl rfl)
theorem dX6_standWeight_36 : decode cX6_standWeight 36 = .ok (.if_icmp .ne 12, 3) := dk_160 0 12 (dk_at dksX6_standWeight_1 14 rfl rfl)
theorem dX6_standWeight_39 : decode cX6_standWeight 39 = .ok (.aload_n 0, 1) := dk_42 (dk_at dksX6_standWeight_1 17 rfl rfl)
theorem dX6_standWeight_40 : decode cX6_standWeight 40 = .ok (.iload_n 3, 1) := dk_29 (dk_at dksX6_standWeight_1 18 rfl rfl)
theorem dX6_standWeight_41 : decode cX6_standWeight 41 = .ok (.iconst 2, 1) := dk_5 (dk_at dksX6_standWeight_1 19 rfl rfl)
theorem dX6_standWeight_42 : decode cX6_standWeight 42 = .ok (.invokevirtual 90, 3) := dk_182 0 90 (dk_at dksX6_standWeight_1 20 rfl rfl)
theorem dX6_standWeight_45 : decode cX6_standWeight 45 = .ok (.goto 4, 3) := dk_167 0 4 (dk_at dksX6_standWeight_2 0 rfl rfl)
theorem dX6_standWeight_48 : decode cX6_standWeight 48 = .ok (.iconst 0, 1) := dk_3 (dk_at dksX6_standWeight_2 3 rfl rfl)
theorem dX6_standWeight_49 : decode cX6_standWeight 49 = .ok (.iadd, 1) := dk_96 (dk_at dksX6_standWeight_2 4 rfl rfl)
theorem dX6_standWeight_50 : decode cX6_standWeight 50 = .ok (.istore_n 2, 1) := dk_61 (dk_at dksX6_standWeight_2 5 rfl rfl)
theorem dX6_standWeight_51 : decode cX6_standWeight 51 = .ok (.iinc 3 1, 3) := dk_132 3 1 (dk_at dksX6_standWeight_2 6 rfl rfl)
theorem dX6_standWeight_54 : decode cX6_standWeight 54 = .ok (.goto (-50), 3) := dk_167 255 206 (dk_at dksX6_standWeight_2 9 rfl rfl)
theorem dX6_standWeight_57 : decode cX6_standWeight 57 = .ok (.iload_n 2, 1) := dk_28 (dk_at dksX6_standWeight_2 12 rfl rfl)
theorem dX6_standWeight_58 : decode cX6_standWeight 58 = .ok (.ireturn, 1) := dk_172 (dk_at dksX6_standWeight_2 13 rfl rfl)
abbrev cX6_deedIs : ByteArray := prog_26_method_12_code
def yX6_deedIs : MethodName := ⟨RX6, "deedIs", "(II)I"⟩
def dkwX6_deedIs_0 : List UInt8 := [42, 180, 0, 7, 27, 28, 184, 0, 72, 46, 172]
abbrev dktX6_deedIs_0 : List UInt8 := dkwX6_deedIs_0 ++ []
theorem dksX6_deedIs_0 : cX6_deedIs.data.toList.drop 0 = dktX6_deedIs_0 := by decide +kernel
theorem dX6_deedIs_0 : decode cX6_deedIs 0 = .ok (.aload_n 0, 1) := dk_42 (dk_at dksX6_deedIs_0 0 rfl rfl)
theorem dX6_deedIs_1 : decode cX6_deedIs 1 = .ok (.getfield 7, 3) := dk_180 0 7 (dk_at dksX6_deedIs_0 1 rfl rfl)
theorem dX6_deedIs_4 : decode cX6_deedIs 4 = .ok (.iload_n 1, 1) := dk_27 (dk_at dksX6_deedIs_0 4 rfl rfl)
theorem dX6_deedIs_5 : decode cX6_deedIs 5 = .ok (.iload_n 2, 1) := dk_28 (dk_at dksX6_deedIs_0 5 rfl rfl)
theorem dX6_deedIs_6 : decode cX6_deedIs 6 = .ok (.invokestatic 72, 3) := dk_184 0 72 (dk_at dksX6_deedIs_0 6 rfl rfl)
theorem dX6_deedIs_9 : decode cX6_deedIs 9 = .ok (.iaload, 1) := dk_46 (dk_at dksX6_deedIs_0 9 rfl rfl)
theorem dX6_deedIs_10 : decode cX6_deedIs 10 = .ok (.ireturn, 1) := dk_172 (dk_at dksX6_deedIs_0 10 rfl rfl)
abbrev cX6_spot : ByteArray := prog_26_method_11_code
def yX6_spot : MethodName := ⟨RX6, "spot", "(II)I"⟩
def dkwX6_spot_0 : List UInt8 := [16, 26, 8, 26, 104, 96, 27, 96, 172]
abbrev dktX6_spot_0 : List UInt8 := dkwX6_spot_0 ++ []
theorem dksX6_spot_0 : cX6_spot.data.toList.drop 0 = dktX6_spot_0 := by decide +kernel
theorem dX6_spot_0 : decode cX6_spot 0 = .ok (.bipush 26, 2) := dk_16 26 (dk_at dksX6_spot_0 0 rfl rfl)
theorem dX6_spot_2 : decode cX6_spot 2 = .ok (.iconst 5, 1) := dk_8 (dk_at dksX6_spot_0 2 rfl rfl)
theorem dX6_spot_3 : decode cX6_spot 3 = .ok (.iload_n 0, 1) := dk_26 (dk_at dksX6_spot_0 3 rfl rfl)
theorem dX6_spot_4 : decode cX6_spot 4 = .ok (.imul, 1) := dk_104 (dk_at dksX6_spot_0 4 rfl rfl)
theorem dX6_spot_5 : decode cX6_spot 5 = .ok (.iadd, 1) := dk_96 (dk_at dksX6_spot_0 5 rfl rfl)
theorem dX6_spot_6 : decode cX6_spot 6 = .ok (.iload_n 1, 1) := dk_27 (dk_at dksX6_spot_0 6 rfl rfl)
theorem dX6_spot_7 : decode cX6_spot 7 = .ok (.iadd, 1) := dk_96 (dk_at dksX6_spot_0 7 rfl rfl)
theorem dX6_spot_8 : decode cX6_spot 8 = .ok (.ireturn, 1) := dk_172 (dk_at dksX6_spot_0 8 rfl rfl)
abbrev cX6_pulls : ByteArray := prog_26_method_17_code
def yX6_pulls : MethodName := ⟨RX6, "pulls", "(I)I"⟩
def dkwX6_pulls_0 : List UInt8 := [42, 27, 3, 182, 0, 83, 42, 27, 5, 182, 0, 83, 42, 180, 0, 7, 6, 46, 184, 0, 86, 172]
abbrev dktX6_pulls_0 : List UInt8 := dkwX6_pulls_0 ++ []
theorem dksX6_pulls_0 : cX6_pulls.data.toList.drop 0 = dktX6_pulls_0 := by decide +kernel
theorem dX6_pulls_0 : decode cX6_pulls 0 = .ok (.aload_n 0, 1) := dk_42 (dk_at dksX6_pulls_0 0 rfl rfl)
theorem dX6_pulls_1 : decode cX6_pulls 1 = .ok (.iload_n 1, 1) := dk_27 (dk_at dksX6_pulls_0 1 rfl rfl)
theorem dX6_pulls_2 : decode cX6_pulls 2 = .ok (.iconst 0, 1) := dk_3 (dk_at dksX6_pulls_0 2 rfl rfl)
theorem dX6_pulls_3 : decode cX6_pulls 3 = .ok (.invokevirtual 83, 3) := dk_182 0 83 (dk_at dksX6_pulls_0 3 rfl rfl)
theorem dX6_pulls_6 : decode cX6_pulls 6 = .ok (.aload_n 0, 1) := dk_42 (dk_at dksX6_pulls_0 6 rfl rfl)
theorem dX6_pulls_7 : decode cX6_pulls 7 = .ok (.iload_n 1, 1) := dk_27 (dk_at dksX6_pulls_0 7 rfl rfl)
theorem dX6_pulls_8 : decode cX6_pulls 8 = .ok (.iconst 2, 1) := dk_5 (dk_at dksX6_pulls_0 8 rfl rfl)
theorem dX6_pulls_9 : decode cX6_pulls 9 = .ok (.invokevirtual 83, 3) := dk_182 0 83 (dk_at dksX6_pulls_0 9 rfl rfl)
theorem dX6_pulls_12 : decode cX6_pulls 12 = .ok (.aload_n 0, 1) := dk_42 (dk_at dksX6_pulls_0 12 rfl rfl)
theorem dX6_pulls_13 : decode cX6_pulls 13 = .ok (.getfield 7, 3) := dk_180 0 7 (dk_at dksX6_pulls_0 13 rfl rfl)
theorem dX6_pulls_16 : decode cX6_pulls 16 = .ok (.iconst 3, 1) := dk_6 (dk_at dksX6_pulls_0 16 rfl rfl)
theorem dX6_pulls_17 : decode cX6_pulls 17 = .ok (.iaload, 1) := dk_46 (dk_at dksX6_pulls_0 17 rfl rfl)
theorem dX6_pulls_18 : decode cX6_pulls 18 = .ok (.invokestatic 86, 3) := dk_184 0 86 (dk_at dksX6_pulls_0 18 rfl rfl)
theorem dX6_pulls_21 : decode cX6_pulls 21 = .ok (.ireturn, 1) := dk_172 (dk_at dksX6_pulls_0 21 rfl rfl)
abbrev cX6_pullOf : ByteArray := prog_26_method_16_code
def yX6_pullOf : MethodName := ⟨RX6, "pullOf", "(III)I"⟩
def dkwX6_pullOf_3 : List UInt8 := [161, 0, 8, 16, 9, 167, 0, 6, 27, 5, 108, 172, 27, 172]
abbrev dktX6_pullOf_3 : List UInt8 := dkwX6_pullOf_3 ++ []
def dkwX6_pullOf_2 : List UInt8 := [28, 6, 112, 5, 160, 0, 7, 3, 167, 0, 4, 27, 172, 27, 4, 96, 172, 27, 5, 108, 172, 28, 16, 9]
abbrev dktX6_pullOf_2 : List UInt8 := dkwX6_pullOf_2 ++ dktX6_pullOf_3
def dkwX6_pullOf_1 : List UInt8 := [170, 0, 0, 0, 0, 0, 71, 0, 0, 0, 1, 0, 0, 0, 5, 0, 0, 0, 35, 0, 0, 0, 71, 0, 0, 0, 48, 0, 0, 0, 52, 0, 0, 0, 56]
abbrev dktX6_pullOf_1 : List UInt8 := dkwX6_pullOf_1 ++ dktX6_pullOf_2
def dkwX6_pullOf_0 : List UInt8 := [26]
abbrev dktX6_pullOf_0 : List UInt8 := dkwX6_pullOf_0 ++ dktX6_pullOf_1
theorem dksX6_pullOf_0 : cX6_pullOf.data.toList.drop 0 = dktX6_pullOf_0 := by decide +kernel
theorem dksX6_pullOf_1 : cX6_pullOf.data.toList.drop 1 = dktX6_pullOf_1 := dk_seg dksX6_pullOf_0 1 rfl rfl
theorem dksX6_pullOf_2 : cX6_pullOf.data.toList.drop 36 = dktX6_pullOf_2 := dk_seg dksX6_pullOf_1 35 rfl rfl
theorem dksX6_pullOf_3 : cX6_pullOf.data.toList.drop 60 = dktX6_pullOf_3 := dk_seg dksX6_pullOf_2 24 rfl rfl
theorem dX6_pullOf_0 : decode cX6_pullOf 0 = .ok (.iload_n 0, 1) := dk_26 (dk_at dksX6_pullOf_0 0 rfl rfl)
theorem dX6_pullOf_1 : decode cX6_pullOf 1 = .ok (.tableswitch 71 1 5 #[35, 71, 48, 52, 56], 35) := by decide +kernel
theorem dX6_pullOf_36 : decode cX6_pullOf 36 = .ok (.iload_n 2, 1) := dk_28 (dk_at dksX6_pullOf_2 0 rfl rfl)
theorem dX6_pullOf_37 : decode cX6_pullOf 37 = .ok (.iconst 3, 1) := dk_6 (dk_at dksX6_pullOf_2 1 rfl rfl)
theorem dX6_pullOf_38 : decode cX6_pullOf 38 = .ok (.irem, 1) := dk_112 (dk_at dksX6_pullOf_2 2 rfl rfl)
theorem dX6_pullOf_39 : decode cX6_pullOf 39 = .ok (.iconst 2, 1) := dk_5 (dk_at dksX6_pullOf_2 3 rfl rfl)
theorem dX6_pullOf_40 : decode cX6_pullOf 40 = .ok (.if_icmp .ne 7, 3) := dk_160 0 7 (dk_at dksX6_pullOf_2 4 rfl rfl)
theorem dX6_pullOf_43 : decode cX6_pullOf 43 = .ok (.iconst 0, 1) := dk_3 (dk_at dksX6_pullOf_2 7 rfl rfl)
theorem dX6_pullOf_44 : decode cX6_pullOf 44 = .ok (.goto 4, 3) := dk_167 0 4 (dk_at dksX6_pullOf_2 8 rfl rfl)
theorem dX6_pullOf_47 : decode cX6_pullOf 47 = .ok (.iload_n 1, 1) := dk_27 (dk_at dksX6_pullOf_2 11 rfl rfl)
theorem dX6_pullOf_48 : decode cX6_pullOf 48 = .ok (.ireturn, 1) := dk_172 (dk_at dksX6_pullOf_2 12 rfl rfl)
theorem dX6_pullOf_49 : decode cX6_pullOf 49 = .ok (.iload_n 1, 1) := dk_27 (dk_at dksX6_pullOf_2 13 rfl rfl)
theorem dX6_pullOf_50 : decode cX6_pullOf 50 = .ok (.iconst 1, 1) := dk_4 (dk_at dksX6_pullOf_2 14 rfl rfl)
theorem dX6_pullOf_51 : decode cX6_pullOf 51 = .ok (.iadd, 1) := dk_96 (dk_at dksX6_pullOf_2 15 rfl rfl)
theorem dX6_pullOf_52 : decode cX6_pullOf 52 = .ok (.ireturn, 1) := dk_172 (dk_at dksX6_pullOf_2 16 rfl rfl)
theorem dX6_pullOf_53 : decode cX6_pullOf 53 = .ok (.iload_n 1, 1) := dk_27 (dk_at dksX6_pullOf_2 17 rfl rfl)
theorem dX6_pullOf_54 : decode cX6_pullOf 54 = .ok (.iconst 2, 1) := dk_5 (dk_at dksX6_pullOf_2 18 rfl rfl)
theorem dX6_pullOf_55 : decode cX6_pullOf 55 = .ok (.idiv, 1) := dk_108 (dk_at dksX6_pullOf_2 19 rfl rfl)
theorem dX6_pullOf_56 : decode cX6_pullOf 56 = .ok (.ireturn, 1) := dk_172 (dk_at dksX6_pullOf_2 20 rfl rfl)
theorem dX6_pullOf_57 : decode cX6_pullOf 57 = .ok (.iload_n 2, 1) := dk_28 (dk_at dksX6_pullOf_2 21 rfl rfl)
theorem dX6_pullOf_58 : decode cX6_pullOf 58 = .ok (.bipush 9, 2) := dk_16 9 (dk_at dksX6_pullOf_2 22 rfl rfl)
theorem dX6_pullOf_60 : decode cX6_pullOf 60 = .ok (.if_icmp .lt 8, 3) := dk_161 0 8 (dk_at dksX6_pullOf_3 0 rfl rfl)
theorem dX6_pullOf_63 : decode cX6_pullOf 63 = .ok (.bipush 9, 2) := dk_16 9 (dk_at dksX6_pullOf_3 3 rfl rfl)
theorem dX6_pullOf_65 : decode cX6_pullOf 65 = .ok (.goto 6, 3) := dk_167 0 6 (dk_at dksX6_pullOf_3 5 rfl rfl)
theorem dX6_pullOf_68 : decode cX6_pullOf 68 = .ok (.iload_n 1, 1) := dk_27 (dk_at dksX6_pullOf_3 8 rfl rfl)
theorem dX6_pullOf_69 : decode cX6_pullOf 69 = .ok (.iconst 2, 1) := dk_5 (dk_at dksX6_pullOf_3 9 rfl rfl)
theorem dX6_pullOf_70 : decode cX6_pullOf 70 = .ok (.idiv, 1) := dk_108 (dk_at dksX6_pullOf_3 10 rfl rfl)
theorem dX6_pullOf_71 : decode cX6_pullOf 71 = .ok (.ireturn, 1) := dk_172 (dk_at dksX6_pullOf_3 11 rfl rfl)
theorem dX6_pullOf_72 : decode cX6_pullOf 72 = .ok (.iload_n 1, 1) := dk_27 (dk_at dksX6_pullOf_3 12 rfl rfl)
theorem dX6_pullOf_73 : decode cX6_pullOf 73 = .ok (.ireturn, 1) := dk_172 (dk_at dksX6_pullOf_3 13 rfl rfl)
abbrev cX6_choice : ByteArray := prog_26_method_33_code
def yX6_choice : MethodName := ⟨RX6, "choice", "(I)I"⟩
def dkwX6_choice_12 : List UInt8 := [132, 9, 1, 167, 255, 141, 21, 8, 172]
abbrev dktX6_choice_12 : List UInt8 := dkwX6_choice_12 ++ []
def dkwX6_choice_11 : List UInt8 := [21, 9, 182, 0, 119, 42, 21, 8, 182, 0, 119, 162, 0, 8, 21, 9, 167, 0, 5, 21, 8, 54, 8]
abbrev dktX6_choice_11 : List UInt8 := dkwX6_choice_11 ++ dktX6_choice_12
def dkwX6_choice_10 : List UInt8 := [163, 0, 7, 4, 167, 0, 4, 3, 54, 10, 21, 10, 153, 0, 30, 21, 8, 16, 10, 159, 0, 18, 42]
abbrev dktX6_choice_10 : List UInt8 := dkwX6_choice_10 ++ dktX6_choice_11
def dkwX6_choice_9 : List UInt8 := [5, 182, 0, 90, 21, 7, 163, 0, 25, 42, 21, 9, 182, 0, 119, 42, 180, 0, 7, 6, 46, 21, 6, 96]
abbrev dktX6_choice_9 : List UInt8 := dkwX6_choice_9 ++ dktX6_choice_10
def dkwX6_choice_8 : List UInt8 := [21, 9, 3, 182, 0, 90, 27, 160, 0, 48, 42, 21, 9, 7, 182, 0, 90, 4, 160, 0, 37, 42, 21, 9]
abbrev dktX6_choice_8 : List UInt8 := dkwX6_choice_8 ++ dktX6_choice_9
def dkwX6_choice_7 : List UInt8 := [54, 8, 3, 54, 9, 21, 9, 42, 180, 0, 7, 8, 46, 162, 0, 110, 21, 5, 5, 159, 0, 104, 42]
abbrev dktX6_choice_7 : List UInt8 := dkwX6_choice_7 ++ dktX6_choice_8
def dkwX6_choice_6 : List UInt8 := [180, 0, 7, 29, 5, 96, 46, 100, 167, 0, 4, 3, 54, 6, 42, 27, 182, 0, 103, 54, 7, 16, 10]
abbrev dktX6_choice_6 : List UInt8 := dkwX6_choice_6 ++ dktX6_choice_7
def dkwX6_choice_5 : List UInt8 := [21, 5, 154, 0, 14, 42, 180, 0, 7, 29, 5, 96, 46, 167, 0, 23, 21, 5, 4, 160, 0, 16, 3, 42]
abbrev dktX6_choice_5 : List UInt8 := dkwX6_choice_5 ++ dktX6_choice_6
def dkwX6_choice_4 : List UInt8 := [132, 5, 1, 167, 255, 175, 29, 156, 0, 7, 2, 167, 0, 11, 42, 180, 0, 7, 29, 4, 96, 46, 54, 5]
abbrev dktX6_choice_4 : List UInt8 := dkwX6_choice_4 ++ dktX6_choice_5
def dkwX6_choice_3 : List UInt8 := [182, 0, 139, 153, 0, 8, 21, 6, 167, 0, 4, 2, 62, 42, 180, 0, 7, 21, 6, 6, 96, 46, 54, 4]
abbrev dktX6_choice_3 : List UInt8 := dkwX6_choice_3 ++ dktX6_choice_4
def dkwX6_choice_2 : List UInt8 := [3, 96, 46, 184, 0, 135, 153, 0, 27, 42, 21, 4, 42, 180, 0, 7, 21, 6, 6, 96, 46, 27]
abbrev dktX6_choice_2 : List UInt8 := dkwX6_choice_2 ++ dktX6_choice_3
def dkwX6_choice_1 : List UInt8 := [162, 0, 76, 29, 156, 0, 72, 17, 0, 136, 7, 21, 5, 104, 96, 54, 6, 28, 42, 180, 0, 7, 21, 6]
abbrev dktX6_choice_1 : List UInt8 := dkwX6_choice_1 ++ dktX6_choice_2
def dkwX6_choice_0 : List UInt8 := [42, 27, 3, 182, 0, 83, 61, 2, 62, 3, 54, 4, 3, 54, 5, 21, 5, 42, 180, 0, 7, 4, 46]
abbrev dktX6_choice_0 : List UInt8 := dkwX6_choice_0 ++ dktX6_choice_1
theorem dksX6_choice_0 : cX6_choice.data.toList.drop 0 = dktX6_choice_0 := by decide +kernel
theorem dksX6_choice_1 : cX6_choice.data.toList.drop 23 = dktX6_choice_1 := dk_seg dksX6_choice_0 23 rfl rfl
theorem dksX6_choice_2 : cX6_choice.data.toList.drop 47 = dktX6_choice_2 := dk_seg dksX6_choice_1 24 rfl rfl
theorem dksX6_choice_3 : cX6_choice.data.toList.drop 69 = dktX6_choice_3 := dk_seg dksX6_choice_2 22 rfl rfl
theorem dksX6_choice_4 : cX6_choice.data.toList.drop 93 = dktX6_choice_4 := dk_seg dksX6_choice_3 24 rfl rfl
theorem dksX6_choice_5 : cX6_choice.data.toList.drop 117 = dktX6_choice_5 := dk_seg dksX6_choice_4 24 rfl rfl
theorem dksX6_choice_6 : cX6_choice.data.toList.drop 141 = dktX6_choice_6 := dk_seg dksX6_choice_5 24 rfl rfl
theorem dksX6_choice_7 : cX6_choice.data.toList.drop 164 = dktX6_choice_7 := dk_seg dksX6_choice_6 23 rfl rfl
theorem dksX6_choice_8 : cX6_choice.data.toList.drop 187 = dktX6_choice_8 := dk_seg dksX6_choice_7 23 rfl rfl
theorem dksX6_choice_9 : cX6_choice.data.toList.drop 211 = dktX6_choice_9 := dk_seg dksX6_choice_8 24 rfl rfl
theorem dksX6_choice_10 : cX6_choice.data.toList.drop 235 = dktX6_choice_10 := dk_seg dksX6_choice_9 24 rfl rfl
theorem dksX6_choice_11 : cX6_choice.data.toList.drop 258 = dktX6_choice_11 := dk_seg dksX6_choice_10 23 rfl rfl
theorem dksX6_choice_12 : cX6_choice.data.toList.drop 281 = dktX6_choice_12 := dk_seg dksX6_choice_11 23 rfl rfl
theorem dX6_choice_0 : decode cX6_choice 0 = .ok (.aload_n 0, 1) := dk_42 (dk_at dksX6_choice_0 0 rfl rfl)
theorem dX6_choice_1 : decode cX6_choice 1 = .ok (.iload_n 1, 1) := dk_27 (dk_at dksX6_choice_0 1 rfl rfl)
theorem dX6_choice_2 : decode cX6_choice 2 = .ok (.iconst 0, 1) := dk_3 (dk_at dksX6_choice_0 2 rfl rfl)
theorem dX6_choice_3 : decode cX6_choice 3 = .ok (.invokevirtual 83, 3) := dk_182 0 83 (dk_at dksX6_choice_0 3 rfl rfl)
theorem dX6_choice_6 : decode cX6_choice 6 = .ok (.istore_n 2, 1) := dk_61 (dk_at dksX6_choice_0 6 rfl rfl)
theorem dX6_choice_7 : decode cX6_choice 7 = .ok (.iconst (-1), 1) := dk_2 (dk_at dksX6_choice_0 7 rfl rfl)
theorem dX6_choice_8 : decode cX6_choice 8 = .ok (.istore_n 3, 1) := dk_62 (dk_at dksX6_choice_0 8 rfl rfl)
theorem dX6_choice_9 : decode cX6_choice 9 = .ok (.iconst 0, 1) := dk_3 (dk_at dksX6_choice_0 9 rfl rfl)
theorem dX6_choice_10 : decode cX6_choice 10 = .ok (.istore 4, 2) := dk_54 4 (dk_at dksX6_choice_0 10 rfl rfl)
theorem dX6_choice_12 : decode cX6_choice 12 = .ok (.iconst 0, 1) := dk_3 (dk_at dksX6_choice_0 12 rfl rfl)
theorem dX6_choice_13 : decode cX6_choice 13 = .ok (.istore 5, 2) := dk_54 5 (dk_at dksX6_choice_0 13 rfl rfl)
theorem dX6_choice_15 : decode cX6_choice 15 = .ok (.iload 5, 2) := dk_21 5 (dk_at dksX6_choice_0 15 rfl rfl)
theorem dX6_choice_17 : decode cX6_choice 17 = .ok (.aload_n 0, 1) := dk_42 (dk_at dksX6_choice_0 17 rfl rfl)
theorem dX6_choice_18 : decode cX6_choice 18 = .ok (.getfield 7, 3) := dk_180 0 7 (dk_at dksX6_choice_0 18 rfl rfl)
theorem dX6_choice_21 : decode cX6_choice 21 = .ok (.iconst 1, 1) := dk_4 (dk_at dksX6_choice_0 21 rfl rfl)
theorem dX6_choice_22 : decode cX6_choice 22 = .ok (.iaload, 1) := dk_46 (dk_at dksX6_choice_0 22 rfl rfl)
theorem dX6_choice_23 : decode cX6_choice 23 = .ok (.if_icmp .ge 76, 3) := dk_162 0 76 (dk_at dksX6_choice_1 0 rfl rfl)
theorem dX6_choice_26 : decode cX6_choice 26 = .ok (.iload_n 3, 1) := dk_29 (dk_at dksX6_choice_1 3 rfl rfl)
theorem dX6_choice_27 : decode cX6_choice 27 = .ok (.ifCond .ge 72, 3) := dk_156 0 72 (dk_at dksX6_choice_1 4 rfl rfl)
theorem dX6_choice_30 : decode cX6_choice 30 = .ok (.sipush 136, 3) := dk_17 0 136 (dk_at dksX6_choice_1 7 rfl rfl)
theorem dX6_choice_33 : decode cX6_choice 33 = .ok (.iconst 4, 1) := dk_7 (dk_at dksX6_choice_1 10 rfl rfl)
theorem dX6_choice_34 : decode cX6_choice 34 = .ok (.iload 5, 2) := dk_21 5 (dk_at dksX6_choice_1 11 rfl rfl)
theorem dX6_choice_36 : decode cX6_choice 36 = .ok (.imul, 1) := dk_104 (dk_at dksX6_choice_1 13 rfl rfl)
theorem dX6_choice_37 : decode cX6_choice 37 = .ok (.iadd, 1) := dk_96 (dk_at dksX6_choice_1 14 rfl rfl)
theorem dX6_choice_38 : decode cX6_choice 38 = .ok (.istore 6, 2) := dk_54 6 (dk_at dksX6_choice_1 15 rfl rfl)
theorem dX6_choice_40 : decode cX6_choice 40 = .ok (.iload_n 2, 1) := dk_28 (dk_at dksX6_choice_1 17 rfl rfl)
theorem dX6_choice_41 : decode cX6_choice 41 = .ok (.aload_n 0, 1) := dk_42 (dk_at dksX6_choice_1 18 rfl rfl)
theorem dX6_choice_42 : decode cX6_choice 42 = .ok (.getfield 7, 3) := dk_180 0 7 (dk_at dksX6_choice_1 19 rfl rfl)
theorem dX6_choice_45 : decode cX6_choice 45 = .ok (.iload 6, 2) := dk_21 6 (dk_at dksX6_choice_1 22 rfl rfl)
theorem dX6_choice_47 : decode cX6_choice 47 = .ok (.iconst 0, 1) := dk_3 (dk_at dksX6_choice_2 0 rfl rfl)
theorem dX6_choice_48 : decode cX6_choice 48 = .ok (.iadd, 1) := dk_96 (dk_at dksX6_choice_2 1 rfl rfl)
theorem dX6_choice_49 : decode cX6_choice 49 = .ok (.iaload, 1) := dk_46 (dk_at dksX6_choice_2 2 rfl rfl)
theorem dX6_choice_50 : decode cX6_choice 50 = .ok (.invokestatic 135, 3) := dk_184 0 135 (dk_at dksX6_choice_2 3 rfl rfl)
theorem dX6_choice_53 : decode cX6_choice 53 = .ok (.ifCond .eq 27, 3) := dk_153 0 27 (dk_at dksX6_choice_2 6 rfl rfl)
theorem dX6_choice_56 : decode cX6_choice 56 = .ok (.aload_n 0, 1) := dk_42 (dk_at dksX6_choice_2 9 rfl rfl)
theorem dX6_choice_57 : decode cX6_choice 57 = .ok (.iload 4, 2) := dk_21 4 (dk_at dksX6_choice_2 10 rfl rfl)
theorem dX6_choice_59 : decode cX6_choice 59 = .ok (.aload_n 0, 1) := dk_42 (dk_at dksX6_choice_2 12 rfl rfl)
theorem dX6_choice_60 : decode cX6_choice 60 = .ok (.getfield 7, 3) := dk_180 0 7 (dk_at dksX6_choice_2 13 rfl rfl)
theorem dX6_choice_63 : decode cX6_choice 63 = .ok (.iload 6, 2) := dk_21 6 (dk_at dksX6_choice_2 16 rfl rfl)
theorem dX6_choice_65 : decode cX6_choice 65 = .ok (.iconst 3, 1) := dk_6 (dk_at dksX6_choice_2 18 rfl rfl)
theorem dX6_choice_66 : decode cX6_choice 66 = .ok (.iadd, 1) := dk_96 (dk_at dksX6_choice_2 19 rfl rfl)
theorem dX6_choice_67 : decode cX6_choice 67 = .ok (.iaload, 1) := dk_46 (dk_at dksX6_choice_2 20 rfl rfl)
theorem dX6_choice_68 : decode cX6_choice 68 = .ok (.iload_n 1, 1) := dk_27 (dk_at dksX6_choice_2 21 rfl rfl)
theorem dX6_choice_69 : decode cX6_choice 69 = .ok (.invokevirtual 139, 3) := dk_182 0 139 (dk_at dksX6_choice_3 0 rfl rfl)
theorem dX6_choice_72 : decode cX6_choice 72 = .ok (.ifCond .eq 8, 3) := dk_153 0 8 (dk_at dksX6_choice_3 3 rfl rfl)
theorem dX6_choice_75 : decode cX6_choice 75 = .ok (.iload 6, 2) := dk_21 6 (dk_at dksX6_choice_3 6 rfl rfl)
theorem dX6_choice_77 : decode cX6_choice 77 = .ok (.goto 4, 3) := dk_167 0 4 (dk_at dksX6_choice_3 8 rfl rfl)
theorem dX6_choice_80 : decode cX6_choice 80 = .ok (.iconst (-1), 1) := dk_2 (dk_at dksX6_choice_3 11 rfl rfl)
theorem dX6_choice_81 : decode cX6_choice 81 = .ok (.istore_n 3, 1) := dk_62 (dk_at dksX6_choice_3 12 rfl rfl)
theorem dX6_choice_82 : decode cX6_choice 82 = .ok (.aload_n 0, 1) := dk_42 (dk_at dksX6_choice_3 13 rfl rfl)
theorem dX6_choice_83 : decode cX6_choice 83 = .ok (.getfield 7, 3) := dk_180 0 7 (dk_at dksX6_choice_3 14 rfl rfl)
theorem dX6_choice_86 : decode cX6_choice 86 = .ok (.iload 6, 2) := dk_21 6 (dk_at dksX6_choice_3 17 rfl rfl)
theorem dX6_choice_88 : decode cX6_choice 88 = .ok (.iconst 3, 1) := dk_6 (dk_at dksX6_choice_3 19 rfl rfl)
theorem dX6_choice_89 : decode cX6_choice 89 = .ok (.iadd, 1) := dk_96 (dk_at dksX6_choice_3 20 rfl rfl)
theorem dX6_choice_90 : decode cX6_choice 90 = .ok (.iaload, 1) := dk_46 (dk_at dksX6_choice_3 21 rfl rfl)
theorem dX6_choice_91 : decode cX6_choice 91 = .ok (.istore 4, 2) := dk_54 4 (dk_at dksX6_choice_3 22 rfl rfl)
theorem dX6_choice_93 : decode cX6_choice 93 = .ok (.iinc 5 1, 3) := dk_132 5 1 (dk_at dksX6_choice_4 0 rfl rfl)
theorem dX6_choice_96 : decode cX6_choice 96 = .ok (.goto (-81), 3) := dk_167 255 175 (dk_at dksX6_choice_4 3 rfl rfl)
theorem dX6_choice_99 : decode cX6_choice 99 = .ok (.iload_n 3, 1) := dk_29 (dk_at dksX6_choice_4 6 rfl rfl)
theorem dX6_choice_100 : decode cX6_choice 100 = .ok (.ifCond .ge 7, 3) := dk_156 0 7 (dk_at dksX6_choice_4 7 rfl rfl)
theorem dX6_choice_103 : decode cX6_choice 103 = .ok (.iconst (-1), 1) := dk_2 (dk_at dksX6_choice_4 10 rfl rfl)
theorem dX6_choice_104 : decode cX6_choice 104 = .ok (.goto 11, 3) := dk_167 0 11 (dk_at dksX6_choice_4 11 rfl rfl)
theorem dX6_choice_107 : decode cX6_choice 107 = .ok (.aload_n 0, 1) := dk_42 (dk_at dksX6_choice_4 14 rfl rfl)
theorem dX6_choice_108 : decode cX6_choice 108 = .ok (.getfield 7, 3) := dk_180 0 7 (dk_at dksX6_choice_4 15 rfl rfl)
theorem dX6_choice_111 : decode cX6_choice 111 = .ok (.iload_n 3, 1) := dk_29 (dk_at dksX6_choice_4 18 rfl rfl)
theorem dX6_choice_112 : decode cX6_choice 112 = .ok (.iconst 1, 1) := dk_4 (dk_at dksX6_choice_4 19 rfl rfl)
theorem dX6_choice_113 : decode cX6_choice 113 = .ok (.iadd, 1) := dk_96 (dk_at dksX6_choice_4 20 rfl rfl)
theorem dX6_choice_114 : decode cX6_choice 114 = .ok (.iaload, 1) := dk_46 (dk_at dksX6_choice_4 21 rfl rfl)
theorem dX6_choice_115 : decode cX6_choice 115 = .ok (.istore 5, 2) := dk_54 5 (dk_at dksX6_choice_4 22 rfl rfl)
theorem dX6_choice_117 : decode cX6_choice 117 = .ok (.iload 5, 2) := dk_21 5 (dk_at dksX6_choice_5 0 rfl rfl)
theorem dX6_choice_119 : decode cX6_choice 119 = .ok (.ifCond .ne 14, 3) := dk_154 0 14 (dk_at dksX6_choice_5 2 rfl rfl)
theorem dX6_choice_122 : decode cX6_choice 122 = .ok (.aload_n 0, 1) := dk_42 (dk_at dksX6_choice_5 5 rfl rfl)
theorem dX6_choice_123 : decode cX6_choice 123 = .ok (.getfield 7, 3) := dk_180 0 7 (dk_at dksX6_choice_5 6 rfl rfl)
theorem dX6_choice_126 : decode cX6_choice 126 = .ok (.iload_n 3, 1) := dk_29 (dk_at dksX6_choice_5 9 rfl rfl)
theorem dX6_choice_127 : decode cX6_choice 127 = .ok (.iconst 2, 1) := dk_5 (dk_at dksX6_choice_5 10 rfl rfl)
theorem dX6_choice_128 : decode cX6_choice 128 = .ok (.iadd, 1) := dk_96 (dk_at dksX6_choice_5 11 rfl rfl)
theorem dX6_choice_129 : decode cX6_choice 129 = .ok (.iaload, 1) := dk_46 (dk_at dksX6_choice_5 12 rfl rfl)
theorem dX6_choice_130 : decode cX6_choice 130 = .ok (.goto 23, 3) := dk_167 0 23 (dk_at dksX6_choice_5 13 rfl rfl)
theorem dX6_choice_133 : decode cX6_choice 133 = .ok (.iload 5, 2) := dk_21 5 (dk_at dksX6_choice_5 16 rfl rfl)
theorem dX6_choice_135 : decode cX6_choice 135 = .ok (.iconst 1, 1) := dk_4 (dk_at dksX6_choice_5 18 rfl rfl)
theorem dX6_choice_136 : decode cX6_choice 136 = .ok (.if_icmp .ne 16, 3) := dk_160 0 16 (dk_at dksX6_choice_5 19 rfl rfl)
theorem dX6_choice_139 : decode cX6_choice 139 = .ok (.iconst 0, 1) := dk_3 (dk_at dksX6_choice_5 22 rfl rfl)
theorem dX6_choice_140 : decode cX6_choice 140 = .ok (.aload_n 0, 1) := dk_42 (dk_at dksX6_choice_5 23 rfl rfl)
theorem dX6_choice_141 : decode cX6_choice 141 = .ok (.getfield 7, 3) := dk_180 0 7 (dk_at dksX6_choice_6 0 rfl rfl)
theorem dX6_choice_144 : decode cX6_choice 144 = .ok (.iload_n 3, 1) := dk_29 (dk_at dksX6_choice_6 3 rfl rfl)
theorem dX6_choice_145 : decode cX6_choice 145 = .ok (.iconst 2, 1) := dk_5 (dk_at dksX6_choice_6 4 rfl rfl)
theorem dX6_choice_146 : decode cX6_choice 146 = .ok (.iadd, 1) := dk_96 (dk_at dksX6_choice_6 5 rfl rfl)
theorem dX6_choice_147 : decode cX6_choice 147 = .ok (.iaload, 1) := dk_46 (dk_at dksX6_choice_6 6 rfl rfl)
theorem dX6_choice_148 : decode cX6_choice 148 = .ok (.isub, 1) := dk_100 (dk_at dksX6_choice_6 7 rfl rfl)
theorem dX6_choice_149 : decode cX6_choice 149 = .ok (.goto 4, 3) := dk_167 0 4 (dk_at dksX6_choice_6 8 rfl rfl)
theorem dX6_choice_152 : decode cX6_choice 152 = .ok (.iconst 0, 1) := dk_3 (dk_at dksX6_choice_6 11 rfl rfl)
theorem dX6_choice_153 : decode cX6_choice 153 = .ok (.istore 6, 2) := dk_54 6 (dk_at dksX6_choice_6 12 rfl rfl)
theorem dX6_choice_155 : decode cX6_choice 155 = .ok (.aload_n 0, 1) := dk_42 (dk_at dksX6_choice_6 14 rfl rfl)
theorem dX6_choice_156 : decode cX6_choice 156 = .ok (.iload_n 1, 1) := dk_27 (dk_at dksX6_choice_6 15 rfl rfl)
theorem dX6_choice_157 : decode cX6_choice 157 = .ok (.invokevirtual 103, 3) := dk_182 0 103 (dk_at dksX6_choice_6 16 rfl rfl)
theorem dX6_choice_160 : decode cX6_choice 160 = .ok (.istore 7, 2) := dk_54 7 (dk_at dksX6_choice_6 19 rfl rfl)
theorem dX6_choice_162 : decode cX6_choice 162 = .ok (.bipush 10, 2) := dk_16 10 (dk_at dksX6_choice_6 21 rfl rfl)
theorem dX6_choice_164 : decode cX6_choice 164 = .ok (.istore 8, 2) := dk_54 8 (dk_at dksX6_choice_7 0 rfl rfl)
theorem dX6_choice_166 : decode cX6_choice 166 = .ok (.iconst 0, 1) := dk_3 (dk_at dksX6_choice_7 2 rfl rfl)
theorem dX6_choice_167 : decode cX6_choice 167 = .ok (.istore 9, 2) := dk_54 9 (dk_at dksX6_choice_7 3 rfl rfl)
theorem dX6_choice_169 : decode cX6_choice 169 = .ok (.iload 9, 2) := dk_21 9 (dk_at dksX6_choice_7 5 rfl rfl)
theorem dX6_choice_171 : decode cX6_choice 171 = .ok (.aload_n 0, 1) := dk_42 (dk_at dksX6_choice_7 7 rfl rfl)
theorem dX6_choice_172 : decode cX6_choice 172 = .ok (.getfield 7, 3) := dk_180 0 7 (dk_at dksX6_choice_7 8 rfl rfl)
theorem dX6_choice_175 : decode cX6_choice 175 = .ok (.iconst 5, 1) := dk_8 (dk_at dksX6_choice_7 11 rfl rfl)
theorem dX6_choice_176 : decode cX6_choice 176 = .ok (.iaload, 1) := dk_46 (dk_at dksX6_choice_7 12 rfl rfl)
theorem dX6_choice_177 : decode cX6_choice 177 = .ok (.if_icmp .ge 110, 3) := dk_162 0 110 (dk_at dksX6_choice_7 13 rfl rfl)
theorem dX6_choice_180 : decode cX6_choice 180 = .ok (.iload 5, 2) := dk_21 5 (dk_at dksX6_choice_7 16 rfl rfl)
theorem dX6_choice_182 : decode cX6_choice 182 = .ok (.iconst 2, 1) := dk_5 (dk_at dksX6_choice_7 18 rfl rfl)
theorem dX6_choice_183 : decode cX6_choice 183 = .ok (.if_icmp .eq 104, 3) := dk_159 0 104 (dk_at dksX6_choice_7 19 rfl rfl)
theorem dX6_choice_186 : decode cX6_choice 186 = .ok (.aload_n 0, 1) := dk_42 (dk_at dksX6_choice_7 22 rfl rfl)
theorem dX6_choice_187 : decode cX6_choice 187 = .ok (.iload 9, 2) := dk_21 9 (dk_at dksX6_choice_8 0 rfl rfl)
theorem dX6_choice_189 : decode cX6_choice 189 = .ok (.iconst 0, 1) := dk_3 (dk_at dksX6_choice_8 2 rfl rfl)
theorem dX6_choice_190 : decode cX6_choice 190 = .ok (.invokevirtual 90, 3) := dk_182 0 90 (dk_at dksX6_choice_8 3 rfl rfl)
theorem dX6_choice_193 : decode cX6_choice 193 = .ok (.iload_n 1, 1) := dk_27 (dk_at dksX6_choice_8 6 rfl rfl)
theorem dX6_choice_194 : decode cX6_choice 194 = .ok (.if_icmp .ne 48, 3) := dk_160 0 48 (dk_at dksX6_choice_8 7 rfl rfl)
theorem dX6_choice_197 : decode cX6_choice 197 = .ok (.aload_n 0, 1) := dk_42 (dk_at dksX6_choice_8 10 rfl rfl)
theorem dX6_choice_198 : decode cX6_choice 198 = .ok (.iload 9, 2) := dk_21 9 (dk_at dksX6_choice_8 11 rfl rfl)
theorem dX6_choice_200 : decode cX6_choice 200 = .ok (.iconst 4, 1) := dk_7 (dk_at dksX6_choice_8 13 rfl rfl)
theorem dX6_choice_201 : decode cX6_choice 201 = .ok (.invokevirtual 90, 3) := dk_182 0 90 (dk_at dksX6_choice_8 14 rfl rfl)
theorem dX6_choice_204 : decode cX6_choice 204 = .ok (.iconst 1, 1) := dk_4 (dk_at dksX6_choice_8 17 rfl rfl)
theorem dX6_choice_205 : decode cX6_choice 205 = .ok (.if_icmp .ne 37, 3) := dk_160 0 37 (dk_at dksX6_choice_8 18 rfl rfl)
theorem dX6_choice_208 : decode cX6_choice 208 = .ok (.aload_n 0, 1) := dk_42 (dk_at dksX6_choice_8 21 rfl rfl)
theorem dX6_choice_209 : decode cX6_choice 209 = .ok (.iload 9, 2) := dk_21 9 (dk_at dksX6_choice_8 22 rfl rfl)
theorem dX6_choice_211 : decode cX6_choice 211 = .ok (.iconst 2, 1) := dk_5 (dk_at dksX6_choice_9 0 rfl rfl)
theorem dX6_choice_212 : decode cX6_choice 212 = .ok (.invokevirtual 90, 3) := dk_182 0 90 (dk_at dksX6_choice_9 1 rfl rfl)
theorem dX6_choice_215 : decode cX6_choice 215 = .ok (.iload 7, 2) := dk_21 7 (dk_at dksX6_choice_9 4 rfl rfl)
theorem dX6_choice_217 : decode cX6_choice 217 = .ok (.if_icmp .gt 25, 3) := dk_163 0 25 (dk_at dksX6_choice_9 6 rfl rfl)
theorem dX6_choice_220 : decode cX6_choice 220 = .ok (.aload_n 0, 1) := dk_42 (dk_at dksX6_choice_9 9 rfl rfl)
theorem dX6_choice_221 : decode cX6_choice 221 = .ok (.iload 9, 2) := dk_21 9 (dk_at dksX6_choice_9 10 rfl rfl)
theorem dX6_choice_223 : decode cX6_choice 223 = .ok (.invokevirtual 119, 3) := dk_182 0 119 (dk_at dksX6_choice_9 12 rfl rfl)
theorem dX6_choice_226 : decode cX6_choice 226 = .ok (.aload_n 0, 1) := dk_42 (dk_at dksX6_choice_9 15 rfl rfl)
theorem dX6_choice_227 : decode cX6_choice 227 = .ok (.getfield 7, 3) := dk_180 0 7 (dk_at dksX6_choice_9 16 rfl rfl)
theorem dX6_choice_230 : decode cX6_choice 230 = .ok (.iconst 3, 1) := dk_6 (dk_at dksX6_choice_9 19 rfl rfl)
theorem dX6_choice_231 : decode cX6_choice 231 = .ok (.iaload, 1) := dk_46 (dk_at dksX6_choice_9 20 rfl rfl)
theorem dX6_choice_232 : decode cX6_choice 232 = .ok (.iload 6, 2) := dk_21 6 (dk_at dksX6_choice_9 21 rfl rfl)
theorem dX6_choice_234 : decode cX6_choice 234 = .ok (.iadd, 1) := dk_96 (dk_at dksX6_choice_9 23 rfl rfl)
theorem dX6_choice_235 : decode cX6_choice 235 = .ok (.if_icmp .gt 7, 3) := dk_163 0 7 (dk_at dksX6_choice_10 0 rfl rfl)
theorem dX6_choice_238 : decode cX6_choice 238 = .ok (.iconst 1, 1) := dk_4 (dk_at dksX6_choice_10 3 rfl rfl)
theorem dX6_choice_239 : decode cX6_choice 239 = .ok (.goto 4, 3) := dk_167 0 4 (dk_at dksX6_choice_10 4 rfl rfl)
theorem dX6_choice_242 : decode cX6_choice 242 = .ok (.iconst 0, 1) := dk_3 (dk_at dksX6_choice_10 7 rfl rfl)
theorem dX6_choice_243 : decode cX6_choice 243 = .ok (.istore 10, 2) := dk_54 10 (dk_at dksX6_choice_10 8 rfl rfl)
theorem dX6_choice_245 : decode cX6_choice 245 = .ok (.iload 10, 2) := dk_21 10 (dk_at dksX6_choice_10 10 rfl rfl)
theorem dX6_choice_247 : decode cX6_choice 247 = .ok (.ifCond .eq 30, 3) := dk_153 0 30 (dk_at dksX6_choice_10 12 rfl rfl)
theorem dX6_choice_250 : decode cX6_choice 250 = .ok (.iload 8, 2) := dk_21 8 (dk_at dksX6_choice_10 15 rfl rfl)
theorem dX6_choice_252 : decode cX6_choice 252 = .ok (.bipush 10, 2) := dk_16 10 (dk_at dksX6_choice_10 17 rfl rfl)
theorem dX6_choice_254 : decode cX6_choice 254 = .ok (.if_icmp .eq 18, 3) := dk_159 0 18 (dk_at dksX6_choice_10 19 rfl rfl)
theorem dX6_choice_257 : decode cX6_choice 257 = .ok (.aload_n 0, 1) := dk_42 (dk_at dksX6_choice_10 22 rfl rfl)
theorem dX6_choice_258 : decode cX6_choice 258 = .ok (.iload 9, 2) := dk_21 9 (dk_at dksX6_choice_11 0 rfl rfl)
theorem dX6_choice_260 : decode cX6_choice 260 = .ok (.invokevirtual 119, 3) := dk_182 0 119 (dk_at dksX6_choice_11 2 rfl rfl)
theorem dX6_choice_263 : decode cX6_choice 263 = .ok (.aload_n 0, 1) := dk_42 (dk_at dksX6_choice_11 5 rfl rfl)
theorem dX6_choice_264 : decode cX6_choice 264 = .ok (.iload 8, 2) := dk_21 8 (dk_at dksX6_choice_11 6 rfl rfl)
theorem dX6_choice_266 : decode cX6_choice 266 = .ok (.invokevirtual 119, 3) := dk_182 0 119 (dk_at dksX6_choice_11 8 rfl rfl)
theorem dX6_choice_269 : decode cX6_choice 269 = .ok (.if_icmp .ge 8, 3) := dk_162 0 8 (dk_at dksX6_choice_11 11 rfl rfl)
theorem dX6_choice_272 : decode cX6_choice 272 = .ok (.iload 9, 2) := dk_21 9 (dk_at dksX6_choice_11 14 rfl rfl)
theorem dX6_choice_274 : decode cX6_choice 274 = .ok (.goto 5, 3) := dk_167 0 5 (dk_at dksX6_choice_11 16 rfl rfl)
theorem dX6_choice_277 : decode cX6_choice 277 = .ok (.iload 8, 2) := dk_21 8 (dk_at dksX6_choice_11 19 rfl rfl)
theorem dX6_choice_279 : decode cX6_choice 279 = .ok (.istore 8, 2) := dk_54 8 (dk_at dksX6_choice_11 21 rfl rfl)
theorem dX6_choice_281 : decode cX6_choice 281 = .ok (.iinc 9 1, 3) := dk_132 9 1 (dk_at dksX6_choice_12 0 rfl rfl)
theorem dX6_choice_284 : decode cX6_choice 284 = .ok (.goto (-115), 3) := dk_167 255 141 (dk_at dksX6_choice_12 3 rfl rfl)
theorem dX6_choice_287 : decode cX6_choice 287 = .ok (.iload 8, 2) := dk_21 8 (dk_at dksX6_choice_12 6 rfl rfl)
theorem dX6_choice_289 : decode cX6_choice 289 = .ok (.ireturn, 1) := dk_172 (dk_at dksX6_choice_12 8 rfl rfl)
abbrev cX6_isUnder : ByteArray := prog_26_method_29_code
def yX6_isUnder : MethodName := ⟨RX6, "isUnder", "(II)Z"⟩
def dkwX6_isUnder_1 : List UInt8 := [27, 7, 160, 0, 7, 4, 167, 0, 4, 3, 172]
abbrev dktX6_isUnder_1 : List UInt8 := dkwX6_isUnder_1 ++ []
def dkwX6_isUnder_0 : List UInt8 := [27, 153, 0, 28, 26, 27, 159, 0, 23, 26, 6, 160, 0, 8, 27, 5, 159, 0, 13, 26, 8, 160, 0, 12]
abbrev dktX6_isUnder_0 : List UInt8 := dkwX6_isUnder_0 ++ dktX6_isUnder_1
theorem dksX6_isUnder_0 : cX6_isUnder.data.toList.drop 0 = dktX6_isUnder_0 := by decide +kernel
theorem dksX6_isUnder_1 : cX6_isUnder.data.toList.drop 24 = dktX6_isUnder_1 := dk_seg dksX6_isUnder_0 24 rfl rfl
theorem dX6_isUnder_0 : decode cX6_isUnder 0 = .ok (.iload_n 1, 1) := dk_27 (dk_at dksX6_isUnder_0 0 rfl rfl)
theorem dX6_isUnder_1 : decode cX6_isUnder 1 = .ok (.ifCond .eq 28, 3) := dk_153 0 28 (dk_at dksX6_isUnder_0 1 rfl rfl)
theorem dX6_isUnder_4 : decode cX6_isUnder 4 = .ok (.iload_n 0, 1) := dk_26 (dk_at dksX6_isUnder_0 4 rfl rfl)
theorem dX6_isUnder_5 : decode cX6_isUnder 5 = .ok (.iload_n 1, 1) := dk_27 (dk_at dksX6_isUnder_0 5 rfl rfl)
theorem dX6_isUnder_6 : decode cX6_isUnder 6 = .ok (.if_icmp .eq 23, 3) := dk_159 0 23 (dk_at dksX6_isUnder_0 6 rfl rfl)
theorem dX6_isUnder_9 : decode cX6_isUnder 9 = .ok (.iload_n 0, 1) := dk_26 (dk_at dksX6_isUnder_0 9 rfl rfl)
theorem dX6_isUnder_10 : decode cX6_isUnder 10 = .ok (.iconst 3, 1) := dk_6 (dk_at dksX6_isUnder_0 10 rfl rfl)
theorem dX6_isUnder_11 : decode cX6_isUnder 11 = .ok (.if_icmp .ne 8, 3) := dk_160 0 8 (dk_at dksX6_isUnder_0 11 rfl rfl)
theorem dX6_isUnder_14 : decode cX6_isUnder 14 = .ok (.iload_n 1, 1) := dk_27 (dk_at dksX6_isUnder_0 14 rfl rfl)
theorem dX6_isUnder_15 : decode cX6_isUnder 15 = .ok (.iconst 2, 1) := dk_5 (dk_at dksX6_isUnder_0 15 rfl rfl)
theorem dX6_isUnder_16 : decode cX6_isUnder 16 = .ok (.if_icmp .eq 13, 3) := dk_159 0 13 (dk_at dksX6_isUnder_0 16 rfl rfl)
theorem dX6_isUnder_19 : decode cX6_isUnder 19 = .ok (.iload_n 0, 1) := dk_26 (dk_at dksX6_isUnder_0 19 rfl rfl)
theorem dX6_isUnder_20 : decode cX6_isUnder 20 = .ok (.iconst 5, 1) := dk_8 (dk_at dksX6_isUnder_0 20 rfl rfl)
theorem dX6_isUnder_21 : decode cX6_isUnder 21 = .ok (.if_icmp .ne 12, 3) := dk_160 0 12 (dk_at dksX6_isUnder_0 21 rfl rfl)
theorem dX6_isUnder_24 : decode cX6_isUnder 24 = .ok (.iload_n 1, 1) := dk_27 (dk_at dksX6_isUnder_1 0 rfl rfl)
theorem dX6_isUnder_25 : decode cX6_isUnder 25 = .ok (.iconst 4, 1) := dk_7 (dk_at dksX6_isUnder_1 1 rfl rfl)
theorem dX6_isUnder_26 : decode cX6_isUnder 26 = .ok (.if_icmp .ne 7, 3) := dk_160 0 7 (dk_at dksX6_isUnder_1 2 rfl rfl)
theorem dX6_isUnder_29 : decode cX6_isUnder 29 = .ok (.iconst 1, 1) := dk_4 (dk_at dksX6_isUnder_1 5 rfl rfl)
theorem dX6_isUnder_30 : decode cX6_isUnder 30 = .ok (.goto 4, 3) := dk_167 0 4 (dk_at dksX6_isUnder_1 6 rfl rfl)
theorem dX6_isUnder_33 : decode cX6_isUnder 33 = .ok (.iconst 0, 1) := dk_3 (dk_at dksX6_isUnder_1 9 rfl rfl)
theorem dX6_isUnder_34 : decode cX6_isUnder 34 = .ok (.ireturn, 1) := dk_172 (dk_at dksX6_isUnder_1 10 rfl rfl)
abbrev cX6_isSo : ByteArray := prog_26_method_32_code
def yX6_isSo : MethodName := ⟨RX6, "isSo", "(III)Z"⟩
def dkwX6_isSo_6 : List UInt8 := [160, 0, 7, 4, 167, 0, 4, 3, 172]
abbrev dktX6_isSo_6 : List UInt8 := dkwX6_isSo_6 ++ []
def dkwX6_isSo_5 : List UInt8 := [4, 167, 0, 4, 3, 79, 132, 5, 1, 167, 255, 136, 21, 4, 153, 0, 13, 42, 180, 0, 19, 3, 46, 4]
abbrev dktX6_isSo_5 : List UInt8 := dkwX6_isSo_5 ++ dktX6_isSo_6
def dkwX6_isSo_4 : List UInt8 := [21, 6, 42, 180, 0, 19, 21, 4, 4, 100, 46, 42, 180, 0, 19, 21, 4, 46, 184, 0, 131, 153, 0, 7]
abbrev dktX6_isSo_4 : List UInt8 := dkwX6_isSo_4 ++ dktX6_isSo_5
def dkwX6_isSo_3 : List UInt8 := [180, 0, 19, 21, 4, 4, 100, 46, 100, 79, 167, 0, 44, 132, 4, 255, 42, 180, 0, 19, 21, 4, 4, 100]
abbrev dktX6_isSo_3 : List UInt8 := dkwX6_isSo_3 ++ dktX6_isSo_4
def dkwX6_isSo_2 : List UInt8 := [132, 4, 1, 167, 0, 74, 21, 6, 16, 236, 160, 0, 26, 42, 180, 0, 19, 21, 4, 4, 100, 4, 42]
abbrev dktX6_isSo_2 : List UInt8 := dkwX6_isSo_2 ++ dktX6_isSo_3
def dkwX6_isSo_1 : List UInt8 := [54, 6, 21, 6, 16, 246, 164, 0, 23, 42, 180, 0, 19, 21, 4, 42, 21, 6, 29, 182, 0, 128, 79]
abbrev dktX6_isSo_1 : List UInt8 := dkwX6_isSo_1 ++ dktX6_isSo_2
def dkwX6_isSo_0 : List UInt8 := [3, 54, 4, 27, 54, 5, 21, 5, 28, 162, 0, 120, 42, 180, 0, 7, 17, 0, 168, 21, 5, 96, 46]
abbrev dktX6_isSo_0 : List UInt8 := dkwX6_isSo_0 ++ dktX6_isSo_1
theorem dksX6_isSo_0 : cX6_isSo.data.toList.drop 0 = dktX6_isSo_0 := by decide +kernel
theorem dksX6_isSo_1 : cX6_isSo.data.toList.drop 23 = dktX6_isSo_1 := dk_seg dksX6_isSo_0 23 rfl rfl
theorem dksX6_isSo_2 : cX6_isSo.data.toList.drop 46 = dktX6_isSo_2 := dk_seg dksX6_isSo_1 23 rfl rfl
theorem dksX6_isSo_3 : cX6_isSo.data.toList.drop 69 = dktX6_isSo_3 := dk_seg dksX6_isSo_2 23 rfl rfl
theorem dksX6_isSo_4 : cX6_isSo.data.toList.drop 93 = dktX6_isSo_4 := dk_seg dksX6_isSo_3 24 rfl rfl
theorem dksX6_isSo_5 : cX6_isSo.data.toList.drop 117 = dktX6_isSo_5 := dk_seg dksX6_isSo_4 24 rfl rfl
theorem dksX6_isSo_6 : cX6_isSo.data.toList.drop 141 = dktX6_isSo_6 := dk_seg dksX6_isSo_5 24 rfl rfl
theorem dX6_isSo_0 : decode cX6_isSo 0 = .ok (.iconst 0, 1) := dk_3 (dk_at dksX6_isSo_0 0 rfl rfl)
theorem dX6_isSo_1 : decode cX6_isSo 1 = .ok (.istore 4, 2) := dk_54 4 (dk_at dksX6_isSo_0 1 rfl rfl)
theorem dX6_isSo_3 : decode cX6_isSo 3 = .ok (.iload_n 1, 1) := dk_27 (dk_at dksX6_isSo_0 3 rfl rfl)
theorem dX6_isSo_4 : decode cX6_isSo 4 = .ok (.istore 5, 2) := dk_54 5 (dk_at dksX6_isSo_0 4 rfl rfl)
theorem dX6_isSo_6 : decode cX6_isSo 6 = .ok (.iload 5, 2) := dk_21 5 (dk_at dksX6_isSo_0 6 rfl rfl)
theorem dX6_isSo_8 : decode cX6_isSo 8 = .ok (.iload_n 2, 1) := dk_28 (dk_at dksX6_isSo_0 8 rfl rfl)
theorem dX6_isSo_9 : decode cX6_isSo 9 = .ok (.if_icmp .ge 120, 3) := dk_162 0 120 (dk_at dksX6_isSo_0 9 rfl rfl)
theorem dX6_isSo_12 : decode cX6_isSo 12 = .ok (.aload_n 0, 1) := dk_42 (dk_at dksX6_isSo_0 12 rfl rfl)
theorem dX6_isSo_13 : decode cX6_isSo 13 = .ok (.getfield 7, 3) := dk_180 0 7 (dk_at dksX6_isSo_0 13 rfl rfl)
theorem dX6_isSo_16 : decode cX6_isSo 16 = .ok (.sipush 168, 3) := dk_17 0 168 (dk_at dksX6_isSo_0 16 rfl rfl)
theorem dX6_isSo_19 : decode cX6_isSo 19 = .ok (.iload 5, 2) := dk_21 5 (dk_at dksX6_isSo_0 19 rfl rfl)
theorem dX6_isSo_21 : decode cX6_isSo 21 = .ok (.iadd, 1) := dk_96 (dk_at dksX6_isSo_0 21 rfl rfl)
theorem dX6_isSo_22 : decode cX6_isSo 22 = .ok (.iaload, 1) := dk_46 (dk_at dksX6_isSo_0 22 rfl rfl)
theorem dX6_isSo_23 : decode cX6_isSo 23 = .ok (.istore 6, 2) := dk_54 6 (dk_at dksX6_isSo_1 0 rfl rfl)
theorem dX6_isSo_25 : decode cX6_isSo 25 = .ok (.iload 6, 2) := dk_21 6 (dk_at dksX6_isSo_1 2 rfl rfl)
theorem dX6_isSo_27 : decode cX6_isSo 27 = .ok (.bipush (-10), 2) := dk_16 246 (dk_at dksX6_isSo_1 4 rfl rfl)
theorem dX6_isSo_29 : decode cX6_isSo 29 = .ok (.if_icmp .le 23, 3) := dk_164 0 23 (dk_at dksX6_isSo_1 6 rfl rfl)
theorem dX6_isSo_32 : decode cX6_isSo 32 = .ok (.aload_n 0, 1) := dk_42 (dk_at dksX6_isSo_1 9 rfl rfl)
theorem dX6_isSo_33 : decode cX6_isSo 33 = .ok (.getfield 19, 3) := dk_180 0 19 (dk_at dksX6_isSo_1 10 rfl rfl)
theorem dX6_isSo_36 : decode cX6_isSo 36 = .ok (.iload 4, 2) := dk_21 4 (dk_at dksX6_isSo_1 13 rfl rfl)
theorem dX6_isSo_38 : decode cX6_isSo 38 = .ok (.aload_n 0, 1) := dk_42 (dk_at dksX6_isSo_1 15 rfl rfl)
theorem dX6_isSo_39 : decode cX6_isSo 39 = .ok (.iload 6, 2) := dk_21 6 (dk_at dksX6_isSo_1 16 rfl rfl)
theorem dX6_isSo_41 : decode cX6_isSo 41 = .ok (.iload_n 3, 1) := dk_29 (dk_at dksX6_isSo_1 18 rfl rfl)
theorem dX6_isSo_42 : decode cX6_isSo 42 = .ok (.invokevirtual 128, 3) := dk_182 0 128 (dk_at dksX6_isSo_1 19 rfl rfl)
theorem dX6_isSo_45 : decode cX6_isSo 45 = .ok (.iastore, 1) := dk_79 (dk_at dksX6_isSo_1 22 rfl rfl)
theorem dX6_isSo_46 : decode cX6_isSo 46 = .ok (.iinc 4 1, 3) := dk_132 4 1 (dk_at dksX6_isSo_2 0 rfl rfl)
theorem dX6_isSo_49 : decode cX6_isSo 49 = .ok (.goto 74, 3) := dk_167 0 74 (dk_at dksX6_isSo_2 3 rfl rfl)
theorem dX6_isSo_52 : decode cX6_isSo 52 = .ok (.iload 6, 2) := dk_21 6 (dk_at dksX6_isSo_2 6 rfl rfl)
theorem dX6_isSo_54 : decode cX6_isSo 54 = .ok (.bipush (-20), 2) := dk_16 236 (dk_at dksX6_isSo_2 8 rfl rfl)
theorem dX6_isSo_56 : decode cX6_isSo 56 = .ok (.if_icmp .ne 26, 3) := dk_160 0 26 (dk_at dksX6_isSo_2 10 rfl rfl)
theorem dX6_isSo_59 : decode cX6_isSo 59 = .ok (.aload_n 0, 1) := dk_42 (dk_at dksX6_isSo_2 13 rfl rfl)
theorem dX6_isSo_60 : decode cX6_isSo 60 = .ok (.getfield 19, 3) := dk_180 0 19 (dk_at dksX6_isSo_2 14 rfl rfl)
theorem dX6_isSo_63 : decode cX6_isSo 63 = .ok (.iload 4, 2) := dk_21 4 (dk_at dksX6_isSo_2 17 rfl rfl)
theorem dX6_isSo_65 : decode cX6_isSo 65 = .ok (.iconst 1, 1) := dk_4 (dk_at dksX6_isSo_2 19 rfl rfl)
theorem dX6_isSo_66 : decode cX6_isSo 66 = .ok (.isub, 1) := dk_100 (dk_at dksX6_isSo_2 20 rfl rfl)
theorem dX6_isSo_67 : decode cX6_isSo 67 = .ok (.iconst 1, 1) := dk_4 (dk_at dksX6_isSo_2 21 rfl rfl)
theorem dX6_isSo_68 : decode cX6_isSo 68 = .ok (.aload_n 0, 1) := dk_42 (dk_at dksX6_isSo_2 22 rfl rfl)
theorem dX6_isSo_69 : decode cX6_isSo 69 = .ok (.getfield 19, 3) := dk_180 0 19 (dk_at dksX6_isSo_3 0 rfl rfl)
theorem dX6_isSo_72 : decode cX6_isSo 72 = .ok (.iload 4, 2) := dk_21 4 (dk_at dksX6_isSo_3 3 rfl rfl)
theorem dX6_isSo_74 : decode cX6_isSo 74 = .ok (.iconst 1, 1) := dk_4 (dk_at dksX6_isSo_3 5 rfl rfl)
theorem dX6_isSo_75 : decode cX6_isSo 75 = .ok (.isub, 1) := dk_100 (dk_at dksX6_isSo_3 6 rfl rfl)
theorem dX6_isSo_76 : decode cX6_isSo 76 = .ok (.iaload, 1) := dk_46 (dk_at dksX6_isSo_3 7 rfl rfl)
theorem dX6_isSo_77 : decode cX6_isSo 77 = .ok (.isub, 1) := dk_100 (dk_at dksX6_isSo_3 8 rfl rfl)
theorem dX6_isSo_78 : decode cX6_isSo 78 = .ok (.iastore, 1) := dk_79 (dk_at dksX6_isSo_3 9 rfl rfl)
theorem dX6_isSo_79 : decode cX6_isSo 79 = .ok (.goto 44, 3) := dk_167 0 44 (dk_at dksX6_isSo_3 10 rfl rfl)
theorem dX6_isSo_82 : decode cX6_isSo 82 = .ok (.iinc 4 (-1), 3) := dk_132 4 255 (dk_at dksX6_isSo_3 13 rfl rfl)
theorem dX6_isSo_85 : decode cX6_isSo 85 = .ok (.aload_n 0, 1) := dk_42 (dk_at dksX6_isSo_3 16 rfl rfl)
theorem dX6_isSo_86 : decode cX6_isSo 86 = .ok (.getfield 19, 3) := dk_180 0 19 (dk_at dksX6_isSo_3 17 rfl rfl)
theorem dX6_isSo_89 : decode cX6_isSo 89 = .ok (.iload 4, 2) := dk_21 4 (dk_at dksX6_isSo_3 20 rfl rfl)
theorem dX6_isSo_91 : decode cX6_isSo 91 = .ok (.iconst 1, 1) := dk_4 (dk_at dksX6_isSo_3 22 rfl rfl)
theorem dX6_isSo_92 : decode cX6_isSo 92 = .ok (.isub, 1) := dk_100 (dk_at dksX6_isSo_3 23 rfl rfl)
theorem dX6_isSo_93 : decode cX6_isSo 93 = .ok (.iload 6, 2) := dk_21 6 (dk_at dksX6_isSo_4 0 rfl rfl)
theorem dX6_isSo_95 : decode cX6_isSo 95 = .ok (.aload_n 0, 1) := dk_42 (dk_at dksX6_isSo_4 2 rfl rfl)
theorem dX6_isSo_96 : decode cX6_isSo 96 = .ok (.getfield 19, 3) := dk_180 0 19 (dk_at dksX6_isSo_4 3 rfl rfl)
theorem dX6_isSo_99 : decode cX6_isSo 99 = .ok (.iload 4, 2) := dk_21 4 (dk_at dksX6_isSo_4 6 rfl rfl)
theorem dX6_isSo_101 : decode cX6_isSo 101 = .ok (.iconst 1, 1) := dk_4 (dk_at dksX6_isSo_4 8 rfl rfl)
theorem dX6_isSo_102 : decode cX6_isSo 102 = .ok (.isub, 1) := dk_100 (dk_at dksX6_isSo_4 9 rfl rfl)
theorem dX6_isSo_103 : decode cX6_isSo 103 = .ok (.iaload, 1) := dk_46 (dk_at dksX6_isSo_4 10 rfl rfl)
theorem dX6_isSo_104 : decode cX6_isSo 104 = .ok (.aload_n 0, 1) := dk_42 (dk_at dksX6_isSo_4 11 rfl rfl)
theorem dX6_isSo_105 : decode cX6_isSo 105 = .ok (.getfield 19, 3) := dk_180 0 19 (dk_at dksX6_isSo_4 12 rfl rfl)
theorem dX6_isSo_108 : decode cX6_isSo 108 = .ok (.iload 4, 2) := dk_21 4 (dk_at dksX6_isSo_4 15 rfl rfl)
theorem dX6_isSo_110 : decode cX6_isSo 110 = .ok (.iaload, 1) := dk_46 (dk_at dksX6_isSo_4 17 rfl rfl)
theorem dX6_isSo_111 : decode cX6_isSo 111 = .ok (.invokestatic 131, 3) := dk_184 0 131 (dk_at dksX6_isSo_4 18 rfl rfl)
theorem dX6_isSo_114 : decode cX6_isSo 114 = .ok (.ifCond .eq 7, 3) := dk_153 0 7 (dk_at dksX6_isSo_4 21 rfl rfl)
theorem dX6_isSo_117 : decode cX6_isSo 117 = .ok (.iconst 1, 1) := dk_4 (dk_at dksX6_isSo_5 0 rfl rfl)
theorem dX6_isSo_118 : decode cX6_isSo 118 = .ok (.goto 4, 3) := dk_167 0 4 (dk_at dksX6_isSo_5 1 rfl rfl)
theorem dX6_isSo_121 : decode cX6_isSo 121 = .ok (.iconst 0, 1) := dk_3 (dk_at dksX6_isSo_5 4 rfl rfl)
theorem dX6_isSo_122 : decode cX6_isSo 122 = .ok (.iastore, 1) := dk_79 (dk_at dksX6_isSo_5 5 rfl rfl)
theorem dX6_isSo_123 : decode cX6_isSo 123 = .ok (.iinc 5 1, 3) := dk_132 5 1 (dk_at dksX6_isSo_5 6 rfl rfl)
theorem dX6_isSo_126 : decode cX6_isSo 126 = .ok (.goto (-120), 3) := dk_167 255 136 (dk_at dksX6_isSo_5 9 rfl rfl)
theorem dX6_isSo_129 : decode cX6_isSo 129 = .ok (.iload 4, 2) := dk_21 4 (dk_at dksX6_isSo_5 12 rfl rfl)
theorem dX6_isSo_131 : decode cX6_isSo 131 = .ok (.ifCond .eq 13, 3) := dk_153 0 13 (dk_at dksX6_isSo_5 14 rfl rfl)
theorem dX6_isSo_134 : decode cX6_isSo 134 = .ok (.aload_n 0, 1) := dk_42 (dk_at dksX6_isSo_5 17 rfl rfl)
theorem dX6_isSo_135 : decode cX6_isSo 135 = .ok (.getfield 19, 3) := dk_180 0 19 (dk_at dksX6_isSo_5 18 rfl rfl)
theorem dX6_isSo_138 : decode cX6_isSo 138 = .ok (.iconst 0, 1) := dk_3 (dk_at dksX6_isSo_5 21 rfl rfl)
theorem dX6_isSo_139 : decode cX6_isSo 139 = .ok (.iaload, 1) := dk_46 (dk_at dksX6_isSo_5 22 rfl rfl)
theorem dX6_isSo_140 : decode cX6_isSo 140 = .ok (.iconst 1, 1) := dk_4 (dk_at dksX6_isSo_5 23 rfl rfl)
theorem dX6_isSo_141 : decode cX6_isSo 141 = .ok (.if_icmp .ne 7, 3) := dk_160 0 7 (dk_at dksX6_isSo_6 0 rfl rfl)
theorem dX6_isSo_144 : decode cX6_isSo 144 = .ok (.iconst 1, 1) := dk_4 (dk_at dksX6_isSo_6 3 rfl rfl)
theorem dX6_isSo_145 : decode cX6_isSo 145 = .ok (.goto 4, 3) := dk_167 0 4 (dk_at dksX6_isSo_6 4 rfl rfl)
theorem dX6_isSo_148 : decode cX6_isSo 148 = .ok (.iconst 0, 1) := dk_3 (dk_at dksX6_isSo_6 7 rfl rfl)
theorem dX6_isSo_149 : decode cX6_isSo 149 = .ok (.ireturn, 1) := dk_172 (dk_at dksX6_isSo_6 8 rfl rfl)
abbrev cX6_fact : ByteArray := prog_26_method_30_code
def yX6_fact : MethodName := ⟨RX6, "fact", "(II)I"⟩
def dkwX6_fact_3 : List UInt8 := [182, 0, 83, 172, 28, 172, 27, 172]
abbrev dktX6_fact_3 : List UInt8 := dkwX6_fact_3 ++ []
def dkwX6_fact_2 : List UInt8 := [42, 180, 0, 7, 6, 46, 172, 42, 28, 182, 0, 99, 172, 42, 28, 4, 182, 0, 83, 172, 42, 28, 5]
abbrev dktX6_fact_2 : List UInt8 := dkwX6_fact_2 ++ dktX6_fact_3
def dkwX6_fact_1 : List UInt8 := [170, 0, 0, 0, 0, 0, 64, 255, 255, 255, 251, 255, 255, 255, 255, 0, 0, 0, 62, 0, 0, 0, 55, 0, 0, 0, 48, 0, 0, 0, 42, 0, 0, 0, 35]
abbrev dktX6_fact_1 : List UInt8 := dkwX6_fact_1 ++ dktX6_fact_2
def dkwX6_fact_0 : List UInt8 := [27]
abbrev dktX6_fact_0 : List UInt8 := dkwX6_fact_0 ++ dktX6_fact_1
theorem dksX6_fact_0 : cX6_fact.data.toList.drop 0 = dktX6_fact_0 := by decide +kernel
theorem dksX6_fact_1 : cX6_fact.data.toList.drop 1 = dktX6_fact_1 := dk_seg dksX6_fact_0 1 rfl rfl
theorem dksX6_fact_2 : cX6_fact.data.toList.drop 36 = dktX6_fact_2 := dk_seg dksX6_fact_1 35 rfl rfl
theorem dksX6_fact_3 : cX6_fact.data.toList.drop 59 = dktX6_fact_3 := dk_seg dksX6_fact_2 23 rfl rfl
theorem dX6_fact_0 : decode cX6_fact 0 = .ok (.iload_n 1, 1) := dk_27 (dk_at dksX6_fact_0 0 rfl rfl)
theorem dX6_fact_1 : decode cX6_fact 1 = .ok (.tableswitch 64 (-5) (-1) #[62, 55, 48, 42, 35], 35) := by decide +kernel
theorem dX6_fact_36 : decode cX6_fact 36 = .ok (.aload_n 0, 1) := dk_42 (dk_at dksX6_fact_2 0 rfl rfl)
theorem dX6_fact_37 : decode cX6_fact 37 = .ok (.getfield 7, 3) := dk_180 0 7 (dk_at dksX6_fact_2 1 rfl rfl)
theorem dX6_fact_40 : decode cX6_fact 40 = .ok (.iconst 3, 1) := dk_6 (dk_at dksX6_fact_2 4 rfl rfl)
theorem dX6_fact_41 : decode cX6_fact 41 = .ok (.iaload, 1) := dk_46 (dk_at dksX6_fact_2 5 rfl rfl)
theorem dX6_fact_42 : decode cX6_fact 42 = .ok (.ireturn, 1) := dk_172 (dk_at dksX6_fact_2 6 rfl rfl)
theorem dX6_fact_43 : decode cX6_fact 43 = .ok (.aload_n 0, 1) := dk_42 (dk_at dksX6_fact_2 7 rfl rfl)
theorem dX6_fact_44 : decode cX6_fact 44 = .ok (.iload_n 2, 1) := dk_28 (dk_at dksX6_fact_2 8 rfl rfl)
theorem dX6_fact_45 : decode cX6_fact 45 = .ok (.invokevirtual 99, 3) := dk_182 0 99 (dk_at dksX6_fact_2 9 rfl rfl)
theorem dX6_fact_48 : decode cX6_fact 48 = .ok (.ireturn, 1) := dk_172 (dk_at dksX6_fact_2 12 rfl rfl)
theorem dX6_fact_49 : decode cX6_fact 49 = .ok (.aload_n 0, 1) := dk_42 (dk_at dksX6_fact_2 13 rfl rfl)
theorem dX6_fact_50 : decode cX6_fact 50 = .ok (.iload_n 2, 1) := dk_28 (dk_at dksX6_fact_2 14 rfl rfl)
theorem dX6_fact_51 : decode cX6_fact 51 = .ok (.iconst 1, 1) := dk_4 (dk_at dksX6_fact_2 15 rfl rfl)
theorem dX6_fact_52 : decode cX6_fact 52 = .ok (.invokevirtual 83, 3) := dk_182 0 83 (dk_at dksX6_fact_2 16 rfl rfl)
theorem dX6_fact_55 : decode cX6_fact 55 = .ok (.ireturn, 1) := dk_172 (dk_at dksX6_fact_2 19 rfl rfl)
theorem dX6_fact_56 : decode cX6_fact 56 = .ok (.aload_n 0, 1) := dk_42 (dk_at dksX6_fact_2 20 rfl rfl)
theorem dX6_fact_57 : decode cX6_fact 57 = .ok (.iload_n 2, 1) := dk_28 (dk_at dksX6_fact_2 21 rfl rfl)
theorem dX6_fact_58 : decode cX6_fact 58 = .ok (.iconst 2, 1) := dk_5 (dk_at dksX6_fact_2 22 rfl rfl)
theorem dX6_fact_59 : decode cX6_fact 59 = .ok (.invokevirtual 83, 3) := dk_182 0 83 (dk_at dksX6_fact_3 0 rfl rfl)
theorem dX6_fact_62 : decode cX6_fact 62 = .ok (.ireturn, 1) := dk_172 (dk_at dksX6_fact_3 3 rfl rfl)
theorem dX6_fact_63 : decode cX6_fact 63 = .ok (.iload_n 2, 1) := dk_28 (dk_at dksX6_fact_3 4 rfl rfl)
theorem dX6_fact_64 : decode cX6_fact 64 = .ok (.ireturn, 1) := dk_172 (dk_at dksX6_fact_3 5 rfl rfl)
theorem dX6_fact_65 : decode cX6_fact 65 = .ok (.iload_n 1, 1) := dk_27 (dk_at dksX6_fact_3 6 rfl rfl)
theorem dX6_fact_66 : decode cX6_fact 66 = .ok (.ireturn, 1) := dk_172 (dk_at dksX6_fact_3 7 rfl rfl)
abbrev cX6_isHolding : ByteArray := prog_26_method_31_code
def yX6_isHolding : MethodName := ⟨RX6, "isHolding", "(III)Z"⟩
def dkwX6_isHolding_4 : List UInt8 := [172, 27, 4, 159, 0, 8, 28, 4, 160, 0, 7, 4, 167, 0, 4, 3, 172]
abbrev dktX6_isHolding_4 : List UInt8 := dkwX6_isHolding_4 ++ []
def dkwX6_isHolding_3 : List UInt8 := [164, 0, 7, 4, 167, 0, 4, 3, 172, 27, 4, 160, 0, 12, 28, 4, 160, 0, 7, 4, 167, 0, 4, 3]
abbrev dktX6_isHolding_3 : List UInt8 := dkwX6_isHolding_3 ++ dktX6_isHolding_4
def dkwX6_isHolding_2 : List UInt8 := [27, 28, 162, 0, 7, 4, 167, 0, 4, 3, 172, 27, 28, 160, 0, 7, 4, 167, 0, 4, 3, 172, 27, 28]
abbrev dktX6_isHolding_2 : List UInt8 := dkwX6_isHolding_2 ++ dktX6_isHolding_3
def dkwX6_isHolding_1 : List UInt8 := [171, 0, 0, 0, 0, 0, 92, 0, 0, 0, 4, 255, 255, 255, 235, 0, 0, 0, 76, 255, 255, 255, 243, 0, 0, 0, 65, 255, 255, 255, 244, 0, 0, 0, 54, 255, 255, 255, 245, 0, 0, 0, 43]
abbrev dktX6_isHolding_1 : List UInt8 := dkwX6_isHolding_1 ++ dktX6_isHolding_2
def dkwX6_isHolding_0 : List UInt8 := [26]
abbrev dktX6_isHolding_0 : List UInt8 := dkwX6_isHolding_0 ++ dktX6_isHolding_1
theorem dksX6_isHolding_0 : cX6_isHolding.data.toList.drop 0 = dktX6_isHolding_0 := by decide +kernel
theorem dksX6_isHolding_1 : cX6_isHolding.data.toList.drop 1 = dktX6_isHolding_1 := dk_seg dksX6_isHolding_0 1 rfl rfl
theorem dksX6_isHolding_2 : cX6_isHolding.data.toList.drop 44 = dktX6_isHolding_2 := dk_seg dksX6_isHolding_1 43 rfl rfl
theorem dksX6_isHolding_3 : cX6_isHolding.data.toList.drop 68 = dktX6_isHolding_3 := dk_seg dksX6_isHolding_2 24 rfl rfl
theorem dksX6_isHolding_4 : cX6_isHolding.data.toList.drop 92 = dktX6_isHolding_4 := dk_seg dksX6_isHolding_3 24 rfl rfl
theorem dX6_isHolding_0 : decode cX6_isHolding 0 = .ok (.iload_n 0, 1) := dk_26 (dk_at dksX6_isHolding_0 0 rfl rfl)
theorem dX6_isHolding_1 : decode cX6_isHolding 1 = .ok (.lookupswitch 92 #[(-21, 76), (-13, 65), (-12, 54), (-11, 43)], 43) := by decide +kernel
theorem dX6_isHolding_44 : decode cX6_isHolding 44 = .ok (.iload_n 1, 1) := dk_27 (dk_at dksX6_isHolding_2 0 rfl rfl)
theorem dX6_isHolding_45 : decode cX6_isHolding 45 = .ok (.iload_n 2, 1) := dk_28 (dk_at dksX6_isHolding_2 1 rfl rfl)
theorem dX6_isHolding_46 : decode cX6_isHolding 46 = .ok (.if_icmp .ge 7, 3) := dk_162 0 7 (dk_at dksX6_isHolding_2 2 rfl rfl)
theorem dX6_isHolding_49 : decode cX6_isHolding 49 = .ok (.iconst 1, 1) := dk_4 (dk_at dksX6_isHolding_2 5 rfl rfl)
theorem dX6_isHolding_50 : decode cX6_isHolding 50 = .ok (.goto 4, 3) := dk_167 0 4 (dk_at dksX6_isHolding_2 6 rfl rfl)
theorem dX6_isHolding_53 : decode cX6_isHolding 53 = .ok (.iconst 0, 1) := dk_3 (dk_at dksX6_isHolding_2 9 rfl rfl)
theorem dX6_isHolding_54 : decode cX6_isHolding 54 = .ok (.ireturn, 1) := dk_172 (dk_at dksX6_isHolding_2 10 rfl rfl)
theorem dX6_isHolding_55 : decode cX6_isHolding 55 = .ok (.iload_n 1, 1) := dk_27 (dk_at dksX6_isHolding_2 11 rfl rfl)
theorem dX6_isHolding_56 : decode cX6_isHolding 56 = .ok (.iload_n 2, 1) := dk_28 (dk_at dksX6_isHolding_2 12 rfl rfl)
theorem dX6_isHolding_57 : decode cX6_isHolding 57 = .ok (.if_icmp .ne 7, 3) := dk_160 0 7 (dk_at dksX6_isHolding_2 13 rfl rfl)
theorem dX6_isHolding_60 : decode cX6_isHolding 60 = .ok (.iconst 1, 1) := dk_4 (dk_at dksX6_isHolding_2 16 rfl rfl)
theorem dX6_isHolding_61 : decode cX6_isHolding 61 = .ok (.goto 4, 3) := dk_167 0 4 (dk_at dksX6_isHolding_2 17 rfl rfl)
theorem dX6_isHolding_64 : decode cX6_isHolding 64 = .ok (.iconst 0, 1) := dk_3 (dk_at dksX6_isHolding_2 20 rfl rfl)
theorem dX6_isHolding_65 : decode cX6_isHolding 65 = .ok (.ireturn, 1) := dk_172 (dk_at dksX6_isHolding_2 21 rfl rfl)
theorem dX6_isHolding_66 : decode cX6_isHolding 66 = .ok (.iload_n 1, 1) := dk_27 (dk_at dksX6_isHolding_2 22 rfl rfl)
theorem dX6_isHolding_67 : decode cX6_isHolding 67 = .ok (.iload_n 2, 1) := dk_28 (dk_at dksX6_isHolding_2 23 rfl rfl)
theorem dX6_isHolding_68 : decode cX6_isHolding 68 = .ok (.if_icmp .le 7, 3) := dk_164 0 7 (dk_at dksX6_isHolding_3 0 rfl rfl)
theorem dX6_isHolding_71 : decode cX6_isHolding 71 = .ok (.iconst 1, 1) := dk_4 (dk_at dksX6_isHolding_3 3 rfl rfl)
theorem dX6_isHolding_72 : decode cX6_isHolding 72 = .ok (.goto 4, 3) := dk_167 0 4 (dk_at dksX6_isHolding_3 4 rfl rfl)
theorem dX6_isHolding_75 : decode cX6_isHolding 75 = .ok (.iconst 0, 1) := dk_3 (dk_at dksX6_isHolding_3 7 rfl rfl)
theorem dX6_isHolding_76 : decode cX6_isHolding 76 = .ok (.ireturn, 1) := dk_172 (dk_at dksX6_isHolding_3 8 rfl rfl)
theorem dX6_isHolding_77 : decode cX6_isHolding 77 = .ok (.iload_n 1, 1) := dk_27 (dk_at dksX6_isHolding_3 9 rfl rfl)
theorem dX6_isHolding_78 : decode cX6_isHolding 78 = .ok (.iconst 1, 1) := dk_4 (dk_at dksX6_isHolding_3 10 rfl rfl)
theorem dX6_isHolding_79 : decode cX6_isHolding 79 = .ok (.if_icmp .ne 12, 3) := dk_160 0 12 (dk_at dksX6_isHolding_3 11 rfl rfl)
theorem dX6_isHolding_82 : decode cX6_isHolding 82 = .ok (.iload_n 2, 1) := dk_28 (dk_at dksX6_isHolding_3 14 rfl rfl)
theorem dX6_isHolding_83 : decode cX6_isHolding 83 = .ok (.iconst 1, 1) := dk_4 (dk_at dksX6_isHolding_3 15 rfl rfl)
theorem dX6_isHolding_84 : decode cX6_isHolding 84 = .ok (.if_icmp .ne 7, 3) := dk_160 0 7 (dk_at dksX6_isHolding_3 16 rfl rfl)
theorem dX6_isHolding_87 : decode cX6_isHolding 87 = .ok (.iconst 1, 1) := dk_4 (dk_at dksX6_isHolding_3 19 rfl rfl)
theorem dX6_isHolding_88 : decode cX6_isHolding 88 = .ok (.goto 4, 3) := dk_167 0 4 (dk_at dksX6_isHolding_3 20 rfl rfl)
theorem dX6_isHolding_91 : decode cX6_isHolding 91 = .ok (.iconst 0, 1) := dk_3 (dk_at dksX6_isHolding_3 23 rfl rfl)
theorem dX6_isHolding_92 : decode cX6_isHolding 92 = .ok (.ireturn, 1) := dk_172 (dk_at dksX6_isHolding_4 0 rfl rfl)
theorem dX6_isHolding_93 : decode cX6_isHolding 93 = .ok (.iload_n 1, 1) := dk_27 (dk_at dksX6_isHolding_4 1 rfl rfl)
theorem dX6_isHolding_94 : decode cX6_isHolding 94 = .ok (.iconst 1, 1) := dk_4 (dk_at dksX6_isHolding_4 2 rfl rfl)
theorem dX6_isHolding_95 : decode cX6_isHolding 95 = .ok (.if_icmp .eq 8, 3) := dk_159 0 8 (dk_at dksX6_isHolding_4 3 rfl rfl)
theorem dX6_isHolding_98 : decode cX6_isHolding 98 = .ok (.iload_n 2, 1) := dk_28 (dk_at dksX6_isHolding_4 6 rfl rfl)
theorem dX6_isHolding_99 : decode cX6_isHolding 99 = .ok (.iconst 1, 1) := dk_4 (dk_at dksX6_isHolding_4 7 rfl rfl)
theorem dX6_isHolding_100 : decode cX6_isHolding 100 = .ok (.if_icmp .ne 7, 3) := dk_160 0 7 (dk_at dksX6_isHolding_4 8 rfl rfl)
theorem dX6_isHolding_103 : decode cX6_isHolding 103 = .ok (.iconst 1, 1) := dk_4 (dk_at dksX6_isHolding_4 11 rfl rfl)
theorem dX6_isHolding_104 : decode cX6_isHolding 104 = .ok (.goto 4, 3) := dk_167 0 4 (dk_at dksX6_isHolding_4 12 rfl rfl)
theorem dX6_isHolding_107 : decode cX6_isHolding 107 = .ok (.iconst 0, 1) := dk_3 (dk_at dksX6_isHolding_4 15 rfl rfl)
theorem dX6_isHolding_108 : decode cX6_isHolding 108 = .ok (.ireturn, 1) := dk_172 (dk_at dksX6_isHolding_4 16 rfl rfl)
abbrev cX6_due : ByteArray := prog_26_method_18_code
def yX6_due : MethodName := ⟨RX6, "due", "(I)I"⟩
def dkwX6_due_1 : List UInt8 := [182, 0, 83, 184, 0, 93, 96, 172]
abbrev dktX6_due_1 : List UInt8 := dkwX6_due_1 ++ []
def dkwX6_due_0 : List UInt8 := [42, 27, 3, 182, 0, 90, 61, 42, 27, 4, 182, 0, 90, 42, 28, 3, 182, 0, 83, 42, 28, 4]
abbrev dktX6_due_0 : List UInt8 := dkwX6_due_0 ++ dktX6_due_1
theorem dksX6_due_0 : cX6_due.data.toList.drop 0 = dktX6_due_0 := by decide +kernel
theorem dksX6_due_1 : cX6_due.data.toList.drop 22 = dktX6_due_1 := dk_seg dksX6_due_0 22 rfl rfl
theorem dX6_due_0 : decode cX6_due 0 = .ok (.aload_n 0, 1) := dk_42 (dk_at dksX6_due_0 0 rfl rfl)
theorem dX6_due_1 : decode cX6_due 1 = .ok (.iload_n 1, 1) := dk_27 (dk_at dksX6_due_0 1 rfl rfl)
theorem dX6_due_2 : decode cX6_due 2 = .ok (.iconst 0, 1) := dk_3 (dk_at dksX6_due_0 2 rfl rfl)
theorem dX6_due_3 : decode cX6_due 3 = .ok (.invokevirtual 90, 3) := dk_182 0 90 (dk_at dksX6_due_0 3 rfl rfl)
theorem dX6_due_6 : decode cX6_due 6 = .ok (.istore_n 2, 1) := dk_61 (dk_at dksX6_due_0 6 rfl rfl)
theorem dX6_due_7 : decode cX6_due 7 = .ok (.aload_n 0, 1) := dk_42 (dk_at dksX6_due_0 7 rfl rfl)
theorem dX6_due_8 : decode cX6_due 8 = .ok (.iload_n 1, 1) := dk_27 (dk_at dksX6_due_0 8 rfl rfl)
theorem dX6_due_9 : decode cX6_due 9 = .ok (.iconst 1, 1) := dk_4 (dk_at dksX6_due_0 9 rfl rfl)
theorem dX6_due_10 : decode cX6_due 10 = .ok (.invokevirtual 90, 3) := dk_182 0 90 (dk_at dksX6_due_0 10 rfl rfl)
theorem dX6_due_13 : decode cX6_due 13 = .ok (.aload_n 0, 1) := dk_42 (dk_at dksX6_due_0 13 rfl rfl)
theorem dX6_due_14 : decode cX6_due 14 = .ok (.iload_n 2, 1) := dk_28 (dk_at dksX6_due_0 14 rfl rfl)
theorem dX6_due_15 : decode cX6_due 15 = .ok (.iconst 0, 1) := dk_3 (dk_at dksX6_due_0 15 rfl rfl)
theorem dX6_due_16 : decode cX6_due 16 = .ok (.invokevirtual 83, 3) := dk_182 0 83 (dk_at dksX6_due_0 16 rfl rfl)
theorem dX6_due_19 : decode cX6_due 19 = .ok (.aload_n 0, 1) := dk_42 (dk_at dksX6_due_0 19 rfl rfl)
theorem dX6_due_20 : decode cX6_due 20 = .ok (.iload_n 2, 1) := dk_28 (dk_at dksX6_due_0 20 rfl rfl)
theorem dX6_due_21 : decode cX6_due 21 = .ok (.iconst 1, 1) := dk_4 (dk_at dksX6_due_0 21 rfl rfl)
theorem dX6_due_22 : decode cX6_due 22 = .ok (.invokevirtual 83, 3) := dk_182 0 83 (dk_at dksX6_due_1 0 rfl rfl)
theorem dX6_due_25 : decode cX6_due 25 = .ok (.invokestatic 93, 3) := dk_184 0 93 (dk_at dksX6_due_1 3 rfl rfl)
theorem dX6_due_28 : decode cX6_due 28 = .ok (.iadd, 1) := dk_96 (dk_at dksX6_due_1 6 rfl rfl)
theorem dX6_due_29 : decode cX6_due 29 = .ok (.ireturn, 1) := dk_172 (dk_at dksX6_due_1 7 rfl rfl)
abbrev cX6_termOf : ByteArray := prog_26_method_15_code
def yX6_termOf : MethodName := ⟨RX6, "termOf", "(II)I"⟩
def dkwX6_termOf_2 : List UInt8 := [5, 27, 104, 172, 5, 27, 104, 4, 100, 172, 27, 5, 96, 172, 27, 16, 11, 96, 172, 27, 172]
abbrev dktX6_termOf_2 : List UInt8 := dkwX6_termOf_2 ++ []
def dkwX6_termOf_1 : List UInt8 := [170, 0, 0, 0, 0, 0, 50, 0, 0, 0, 2, 0, 0, 0, 5, 0, 0, 0, 31, 0, 0, 0, 35, 0, 0, 0, 41, 0, 0, 0, 45]
abbrev dktX6_termOf_1 : List UInt8 := dkwX6_termOf_1 ++ dktX6_termOf_2
def dkwX6_termOf_0 : List UInt8 := [26]
abbrev dktX6_termOf_0 : List UInt8 := dkwX6_termOf_0 ++ dktX6_termOf_1
theorem dksX6_termOf_0 : cX6_termOf.data.toList.drop 0 = dktX6_termOf_0 := by decide +kernel
theorem dksX6_termOf_1 : cX6_termOf.data.toList.drop 1 = dktX6_termOf_1 := dk_seg dksX6_termOf_0 1 rfl rfl
theorem dksX6_termOf_2 : cX6_termOf.data.toList.drop 32 = dktX6_termOf_2 := dk_seg dksX6_termOf_1 31 rfl rfl
theorem dX6_termOf_0 : decode cX6_termOf 0 = .ok (.iload_n 0, 1) := dk_26 (dk_at dksX6_termOf_0 0 rfl rfl)
theorem dX6_termOf_1 : decode cX6_termOf 1 = .ok (.tableswitch 50 2 5 #[31, 35, 41, 45], 31) := by decide +kernel
theorem dX6_termOf_32 : decode cX6_termOf 32 = .ok (.iconst 2, 1) := dk_5 (dk_at dksX6_termOf_2 0 rfl rfl)
theorem dX6_termOf_33 : decode cX6_termOf 33 = .ok (.iload_n 1, 1) := dk_27 (dk_at dksX6_termOf_2 1 rfl rfl)
theorem dX6_termOf_34 : decode cX6_termOf 34 = .ok (.imul, 1) := dk_104 (dk_at dksX6_termOf_2 2 rfl rfl)
theorem dX6_termOf_35 : decode cX6_termOf 35 = .ok (.ireturn, 1) := dk_172 (dk_at dksX6_termOf_2 3 rfl rfl)
theorem dX6_termOf_36 : decode cX6_termOf 36 = .ok (.iconst 2, 1) := dk_5 (dk_at dksX6_termOf_2 4 rfl rfl)
theorem dX6_termOf_37 : decode cX6_termOf 37 = .ok (.iload_n 1, 1) := dk_27 (dk_at dksX6_termOf_2 5 rfl rfl)
theorem dX6_termOf_38 : decode cX6_termOf 38 = .ok (.imul, 1) := dk_104 (dk_at dksX6_termOf_2 6 rfl rfl)
theorem dX6_termOf_39 : decode cX6_termOf 39 = .ok (.iconst 1, 1) := dk_4 (dk_at dksX6_termOf_2 7 rfl rfl)
theorem dX6_termOf_40 : decode cX6_termOf 40 = .ok (.isub, 1) := dk_100 (dk_at dksX6_termOf_2 8 rfl rfl)
theorem dX6_termOf_41 : decode cX6_termOf 41 = .ok (.ireturn, 1) := dk_172 (dk_at dksX6_termOf_2 9 rfl rfl)
theorem dX6_termOf_42 : decode cX6_termOf 42 = .ok (.iload_n 1, 1) := dk_27 (dk_at dksX6_termOf_2 10 rfl rfl)
theorem dX6_termOf_43 : decode cX6_termOf 43 = .ok (.iconst 2, 1) := dk_5 (dk_at dksX6_termOf_2 11 rfl rfl)
theorem dX6_termOf_44 : decode cX6_termOf 44 = .ok (.iadd, 1) := dk_96 (dk_at dksX6_termOf_2 12 rfl rfl)
theorem dX6_termOf_45 : decode cX6_termOf 45 = .ok (.ireturn, 1) := dk_172 (dk_at dksX6_termOf_2 13 rfl rfl)
theorem dX6_termOf_46 : decode cX6_termOf 46 = .ok (.iload_n 1, 1) := dk_27 (dk_at dksX6_termOf_2 14 rfl rfl)
theorem dX6_termOf_47 : decode cX6_termOf 47 = .ok (.bipush 11, 2) := dk_16 11 (dk_at dksX6_termOf_2 15 rfl rfl)
theorem dX6_termOf_49 : decode cX6_termOf 49 = .ok (.iadd, 1) := dk_96 (dk_at dksX6_termOf_2 17 rfl rfl)
theorem dX6_termOf_50 : decode cX6_termOf 50 = .ok (.ireturn, 1) := dk_172 (dk_at dksX6_termOf_2 18 rfl rfl)
theorem dX6_termOf_51 : decode cX6_termOf 51 = .ok (.iload_n 1, 1) := dk_27 (dk_at dksX6_termOf_2 19 rfl rfl)
theorem dX6_termOf_52 : decode cX6_termOf 52 = .ok (.ireturn, 1) := dk_172 (dk_at dksX6_termOf_2 20 rfl rfl)
abbrev cX6_change : ByteArray := prog_26_method_21_code
def yX6_change : MethodName := ⟨RX6, "change", "(III)I"⟩
def dkwX6_change_1 : List UInt8 := [20, 0, 81, 184, 0, 64, 153, 0, 16, 42, 27, 28, 184, 0, 68, 29, 182, 0, 111, 167, 0, 4, 2, 172]
abbrev dktX6_change_1 : List UInt8 := dkwX6_change_1 ++ []
def dkwX6_change_0 : List UInt8 := [42, 27, 182, 0, 96, 153, 0, 40, 28, 133, 10, 20, 0, 109, 184, 0, 64, 153, 0, 28, 29, 133, 10]
abbrev dktX6_change_0 : List UInt8 := dkwX6_change_0 ++ dktX6_change_1
theorem dksX6_change_0 : cX6_change.data.toList.drop 0 = dktX6_change_0 := by decide +kernel
theorem dksX6_change_1 : cX6_change.data.toList.drop 23 = dktX6_change_1 := dk_seg dksX6_change_0 23 rfl rfl
theorem dX6_change_0 : decode cX6_change 0 = .ok (.aload_n 0, 1) := dk_42 (dk_at dksX6_change_0 0 rfl rfl)
theorem dX6_change_1 : decode cX6_change 1 = .ok (.iload_n 1, 1) := dk_27 (dk_at dksX6_change_0 1 rfl rfl)
theorem dX6_change_2 : decode cX6_change 2 = .ok (.invokevirtual 96, 3) := dk_182 0 96 (dk_at dksX6_change_0 2 rfl rfl)
theorem dX6_change_5 : decode cX6_change 5 = .ok (.ifCond .eq 40, 3) := dk_153 0 40 (dk_at dksX6_change_0 5 rfl rfl)
theorem dX6_change_8 : decode cX6_change 8 = .ok (.iload_n 2, 1) := dk_28 (dk_at dksX6_change_0 8 rfl rfl)
theorem dX6_change_9 : decode cX6_change 9 = .ok (.i2l, 1) := dk_133 (dk_at dksX6_change_0 9 rfl rfl)
theorem dX6_change_10 : decode cX6_change 10 = .ok (.lconst 1, 1) := dk_10 (dk_at dksX6_change_0 10 rfl rfl)
theorem dX6_change_11 : decode cX6_change 11 = .ok (.ldc2_w 109, 3) := dk_20 0 109 (dk_at dksX6_change_0 11 rfl rfl)
theorem dX6_change_14 : decode cX6_change 14 = .ok (.invokestatic 64, 3) := dk_184 0 64 (dk_at dksX6_change_0 14 rfl rfl)
theorem dX6_change_17 : decode cX6_change 17 = .ok (.ifCond .eq 28, 3) := dk_153 0 28 (dk_at dksX6_change_0 17 rfl rfl)
theorem dX6_change_20 : decode cX6_change 20 = .ok (.iload_n 3, 1) := dk_29 (dk_at dksX6_change_0 20 rfl rfl)
theorem dX6_change_21 : decode cX6_change 21 = .ok (.i2l, 1) := dk_133 (dk_at dksX6_change_0 21 rfl rfl)
theorem dX6_change_22 : decode cX6_change 22 = .ok (.lconst 1, 1) := dk_10 (dk_at dksX6_change_0 22 rfl rfl)
theorem dX6_change_23 : decode cX6_change 23 = .ok (.ldc2_w 81, 3) := dk_20 0 81 (dk_at dksX6_change_1 0 rfl rfl)
theorem dX6_change_26 : decode cX6_change 26 = .ok (.invokestatic 64, 3) := dk_184 0 64 (dk_at dksX6_change_1 3 rfl rfl)
theorem dX6_change_29 : decode cX6_change 29 = .ok (.ifCond .eq 16, 3) := dk_153 0 16 (dk_at dksX6_change_1 6 rfl rfl)
theorem dX6_change_32 : decode cX6_change 32 = .ok (.aload_n 0, 1) := dk_42 (dk_at dksX6_change_1 9 rfl rfl)
theorem dX6_change_33 : decode cX6_change 33 = .ok (.iload_n 1, 1) := dk_27 (dk_at dksX6_change_1 10 rfl rfl)
theorem dX6_change_34 : decode cX6_change 34 = .ok (.iload_n 2, 1) := dk_28 (dk_at dksX6_change_1 11 rfl rfl)
theorem dX6_change_35 : decode cX6_change 35 = .ok (.invokestatic 68, 3) := dk_184 0 68 (dk_at dksX6_change_1 12 rfl rfl)
theorem dX6_change_38 : decode cX6_change 38 = .ok (.iload_n 3, 1) := dk_29 (dk_at dksX6_change_1 15 rfl rfl)
theorem dX6_change_39 : decode cX6_change 39 = .ok (.invokevirtual 111, 3) := dk_182 0 111 (dk_at dksX6_change_1 16 rfl rfl)
theorem dX6_change_42 : decode cX6_change 42 = .ok (.goto 4, 3) := dk_167 0 4 (dk_at dksX6_change_1 19 rfl rfl)
theorem dX6_change_45 : decode cX6_change 45 = .ok (.iconst (-1), 1) := dk_2 (dk_at dksX6_change_1 22 rfl rfl)
theorem dX6_change_46 : decode cX6_change 46 = .ok (.ireturn, 1) := dk_172 (dk_at dksX6_change_1 23 rfl rfl)
abbrev cX6_becomes : ByteArray := prog_26_method_8_code
def yX6_becomes : MethodName := ⟨RX6, "becomes", "(II)I"⟩
def dkwX6_becomes_0 : List UInt8 := [42, 180, 0, 7, 27, 46, 62, 42, 180, 0, 7, 27, 28, 79, 29, 172]
abbrev dktX6_becomes_0 : List UInt8 := dkwX6_becomes_0 ++ []
theorem dksX6_becomes_0 : cX6_becomes.data.toList.drop 0 = dktX6_becomes_0 := by decide +kernel
theorem dX6_becomes_0 : decode cX6_becomes 0 = .ok (.aload_n 0, 1) := dk_42 (dk_at dksX6_becomes_0 0 rfl rfl)
theorem dX6_becomes_1 : decode cX6_becomes 1 = .ok (.getfield 7, 3) := dk_180 0 7 (dk_at dksX6_becomes_0 1 rfl rfl)
theorem dX6_becomes_4 : decode cX6_becomes 4 = .ok (.iload_n 1, 1) := dk_27 (dk_at dksX6_becomes_0 4 rfl rfl)
theorem dX6_becomes_5 : decode cX6_becomes 5 = .ok (.iaload, 1) := dk_46 (dk_at dksX6_becomes_0 5 rfl rfl)
theorem dX6_becomes_6 : decode cX6_becomes 6 = .ok (.istore_n 3, 1) := dk_62 (dk_at dksX6_becomes_0 6 rfl rfl)
theorem dX6_becomes_7 : decode cX6_becomes 7 = .ok (.aload_n 0, 1) := dk_42 (dk_at dksX6_becomes_0 7 rfl rfl)
theorem dX6_becomes_8 : decode cX6_becomes 8 = .ok (.getfield 7, 3) := dk_180 0 7 (dk_at dksX6_becomes_0 8 rfl rfl)
theorem dX6_becomes_11 : decode cX6_becomes 11 = .ok (.iload_n 1, 1) := dk_27 (dk_at dksX6_becomes_0 11 rfl rfl)
theorem dX6_becomes_12 : decode cX6_becomes 12 = .ok (.iload_n 2, 1) := dk_28 (dk_at dksX6_becomes_0 12 rfl rfl)
theorem dX6_becomes_13 : decode cX6_becomes 13 = .ok (.iastore, 1) := dk_79 (dk_at dksX6_becomes_0 13 rfl rfl)
theorem dX6_becomes_14 : decode cX6_becomes 14 = .ok (.iload_n 3, 1) := dk_29 (dk_at dksX6_becomes_0 14 rfl rfl)
theorem dX6_becomes_15 : decode cX6_becomes 15 = .ok (.ireturn, 1) := dk_172 (dk_at dksX6_becomes_0 15 rfl rfl)
abbrev cX6_remake : ByteArray := prog_26_method_22_code
def yX6_remake : MethodName := ⟨RX6, "remake", "(II)I"⟩
def dkwX6_remake_1 : List UInt8 := [182, 0, 111, 167, 0, 4, 2, 172]
abbrev dktX6_remake_1 : List UInt8 := dkwX6_remake_1 ++ []
def dkwX6_remake_0 : List UInt8 := [42, 27, 182, 0, 96, 153, 0, 23, 28, 184, 0, 77, 153, 0, 16, 42, 27, 3, 184, 0, 68, 28]
abbrev dktX6_remake_0 : List UInt8 := dkwX6_remake_0 ++ dktX6_remake_1
theorem dksX6_remake_0 : cX6_remake.data.toList.drop 0 = dktX6_remake_0 := by decide +kernel
theorem dksX6_remake_1 : cX6_remake.data.toList.drop 22 = dktX6_remake_1 := dk_seg dksX6_remake_0 22 rfl rfl
theorem dX6_remake_0 : decode cX6_remake 0 = .ok (.aload_n 0, 1) := dk_42 (dk_at dksX6_remake_0 0 rfl rfl)
theorem dX6_remake_1 : decode cX6_remake 1 = .ok (.iload_n 1, 1) := dk_27 (dk_at dksX6_remake_0 1 rfl rfl)
theorem dX6_remake_2 : decode cX6_remake 2 = .ok (.invokevirtual 96, 3) := dk_182 0 96 (dk_at dksX6_remake_0 2 rfl rfl)
theorem dX6_remake_5 : decode cX6_remake 5 = .ok (.ifCond .eq 23, 3) := dk_153 0 23 (dk_at dksX6_remake_0 5 rfl rfl)
theorem dX6_remake_8 : decode cX6_remake 8 = .ok (.iload_n 2, 1) := dk_28 (dk_at dksX6_remake_0 8 rfl rfl)
theorem dX6_remake_9 : decode cX6_remake 9 = .ok (.invokestatic 77, 3) := dk_184 0 77 (dk_at dksX6_remake_0 9 rfl rfl)
theorem dX6_remake_12 : decode cX6_remake 12 = .ok (.ifCond .eq 16, 3) := dk_153 0 16 (dk_at dksX6_remake_0 12 rfl rfl)
theorem dX6_remake_15 : decode cX6_remake 15 = .ok (.aload_n 0, 1) := dk_42 (dk_at dksX6_remake_0 15 rfl rfl)
theorem dX6_remake_16 : decode cX6_remake 16 = .ok (.iload_n 1, 1) := dk_27 (dk_at dksX6_remake_0 16 rfl rfl)
theorem dX6_remake_17 : decode cX6_remake 17 = .ok (.iconst 0, 1) := dk_3 (dk_at dksX6_remake_0 17 rfl rfl)
theorem dX6_remake_18 : decode cX6_remake 18 = .ok (.invokestatic 68, 3) := dk_184 0 68 (dk_at dksX6_remake_0 18 rfl rfl)
theorem dX6_remake_21 : decode cX6_remake 21 = .ok (.iload_n 2, 1) := dk_28 (dk_at dksX6_remake_0 21 rfl rfl)
theorem dX6_remake_22 : decode cX6_remake 22 = .ok (.invokevirtual 111, 3) := dk_182 0 111 (dk_at dksX6_remake_1 0 rfl rfl)
theorem dX6_remake_25 : decode cX6_remake 25 = .ok (.goto 4, 3) := dk_167 0 4 (dk_at dksX6_remake_1 3 rfl rfl)
theorem dX6_remake_28 : decode cX6_remake 28 = .ok (.iconst (-1), 1) := dk_2 (dk_at dksX6_remake_1 6 rfl rfl)
theorem dX6_remake_29 : decode cX6_remake 29 = .ok (.ireturn, 1) := dk_172 (dk_at dksX6_remake_1 7 rfl rfl)
abbrev cX6_deed : ByteArray := prog_26_method_23_code
def yX6_deed : MethodName := ⟨RX6, "deed", "(IIII)I"⟩
def dkwX6_deed_6 : List UInt8 := [184, 0, 72, 3, 79, 42, 180, 0, 7, 8, 92, 46, 4, 96, 79, 21, 5, 172]
abbrev dktX6_deed_6 : List UInt8 := dkwX6_deed_6 ++ []
def dkwX6_deed_5 : List UInt8 := [29, 79, 42, 180, 0, 7, 21, 5, 6, 184, 0, 72, 21, 4, 79, 42, 180, 0, 7, 21, 5, 7]
abbrev dktX6_deed_5 : List UInt8 := dkwX6_deed_5 ++ dktX6_deed_6
def dkwX6_deed_4 : List UInt8 := [27, 79, 42, 180, 0, 7, 21, 5, 4, 184, 0, 72, 28, 79, 42, 180, 0, 7, 21, 5, 5, 184, 0, 72]
abbrev dktX6_deed_4 : List UInt8 := dkwX6_deed_4 ++ dktX6_deed_5
def dkwX6_deed_3 : List UInt8 := [162, 0, 6, 16, 252, 172, 42, 180, 0, 7, 8, 46, 54, 5, 42, 180, 0, 7, 21, 5, 3, 184, 0, 72]
abbrev dktX6_deed_3 : List UInt8 := dkwX6_deed_3 ++ dktX6_deed_4
def dkwX6_deed_2 : List UInt8 := [2, 172, 42, 180, 0, 7, 8, 46, 16, 10, 160, 0, 6, 16, 254, 172, 28, 42, 180, 0, 7, 6, 46]
abbrev dktX6_deed_2 : List UInt8 := dkwX6_deed_2 ++ dktX6_deed_3
def dkwX6_deed_1 : List UInt8 := [20, 0, 81, 184, 0, 64, 153, 0, 18, 21, 4, 2, 159, 0, 14, 42, 21, 4, 182, 0, 116, 154, 0, 5]
abbrev dktX6_deed_1 : List UInt8 := dkwX6_deed_1 ++ dktX6_deed_2
def dkwX6_deed_0 : List UInt8 := [42, 27, 182, 0, 96, 153, 0, 42, 28, 133, 9, 20, 0, 114, 184, 0, 64, 153, 0, 30, 29, 133, 10]
abbrev dktX6_deed_0 : List UInt8 := dkwX6_deed_0 ++ dktX6_deed_1
theorem dksX6_deed_0 : cX6_deed.data.toList.drop 0 = dktX6_deed_0 := by decide +kernel
theorem dksX6_deed_1 : cX6_deed.data.toList.drop 23 = dktX6_deed_1 := dk_seg dksX6_deed_0 23 rfl rfl
theorem dksX6_deed_2 : cX6_deed.data.toList.drop 47 = dktX6_deed_2 := dk_seg dksX6_deed_1 24 rfl rfl
theorem dksX6_deed_3 : cX6_deed.data.toList.drop 70 = dktX6_deed_3 := dk_seg dksX6_deed_2 23 rfl rfl
theorem dksX6_deed_4 : cX6_deed.data.toList.drop 94 = dktX6_deed_4 := dk_seg dksX6_deed_3 24 rfl rfl
theorem dksX6_deed_5 : cX6_deed.data.toList.drop 118 = dktX6_deed_5 := dk_seg dksX6_deed_4 24 rfl rfl
theorem dksX6_deed_6 : cX6_deed.data.toList.drop 140 = dktX6_deed_6 := dk_seg dksX6_deed_5 22 rfl rfl
theorem dX6_deed_0 : decode cX6_deed 0 = .ok (.aload_n 0, 1) := dk_42 (dk_at dksX6_deed_0 0 rfl rfl)
theorem dX6_deed_1 : decode cX6_deed 1 = .ok (.iload_n 1, 1) := dk_27 (dk_at dksX6_deed_0 1 rfl rfl)
theorem dX6_deed_2 : decode cX6_deed 2 = .ok (.invokevirtual 96, 3) := dk_182 0 96 (dk_at dksX6_deed_0 2 rfl rfl)
theorem dX6_deed_5 : decode cX6_deed 5 = .ok (.ifCond .eq 42, 3) := dk_153 0 42 (dk_at dksX6_deed_0 5 rfl rfl)
theorem dX6_deed_8 : decode cX6_deed 8 = .ok (.iload_n 2, 1) := dk_28 (dk_at dksX6_deed_0 8 rfl rfl)
theorem dX6_deed_9 : decode cX6_deed 9 = .ok (.i2l, 1) := dk_133 (dk_at dksX6_deed_0 9 rfl rfl)
theorem dX6_deed_10 : decode cX6_deed 10 = .ok (.lconst 0, 1) := dk_9 (dk_at dksX6_deed_0 10 rfl rfl)
theorem dX6_deed_11 : decode cX6_deed 11 = .ok (.ldc2_w 114, 3) := dk_20 0 114 (dk_at dksX6_deed_0 11 rfl rfl)
theorem dX6_deed_14 : decode cX6_deed 14 = .ok (.invokestatic 64, 3) := dk_184 0 64 (dk_at dksX6_deed_0 14 rfl rfl)
theorem dX6_deed_17 : decode cX6_deed 17 = .ok (.ifCond .eq 30, 3) := dk_153 0 30 (dk_at dksX6_deed_0 17 rfl rfl)
theorem dX6_deed_20 : decode cX6_deed 20 = .ok (.iload_n 3, 1) := dk_29 (dk_at dksX6_deed_0 20 rfl rfl)
theorem dX6_deed_21 : decode cX6_deed 21 = .ok (.i2l, 1) := dk_133 (dk_at dksX6_deed_0 21 rfl rfl)
theorem dX6_deed_22 : decode cX6_deed 22 = .ok (.lconst 1, 1) := dk_10 (dk_at dksX6_deed_0 22 rfl rfl)
theorem dX6_deed_23 : decode cX6_deed 23 = .ok (.ldc2_w 81, 3) := dk_20 0 81 (dk_at dksX6_deed_1 0 rfl rfl)
theorem dX6_deed_26 : decode cX6_deed 26 = .ok (.invokestatic 64, 3) := dk_184 0 64 (dk_at dksX6_deed_1 3 rfl rfl)
theorem dX6_deed_29 : decode cX6_deed 29 = .ok (.ifCond .eq 18, 3) := dk_153 0 18 (dk_at dksX6_deed_1 6 rfl rfl)
theorem dX6_deed_32 : decode cX6_deed 32 = .ok (.iload 4, 2) := dk_21 4 (dk_at dksX6_deed_1 9 rfl rfl)
theorem dX6_deed_34 : decode cX6_deed 34 = .ok (.iconst (-1), 1) := dk_2 (dk_at dksX6_deed_1 11 rfl rfl)
theorem dX6_deed_35 : decode cX6_deed 35 = .ok (.if_icmp .eq 14, 3) := dk_159 0 14 (dk_at dksX6_deed_1 12 rfl rfl)
theorem dX6_deed_38 : decode cX6_deed 38 = .ok (.aload_n 0, 1) := dk_42 (dk_at dksX6_deed_1 15 rfl rfl)
theorem dX6_deed_39 : decode cX6_deed 39 = .ok (.iload 4, 2) := dk_21 4 (dk_at dksX6_deed_1 16 rfl rfl)
theorem dX6_deed_41 : decode cX6_deed 41 = .ok (.invokevirtual 116, 3) := dk_182 0 116 (dk_at dksX6_deed_1 18 rfl rfl)
theorem dX6_deed_44 : decode cX6_deed 44 = .ok (.ifCond .ne 5, 3) := dk_154 0 5 (dk_at dksX6_deed_1 21 rfl rfl)
theorem dX6_deed_47 : decode cX6_deed 47 = .ok (.iconst (-1), 1) := dk_2 (dk_at dksX6_deed_2 0 rfl rfl)
theorem dX6_deed_48 : decode cX6_deed 48 = .ok (.ireturn, 1) := dk_172 (dk_at dksX6_deed_2 1 rfl rfl)
theorem dX6_deed_49 : decode cX6_deed 49 = .ok (.aload_n 0, 1) := dk_42 (dk_at dksX6_deed_2 2 rfl rfl)
theorem dX6_deed_50 : decode cX6_deed 50 = .ok (.getfield 7, 3) := dk_180 0 7 (dk_at dksX6_deed_2 3 rfl rfl)
theorem dX6_deed_53 : decode cX6_deed 53 = .ok (.iconst 5, 1) := dk_8 (dk_at dksX6_deed_2 6 rfl rfl)
theorem dX6_deed_54 : decode cX6_deed 54 = .ok (.iaload, 1) := dk_46 (dk_at dksX6_deed_2 7 rfl rfl)
theorem dX6_deed_55 : decode cX6_deed 55 = .ok (.bipush 10, 2) := dk_16 10 (dk_at dksX6_deed_2 8 rfl rfl)
theorem dX6_deed_57 : decode cX6_deed 57 = .ok (.if_icmp .ne 6, 3) := dk_160 0 6 (dk_at dksX6_deed_2 10 rfl rfl)
theorem dX6_deed_60 : decode cX6_deed 60 = .ok (.bipush (-2), 2) := dk_16 254 (dk_at dksX6_deed_2 13 rfl rfl)
theorem dX6_deed_62 : decode cX6_deed 62 = .ok (.ireturn, 1) := dk_172 (dk_at dksX6_deed_2 15 rfl rfl)
theorem dX6_deed_63 : decode cX6_deed 63 = .ok (.iload_n 2, 1) := dk_28 (dk_at dksX6_deed_2 16 rfl rfl)
theorem dX6_deed_64 : decode cX6_deed 64 = .ok (.aload_n 0, 1) := dk_42 (dk_at dksX6_deed_2 17 rfl rfl)
theorem dX6_deed_65 : decode cX6_deed 65 = .ok (.getfield 7, 3) := dk_180 0 7 (dk_at dksX6_deed_2 18 rfl rfl)
theorem dX6_deed_68 : decode cX6_deed 68 = .ok (.iconst 3, 1) := dk_6 (dk_at dksX6_deed_2 21 rfl rfl)
theorem dX6_deed_69 : decode cX6_deed 69 = .ok (.iaload, 1) := dk_46 (dk_at dksX6_deed_2 22 rfl rfl)
theorem dX6_deed_70 : decode cX6_deed 70 = .ok (.if_icmp .ge 6, 3) := dk_162 0 6 (dk_at dksX6_deed_3 0 rfl rfl)
theorem dX6_deed_73 : decode cX6_deed 73 = .ok (.bipush (-4), 2) := dk_16 252 (dk_at dksX6_deed_3 3 rfl rfl)
theorem dX6_deed_75 : decode cX6_deed 75 = .ok (.ireturn, 1) := dk_172 (dk_at dksX6_deed_3 5 rfl rfl)
theorem dX6_deed_76 : decode cX6_deed 76 = .ok (.aload_n 0, 1) := dk_42 (dk_at dksX6_deed_3 6 rfl rfl)
theorem dX6_deed_77 : decode cX6_deed 77 = .ok (.getfield 7, 3) := dk_180 0 7 (dk_at dksX6_deed_3 7 rfl rfl)
theorem dX6_deed_80 : decode cX6_deed 80 = .ok (.iconst 5, 1) := dk_8 (dk_at dksX6_deed_3 10 rfl rfl)
theorem dX6_deed_81 : decode cX6_deed 81 = .ok (.iaload, 1) := dk_46 (dk_at dksX6_deed_3 11 rfl rfl)
theorem dX6_deed_82 : decode cX6_deed 82 = .ok (.istore 5, 2) := dk_54 5 (dk_at dksX6_deed_3 12 rfl rfl)
theorem dX6_deed_84 : decode cX6_deed 84 = .ok (.aload_n 0, 1) := dk_42 (dk_at dksX6_deed_3 14 rfl rfl)
theorem dX6_deed_85 : decode cX6_deed 85 = .ok (.getfield 7, 3) := dk_180 0 7 (dk_at dksX6_deed_3 15 rfl rfl)
theorem dX6_deed_88 : decode cX6_deed 88 = .ok (.iload 5, 2) := dk_21 5 (dk_at dksX6_deed_3 18 rfl rfl)
theorem dX6_deed_90 : decode cX6_deed 90 = .ok (.iconst 0, 1) := dk_3 (dk_at dksX6_deed_3 20 rfl rfl)
theorem dX6_deed_91 : decode cX6_deed 91 = .ok (.invokestatic 72, 3) := dk_184 0 72 (dk_at dksX6_deed_3 21 rfl rfl)
theorem dX6_deed_94 : decode cX6_deed 94 = .ok (.iload_n 1, 1) := dk_27 (dk_at dksX6_deed_4 0 rfl rfl)
theorem dX6_deed_95 : decode cX6_deed 95 = .ok (.iastore, 1) := dk_79 (dk_at dksX6_deed_4 1 rfl rfl)
theorem dX6_deed_96 : decode cX6_deed 96 = .ok (.aload_n 0, 1) := dk_42 (dk_at dksX6_deed_4 2 rfl rfl)
theorem dX6_deed_97 : decode cX6_deed 97 = .ok (.getfield 7, 3) := dk_180 0 7 (dk_at dksX6_deed_4 3 rfl rfl)
theorem dX6_deed_100 : decode cX6_deed 100 = .ok (.iload 5, 2) := dk_21 5 (dk_at dksX6_deed_4 6 rfl rfl)
theorem dX6_deed_102 : decode cX6_deed 102 = .ok (.iconst 1, 1) := dk_4 (dk_at dksX6_deed_4 8 rfl rfl)
theorem dX6_deed_103 : decode cX6_deed 103 = .ok (.invokestatic 72, 3) := dk_184 0 72 (dk_at dksX6_deed_4 9 rfl rfl)
theorem dX6_deed_106 : decode cX6_deed 106 = .ok (.iload_n 2, 1) := dk_28 (dk_at dksX6_deed_4 12 rfl rfl)
theorem dX6_deed_107 : decode cX6_deed 107 = .ok (.iastore, 1) := dk_79 (dk_at dksX6_deed_4 13 rfl rfl)
theorem dX6_deed_108 : decode cX6_deed 108 = .ok (.aload_n 0, 1) := dk_42 (dk_at dksX6_deed_4 14 rfl rfl)
theorem dX6_deed_109 : decode cX6_deed 109 = .ok (.getfield 7, 3) := dk_180 0 7 (dk_at dksX6_deed_4 15 rfl rfl)
theorem dX6_deed_112 : decode cX6_deed 112 = .ok (.iload 5, 2) := dk_21 5 (dk_at dksX6_deed_4 18 rfl rfl)
theorem dX6_deed_114 : decode cX6_deed 114 = .ok (.iconst 2, 1) := dk_5 (dk_at dksX6_deed_4 20 rfl rfl)
theorem dX6_deed_115 : decode cX6_deed 115 = .ok (.invokestatic 72, 3) := dk_184 0 72 (dk_at dksX6_deed_4 21 rfl rfl)
theorem dX6_deed_118 : decode cX6_deed 118 = .ok (.iload_n 3, 1) := dk_29 (dk_at dksX6_deed_5 0 rfl rfl)
theorem dX6_deed_119 : decode cX6_deed 119 = .ok (.iastore, 1) := dk_79 (dk_at dksX6_deed_5 1 rfl rfl)
theorem dX6_deed_120 : decode cX6_deed 120 = .ok (.aload_n 0, 1) := dk_42 (dk_at dksX6_deed_5 2 rfl rfl)
theorem dX6_deed_121 : decode cX6_deed 121 = .ok (.getfield 7, 3) := dk_180 0 7 (dk_at dksX6_deed_5 3 rfl rfl)
theorem dX6_deed_124 : decode cX6_deed 124 = .ok (.iload 5, 2) := dk_21 5 (dk_at dksX6_deed_5 6 rfl rfl)
theorem dX6_deed_126 : decode cX6_deed 126 = .ok (.iconst 3, 1) := dk_6 (dk_at dksX6_deed_5 8 rfl rfl)
theorem dX6_deed_127 : decode cX6_deed 127 = .ok (.invokestatic 72, 3) := dk_184 0 72 (dk_at dksX6_deed_5 9 rfl rfl)
theorem dX6_deed_130 : decode cX6_deed 130 = .ok (.iload 4, 2) := dk_21 4 (dk_at dksX6_deed_5 12 rfl rfl)
theorem dX6_deed_132 : decode cX6_deed 132 = .ok (.iastore, 1) := dk_79 (dk_at dksX6_deed_5 14 rfl rfl)
theorem dX6_deed_133 : decode cX6_deed 133 = .ok (.aload_n 0, 1) := dk_42 (dk_at dksX6_deed_5 15 rfl rfl)
theorem dX6_deed_134 : decode cX6_deed 134 = .ok (.getfield 7, 3) := dk_180 0 7 (dk_at dksX6_deed_5 16 rfl rfl)
theorem dX6_deed_137 : decode cX6_deed 137 = .ok (.iload 5, 2) := dk_21 5 (dk_at dksX6_deed_5 19 rfl rfl)
theorem dX6_deed_139 : decode cX6_deed 139 = .ok (.iconst 4, 1) := dk_7 (dk_at dksX6_deed_5 21 rfl rfl)
theorem dX6_deed_140 : decode cX6_deed 140 = .ok (.invokestatic 72, 3) := dk_184 0 72 (dk_at dksX6_deed_6 0 rfl rfl)
theorem dX6_deed_143 : decode cX6_deed 143 = .ok (.iconst 0, 1) := dk_3 (dk_at dksX6_deed_6 3 rfl rfl)
theorem dX6_deed_144 : decode cX6_deed 144 = .ok (.iastore, 1) := dk_79 (dk_at dksX6_deed_6 4 rfl rfl)
theorem dX6_deed_145 : decode cX6_deed 145 = .ok (.aload_n 0, 1) := dk_42 (dk_at dksX6_deed_6 5 rfl rfl)
theorem dX6_deed_146 : decode cX6_deed 146 = .ok (.getfield 7, 3) := dk_180 0 7 (dk_at dksX6_deed_6 6 rfl rfl)
theorem dX6_deed_149 : decode cX6_deed 149 = .ok (.iconst 5, 1) := dk_8 (dk_at dksX6_deed_6 9 rfl rfl)
theorem dX6_deed_150 : decode cX6_deed 150 = .ok (.dup2, 1) := dk_92 (dk_at dksX6_deed_6 10 rfl rfl)
theorem dX6_deed_151 : decode cX6_deed 151 = .ok (.iaload, 1) := dk_46 (dk_at dksX6_deed_6 11 rfl rfl)
theorem dX6_deed_152 : decode cX6_deed 152 = .ok (.iconst 1, 1) := dk_4 (dk_at dksX6_deed_6 12 rfl rfl)
theorem dX6_deed_153 : decode cX6_deed 153 = .ok (.iadd, 1) := dk_96 (dk_at dksX6_deed_6 13 rfl rfl)
theorem dX6_deed_154 : decode cX6_deed 154 = .ok (.iastore, 1) := dk_79 (dk_at dksX6_deed_6 14 rfl rfl)
theorem dX6_deed_155 : decode cX6_deed 155 = .ok (.iload 5, 2) := dk_21 5 (dk_at dksX6_deed_6 15 rfl rfl)
theorem dX6_deed_157 : decode cX6_deed 157 = .ok (.ireturn, 1) := dk_172 (dk_at dksX6_deed_6 17 rfl rfl)
abbrev cX6_isDeed : ByteArray := prog_26_method_4_code
def yX6_isDeed : MethodName := ⟨RX6, "isDeed", "(I)Z"⟩
def dkwX6_isDeed_0 : List UInt8 := [27, 133, 9, 42, 180, 0, 7, 8, 46, 4, 100, 133, 184, 0, 64, 172]
abbrev dktX6_isDeed_0 : List UInt8 := dkwX6_isDeed_0 ++ []
theorem dksX6_isDeed_0 : cX6_isDeed.data.toList.drop 0 = dktX6_isDeed_0 := by decide +kernel
theorem dX6_isDeed_0 : decode cX6_isDeed 0 = .ok (.iload_n 1, 1) := dk_27 (dk_at dksX6_isDeed_0 0 rfl rfl)
theorem dX6_isDeed_1 : decode cX6_isDeed 1 = .ok (.i2l, 1) := dk_133 (dk_at dksX6_isDeed_0 1 rfl rfl)
theorem dX6_isDeed_2 : decode cX6_isDeed 2 = .ok (.lconst 0, 1) := dk_9 (dk_at dksX6_isDeed_0 2 rfl rfl)
theorem dX6_isDeed_3 : decode cX6_isDeed 3 = .ok (.aload_n 0, 1) := dk_42 (dk_at dksX6_isDeed_0 3 rfl rfl)
theorem dX6_isDeed_4 : decode cX6_isDeed 4 = .ok (.getfield 7, 3) := dk_180 0 7 (dk_at dksX6_isDeed_0 4 rfl rfl)
theorem dX6_isDeed_7 : decode cX6_isDeed 7 = .ok (.iconst 5, 1) := dk_8 (dk_at dksX6_isDeed_0 7 rfl rfl)
theorem dX6_isDeed_8 : decode cX6_isDeed 8 = .ok (.iaload, 1) := dk_46 (dk_at dksX6_isDeed_0 8 rfl rfl)
theorem dX6_isDeed_9 : decode cX6_isDeed 9 = .ok (.iconst 1, 1) := dk_4 (dk_at dksX6_isDeed_0 9 rfl rfl)
theorem dX6_isDeed_10 : decode cX6_isDeed 10 = .ok (.isub, 1) := dk_100 (dk_at dksX6_isDeed_0 10 rfl rfl)
theorem dX6_isDeed_11 : decode cX6_isDeed 11 = .ok (.i2l, 1) := dk_133 (dk_at dksX6_isDeed_0 11 rfl rfl)
theorem dX6_isDeed_12 : decode cX6_isDeed 12 = .ok (.invokestatic 64, 3) := dk_184 0 64 (dk_at dksX6_isDeed_0 12 rfl rfl)
theorem dX6_isDeed_15 : decode cX6_isDeed 15 = .ok (.ireturn, 1) := dk_172 (dk_at dksX6_isDeed_0 15 rfl rfl)
abbrev cX6_deedOf : ByteArray := prog_26_method_24_code
def yX6_deedOf : MethodName := ⟨RX6, "deedOf", "(II)I"⟩
def dkwX6_deedOf_1 : List UInt8 := [28, 8, 160, 0, 11, 42, 27, 182, 0, 119, 167, 0, 9, 42, 27, 28, 182, 0, 90, 172]
abbrev dktX6_deedOf_1 : List UInt8 := dkwX6_deedOf_1 ++ []
def dkwX6_deedOf_0 : List UInt8 := [42, 27, 182, 0, 116, 153, 0, 15, 28, 133, 9, 20, 0, 75, 184, 0, 64, 154, 0, 7, 2, 167, 0, 22]
abbrev dktX6_deedOf_0 : List UInt8 := dkwX6_deedOf_0 ++ dktX6_deedOf_1
theorem dksX6_deedOf_0 : cX6_deedOf.data.toList.drop 0 = dktX6_deedOf_0 := by decide +kernel
theorem dksX6_deedOf_1 : cX6_deedOf.data.toList.drop 24 = dktX6_deedOf_1 := dk_seg dksX6_deedOf_0 24 rfl rfl
theorem dX6_deedOf_0 : decode cX6_deedOf 0 = .ok (.aload_n 0, 1) := dk_42 (dk_at dksX6_deedOf_0 0 rfl rfl)
theorem dX6_deedOf_1 : decode cX6_deedOf 1 = .ok (.iload_n 1, 1) := dk_27 (dk_at dksX6_deedOf_0 1 rfl rfl)
theorem dX6_deedOf_2 : decode cX6_deedOf 2 = .ok (.invokevirtual 116, 3) := dk_182 0 116 (dk_at dksX6_deedOf_0 2 rfl rfl)
theorem dX6_deedOf_5 : decode cX6_deedOf 5 = .ok (.ifCond .eq 15, 3) := dk_153 0 15 (dk_at dksX6_deedOf_0 5 rfl rfl)
theorem dX6_deedOf_8 : decode cX6_deedOf 8 = .ok (.iload_n 2, 1) := dk_28 (dk_at dksX6_deedOf_0 8 rfl rfl)
theorem dX6_deedOf_9 : decode cX6_deedOf 9 = .ok (.i2l, 1) := dk_133 (dk_at dksX6_deedOf_0 9 rfl rfl)
theorem dX6_deedOf_10 : decode cX6_deedOf 10 = .ok (.lconst 0, 1) := dk_9 (dk_at dksX6_deedOf_0 10 rfl rfl)
theorem dX6_deedOf_11 : decode cX6_deedOf 11 = .ok (.ldc2_w 75, 3) := dk_20 0 75 (dk_at dksX6_deedOf_0 11 rfl rfl)
theorem dX6_deedOf_14 : decode cX6_deedOf 14 = .ok (.invokestatic 64, 3) := dk_184 0 64 (dk_at dksX6_deedOf_0 14 rfl rfl)
theorem dX6_deedOf_17 : decode cX6_deedOf 17 = .ok (.ifCond .ne 7, 3) := dk_154 0 7 (dk_at dksX6_deedOf_0 17 rfl rfl)
theorem dX6_deedOf_20 : decode cX6_deedOf 20 = .ok (.iconst (-1), 1) := dk_2 (dk_at dksX6_deedOf_0 20 rfl rfl)
theorem dX6_deedOf_21 : decode cX6_deedOf 21 = .ok (.goto 22, 3) := dk_167 0 22 (dk_at dksX6_deedOf_0 21 rfl rfl)
theorem dX6_deedOf_24 : decode cX6_deedOf 24 = .ok (.iload_n 2, 1) := dk_28 (dk_at dksX6_deedOf_1 0 rfl rfl)
theorem dX6_deedOf_25 : decode cX6_deedOf 25 = .ok (.iconst 5, 1) := dk_8 (dk_at dksX6_deedOf_1 1 rfl rfl)
theorem dX6_deedOf_26 : decode cX6_deedOf 26 = .ok (.if_icmp .ne 11, 3) := dk_160 0 11 (dk_at dksX6_deedOf_1 2 rfl rfl)
theorem dX6_deedOf_29 : decode cX6_deedOf 29 = .ok (.aload_n 0, 1) := dk_42 (dk_at dksX6_deedOf_1 5 rfl rfl)
theorem dX6_deedOf_30 : decode cX6_deedOf 30 = .ok (.iload_n 1, 1) := dk_27 (dk_at dksX6_deedOf_1 6 rfl rfl)
theorem dX6_deedOf_31 : decode cX6_deedOf 31 = .ok (.invokevirtual 119, 3) := dk_182 0 119 (dk_at dksX6_deedOf_1 7 rfl rfl)
theorem dX6_deedOf_34 : decode cX6_deedOf 34 = .ok (.goto 9, 3) := dk_167 0 9 (dk_at dksX6_deedOf_1 10 rfl rfl)
theorem dX6_deedOf_37 : decode cX6_deedOf 37 = .ok (.aload_n 0, 1) := dk_42 (dk_at dksX6_deedOf_1 13 rfl rfl)
theorem dX6_deedOf_38 : decode cX6_deedOf 38 = .ok (.iload_n 1, 1) := dk_27 (dk_at dksX6_deedOf_1 14 rfl rfl)
theorem dX6_deedOf_39 : decode cX6_deedOf 39 = .ok (.iload_n 2, 1) := dk_28 (dk_at dksX6_deedOf_1 15 rfl rfl)
theorem dX6_deedOf_40 : decode cX6_deedOf 40 = .ok (.invokevirtual 90, 3) := dk_182 0 90 (dk_at dksX6_deedOf_1 16 rfl rfl)
theorem dX6_deedOf_43 : decode cX6_deedOf 43 = .ok (.ireturn, 1) := dk_172 (dk_at dksX6_deedOf_1 19 rfl rfl)
abbrev cX6_ends : ByteArray := prog_26_method_25_code
def yX6_ends : MethodName := ⟨RX6, "ends", "(I)I"⟩
def dkwX6_ends_1 : List UInt8 := [162, 0, 8, 16, 252, 167, 0, 9, 42, 5, 27, 182, 0, 111, 172]
abbrev dktX6_ends_1 : List UInt8 := dkwX6_ends_1 ++ []
def dkwX6_ends_0 : List UInt8 := [27, 133, 10, 20, 0, 122, 184, 0, 64, 154, 0, 7, 2, 167, 0, 24, 27, 42, 180, 0, 7, 6, 46]
abbrev dktX6_ends_0 : List UInt8 := dkwX6_ends_0 ++ dktX6_ends_1
theorem dksX6_ends_0 : cX6_ends.data.toList.drop 0 = dktX6_ends_0 := by decide +kernel
theorem dksX6_ends_1 : cX6_ends.data.toList.drop 23 = dktX6_ends_1 := dk_seg dksX6_ends_0 23 rfl rfl
theorem dX6_ends_0 : decode cX6_ends 0 = .ok (.iload_n 1, 1) := dk_27 (dk_at dksX6_ends_0 0 rfl rfl)
theorem dX6_ends_1 : decode cX6_ends 1 = .ok (.i2l, 1) := dk_133 (dk_at dksX6_ends_0 1 rfl rfl)
theorem dX6_ends_2 : decode cX6_ends 2 = .ok (.lconst 1, 1) := dk_10 (dk_at dksX6_ends_0 2 rfl rfl)
theorem dX6_ends_3 : decode cX6_ends 3 = .ok (.ldc2_w 122, 3) := dk_20 0 122 (dk_at dksX6_ends_0 3 rfl rfl)
theorem dX6_ends_6 : decode cX6_ends 6 = .ok (.invokestatic 64, 3) := dk_184 0 64 (dk_at dksX6_ends_0 6 rfl rfl)
theorem dX6_ends_9 : decode cX6_ends 9 = .ok (.ifCond .ne 7, 3) := dk_154 0 7 (dk_at dksX6_ends_0 9 rfl rfl)
theorem dX6_ends_12 : decode cX6_ends 12 = .ok (.iconst (-1), 1) := dk_2 (dk_at dksX6_ends_0 12 rfl rfl)
theorem dX6_ends_13 : decode cX6_ends 13 = .ok (.goto 24, 3) := dk_167 0 24 (dk_at dksX6_ends_0 13 rfl rfl)
theorem dX6_ends_16 : decode cX6_ends 16 = .ok (.iload_n 1, 1) := dk_27 (dk_at dksX6_ends_0 16 rfl rfl)
theorem dX6_ends_17 : decode cX6_ends 17 = .ok (.aload_n 0, 1) := dk_42 (dk_at dksX6_ends_0 17 rfl rfl)
theorem dX6_ends_18 : decode cX6_ends 18 = .ok (.getfield 7, 3) := dk_180 0 7 (dk_at dksX6_ends_0 18 rfl rfl)
theorem dX6_ends_21 : decode cX6_ends 21 = .ok (.iconst 3, 1) := dk_6 (dk_at dksX6_ends_0 21 rfl rfl)
theorem dX6_ends_22 : decode cX6_ends 22 = .ok (.iaload, 1) := dk_46 (dk_at dksX6_ends_0 22 rfl rfl)
theorem dX6_ends_23 : decode cX6_ends 23 = .ok (.if_icmp .ge 8, 3) := dk_162 0 8 (dk_at dksX6_ends_1 0 rfl rfl)
theorem dX6_ends_26 : decode cX6_ends 26 = .ok (.bipush (-4), 2) := dk_16 252 (dk_at dksX6_ends_1 3 rfl rfl)
theorem dX6_ends_28 : decode cX6_ends 28 = .ok (.goto 9, 3) := dk_167 0 9 (dk_at dksX6_ends_1 5 rfl rfl)
theorem dX6_ends_31 : decode cX6_ends 31 = .ok (.aload_n 0, 1) := dk_42 (dk_at dksX6_ends_1 8 rfl rfl)
theorem dX6_ends_32 : decode cX6_ends 32 = .ok (.iconst 2, 1) := dk_5 (dk_at dksX6_ends_1 9 rfl rfl)
theorem dX6_ends_33 : decode cX6_ends 33 = .ok (.iload_n 1, 1) := dk_27 (dk_at dksX6_ends_1 10 rfl rfl)
theorem dX6_ends_34 : decode cX6_ends 34 = .ok (.invokevirtual 111, 3) := dk_182 0 111 (dk_at dksX6_ends_1 11 rfl rfl)
theorem dX6_ends_37 : decode cX6_ends 37 = .ok (.ireturn, 1) := dk_172 (dk_at dksX6_ends_1 14 rfl rfl)
abbrev cX6_anew : ByteArray := prog_26_method_26_code
def yX6_anew : MethodName := ⟨RX6, "anew", "()I"⟩
def dkwX6_anew_1 : List UInt8 := [132, 1, 1, 167, 255, 232, 42, 180, 0, 7, 7, 3, 79, 42, 6, 3, 182, 0, 111, 172]
abbrev dktX6_anew_1 : List UInt8 := dkwX6_anew_1 ++ []
def dkwX6_anew_0 : List UInt8 := [3, 60, 27, 42, 180, 0, 7, 8, 46, 162, 0, 20, 42, 180, 0, 7, 27, 7, 184, 0, 72, 3, 79]
abbrev dktX6_anew_0 : List UInt8 := dkwX6_anew_0 ++ dktX6_anew_1
theorem dksX6_anew_0 : cX6_anew.data.toList.drop 0 = dktX6_anew_0 := by decide +kernel
theorem dksX6_anew_1 : cX6_anew.data.toList.drop 23 = dktX6_anew_1 := dk_seg dksX6_anew_0 23 rfl rfl
theorem dX6_anew_0 : decode cX6_anew 0 = .ok (.iconst 0, 1) := dk_3 (dk_at dksX6_anew_0 0 rfl rfl)
theorem dX6_anew_1 : decode cX6_anew 1 = .ok (.istore_n 1, 1) := dk_60 (dk_at dksX6_anew_0 1 rfl rfl)
theorem dX6_anew_2 : decode cX6_anew 2 = .ok (.iload_n 1, 1) := dk_27 (dk_at dksX6_anew_0 2 rfl rfl)
theorem dX6_anew_3 : decode cX6_anew 3 = .ok (.aload_n 0, 1) := dk_42 (dk_at dksX6_anew_0 3 rfl rfl)
theorem dX6_anew_4 : decode cX6_anew 4 = .ok (.getfield 7, 3) := dk_180 0 7 (dk_at dksX6_anew_0 4 rfl rfl)
theorem dX6_anew_7 : decode cX6_anew 7 = .ok (.iconst 5, 1) := dk_8 (dk_at dksX6_anew_0 7 rfl rfl)
theorem dX6_anew_8 : decode cX6_anew 8 = .ok (.iaload, 1) := dk_46 (dk_at dksX6_anew_0 8 rfl rfl)
theorem dX6_anew_9 : decode cX6_anew 9 = .ok (.if_icmp .ge 20, 3) := dk_162 0 20 (dk_at dksX6_anew_0 9 rfl rfl)
theorem dX6_anew_12 : decode cX6_anew 12 = .ok (.aload_n 0, 1) := dk_42 (dk_at dksX6_anew_0 12 rfl rfl)
theorem dX6_anew_13 : decode cX6_anew 13 = .ok (.getfield 7, 3) := dk_180 0 7 (dk_at dksX6_anew_0 13 rfl rfl)
theorem dX6_anew_16 : decode cX6_anew 16 = .ok (.iload_n 1, 1) := dk_27 (dk_at dksX6_anew_0 16 rfl rfl)
theorem dX6_anew_17 : decode cX6_anew 17 = .ok (.iconst 4, 1) := dk_7 (dk_at dksX6_anew_0 17 rfl rfl)
theorem dX6_anew_18 : decode cX6_anew 18 = .ok (.invokestatic 72, 3) := dk_184 0 72 (dk_at dksX6_anew_0 18 rfl rfl)
theorem dX6_anew_21 : decode cX6_anew 21 = .ok (.iconst 0, 1) := dk_3 (dk_at dksX6_anew_0 21 rfl rfl)
theorem dX6_anew_22 : decode cX6_anew 22 = .ok (.iastore, 1) := dk_79 (dk_at dksX6_anew_0 22 rfl rfl)
theorem dX6_anew_23 : decode cX6_anew 23 = .ok (.iinc 1 1, 3) := dk_132 1 1 (dk_at dksX6_anew_1 0 rfl rfl)
theorem dX6_anew_26 : decode cX6_anew 26 = .ok (.goto (-24), 3) := dk_167 255 232 (dk_at dksX6_anew_1 3 rfl rfl)
theorem dX6_anew_29 : decode cX6_anew 29 = .ok (.aload_n 0, 1) := dk_42 (dk_at dksX6_anew_1 6 rfl rfl)
theorem dX6_anew_30 : decode cX6_anew 30 = .ok (.getfield 7, 3) := dk_180 0 7 (dk_at dksX6_anew_1 7 rfl rfl)
theorem dX6_anew_33 : decode cX6_anew 33 = .ok (.iconst 4, 1) := dk_7 (dk_at dksX6_anew_1 10 rfl rfl)
theorem dX6_anew_34 : decode cX6_anew 34 = .ok (.iconst 0, 1) := dk_3 (dk_at dksX6_anew_1 11 rfl rfl)
theorem dX6_anew_35 : decode cX6_anew 35 = .ok (.iastore, 1) := dk_79 (dk_at dksX6_anew_1 12 rfl rfl)
theorem dX6_anew_36 : decode cX6_anew 36 = .ok (.aload_n 0, 1) := dk_42 (dk_at dksX6_anew_1 13 rfl rfl)
theorem dX6_anew_37 : decode cX6_anew 37 = .ok (.iconst 3, 1) := dk_6 (dk_at dksX6_anew_1 14 rfl rfl)
theorem dX6_anew_38 : decode cX6_anew 38 = .ok (.iconst 0, 1) := dk_3 (dk_at dksX6_anew_1 15 rfl rfl)
theorem dX6_anew_39 : decode cX6_anew 39 = .ok (.invokevirtual 111, 3) := dk_182 0 111 (dk_at dksX6_anew_1 16 rfl rfl)
theorem dX6_anew_42 : decode cX6_anew 42 = .ok (.ireturn, 1) := dk_172 (dk_at dksX6_anew_1 19 rfl rfl)
abbrev cX6_state : ByteArray := prog_26_method_28_code
def yX6_state : MethodName := ⟨RX6, "state", "(I)I"⟩
def dkwX6_state_3 : List UInt8 := [182, 0, 124, 153, 0, 7, 4, 167, 0, 4, 3, 172, 2, 172]
abbrev dktX6_state_3 : List UInt8 := dkwX6_state_3 ++ []
def dkwX6_state_2 : List UInt8 := [42, 180, 0, 7, 6, 46, 172, 42, 180, 0, 7, 5, 46, 172, 42, 180, 0, 7, 7, 46, 172, 42]
abbrev dktX6_state_2 : List UInt8 := dkwX6_state_2 ++ dktX6_state_3
def dkwX6_state_1 : List UInt8 := [170, 0, 0, 0, 0, 0, 65, 0, 0, 0, 0, 0, 0, 0, 3, 0, 0, 0, 31, 0, 0, 0, 38, 0, 0, 0, 45, 0, 0, 0, 52]
abbrev dktX6_state_1 : List UInt8 := dkwX6_state_1 ++ dktX6_state_2
def dkwX6_state_0 : List UInt8 := [27]
abbrev dktX6_state_0 : List UInt8 := dkwX6_state_0 ++ dktX6_state_1
theorem dksX6_state_0 : cX6_state.data.toList.drop 0 = dktX6_state_0 := by decide +kernel
theorem dksX6_state_1 : cX6_state.data.toList.drop 1 = dktX6_state_1 := dk_seg dksX6_state_0 1 rfl rfl
theorem dksX6_state_2 : cX6_state.data.toList.drop 32 = dktX6_state_2 := dk_seg dksX6_state_1 31 rfl rfl
theorem dksX6_state_3 : cX6_state.data.toList.drop 54 = dktX6_state_3 := dk_seg dksX6_state_2 22 rfl rfl
theorem dX6_state_0 : decode cX6_state 0 = .ok (.iload_n 1, 1) := dk_27 (dk_at dksX6_state_0 0 rfl rfl)
theorem dX6_state_1 : decode cX6_state 1 = .ok (.tableswitch 65 0 3 #[31, 38, 45, 52], 31) := by decide +kernel
theorem dX6_state_32 : decode cX6_state 32 = .ok (.aload_n 0, 1) := dk_42 (dk_at dksX6_state_2 0 rfl rfl)
theorem dX6_state_33 : decode cX6_state 33 = .ok (.getfield 7, 3) := dk_180 0 7 (dk_at dksX6_state_2 1 rfl rfl)
theorem dX6_state_36 : decode cX6_state 36 = .ok (.iconst 3, 1) := dk_6 (dk_at dksX6_state_2 4 rfl rfl)
theorem dX6_state_37 : decode cX6_state 37 = .ok (.iaload, 1) := dk_46 (dk_at dksX6_state_2 5 rfl rfl)
theorem dX6_state_38 : decode cX6_state 38 = .ok (.ireturn, 1) := dk_172 (dk_at dksX6_state_2 6 rfl rfl)
theorem dX6_state_39 : decode cX6_state 39 = .ok (.aload_n 0, 1) := dk_42 (dk_at dksX6_state_2 7 rfl rfl)
theorem dX6_state_40 : decode cX6_state 40 = .ok (.getfield 7, 3) := dk_180 0 7 (dk_at dksX6_state_2 8 rfl rfl)
theorem dX6_state_43 : decode cX6_state 43 = .ok (.iconst 2, 1) := dk_5 (dk_at dksX6_state_2 11 rfl rfl)
theorem dX6_state_44 : decode cX6_state 44 = .ok (.iaload, 1) := dk_46 (dk_at dksX6_state_2 12 rfl rfl)
theorem dX6_state_45 : decode cX6_state 45 = .ok (.ireturn, 1) := dk_172 (dk_at dksX6_state_2 13 rfl rfl)
theorem dX6_state_46 : decode cX6_state 46 = .ok (.aload_n 0, 1) := dk_42 (dk_at dksX6_state_2 14 rfl rfl)
theorem dX6_state_47 : decode cX6_state 47 = .ok (.getfield 7, 3) := dk_180 0 7 (dk_at dksX6_state_2 15 rfl rfl)
theorem dX6_state_50 : decode cX6_state 50 = .ok (.iconst 4, 1) := dk_7 (dk_at dksX6_state_2 18 rfl rfl)
theorem dX6_state_51 : decode cX6_state 51 = .ok (.iaload, 1) := dk_46 (dk_at dksX6_state_2 19 rfl rfl)
theorem dX6_state_52 : decode cX6_state 52 = .ok (.ireturn, 1) := dk_172 (dk_at dksX6_state_2 20 rfl rfl)
theorem dX6_state_53 : decode cX6_state 53 = .ok (.aload_n 0, 1) := dk_42 (dk_at dksX6_state_2 21 rfl rfl)
theorem dX6_state_54 : decode cX6_state 54 = .ok (.invokevirtual 124, 3) := dk_182 0 124 (dk_at dksX6_state_3 0 rfl rfl)
theorem dX6_state_57 : decode cX6_state 57 = .ok (.ifCond .eq 7, 3) := dk_153 0 7 (dk_at dksX6_state_3 3 rfl rfl)
theorem dX6_state_60 : decode cX6_state 60 = .ok (.iconst 1, 1) := dk_4 (dk_at dksX6_state_3 6 rfl rfl)
theorem dX6_state_61 : decode cX6_state 61 = .ok (.goto 4, 3) := dk_167 0 4 (dk_at dksX6_state_3 7 rfl rfl)
theorem dX6_state_64 : decode cX6_state 64 = .ok (.iconst 0, 1) := dk_3 (dk_at dksX6_state_3 10 rfl rfl)
theorem dX6_state_65 : decode cX6_state 65 = .ok (.ireturn, 1) := dk_172 (dk_at dksX6_state_3 11 rfl rfl)
theorem dX6_state_66 : decode cX6_state 66 = .ok (.iconst (-1), 1) := dk_2 (dk_at dksX6_state_3 12 rfl rfl)
theorem dX6_state_67 : decode cX6_state 67 = .ok (.ireturn, 1) := dk_172 (dk_at dksX6_state_3 13 rfl rfl)
abbrev cX6_isOver : ByteArray := prog_26_method_27_code
def yX6_isOver : MethodName := ⟨RX6, "isOver", "()Z"⟩
def dkwX6_isOver_0 : List UInt8 := [42, 180, 0, 7, 6, 46, 42, 180, 0, 7, 5, 46, 161, 0, 7, 4, 167, 0, 4, 3, 172]
abbrev dktX6_isOver_0 : List UInt8 := dkwX6_isOver_0 ++ []
theorem dksX6_isOver_0 : cX6_isOver.data.toList.drop 0 = dktX6_isOver_0 := by decide +kernel
theorem dX6_isOver_0 : decode cX6_isOver 0 = .ok (.aload_n 0, 1) := dk_42 (dk_at dksX6_isOver_0 0 rfl rfl)
theorem dX6_isOver_1 : decode cX6_isOver 1 = .ok (.getfield 7, 3) := dk_180 0 7 (dk_at dksX6_isOver_0 1 rfl rfl)
theorem dX6_isOver_4 : decode cX6_isOver 4 = .ok (.iconst 3, 1) := dk_6 (dk_at dksX6_isOver_0 4 rfl rfl)
theorem dX6_isOver_5 : decode cX6_isOver 5 = .ok (.iaload, 1) := dk_46 (dk_at dksX6_isOver_0 5 rfl rfl)
theorem dX6_isOver_6 : decode cX6_isOver 6 = .ok (.aload_n 0, 1) := dk_42 (dk_at dksX6_isOver_0 6 rfl rfl)
theorem dX6_isOver_7 : decode cX6_isOver 7 = .ok (.getfield 7, 3) := dk_180 0 7 (dk_at dksX6_isOver_0 7 rfl rfl)
theorem dX6_isOver_10 : decode cX6_isOver 10 = .ok (.iconst 2, 1) := dk_5 (dk_at dksX6_isOver_0 10 rfl rfl)
theorem dX6_isOver_11 : decode cX6_isOver 11 = .ok (.iaload, 1) := dk_46 (dk_at dksX6_isOver_0 11 rfl rfl)
theorem dX6_isOver_12 : decode cX6_isOver 12 = .ok (.if_icmp .lt 7, 3) := dk_161 0 7 (dk_at dksX6_isOver_0 12 rfl rfl)
theorem dX6_isOver_15 : decode cX6_isOver 15 = .ok (.iconst 1, 1) := dk_4 (dk_at dksX6_isOver_0 15 rfl rfl)
theorem dX6_isOver_16 : decode cX6_isOver 16 = .ok (.goto 4, 3) := dk_167 0 4 (dk_at dksX6_isOver_0 16 rfl rfl)
theorem dX6_isOver_19 : decode cX6_isOver 19 = .ok (.iconst 0, 1) := dk_3 (dk_at dksX6_isOver_0 19 rfl rfl)
theorem dX6_isOver_20 : decode cX6_isOver 20 = .ok (.ireturn, 1) := dk_172 (dk_at dksX6_isOver_0 20 rfl rfl)
abbrev cX6_year : ByteArray := prog_26_method_36_code
def yX6_year : MethodName := ⟨RX6, "year", "()I"⟩
def dkwX6_year_0 : List UInt8 := [42, 182, 0, 124, 153, 0, 8, 16, 252, 167, 0, 8, 42, 3, 182, 0, 146, 172]
abbrev dktX6_year_0 : List UInt8 := dkwX6_year_0 ++ []
theorem dksX6_year_0 : cX6_year.data.toList.drop 0 = dktX6_year_0 := by decide +kernel
theorem dX6_year_0 : decode cX6_year 0 = .ok (.aload_n 0, 1) := dk_42 (dk_at dksX6_year_0 0 rfl rfl)
theorem dX6_year_1 : decode cX6_year 1 = .ok (.invokevirtual 124, 3) := dk_182 0 124 (dk_at dksX6_year_0 1 rfl rfl)
theorem dX6_year_4 : decode cX6_year 4 = .ok (.ifCond .eq 8, 3) := dk_153 0 8 (dk_at dksX6_year_0 4 rfl rfl)
theorem dX6_year_7 : decode cX6_year 7 = .ok (.bipush (-4), 2) := dk_16 252 (dk_at dksX6_year_0 7 rfl rfl)
theorem dX6_year_9 : decode cX6_year 9 = .ok (.goto 8, 3) := dk_167 0 8 (dk_at dksX6_year_0 9 rfl rfl)
theorem dX6_year_12 : decode cX6_year 12 = .ok (.aload_n 0, 1) := dk_42 (dk_at dksX6_year_0 12 rfl rfl)
theorem dX6_year_13 : decode cX6_year 13 = .ok (.iconst 0, 1) := dk_3 (dk_at dksX6_year_0 13 rfl rfl)
theorem dX6_year_14 : decode cX6_year 14 = .ok (.invokevirtual 146, 3) := dk_182 0 146 (dk_at dksX6_year_0 14 rfl rfl)
theorem dX6_year_17 : decode cX6_year 17 = .ok (.ireturn, 1) := dk_172 (dk_at dksX6_year_0 17 rfl rfl)
abbrev cX6_goes : ByteArray := prog_26_method_35_code
def yX6_goes : MethodName := ⟨RX6, "goes", "(I)I"⟩
def dkwX6_goes_9 : List UInt8 := [172]
abbrev dktX6_goes_9 : List UInt8 := dkwX6_goes_9 ++ []
def dkwX6_goes_8 : List UInt8 := [167, 255, 207, 42, 180, 0, 7, 7, 92, 46, 29, 96, 79, 42, 180, 0, 7, 6, 92, 46, 4, 96, 79, 29]
abbrev dktX6_goes_8 : List UInt8 := dkwX6_goes_8 ++ dktX6_goes_9
def dkwX6_goes_7 : List UInt8 := [182, 0, 119, 28, 161, 0, 13, 42, 21, 4, 5, 182, 0, 90, 167, 0, 4, 3, 96, 62, 132, 4, 1]
abbrev dktX6_goes_7 : List UInt8 := dkwX6_goes_7 ++ dktX6_goes_8
def dkwX6_goes_6 : List UInt8 := [42, 180, 0, 7, 8, 46, 162, 0, 44, 29, 42, 21, 4, 7, 182, 0, 90, 4, 160, 0, 23, 42, 21, 4]
abbrev dktX6_goes_6 : List UInt8 := dkwX6_goes_6 ++ dktX6_goes_7
def dkwX6_goes_5 : List UInt8 := [16, 10, 159, 0, 9, 42, 21, 4, 182, 0, 142, 132, 3, 1, 167, 255, 211, 3, 62, 3, 54, 4, 21, 4]
abbrev dktX6_goes_5 : List UInt8 := dkwX6_goes_5 ++ dktX6_goes_6
def dkwX6_goes_4 : List UInt8 := [162, 0, 41, 29, 4, 96, 27, 160, 0, 8, 16, 10, 167, 0, 8, 42, 29, 182, 0, 106, 54, 4, 21, 4]
abbrev dktX6_goes_4 : List UInt8 := dkwX6_goes_4 ++ dktX6_goes_5
def dkwX6_goes_3 : List UInt8 := [160, 0, 7, 4, 167, 0, 4, 7, 79, 132, 3, 1, 167, 255, 185, 3, 62, 29, 42, 180, 0, 7, 3, 46]
abbrev dktX6_goes_3 : List UInt8 := dkwX6_goes_3 ++ dktX6_goes_4
def dkwX6_goes_2 : List UInt8 := [42, 180, 0, 7, 29, 7, 184, 0, 72, 21, 4, 155, 0, 14, 42, 21, 4, 7, 182, 0, 90, 4]
abbrev dktX6_goes_2 : List UInt8 := dkwX6_goes_2 ++ dktX6_goes_3
def dkwX6_goes_1 : List UInt8 := [182, 0, 90, 28, 160, 0, 51, 42, 29, 7, 182, 0, 90, 154, 0, 42, 42, 29, 6, 182, 0, 90, 54, 4]
abbrev dktX6_goes_1 : List UInt8 := dkwX6_goes_1 ++ dktX6_goes_2
def dkwX6_goes_0 : List UInt8 := [42, 180, 0, 7, 6, 46, 61, 3, 62, 29, 42, 180, 0, 7, 8, 46, 162, 0, 67, 42, 29, 4]
abbrev dktX6_goes_0 : List UInt8 := dkwX6_goes_0 ++ dktX6_goes_1
theorem dksX6_goes_0 : cX6_goes.data.toList.drop 0 = dktX6_goes_0 := by decide +kernel
theorem dksX6_goes_1 : cX6_goes.data.toList.drop 22 = dktX6_goes_1 := dk_seg dksX6_goes_0 22 rfl rfl
theorem dksX6_goes_2 : cX6_goes.data.toList.drop 46 = dktX6_goes_2 := dk_seg dksX6_goes_1 24 rfl rfl
theorem dksX6_goes_3 : cX6_goes.data.toList.drop 68 = dktX6_goes_3 := dk_seg dksX6_goes_2 22 rfl rfl
theorem dksX6_goes_4 : cX6_goes.data.toList.drop 92 = dktX6_goes_4 := dk_seg dksX6_goes_3 24 rfl rfl
theorem dksX6_goes_5 : cX6_goes.data.toList.drop 116 = dktX6_goes_5 := dk_seg dksX6_goes_4 24 rfl rfl
theorem dksX6_goes_6 : cX6_goes.data.toList.drop 140 = dktX6_goes_6 := dk_seg dksX6_goes_5 24 rfl rfl
theorem dksX6_goes_7 : cX6_goes.data.toList.drop 164 = dktX6_goes_7 := dk_seg dksX6_goes_6 24 rfl rfl
theorem dksX6_goes_8 : cX6_goes.data.toList.drop 187 = dktX6_goes_8 := dk_seg dksX6_goes_7 23 rfl rfl
theorem dksX6_goes_9 : cX6_goes.data.toList.drop 211 = dktX6_goes_9 := dk_seg dksX6_goes_8 24 rfl rfl
theorem dX6_goes_0 : decode cX6_goes 0 = .ok (.aload_n 0, 1) := dk_42 (dk_at dksX6_goes_0 0 rfl rfl)
theorem dX6_goes_1 : decode cX6_goes 1 = .ok (.getfield 7, 3) := dk_180 0 7 (dk_at dksX6_goes_0 1 rfl rfl)
theorem dX6_goes_4 : decode cX6_goes 4 = .ok (.iconst 3, 1) := dk_6 (dk_at dksX6_goes_0 4 rfl rfl)
theorem dX6_goes_5 : decode cX6_goes 5 = .ok (.iaload, 1) := dk_46 (dk_at dksX6_goes_0 5 rfl rfl)
theorem dX6_goes_6 : decode cX6_goes 6 = .ok (.istore_n 2, 1) := dk_61 (dk_at dksX6_goes_0 6 rfl rfl)
theorem dX6_goes_7 : decode cX6_goes 7 = .ok (.iconst 0, 1) := dk_3 (dk_at dksX6_goes_0 7 rfl rfl)
theorem dX6_goes_8 : decode cX6_goes 8 = .ok (.istore_n 3, 1) := dk_62 (dk_at dksX6_goes_0 8 rfl rfl)
theorem dX6_goes_9 : decode cX6_goes 9 = .ok (.iload_n 3, 1) := dk_29 (dk_at dksX6_goes_0 9 rfl rfl)
theorem dX6_goes_10 : decode cX6_goes 10 = .ok (.aload_n 0, 1) := dk_42 (dk_at dksX6_goes_0 10 rfl rfl)
theorem dX6_goes_11 : decode cX6_goes 11 = .ok (.getfield 7, 3) := dk_180 0 7 (dk_at dksX6_goes_0 11 rfl rfl)
theorem dX6_goes_14 : decode cX6_goes 14 = .ok (.iconst 5, 1) := dk_8 (dk_at dksX6_goes_0 14 rfl rfl)
theorem dX6_goes_15 : decode cX6_goes 15 = .ok (.iaload, 1) := dk_46 (dk_at dksX6_goes_0 15 rfl rfl)
theorem dX6_goes_16 : decode cX6_goes 16 = .ok (.if_icmp .ge 67, 3) := dk_162 0 67 (dk_at dksX6_goes_0 16 rfl rfl)
theorem dX6_goes_19 : decode cX6_goes 19 = .ok (.aload_n 0, 1) := dk_42 (dk_at dksX6_goes_0 19 rfl rfl)
theorem dX6_goes_20 : decode cX6_goes 20 = .ok (.iload_n 3, 1) := dk_29 (dk_at dksX6_goes_0 20 rfl rfl)
theorem dX6_goes_21 : decode cX6_goes 21 = .ok (.iconst 1, 1) := dk_4 (dk_at dksX6_goes_0 21 rfl rfl)
theorem dX6_goes_22 : decode cX6_goes 22 = .ok (.invokevirtual 90, 3) := dk_182 0 90 (dk_at dksX6_goes_1 0 rfl rfl)
theorem dX6_goes_25 : decode cX6_goes 25 = .ok (.iload_n 2, 1) := dk_28 (dk_at dksX6_goes_1 3 rfl rfl)
theorem dX6_goes_26 : decode cX6_goes 26 = .ok (.if_icmp .ne 51, 3) := dk_160 0 51 (dk_at dksX6_goes_1 4 rfl rfl)
theorem dX6_goes_29 : decode cX6_goes 29 = .ok (.aload_n 0, 1) := dk_42 (dk_at dksX6_goes_1 7 rfl rfl)
theorem dX6_goes_30 : decode cX6_goes 30 = .ok (.iload_n 3, 1) := dk_29 (dk_at dksX6_goes_1 8 rfl rfl)
theorem dX6_goes_31 : decode cX6_goes 31 = .ok (.iconst 4, 1) := dk_7 (dk_at dksX6_goes_1 9 rfl rfl)
theorem dX6_goes_32 : decode cX6_goes 32 = .ok (.invokevirtual 90, 3) := dk_182 0 90 (dk_at dksX6_goes_1 10 rfl rfl)
theorem dX6_goes_35 : decode cX6_goes 35 = .ok (.ifCond .ne 42, 3) := dk_154 0 42 (dk_at dksX6_goes_1 13 rfl rfl)
theorem dX6_goes_38 : decode cX6_goes 38 = .ok (.aload_n 0, 1) := dk_42 (dk_at dksX6_goes_1 16 rfl rfl)
theorem dX6_goes_39 : decode cX6_goes 39 = .ok (.iload_n 3, 1) := dk_29 (dk_at dksX6_goes_1 17 rfl rfl)
theorem dX6_goes_40 : decode cX6_goes 40 = .ok (.iconst 3, 1) := dk_6 (dk_at dksX6_goes_1 18 rfl rfl)
theorem dX6_goes_41 : decode cX6_goes 41 = .ok (.invokevirtual 90, 3) := dk_182 0 90 (dk_at dksX6_goes_1 19 rfl rfl)
theorem dX6_goes_44 : decode cX6_goes 44 = .ok (.istore 4, 2) := dk_54 4 (dk_at dksX6_goes_1 22 rfl rfl)
theorem dX6_goes_46 : decode cX6_goes 46 = .ok (.aload_n 0, 1) := dk_42 (dk_at dksX6_goes_2 0 rfl rfl)
theorem dX6_goes_47 : decode cX6_goes 47 = .ok (.getfield 7, 3) := dk_180 0 7 (dk_at dksX6_goes_2 1 rfl rfl)
theorem dX6_goes_50 : decode cX6_goes 50 = .ok (.iload_n 3, 1) := dk_29 (dk_at dksX6_goes_2 4 rfl rfl)
theorem dX6_goes_51 : decode cX6_goes 51 = .ok (.iconst 4, 1) := dk_7 (dk_at dksX6_goes_2 5 rfl rfl)
theorem dX6_goes_52 : decode cX6_goes 52 = .ok (.invokestatic 72, 3) := dk_184 0 72 (dk_at dksX6_goes_2 6 rfl rfl)
theorem dX6_goes_55 : decode cX6_goes 55 = .ok (.iload 4, 2) := dk_21 4 (dk_at dksX6_goes_2 9 rfl rfl)
theorem dX6_goes_57 : decode cX6_goes 57 = .ok (.ifCond .lt 14, 3) := dk_155 0 14 (dk_at dksX6_goes_2 11 rfl rfl)
theorem dX6_goes_60 : decode cX6_goes 60 = .ok (.aload_n 0, 1) := dk_42 (dk_at dksX6_goes_2 14 rfl rfl)
theorem dX6_goes_61 : decode cX6_goes 61 = .ok (.iload 4, 2) := dk_21 4 (dk_at dksX6_goes_2 15 rfl rfl)
theorem dX6_goes_63 : decode cX6_goes 63 = .ok (.iconst 4, 1) := dk_7 (dk_at dksX6_goes_2 17 rfl rfl)
theorem dX6_goes_64 : decode cX6_goes 64 = .ok (.invokevirtual 90, 3) := dk_182 0 90 (dk_at dksX6_goes_2 18 rfl rfl)
theorem dX6_goes_67 : decode cX6_goes 67 = .ok (.iconst 1, 1) := dk_4 (dk_at dksX6_goes_2 21 rfl rfl)
theorem dX6_goes_68 : decode cX6_goes 68 = .ok (.if_icmp .ne 7, 3) := dk_160 0 7 (dk_at dksX6_goes_3 0 rfl rfl)
theorem dX6_goes_71 : decode cX6_goes 71 = .ok (.iconst 1, 1) := dk_4 (dk_at dksX6_goes_3 3 rfl rfl)
theorem dX6_goes_72 : decode cX6_goes 72 = .ok (.goto 4, 3) := dk_167 0 4 (dk_at dksX6_goes_3 4 rfl rfl)
theorem dX6_goes_75 : decode cX6_goes 75 = .ok (.iconst 4, 1) := dk_7 (dk_at dksX6_goes_3 7 rfl rfl)
theorem dX6_goes_76 : decode cX6_goes 76 = .ok (.iastore, 1) := dk_79 (dk_at dksX6_goes_3 8 rfl rfl)
theorem dX6_goes_77 : decode cX6_goes 77 = .ok (.iinc 3 1, 3) := dk_132 3 1 (dk_at dksX6_goes_3 9 rfl rfl)
theorem dX6_goes_80 : decode cX6_goes 80 = .ok (.goto (-71), 3) := dk_167 255 185 (dk_at dksX6_goes_3 12 rfl rfl)
theorem dX6_goes_83 : decode cX6_goes 83 = .ok (.iconst 0, 1) := dk_3 (dk_at dksX6_goes_3 15 rfl rfl)
theorem dX6_goes_84 : decode cX6_goes 84 = .ok (.istore_n 3, 1) := dk_62 (dk_at dksX6_goes_3 16 rfl rfl)
theorem dX6_goes_85 : decode cX6_goes 85 = .ok (.iload_n 3, 1) := dk_29 (dk_at dksX6_goes_3 17 rfl rfl)
theorem dX6_goes_86 : decode cX6_goes 86 = .ok (.aload_n 0, 1) := dk_42 (dk_at dksX6_goes_3 18 rfl rfl)
theorem dX6_goes_87 : decode cX6_goes 87 = .ok (.getfield 7, 3) := dk_180 0 7 (dk_at dksX6_goes_3 19 rfl rfl)
theorem dX6_goes_90 : decode cX6_goes 90 = .ok (.iconst 0, 1) := dk_3 (dk_at dksX6_goes_3 22 rfl rfl)
theorem dX6_goes_91 : decode cX6_goes 91 = .ok (.iaload, 1) := dk_46 (dk_at dksX6_goes_3 23 rfl rfl)
theorem dX6_goes_92 : decode cX6_goes 92 = .ok (.if_icmp .ge 41, 3) := dk_162 0 41 (dk_at dksX6_goes_4 0 rfl rfl)
theorem dX6_goes_95 : decode cX6_goes 95 = .ok (.iload_n 3, 1) := dk_29 (dk_at dksX6_goes_4 3 rfl rfl)
theorem dX6_goes_96 : decode cX6_goes 96 = .ok (.iconst 1, 1) := dk_4 (dk_at dksX6_goes_4 4 rfl rfl)
theorem dX6_goes_97 : decode cX6_goes 97 = .ok (.iadd, 1) := dk_96 (dk_at dksX6_goes_4 5 rfl rfl)
theorem dX6_goes_98 : decode cX6_goes 98 = .ok (.iload_n 1, 1) := dk_27 (dk_at dksX6_goes_4 6 rfl rfl)
theorem dX6_goes_99 : decode cX6_goes 99 = .ok (.if_icmp .ne 8, 3) := dk_160 0 8 (dk_at dksX6_goes_4 7 rfl rfl)
theorem dX6_goes_102 : decode cX6_goes 102 = .ok (.bipush 10, 2) := dk_16 10 (dk_at dksX6_goes_4 10 rfl rfl)
theorem dX6_goes_104 : decode cX6_goes 104 = .ok (.goto 8, 3) := dk_167 0 8 (dk_at dksX6_goes_4 12 rfl rfl)
theorem dX6_goes_107 : decode cX6_goes 107 = .ok (.aload_n 0, 1) := dk_42 (dk_at dksX6_goes_4 15 rfl rfl)
theorem dX6_goes_108 : decode cX6_goes 108 = .ok (.iload_n 3, 1) := dk_29 (dk_at dksX6_goes_4 16 rfl rfl)
theorem dX6_goes_109 : decode cX6_goes 109 = .ok (.invokevirtual 106, 3) := dk_182 0 106 (dk_at dksX6_goes_4 17 rfl rfl)
theorem dX6_goes_112 : decode cX6_goes 112 = .ok (.istore 4, 2) := dk_54 4 (dk_at dksX6_goes_4 20 rfl rfl)
theorem dX6_goes_114 : decode cX6_goes 114 = .ok (.iload 4, 2) := dk_21 4 (dk_at dksX6_goes_4 22 rfl rfl)
theorem dX6_goes_116 : decode cX6_goes 116 = .ok (.bipush 10, 2) := dk_16 10 (dk_at dksX6_goes_5 0 rfl rfl)
theorem dX6_goes_118 : decode cX6_goes 118 = .ok (.if_icmp .eq 9, 3) := dk_159 0 9 (dk_at dksX6_goes_5 2 rfl rfl)
theorem dX6_goes_121 : decode cX6_goes 121 = .ok (.aload_n 0, 1) := dk_42 (dk_at dksX6_goes_5 5 rfl rfl)
theorem dX6_goes_122 : decode cX6_goes 122 = .ok (.iload 4, 2) := dk_21 4 (dk_at dksX6_goes_5 6 rfl rfl)
theorem dX6_goes_124 : decode cX6_goes 124 = .ok (.invokevirtual 142, 3) := dk_182 0 142 (dk_at dksX6_goes_5 8 rfl rfl)
theorem dX6_goes_127 : decode cX6_goes 127 = .ok (.iinc 3 1, 3) := dk_132 3 1 (dk_at dksX6_goes_5 11 rfl rfl)
theorem dX6_goes_130 : decode cX6_goes 130 = .ok (.goto (-45), 3) := dk_167 255 211 (dk_at dksX6_goes_5 14 rfl rfl)
theorem dX6_goes_133 : decode cX6_goes 133 = .ok (.iconst 0, 1) := dk_3 (dk_at dksX6_goes_5 17 rfl rfl)
theorem dX6_goes_134 : decode cX6_goes 134 = .ok (.istore_n 3, 1) := dk_62 (dk_at dksX6_goes_5 18 rfl rfl)
theorem dX6_goes_135 : decode cX6_goes 135 = .ok (.iconst 0, 1) := dk_3 (dk_at dksX6_goes_5 19 rfl rfl)
theorem dX6_goes_136 : decode cX6_goes 136 = .ok (.istore 4, 2) := dk_54 4 (dk_at dksX6_goes_5 20 rfl rfl)
theorem dX6_goes_138 : decode cX6_goes 138 = .ok (.iload 4, 2) := dk_21 4 (dk_at dksX6_goes_5 22 rfl rfl)
theorem dX6_goes_140 : decode cX6_goes 140 = .ok (.aload_n 0, 1) := dk_42 (dk_at dksX6_goes_6 0 rfl rfl)
theorem dX6_goes_141 : decode cX6_goes 141 = .ok (.getfield 7, 3) := dk_180 0 7 (dk_at dksX6_goes_6 1 rfl rfl)
theorem dX6_goes_144 : decode cX6_goes 144 = .ok (.iconst 5, 1) := dk_8 (dk_at dksX6_goes_6 4 rfl rfl)
theorem dX6_goes_145 : decode cX6_goes 145 = .ok (.iaload, 1) := dk_46 (dk_at dksX6_goes_6 5 rfl rfl)
theorem dX6_goes_146 : decode cX6_goes 146 = .ok (.if_icmp .ge 44, 3) := dk_162 0 44 (dk_at dksX6_goes_6 6 rfl rfl)
theorem dX6_goes_149 : decode cX6_goes 149 = .ok (.iload_n 3, 1) := dk_29 (dk_at dksX6_goes_6 9 rfl rfl)
theorem dX6_goes_150 : decode cX6_goes 150 = .ok (.aload_n 0, 1) := dk_42 (dk_at dksX6_goes_6 10 rfl rfl)
theorem dX6_goes_151 : decode cX6_goes 151 = .ok (.iload 4, 2) := dk_21 4 (dk_at dksX6_goes_6 11 rfl rfl)
theorem dX6_goes_153 : decode cX6_goes 153 = .ok (.iconst 4, 1) := dk_7 (dk_at dksX6_goes_6 13 rfl rfl)
theorem dX6_goes_154 : decode cX6_goes 154 = .ok (.invokevirtual 90, 3) := dk_182 0 90 (dk_at dksX6_goes_6 14 rfl rfl)
theorem dX6_goes_157 : decode cX6_goes 157 = .ok (.iconst 1, 1) := dk_4 (dk_at dksX6_goes_6 17 rfl rfl)
theorem dX6_goes_158 : decode cX6_goes 158 = .ok (.if_icmp .ne 23, 3) := dk_160 0 23 (dk_at dksX6_goes_6 18 rfl rfl)
theorem dX6_goes_161 : decode cX6_goes 161 = .ok (.aload_n 0, 1) := dk_42 (dk_at dksX6_goes_6 21 rfl rfl)
theorem dX6_goes_162 : decode cX6_goes 162 = .ok (.iload 4, 2) := dk_21 4 (dk_at dksX6_goes_6 22 rfl rfl)
theorem dX6_goes_164 : decode cX6_goes 164 = .ok (.invokevirtual 119, 3) := dk_182 0 119 (dk_at dksX6_goes_7 0 rfl rfl)
theorem dX6_goes_167 : decode cX6_goes 167 = .ok (.iload_n 2, 1) := dk_28 (dk_at dksX6_goes_7 3 rfl rfl)
theorem dX6_goes_168 : decode cX6_goes 168 = .ok (.if_icmp .lt 13, 3) := dk_161 0 13 (dk_at dksX6_goes_7 4 rfl rfl)
theorem dX6_goes_171 : decode cX6_goes 171 = .ok (.aload_n 0, 1) := dk_42 (dk_at dksX6_goes_7 7 rfl rfl)
theorem dX6_goes_172 : decode cX6_goes 172 = .ok (.iload 4, 2) := dk_21 4 (dk_at dksX6_goes_7 8 rfl rfl)
theorem dX6_goes_174 : decode cX6_goes 174 = .ok (.iconst 2, 1) := dk_5 (dk_at dksX6_goes_7 10 rfl rfl)
theorem dX6_goes_175 : decode cX6_goes 175 = .ok (.invokevirtual 90, 3) := dk_182 0 90 (dk_at dksX6_goes_7 11 rfl rfl)
theorem dX6_goes_178 : decode cX6_goes 178 = .ok (.goto 4, 3) := dk_167 0 4 (dk_at dksX6_goes_7 14 rfl rfl)
theorem dX6_goes_181 : decode cX6_goes 181 = .ok (.iconst 0, 1) := dk_3 (dk_at dksX6_goes_7 17 rfl rfl)
theorem dX6_goes_182 : decode cX6_goes 182 = .ok (.iadd, 1) := dk_96 (dk_at dksX6_goes_7 18 rfl rfl)
theorem dX6_goes_183 : decode cX6_goes 183 = .ok (.istore_n 3, 1) := dk_62 (dk_at dksX6_goes_7 19 rfl rfl)
theorem dX6_goes_184 : decode cX6_goes 184 = .ok (.iinc 4 1, 3) := dk_132 4 1 (dk_at dksX6_goes_7 20 rfl rfl)
theorem dX6_goes_187 : decode cX6_goes 187 = .ok (.goto (-49), 3) := dk_167 255 207 (dk_at dksX6_goes_8 0 rfl rfl)
theorem dX6_goes_190 : decode cX6_goes 190 = .ok (.aload_n 0, 1) := dk_42 (dk_at dksX6_goes_8 3 rfl rfl)
theorem dX6_goes_191 : decode cX6_goes 191 = .ok (.getfield 7, 3) := dk_180 0 7 (dk_at dksX6_goes_8 4 rfl rfl)
theorem dX6_goes_194 : decode cX6_goes 194 = .ok (.iconst 4, 1) := dk_7 (dk_at dksX6_goes_8 7 rfl rfl)
theorem dX6_goes_195 : decode cX6_goes 195 = .ok (.dup2, 1) := dk_92 (dk_at dksX6_goes_8 8 rfl rfl)
theorem dX6_goes_196 : decode cX6_goes 196 = .ok (.iaload, 1) := dk_46 (dk_at dksX6_goes_8 9 rfl rfl)
theorem dX6_goes_197 : decode cX6_goes 197 = .ok (.iload_n 3, 1) := dk_29 (dk_at dksX6_goes_8 10 rfl rfl)
theorem dX6_goes_198 : decode cX6_goes 198 = .ok (.iadd, 1) := dk_96 (dk_at dksX6_goes_8 11 rfl rfl)
theorem dX6_goes_199 : decode cX6_goes 199 = .ok (.iastore, 1) := dk_79 (dk_at dksX6_goes_8 12 rfl rfl)
theorem dX6_goes_200 : decode cX6_goes 200 = .ok (.aload_n 0, 1) := dk_42 (dk_at dksX6_goes_8 13 rfl rfl)
theorem dX6_goes_201 : decode cX6_goes 201 = .ok (.getfield 7, 3) := dk_180 0 7 (dk_at dksX6_goes_8 14 rfl rfl)
theorem dX6_goes_204 : decode cX6_goes 204 = .ok (.iconst 3, 1) := dk_6 (dk_at dksX6_goes_8 17 rfl rfl)
theorem dX6_goes_205 : decode cX6_goes 205 = .ok (.dup2, 1) := dk_92 (dk_at dksX6_goes_8 18 rfl rfl)
theorem dX6_goes_206 : decode cX6_goes 206 = .ok (.iaload, 1) := dk_46 (dk_at dksX6_goes_8 19 rfl rfl)
theorem dX6_goes_207 : decode cX6_goes 207 = .ok (.iconst 1, 1) := dk_4 (dk_at dksX6_goes_8 20 rfl rfl)
theorem dX6_goes_208 : decode cX6_goes 208 = .ok (.iadd, 1) := dk_96 (dk_at dksX6_goes_8 21 rfl rfl)
theorem dX6_goes_209 : decode cX6_goes 209 = .ok (.iastore, 1) := dk_79 (dk_at dksX6_goes_8 22 rfl rfl)
theorem dX6_goes_210 : decode cX6_goes 210 = .ok (.iload_n 3, 1) := dk_29 (dk_at dksX6_goes_8 23 rfl rfl)
theorem dX6_goes_211 : decode cX6_goes 211 = .ok (.ireturn, 1) := dk_172 (dk_at dksX6_goes_9 0 rfl rfl)
abbrev cX6_undo : ByteArray := prog_26_method_34_code
def yX6_undo : MethodName := ⟨RX6, "undo", "(I)V"⟩
def dkwX6_undo_4 : List UInt8 := [79, 132, 2, 1, 167, 255, 170, 177]
abbrev dktX6_undo_4 : List UInt8 := dkwX6_undo_4 ++ []
def dkwX6_undo_3 : List UInt8 := [42, 180, 0, 7, 28, 7, 184, 0, 72, 21, 4, 153, 0, 7, 6, 167, 0, 9, 42, 28, 7, 182, 0, 90]
abbrev dktX6_undo_3 : List UInt8 := dkwX6_undo_3 ++ dktX6_undo_4
def dkwX6_undo_2 : List UInt8 := [182, 0, 90, 5, 159, 0, 13, 42, 29, 7, 182, 0, 90, 6, 160, 0, 7, 4, 167, 0, 4, 3, 54, 4]
abbrev dktX6_undo_2 : List UInt8 := dkwX6_undo_2 ++ dktX6_undo_3
def dkwX6_undo_1 : List UInt8 := [28, 6, 182, 0, 90, 62, 42, 28, 7, 182, 0, 90, 4, 160, 0, 31, 29, 155, 0, 27, 42, 29, 7]
abbrev dktX6_undo_1 : List UInt8 := dkwX6_undo_1 ++ dktX6_undo_2
def dkwX6_undo_0 : List UInt8 := [42, 180, 0, 7, 27, 7, 184, 0, 72, 5, 79, 3, 61, 28, 42, 180, 0, 7, 8, 46, 162, 0, 82, 42]
abbrev dktX6_undo_0 : List UInt8 := dkwX6_undo_0 ++ dktX6_undo_1
theorem dksX6_undo_0 : cX6_undo.data.toList.drop 0 = dktX6_undo_0 := by decide +kernel
theorem dksX6_undo_1 : cX6_undo.data.toList.drop 24 = dktX6_undo_1 := dk_seg dksX6_undo_0 24 rfl rfl
theorem dksX6_undo_2 : cX6_undo.data.toList.drop 47 = dktX6_undo_2 := dk_seg dksX6_undo_1 23 rfl rfl
theorem dksX6_undo_3 : cX6_undo.data.toList.drop 71 = dktX6_undo_3 := dk_seg dksX6_undo_2 24 rfl rfl
theorem dksX6_undo_4 : cX6_undo.data.toList.drop 95 = dktX6_undo_4 := dk_seg dksX6_undo_3 24 rfl rfl
theorem dX6_undo_0 : decode cX6_undo 0 = .ok (.aload_n 0, 1) := dk_42 (dk_at dksX6_undo_0 0 rfl rfl)
theorem dX6_undo_1 : decode cX6_undo 1 = .ok (.getfield 7, 3) := dk_180 0 7 (dk_at dksX6_undo_0 1 rfl rfl)
theorem dX6_undo_4 : decode cX6_undo 4 = .ok (.iload_n 1, 1) := dk_27 (dk_at dksX6_undo_0 4 rfl rfl)
theorem dX6_undo_5 : decode cX6_undo 5 = .ok (.iconst 4, 1) := dk_7 (dk_at dksX6_undo_0 5 rfl rfl)
theorem dX6_undo_6 : decode cX6_undo 6 = .ok (.invokestatic 72, 3) := dk_184 0 72 (dk_at dksX6_undo_0 6 rfl rfl)
theorem dX6_undo_9 : decode cX6_undo 9 = .ok (.iconst 2, 1) := dk_5 (dk_at dksX6_undo_0 9 rfl rfl)
theorem dX6_undo_10 : decode cX6_undo 10 = .ok (.iastore, 1) := dk_79 (dk_at dksX6_undo_0 10 rfl rfl)
theorem dX6_undo_11 : decode cX6_undo 11 = .ok (.iconst 0, 1) := dk_3 (dk_at dksX6_undo_0 11 rfl rfl)
theorem dX6_undo_12 : decode cX6_undo 12 = .ok (.istore_n 2, 1) := dk_61 (dk_at dksX6_undo_0 12 rfl rfl)
theorem dX6_undo_13 : decode cX6_undo 13 = .ok (.iload_n 2, 1) := dk_28 (dk_at dksX6_undo_0 13 rfl rfl)
theorem dX6_undo_14 : decode cX6_undo 14 = .ok (.aload_n 0, 1) := dk_42 (dk_at dksX6_undo_0 14 rfl rfl)
theorem dX6_undo_15 : decode cX6_undo 15 = .ok (.getfield 7, 3) := dk_180 0 7 (dk_at dksX6_undo_0 15 rfl rfl)
theorem dX6_undo_18 : decode cX6_undo 18 = .ok (.iconst 5, 1) := dk_8 (dk_at dksX6_undo_0 18 rfl rfl)
theorem dX6_undo_19 : decode cX6_undo 19 = .ok (.iaload, 1) := dk_46 (dk_at dksX6_undo_0 19 rfl rfl)
theorem dX6_undo_20 : decode cX6_undo 20 = .ok (.if_icmp .ge 82, 3) := dk_162 0 82 (dk_at dksX6_undo_0 20 rfl rfl)
theorem dX6_undo_23 : decode cX6_undo 23 = .ok (.aload_n 0, 1) := dk_42 (dk_at dksX6_undo_0 23 rfl rfl)
theorem dX6_undo_24 : decode cX6_undo 24 = .ok (.iload_n 2, 1) := dk_28 (dk_at dksX6_undo_1 0 rfl rfl)
theorem dX6_undo_25 : decode cX6_undo 25 = .ok (.iconst 3, 1) := dk_6 (dk_at dksX6_undo_1 1 rfl rfl)
theorem dX6_undo_26 : decode cX6_undo 26 = .ok (.invokevirtual 90, 3) := dk_182 0 90 (dk_at dksX6_undo_1 2 rfl rfl)
theorem dX6_undo_29 : decode cX6_undo 29 = .ok (.istore_n 3, 1) := dk_62 (dk_at dksX6_undo_1 5 rfl rfl)
theorem dX6_undo_30 : decode cX6_undo 30 = .ok (.aload_n 0, 1) := dk_42 (dk_at dksX6_undo_1 6 rfl rfl)
theorem dX6_undo_31 : decode cX6_undo 31 = .ok (.iload_n 2, 1) := dk_28 (dk_at dksX6_undo_1 7 rfl rfl)
theorem dX6_undo_32 : decode cX6_undo 32 = .ok (.iconst 4, 1) := dk_7 (dk_at dksX6_undo_1 8 rfl rfl)
theorem dX6_undo_33 : decode cX6_undo 33 = .ok (.invokevirtual 90, 3) := dk_182 0 90 (dk_at dksX6_undo_1 9 rfl rfl)
theorem dX6_undo_36 : decode cX6_undo 36 = .ok (.iconst 1, 1) := dk_4 (dk_at dksX6_undo_1 12 rfl rfl)
theorem dX6_undo_37 : decode cX6_undo 37 = .ok (.if_icmp .ne 31, 3) := dk_160 0 31 (dk_at dksX6_undo_1 13 rfl rfl)
theorem dX6_undo_40 : decode cX6_undo 40 = .ok (.iload_n 3, 1) := dk_29 (dk_at dksX6_undo_1 16 rfl rfl)
theorem dX6_undo_41 : decode cX6_undo 41 = .ok (.ifCond .lt 27, 3) := dk_155 0 27 (dk_at dksX6_undo_1 17 rfl rfl)
theorem dX6_undo_44 : decode cX6_undo 44 = .ok (.aload_n 0, 1) := dk_42 (dk_at dksX6_undo_1 20 rfl rfl)
theorem dX6_undo_45 : decode cX6_undo 45 = .ok (.iload_n 3, 1) := dk_29 (dk_at dksX6_undo_1 21 rfl rfl)
theorem dX6_undo_46 : decode cX6_undo 46 = .ok (.iconst 4, 1) := dk_7 (dk_at dksX6_undo_1 22 rfl rfl)
theorem dX6_undo_47 : decode cX6_undo 47 = .ok (.invokevirtual 90, 3) := dk_182 0 90 (dk_at dksX6_undo_2 0 rfl rfl)
theorem dX6_undo_50 : decode cX6_undo 50 = .ok (.iconst 2, 1) := dk_5 (dk_at dksX6_undo_2 3 rfl rfl)
theorem dX6_undo_51 : decode cX6_undo 51 = .ok (.if_icmp .eq 13, 3) := dk_159 0 13 (dk_at dksX6_undo_2 4 rfl rfl)
theorem dX6_undo_54 : decode cX6_undo 54 = .ok (.aload_n 0, 1) := dk_42 (dk_at dksX6_undo_2 7 rfl rfl)
theorem dX6_undo_55 : decode cX6_undo 55 = .ok (.iload_n 3, 1) := dk_29 (dk_at dksX6_undo_2 8 rfl rfl)
theorem dX6_undo_56 : decode cX6_undo 56 = .ok (.iconst 4, 1) := dk_7 (dk_at dksX6_undo_2 9 rfl rfl)
theorem dX6_undo_57 : decode cX6_undo 57 = .ok (.invokevirtual 90, 3) := dk_182 0 90 (dk_at dksX6_undo_2 10 rfl rfl)
theorem dX6_undo_60 : decode cX6_undo 60 = .ok (.iconst 3, 1) := dk_6 (dk_at dksX6_undo_2 13 rfl rfl)
theorem dX6_undo_61 : decode cX6_undo 61 = .ok (.if_icmp .ne 7, 3) := dk_160 0 7 (dk_at dksX6_undo_2 14 rfl rfl)
theorem dX6_undo_64 : decode cX6_undo 64 = .ok (.iconst 1, 1) := dk_4 (dk_at dksX6_undo_2 17 rfl rfl)
theorem dX6_undo_65 : decode cX6_undo 65 = .ok (.goto 4, 3) := dk_167 0 4 (dk_at dksX6_undo_2 18 rfl rfl)
theorem dX6_undo_68 : decode cX6_undo 68 = .ok (.iconst 0, 1) := dk_3 (dk_at dksX6_undo_2 21 rfl rfl)
theorem dX6_undo_69 : decode cX6_undo 69 = .ok (.istore 4, 2) := dk_54 4 (dk_at dksX6_undo_2 22 rfl rfl)
theorem dX6_undo_71 : decode cX6_undo 71 = .ok (.aload_n 0, 1) := dk_42 (dk_at dksX6_undo_3 0 rfl rfl)
theorem dX6_undo_72 : decode cX6_undo 72 = .ok (.getfield 7, 3) := dk_180 0 7 (dk_at dksX6_undo_3 1 rfl rfl)
theorem dX6_undo_75 : decode cX6_undo 75 = .ok (.iload_n 2, 1) := dk_28 (dk_at dksX6_undo_3 4 rfl rfl)
theorem dX6_undo_76 : decode cX6_undo 76 = .ok (.iconst 4, 1) := dk_7 (dk_at dksX6_undo_3 5 rfl rfl)
theorem dX6_undo_77 : decode cX6_undo 77 = .ok (.invokestatic 72, 3) := dk_184 0 72 (dk_at dksX6_undo_3 6 rfl rfl)
theorem dX6_undo_80 : decode cX6_undo 80 = .ok (.iload 4, 2) := dk_21 4 (dk_at dksX6_undo_3 9 rfl rfl)
theorem dX6_undo_82 : decode cX6_undo 82 = .ok (.ifCond .eq 7, 3) := dk_153 0 7 (dk_at dksX6_undo_3 11 rfl rfl)
theorem dX6_undo_85 : decode cX6_undo 85 = .ok (.iconst 3, 1) := dk_6 (dk_at dksX6_undo_3 14 rfl rfl)
theorem dX6_undo_86 : decode cX6_undo 86 = .ok (.goto 9, 3) := dk_167 0 9 (dk_at dksX6_undo_3 15 rfl rfl)
theorem dX6_undo_89 : decode cX6_undo 89 = .ok (.aload_n 0, 1) := dk_42 (dk_at dksX6_undo_3 18 rfl rfl)
theorem dX6_undo_90 : decode cX6_undo 90 = .ok (.iload_n 2, 1) := dk_28 (dk_at dksX6_undo_3 19 rfl rfl)
theorem dX6_undo_91 : decode cX6_undo 91 = .ok (.iconst 4, 1) := dk_7 (dk_at dksX6_undo_3 20 rfl rfl)
theorem dX6_undo_92 : decode cX6_undo 92 = .ok (.invokevirtual 90, 3) := dk_182 0 90 (dk_at dksX6_undo_3 21 rfl rfl)
theorem dX6_undo_95 : decode cX6_undo 95 = .ok (.iastore, 1) := dk_79 (dk_at dksX6_undo_4 0 rfl rfl)
theorem dX6_undo_96 : decode cX6_undo 96 = .ok (.iinc 2 1, 3) := dk_132 2 1 (dk_at dksX6_undo_4 1 rfl rfl)
theorem dX6_undo_99 : decode cX6_undo 99 = .ok (.goto (-86), 3) := dk_167 255 170 (dk_at dksX6_undo_4 4 rfl rfl)
theorem dX6_undo_102 : decode cX6_undo 102 = .ok (.return_, 1) := dk_177 (dk_at dksX6_undo_4 7 rfl rfl)
abbrev cX6_standing : ByteArray := prog_26_method_38_code
def yX6_standing : MethodName := ⟨RX6, "standing", "(I)I"⟩
def dkwX6_standing_0 : List UInt8 := [27, 133, 9, 20, 0, 149, 184, 0, 64, 153, 0, 11, 42, 27, 182, 0, 151, 167, 0, 4, 2, 172]
abbrev dktX6_standing_0 : List UInt8 := dkwX6_standing_0 ++ []
theorem dksX6_standing_0 : cX6_standing.data.toList.drop 0 = dktX6_standing_0 := by decide +kernel
theorem dX6_standing_0 : decode cX6_standing 0 = .ok (.iload_n 1, 1) := dk_27 (dk_at dksX6_standing_0 0 rfl rfl)
theorem dX6_standing_1 : decode cX6_standing 1 = .ok (.i2l, 1) := dk_133 (dk_at dksX6_standing_0 1 rfl rfl)
theorem dX6_standing_2 : decode cX6_standing 2 = .ok (.lconst 0, 1) := dk_9 (dk_at dksX6_standing_0 2 rfl rfl)
theorem dX6_standing_3 : decode cX6_standing 3 = .ok (.ldc2_w 149, 3) := dk_20 0 149 (dk_at dksX6_standing_0 3 rfl rfl)
theorem dX6_standing_6 : decode cX6_standing 6 = .ok (.invokestatic 64, 3) := dk_184 0 64 (dk_at dksX6_standing_0 6 rfl rfl)
theorem dX6_standing_9 : decode cX6_standing 9 = .ok (.ifCond .eq 11, 3) := dk_153 0 11 (dk_at dksX6_standing_0 9 rfl rfl)
theorem dX6_standing_12 : decode cX6_standing 12 = .ok (.aload_n 0, 1) := dk_42 (dk_at dksX6_standing_0 12 rfl rfl)
theorem dX6_standing_13 : decode cX6_standing 13 = .ok (.iload_n 1, 1) := dk_27 (dk_at dksX6_standing_0 13 rfl rfl)
theorem dX6_standing_14 : decode cX6_standing 14 = .ok (.invokevirtual 151, 3) := dk_182 0 151 (dk_at dksX6_standing_0 14 rfl rfl)
theorem dX6_standing_17 : decode cX6_standing 17 = .ok (.goto 4, 3) := dk_167 0 4 (dk_at dksX6_standing_0 17 rfl rfl)
theorem dX6_standing_20 : decode cX6_standing 20 = .ok (.iconst (-1), 1) := dk_2 (dk_at dksX6_standing_0 20 rfl rfl)
theorem dX6_standing_21 : decode cX6_standing 21 = .ok (.ireturn, 1) := dk_172 (dk_at dksX6_standing_0 21 rfl rfl)
abbrev cX6_those : ByteArray := prog_26_method_37_code
def yX6_those : MethodName := ⟨RX6, "those", "(I)I"⟩
def dkwX6_those_1 : List UInt8 := [160, 0, 9, 4, 29, 120, 167, 0, 4, 3, 128, 61, 132, 3, 1, 167, 255, 223, 28, 172]
abbrev dktX6_those_1 : List UInt8 := dkwX6_those_1 ++ []
def dkwX6_those_0 : List UInt8 := [3, 61, 3, 62, 29, 42, 180, 0, 7, 8, 46, 162, 0, 29, 28, 42, 29, 7, 182, 0, 90, 27]
abbrev dktX6_those_0 : List UInt8 := dkwX6_those_0 ++ dktX6_those_1
theorem dksX6_those_0 : cX6_those.data.toList.drop 0 = dktX6_those_0 := by decide +kernel
theorem dksX6_those_1 : cX6_those.data.toList.drop 22 = dktX6_those_1 := dk_seg dksX6_those_0 22 rfl rfl
theorem dX6_those_0 : decode cX6_those 0 = .ok (.iconst 0, 1) := dk_3 (dk_at dksX6_those_0 0 rfl rfl)
theorem dX6_those_1 : decode cX6_those 1 = .ok (.istore_n 2, 1) := dk_61 (dk_at dksX6_those_0 1 rfl rfl)
theorem dX6_those_2 : decode cX6_those 2 = .ok (.iconst 0, 1) := dk_3 (dk_at dksX6_those_0 2 rfl rfl)
theorem dX6_those_3 : decode cX6_those 3 = .ok (.istore_n 3, 1) := dk_62 (dk_at dksX6_those_0 3 rfl rfl)
theorem dX6_those_4 : decode cX6_those 4 = .ok (.iload_n 3, 1) := dk_29 (dk_at dksX6_those_0 4 rfl rfl)
theorem dX6_those_5 : decode cX6_those 5 = .ok (.aload_n 0, 1) := dk_42 (dk_at dksX6_those_0 5 rfl rfl)
theorem dX6_those_6 : decode cX6_those 6 = .ok (.getfield 7, 3) := dk_180 0 7 (dk_at dksX6_those_0 6 rfl rfl)
theorem dX6_those_9 : decode cX6_those 9 = .ok (.iconst 5, 1) := dk_8 (dk_at dksX6_those_0 9 rfl rfl)
theorem dX6_those_10 : decode cX6_those 10 = .ok (.iaload, 1) := dk_46 (dk_at dksX6_those_0 10 rfl rfl)
theorem dX6_those_11 : decode cX6_those 11 = .ok (.if_icmp .ge 29, 3) := dk_162 0 29 (dk_at dksX6_those_0 11 rfl rfl)
theorem dX6_those_14 : decode cX6_those 14 = .ok (.iload_n 2, 1) := dk_28 (dk_at dksX6_those_0 14 rfl rfl)
theorem dX6_those_15 : decode cX6_those 15 = .ok (.aload_n 0, 1) := dk_42 (dk_at dksX6_those_0 15 rfl rfl)
theorem dX6_those_16 : decode cX6_those 16 = .ok (.iload_n 3, 1) := dk_29 (dk_at dksX6_those_0 16 rfl rfl)
theorem dX6_those_17 : decode cX6_those 17 = .ok (.iconst 4, 1) := dk_7 (dk_at dksX6_those_0 17 rfl rfl)
theorem dX6_those_18 : decode cX6_those 18 = .ok (.invokevirtual 90, 3) := dk_182 0 90 (dk_at dksX6_those_0 18 rfl rfl)
theorem dX6_those_21 : decode cX6_those 21 = .ok (.iload_n 1, 1) := dk_27 (dk_at dksX6_those_0 21 rfl rfl)
theorem dX6_those_22 : decode cX6_those 22 = .ok (.if_icmp .ne 9, 3) := dk_160 0 9 (dk_at dksX6_those_1 0 rfl rfl)
theorem dX6_those_25 : decode cX6_those 25 = .ok (.iconst 1, 1) := dk_4 (dk_at dksX6_those_1 3 rfl rfl)
theorem dX6_those_26 : decode cX6_those 26 = .ok (.iload_n 3, 1) := dk_29 (dk_at dksX6_those_1 4 rfl rfl)
theorem dX6_those_27 : decode cX6_those 27 = .ok (.ishl, 1) := dk_120 (dk_at dksX6_those_1 5 rfl rfl)
theorem dX6_those_28 : decode cX6_those 28 = .ok (.goto 4, 3) := dk_167 0 4 (dk_at dksX6_those_1 6 rfl rfl)
theorem dX6_those_31 : decode cX6_those 31 = .ok (.iconst 0, 1) := dk_3 (dk_at dksX6_those_1 9 rfl rfl)
theorem dX6_those_32 : decode cX6_those 32 = .ok (.ior, 1) := dk_128 (dk_at dksX6_those_1 10 rfl rfl)
theorem dX6_those_33 : decode cX6_those 33 = .ok (.istore_n 2, 1) := dk_61 (dk_at dksX6_those_1 11 rfl rfl)
theorem dX6_those_34 : decode cX6_those 34 = .ok (.iinc 3 1, 3) := dk_132 3 1 (dk_at dksX6_those_1 12 rfl rfl)
theorem dX6_those_37 : decode cX6_those 37 = .ok (.goto (-33), 3) := dk_167 255 223 (dk_at dksX6_those_1 15 rfl rfl)
theorem dX6_those_40 : decode cX6_those 40 = .ok (.iload_n 2, 1) := dk_28 (dk_at dksX6_those_1 18 rfl rfl)
theorem dX6_those_41 : decode cX6_those 41 = .ok (.ireturn, 1) := dk_172 (dk_at dksX6_those_1 19 rfl rfl)
abbrev cX6_leaves : ByteArray := prog_26_method_40_code
def yX6_leaves : MethodName := ⟨RX6, "leaves", "(I)I"⟩
def dkwX6_leaves_1 : List UInt8 := [182, 0, 99, 62, 42, 182, 0, 160, 29, 172]
abbrev dktX6_leaves_1 : List UInt8 := dkwX6_leaves_1 ++ []
def dkwX6_leaves_0 : List UInt8 := [42, 27, 182, 0, 96, 154, 0, 5, 2, 172, 42, 182, 0, 154, 42, 16, 16, 182, 0, 157, 61, 42, 27]
abbrev dktX6_leaves_0 : List UInt8 := dkwX6_leaves_0 ++ dktX6_leaves_1
theorem dksX6_leaves_0 : cX6_leaves.data.toList.drop 0 = dktX6_leaves_0 := by decide +kernel
theorem dksX6_leaves_1 : cX6_leaves.data.toList.drop 23 = dktX6_leaves_1 := dk_seg dksX6_leaves_0 23 rfl rfl
theorem dX6_leaves_0 : decode cX6_leaves 0 = .ok (.aload_n 0, 1) := dk_42 (dk_at dksX6_leaves_0 0 rfl rfl)
theorem dX6_leaves_1 : decode cX6_leaves 1 = .ok (.iload_n 1, 1) := dk_27 (dk_at dksX6_leaves_0 1 rfl rfl)
theorem dX6_leaves_2 : decode cX6_leaves 2 = .ok (.invokevirtual 96, 3) := dk_182 0 96 (dk_at dksX6_leaves_0 2 rfl rfl)
theorem dX6_leaves_5 : decode cX6_leaves 5 = .ok (.ifCond .ne 5, 3) := dk_154 0 5 (dk_at dksX6_leaves_0 5 rfl rfl)
theorem dX6_leaves_8 : decode cX6_leaves 8 = .ok (.iconst (-1), 1) := dk_2 (dk_at dksX6_leaves_0 8 rfl rfl)
theorem dX6_leaves_9 : decode cX6_leaves 9 = .ok (.ireturn, 1) := dk_172 (dk_at dksX6_leaves_0 9 rfl rfl)
theorem dX6_leaves_10 : decode cX6_leaves 10 = .ok (.aload_n 0, 1) := dk_42 (dk_at dksX6_leaves_0 10 rfl rfl)
theorem dX6_leaves_11 : decode cX6_leaves 11 = .ok (.invokevirtual 154, 3) := dk_182 0 154 (dk_at dksX6_leaves_0 11 rfl rfl)
theorem dX6_leaves_14 : decode cX6_leaves 14 = .ok (.aload_n 0, 1) := dk_42 (dk_at dksX6_leaves_0 14 rfl rfl)
theorem dX6_leaves_15 : decode cX6_leaves 15 = .ok (.bipush 16, 2) := dk_16 16 (dk_at dksX6_leaves_0 15 rfl rfl)
theorem dX6_leaves_17 : decode cX6_leaves 17 = .ok (.invokevirtual 157, 3) := dk_182 0 157 (dk_at dksX6_leaves_0 17 rfl rfl)
theorem dX6_leaves_20 : decode cX6_leaves 20 = .ok (.istore_n 2, 1) := dk_61 (dk_at dksX6_leaves_0 20 rfl rfl)
theorem dX6_leaves_21 : decode cX6_leaves 21 = .ok (.aload_n 0, 1) := dk_42 (dk_at dksX6_leaves_0 21 rfl rfl)
theorem dX6_leaves_22 : decode cX6_leaves 22 = .ok (.iload_n 1, 1) := dk_27 (dk_at dksX6_leaves_0 22 rfl rfl)
theorem dX6_leaves_23 : decode cX6_leaves 23 = .ok (.invokevirtual 99, 3) := dk_182 0 99 (dk_at dksX6_leaves_1 0 rfl rfl)
theorem dX6_leaves_26 : decode cX6_leaves 26 = .ok (.istore_n 3, 1) := dk_62 (dk_at dksX6_leaves_1 3 rfl rfl)
theorem dX6_leaves_27 : decode cX6_leaves 27 = .ok (.aload_n 0, 1) := dk_42 (dk_at dksX6_leaves_1 4 rfl rfl)
theorem dX6_leaves_28 : decode cX6_leaves 28 = .ok (.invokevirtual 160, 3) := dk_182 0 160 (dk_at dksX6_leaves_1 5 rfl rfl)
theorem dX6_leaves_31 : decode cX6_leaves 31 = .ok (.iload_n 3, 1) := dk_29 (dk_at dksX6_leaves_1 8 rfl rfl)
theorem dX6_leaves_32 : decode cX6_leaves 32 = .ok (.ireturn, 1) := dk_172 (dk_at dksX6_leaves_1 9 rfl rfl)
abbrev cX6_puts : ByteArray := prog_26_method_6_code
def yX6_puts : MethodName := ⟨RX6, "puts", "()V"⟩
def dkwX6_puts_1 : List UInt8 := [167, 255, 234, 177]
abbrev dktX6_puts_1 : List UInt8 := dkwX6_puts_1 ++ []
def dkwX6_puts_0 : List UInt8 := [3, 60, 27, 17, 1, 112, 162, 0, 21, 42, 180, 0, 16, 27, 42, 180, 0, 7, 27, 46, 79, 132, 1, 1]
abbrev dktX6_puts_0 : List UInt8 := dkwX6_puts_0 ++ dktX6_puts_1
theorem dksX6_puts_0 : cX6_puts.data.toList.drop 0 = dktX6_puts_0 := by decide +kernel
theorem dksX6_puts_1 : cX6_puts.data.toList.drop 24 = dktX6_puts_1 := dk_seg dksX6_puts_0 24 rfl rfl
theorem dX6_puts_0 : decode cX6_puts 0 = .ok (.iconst 0, 1) := dk_3 (dk_at dksX6_puts_0 0 rfl rfl)
theorem dX6_puts_1 : decode cX6_puts 1 = .ok (.istore_n 1, 1) := dk_60 (dk_at dksX6_puts_0 1 rfl rfl)
theorem dX6_puts_2 : decode cX6_puts 2 = .ok (.iload_n 1, 1) := dk_27 (dk_at dksX6_puts_0 2 rfl rfl)
theorem dX6_puts_3 : decode cX6_puts 3 = .ok (.sipush 368, 3) := dk_17 1 112 (dk_at dksX6_puts_0 3 rfl rfl)
theorem dX6_puts_6 : decode cX6_puts 6 = .ok (.if_icmp .ge 21, 3) := dk_162 0 21 (dk_at dksX6_puts_0 6 rfl rfl)
theorem dX6_puts_9 : decode cX6_puts 9 = .ok (.aload_n 0, 1) := dk_42 (dk_at dksX6_puts_0 9 rfl rfl)
theorem dX6_puts_10 : decode cX6_puts 10 = .ok (.getfield 16, 3) := dk_180 0 16 (dk_at dksX6_puts_0 10 rfl rfl)
theorem dX6_puts_13 : decode cX6_puts 13 = .ok (.iload_n 1, 1) := dk_27 (dk_at dksX6_puts_0 13 rfl rfl)
theorem dX6_puts_14 : decode cX6_puts 14 = .ok (.aload_n 0, 1) := dk_42 (dk_at dksX6_puts_0 14 rfl rfl)
theorem dX6_puts_15 : decode cX6_puts 15 = .ok (.getfield 7, 3) := dk_180 0 7 (dk_at dksX6_puts_0 15 rfl rfl)
theorem dX6_puts_18 : decode cX6_puts 18 = .ok (.iload_n 1, 1) := dk_27 (dk_at dksX6_puts_0 18 rfl rfl)
theorem dX6_puts_19 : decode cX6_puts 19 = .ok (.iaload, 1) := dk_46 (dk_at dksX6_puts_0 19 rfl rfl)
theorem dX6_puts_20 : decode cX6_puts 20 = .ok (.iastore, 1) := dk_79 (dk_at dksX6_puts_0 20 rfl rfl)
theorem dX6_puts_21 : decode cX6_puts 21 = .ok (.iinc 1 1, 3) := dk_132 1 1 (dk_at dksX6_puts_0 21 rfl rfl)
theorem dX6_puts_24 : decode cX6_puts 24 = .ok (.goto (-22), 3) := dk_167 255 234 (dk_at dksX6_puts_1 0 rfl rfl)
theorem dX6_puts_27 : decode cX6_puts 27 = .ok (.return_, 1) := dk_177 (dk_at dksX6_puts_1 3 rfl rfl)
abbrev cX6_rest : ByteArray := prog_26_method_39_code
def yX6_rest : MethodName := ⟨RX6, "rest", "(I)I"⟩
def dkwX6_rest_1 : List UInt8 := [132, 3, 1, 167, 255, 233, 28, 172]
abbrev dktX6_rest_1 : List UInt8 := dkwX6_rest_1 ++ []
def dkwX6_rest_0 : List UInt8 := [3, 61, 3, 62, 29, 27, 162, 0, 24, 42, 182, 0, 124, 154, 0, 17, 28, 42, 3, 182, 0, 146, 96, 61]
abbrev dktX6_rest_0 : List UInt8 := dkwX6_rest_0 ++ dktX6_rest_1
theorem dksX6_rest_0 : cX6_rest.data.toList.drop 0 = dktX6_rest_0 := by decide +kernel
theorem dksX6_rest_1 : cX6_rest.data.toList.drop 24 = dktX6_rest_1 := dk_seg dksX6_rest_0 24 rfl rfl
theorem dX6_rest_0 : decode cX6_rest 0 = .ok (.iconst 0, 1) := dk_3 (dk_at dksX6_rest_0 0 rfl rfl)
theorem dX6_rest_1 : decode cX6_rest 1 = .ok (.istore_n 2, 1) := dk_61 (dk_at dksX6_rest_0 1 rfl rfl)
theorem dX6_rest_2 : decode cX6_rest 2 = .ok (.iconst 0, 1) := dk_3 (dk_at dksX6_rest_0 2 rfl rfl)
theorem dX6_rest_3 : decode cX6_rest 3 = .ok (.istore_n 3, 1) := dk_62 (dk_at dksX6_rest_0 3 rfl rfl)
theorem dX6_rest_4 : decode cX6_rest 4 = .ok (.iload_n 3, 1) := dk_29 (dk_at dksX6_rest_0 4 rfl rfl)
theorem dX6_rest_5 : decode cX6_rest 5 = .ok (.iload_n 1, 1) := dk_27 (dk_at dksX6_rest_0 5 rfl rfl)
theorem dX6_rest_6 : decode cX6_rest 6 = .ok (.if_icmp .ge 24, 3) := dk_162 0 24 (dk_at dksX6_rest_0 6 rfl rfl)
theorem dX6_rest_9 : decode cX6_rest 9 = .ok (.aload_n 0, 1) := dk_42 (dk_at dksX6_rest_0 9 rfl rfl)
theorem dX6_rest_10 : decode cX6_rest 10 = .ok (.invokevirtual 124, 3) := dk_182 0 124 (dk_at dksX6_rest_0 10 rfl rfl)
theorem dX6_rest_13 : decode cX6_rest 13 = .ok (.ifCond .ne 17, 3) := dk_154 0 17 (dk_at dksX6_rest_0 13 rfl rfl)
theorem dX6_rest_16 : decode cX6_rest 16 = .ok (.iload_n 2, 1) := dk_28 (dk_at dksX6_rest_0 16 rfl rfl)
theorem dX6_rest_17 : decode cX6_rest 17 = .ok (.aload_n 0, 1) := dk_42 (dk_at dksX6_rest_0 17 rfl rfl)
theorem dX6_rest_18 : decode cX6_rest 18 = .ok (.iconst 0, 1) := dk_3 (dk_at dksX6_rest_0 18 rfl rfl)
theorem dX6_rest_19 : decode cX6_rest 19 = .ok (.invokevirtual 146, 3) := dk_182 0 146 (dk_at dksX6_rest_0 19 rfl rfl)
theorem dX6_rest_22 : decode cX6_rest 22 = .ok (.iadd, 1) := dk_96 (dk_at dksX6_rest_0 22 rfl rfl)
theorem dX6_rest_23 : decode cX6_rest 23 = .ok (.istore_n 2, 1) := dk_61 (dk_at dksX6_rest_0 23 rfl rfl)
theorem dX6_rest_24 : decode cX6_rest 24 = .ok (.iinc 3 1, 3) := dk_132 3 1 (dk_at dksX6_rest_1 0 rfl rfl)
theorem dX6_rest_27 : decode cX6_rest 27 = .ok (.goto (-23), 3) := dk_167 255 233 (dk_at dksX6_rest_1 3 rfl rfl)
theorem dX6_rest_30 : decode cX6_rest 30 = .ok (.iload_n 2, 1) := dk_28 (dk_at dksX6_rest_1 6 rfl rfl)
theorem dX6_rest_31 : decode cX6_rest 31 = .ok (.ireturn, 1) := dk_172 (dk_at dksX6_rest_1 7 rfl rfl)
abbrev cX6_putsBack : ByteArray := prog_26_method_7_code
def yX6_putsBack : MethodName := ⟨RX6, "putsBack", "()V"⟩
def dkwX6_putsBack_1 : List UInt8 := [167, 255, 234, 177]
abbrev dktX6_putsBack_1 : List UInt8 := dkwX6_putsBack_1 ++ []
def dkwX6_putsBack_0 : List UInt8 := [3, 60, 27, 17, 1, 112, 162, 0, 21, 42, 180, 0, 7, 27, 42, 180, 0, 16, 27, 46, 79, 132, 1, 1]
abbrev dktX6_putsBack_0 : List UInt8 := dkwX6_putsBack_0 ++ dktX6_putsBack_1
theorem dksX6_putsBack_0 : cX6_putsBack.data.toList.drop 0 = dktX6_putsBack_0 := by decide +kernel
theorem dksX6_putsBack_1 : cX6_putsBack.data.toList.drop 24 = dktX6_putsBack_1 := dk_seg dksX6_putsBack_0 24 rfl rfl
theorem dX6_putsBack_0 : decode cX6_putsBack 0 = .ok (.iconst 0, 1) := dk_3 (dk_at dksX6_putsBack_0 0 rfl rfl)
theorem dX6_putsBack_1 : decode cX6_putsBack 1 = .ok (.istore_n 1, 1) := dk_60 (dk_at dksX6_putsBack_0 1 rfl rfl)
theorem dX6_putsBack_2 : decode cX6_putsBack 2 = .ok (.iload_n 1, 1) := dk_27 (dk_at dksX6_putsBack_0 2 rfl rfl)
theorem dX6_putsBack_3 : decode cX6_putsBack 3 = .ok (.sipush 368, 3) := dk_17 1 112 (dk_at dksX6_putsBack_0 3 rfl rfl)
theorem dX6_putsBack_6 : decode cX6_putsBack 6 = .ok (.if_icmp .ge 21, 3) := dk_162 0 21 (dk_at dksX6_putsBack_0 6 rfl rfl)
theorem dX6_putsBack_9 : decode cX6_putsBack 9 = .ok (.aload_n 0, 1) := dk_42 (dk_at dksX6_putsBack_0 9 rfl rfl)
theorem dX6_putsBack_10 : decode cX6_putsBack 10 = .ok (.getfield 7, 3) := dk_180 0 7 (dk_at dksX6_putsBack_0 10 rfl rfl)
theorem dX6_putsBack_13 : decode cX6_putsBack 13 = .ok (.iload_n 1, 1) := dk_27 (dk_at dksX6_putsBack_0 13 rfl rfl)
theorem dX6_putsBack_14 : decode cX6_putsBack 14 = .ok (.aload_n 0, 1) := dk_42 (dk_at dksX6_putsBack_0 14 rfl rfl)
theorem dX6_putsBack_15 : decode cX6_putsBack 15 = .ok (.getfield 16, 3) := dk_180 0 16 (dk_at dksX6_putsBack_0 15 rfl rfl)
theorem dX6_putsBack_18 : decode cX6_putsBack 18 = .ok (.iload_n 1, 1) := dk_27 (dk_at dksX6_putsBack_0 18 rfl rfl)
theorem dX6_putsBack_19 : decode cX6_putsBack 19 = .ok (.iaload, 1) := dk_46 (dk_at dksX6_putsBack_0 19 rfl rfl)
theorem dX6_putsBack_20 : decode cX6_putsBack 20 = .ok (.iastore, 1) := dk_79 (dk_at dksX6_putsBack_0 20 rfl rfl)
theorem dX6_putsBack_21 : decode cX6_putsBack 21 = .ok (.iinc 1 1, 3) := dk_132 1 1 (dk_at dksX6_putsBack_0 21 rfl rfl)
theorem dX6_putsBack_24 : decode cX6_putsBack 24 = .ok (.goto (-22), 3) := dk_167 255 234 (dk_at dksX6_putsBack_1 0 rfl rfl)
theorem dX6_putsBack_27 : decode cX6_putsBack 27 = .ok (.return_, 1) := dk_177 (dk_at dksX6_putsBack_1 3 rfl rfl)
abbrev cX6_on : ByteArray := prog_26_method_41_code
def yX6_on : MethodName := ⟨RX6, "on", "(I)I"⟩
def dkwX6_on_1 : List UInt8 := [42, 182, 0, 160, 28, 172]
abbrev dktX6_on_1 : List UInt8 := dkwX6_on_1 ++ []
def dkwX6_on_0 : List UInt8 := [27, 133, 9, 20, 0, 122, 184, 0, 64, 154, 0, 5, 2, 172, 42, 182, 0, 154, 42, 27, 182, 0, 157, 61]
abbrev dktX6_on_0 : List UInt8 := dkwX6_on_0 ++ dktX6_on_1
theorem dksX6_on_0 : cX6_on.data.toList.drop 0 = dktX6_on_0 := by decide +kernel
theorem dksX6_on_1 : cX6_on.data.toList.drop 24 = dktX6_on_1 := dk_seg dksX6_on_0 24 rfl rfl
theorem dX6_on_0 : decode cX6_on 0 = .ok (.iload_n 1, 1) := dk_27 (dk_at dksX6_on_0 0 rfl rfl)
theorem dX6_on_1 : decode cX6_on 1 = .ok (.i2l, 1) := dk_133 (dk_at dksX6_on_0 1 rfl rfl)
theorem dX6_on_2 : decode cX6_on 2 = .ok (.lconst 0, 1) := dk_9 (dk_at dksX6_on_0 2 rfl rfl)
theorem dX6_on_3 : decode cX6_on 3 = .ok (.ldc2_w 122, 3) := dk_20 0 122 (dk_at dksX6_on_0 3 rfl rfl)
theorem dX6_on_6 : decode cX6_on 6 = .ok (.invokestatic 64, 3) := dk_184 0 64 (dk_at dksX6_on_0 6 rfl rfl)
theorem dX6_on_9 : decode cX6_on 9 = .ok (.ifCond .ne 5, 3) := dk_154 0 5 (dk_at dksX6_on_0 9 rfl rfl)
theorem dX6_on_12 : decode cX6_on 12 = .ok (.iconst (-1), 1) := dk_2 (dk_at dksX6_on_0 12 rfl rfl)
theorem dX6_on_13 : decode cX6_on 13 = .ok (.ireturn, 1) := dk_172 (dk_at dksX6_on_0 13 rfl rfl)
theorem dX6_on_14 : decode cX6_on 14 = .ok (.aload_n 0, 1) := dk_42 (dk_at dksX6_on_0 14 rfl rfl)
theorem dX6_on_15 : decode cX6_on 15 = .ok (.invokevirtual 154, 3) := dk_182 0 154 (dk_at dksX6_on_0 15 rfl rfl)
theorem dX6_on_18 : decode cX6_on 18 = .ok (.aload_n 0, 1) := dk_42 (dk_at dksX6_on_0 18 rfl rfl)
theorem dX6_on_19 : decode cX6_on 19 = .ok (.iload_n 1, 1) := dk_27 (dk_at dksX6_on_0 19 rfl rfl)
theorem dX6_on_20 : decode cX6_on 20 = .ok (.invokevirtual 157, 3) := dk_182 0 157 (dk_at dksX6_on_0 20 rfl rfl)
theorem dX6_on_23 : decode cX6_on 23 = .ok (.istore_n 2, 1) := dk_61 (dk_at dksX6_on_0 23 rfl rfl)
theorem dX6_on_24 : decode cX6_on 24 = .ok (.aload_n 0, 1) := dk_42 (dk_at dksX6_on_1 0 rfl rfl)
theorem dX6_on_25 : decode cX6_on 25 = .ok (.invokevirtual 160, 3) := dk_182 0 160 (dk_at dksX6_on_1 1 rfl rfl)
theorem dX6_on_28 : decode cX6_on 28 = .ok (.iload_n 2, 1) := dk_28 (dk_at dksX6_on_1 4 rfl rfl)
theorem dX6_on_29 : decode cX6_on 29 = .ok (.ireturn, 1) := dk_172 (dk_at dksX6_on_1 5 rfl rfl)
abbrev cX6_until : ByteArray := prog_26_method_43_code
def yX6_until : MethodName := ⟨RX6, "until", "(I)I"⟩
def dkwX6_until_3 : List UInt8 := [42, 182, 0, 160, 28, 172]
abbrev dktX6_until_3 : List UInt8 := dkwX6_until_3 ++ []
def dkwX6_until_2 : List UInt8 := [27, 182, 0, 163, 153, 0, 14, 42, 180, 0, 7, 6, 46, 4, 100, 167, 0, 5, 16, 253, 61, 167, 255, 217]
abbrev dktX6_until_2 : List UInt8 := dkwX6_until_2 ++ dktX6_until_3
def dkwX6_until_1 : List UInt8 := [182, 0, 154, 16, 253, 61, 28, 156, 0, 41, 42, 182, 0, 124, 154, 0, 34, 42, 3, 182, 0, 146, 62, 42]
abbrev dktX6_until_1 : List UInt8 := dkwX6_until_1 ++ dktX6_until_2
def dkwX6_until_0 : List UInt8 := [42, 27, 182, 0, 116, 154, 0, 5, 2, 172, 42, 27, 182, 0, 163, 153, 0, 6, 16, 253, 172, 42]
abbrev dktX6_until_0 : List UInt8 := dkwX6_until_0 ++ dktX6_until_1
theorem dksX6_until_0 : cX6_until.data.toList.drop 0 = dktX6_until_0 := by decide +kernel
theorem dksX6_until_1 : cX6_until.data.toList.drop 22 = dktX6_until_1 := dk_seg dksX6_until_0 22 rfl rfl
theorem dksX6_until_2 : cX6_until.data.toList.drop 46 = dktX6_until_2 := dk_seg dksX6_until_1 24 rfl rfl
theorem dksX6_until_3 : cX6_until.data.toList.drop 70 = dktX6_until_3 := dk_seg dksX6_until_2 24 rfl rfl
theorem dX6_until_0 : decode cX6_until 0 = .ok (.aload_n 0, 1) := dk_42 (dk_at dksX6_until_0 0 rfl rfl)
theorem dX6_until_1 : decode cX6_until 1 = .ok (.iload_n 1, 1) := dk_27 (dk_at dksX6_until_0 1 rfl rfl)
theorem dX6_until_2 : decode cX6_until 2 = .ok (.invokevirtual 116, 3) := dk_182 0 116 (dk_at dksX6_until_0 2 rfl rfl)
theorem dX6_until_5 : decode cX6_until 5 = .ok (.ifCond .ne 5, 3) := dk_154 0 5 (dk_at dksX6_until_0 5 rfl rfl)
theorem dX6_until_8 : decode cX6_until 8 = .ok (.iconst (-1), 1) := dk_2 (dk_at dksX6_until_0 8 rfl rfl)
theorem dX6_until_9 : decode cX6_until 9 = .ok (.ireturn, 1) := dk_172 (dk_at dksX6_until_0 9 rfl rfl)
theorem dX6_until_10 : decode cX6_until 10 = .ok (.aload_n 0, 1) := dk_42 (dk_at dksX6_until_0 10 rfl rfl)
theorem dX6_until_11 : decode cX6_until 11 = .ok (.iload_n 1, 1) := dk_27 (dk_at dksX6_until_0 11 rfl rfl)
theorem dX6_until_12 : decode cX6_until 12 = .ok (.invokevirtual 163, 3) := dk_182 0 163 (dk_at dksX6_until_0 12 rfl rfl)
theorem dX6_until_15 : decode cX6_until 15 = .ok (.ifCond .eq 6, 3) := dk_153 0 6 (dk_at dksX6_until_0 15 rfl rfl)
theorem dX6_until_18 : decode cX6_until 18 = .ok (.bipush (-3), 2) := dk_16 253 (dk_at dksX6_until_0 18 rfl rfl)
theorem dX6_until_20 : decode cX6_until 20 = .ok (.ireturn, 1) := dk_172 (dk_at dksX6_until_0 20 rfl rfl)
theorem dX6_until_21 : decode cX6_until 21 = .ok (.aload_n 0, 1) := dk_42 (dk_at dksX6_until_0 21 rfl rfl)
theorem dX6_until_22 : decode cX6_until 22 = .ok (.invokevirtual 154, 3) := dk_182 0 154 (dk_at dksX6_until_1 0 rfl rfl)
theorem dX6_until_25 : decode cX6_until 25 = .ok (.bipush (-3), 2) := dk_16 253 (dk_at dksX6_until_1 3 rfl rfl)
theorem dX6_until_27 : decode cX6_until 27 = .ok (.istore_n 2, 1) := dk_61 (dk_at dksX6_until_1 5 rfl rfl)
theorem dX6_until_28 : decode cX6_until 28 = .ok (.iload_n 2, 1) := dk_28 (dk_at dksX6_until_1 6 rfl rfl)
theorem dX6_until_29 : decode cX6_until 29 = .ok (.ifCond .ge 41, 3) := dk_156 0 41 (dk_at dksX6_until_1 7 rfl rfl)
theorem dX6_until_32 : decode cX6_until 32 = .ok (.aload_n 0, 1) := dk_42 (dk_at dksX6_until_1 10 rfl rfl)
theorem dX6_until_33 : decode cX6_until 33 = .ok (.invokevirtual 124, 3) := dk_182 0 124 (dk_at dksX6_until_1 11 rfl rfl)
theorem dX6_until_36 : decode cX6_until 36 = .ok (.ifCond .ne 34, 3) := dk_154 0 34 (dk_at dksX6_until_1 14 rfl rfl)
theorem dX6_until_39 : decode cX6_until 39 = .ok (.aload_n 0, 1) := dk_42 (dk_at dksX6_until_1 17 rfl rfl)
theorem dX6_until_40 : decode cX6_until 40 = .ok (.iconst 0, 1) := dk_3 (dk_at dksX6_until_1 18 rfl rfl)
theorem dX6_until_41 : decode cX6_until 41 = .ok (.invokevirtual 146, 3) := dk_182 0 146 (dk_at dksX6_until_1 19 rfl rfl)
theorem dX6_until_44 : decode cX6_until 44 = .ok (.istore_n 3, 1) := dk_62 (dk_at dksX6_until_1 22 rfl rfl)
theorem dX6_until_45 : decode cX6_until 45 = .ok (.aload_n 0, 1) := dk_42 (dk_at dksX6_until_1 23 rfl rfl)
theorem dX6_until_46 : decode cX6_until 46 = .ok (.iload_n 1, 1) := dk_27 (dk_at dksX6_until_2 0 rfl rfl)
theorem dX6_until_47 : decode cX6_until 47 = .ok (.invokevirtual 163, 3) := dk_182 0 163 (dk_at dksX6_until_2 1 rfl rfl)
theorem dX6_until_50 : decode cX6_until 50 = .ok (.ifCond .eq 14, 3) := dk_153 0 14 (dk_at dksX6_until_2 4 rfl rfl)
theorem dX6_until_53 : decode cX6_until 53 = .ok (.aload_n 0, 1) := dk_42 (dk_at dksX6_until_2 7 rfl rfl)
theorem dX6_until_54 : decode cX6_until 54 = .ok (.getfield 7, 3) := dk_180 0 7 (dk_at dksX6_until_2 8 rfl rfl)
theorem dX6_until_57 : decode cX6_until 57 = .ok (.iconst 3, 1) := dk_6 (dk_at dksX6_until_2 11 rfl rfl)
theorem dX6_until_58 : decode cX6_until 58 = .ok (.iaload, 1) := dk_46 (dk_at dksX6_until_2 12 rfl rfl)
theorem dX6_until_59 : decode cX6_until 59 = .ok (.iconst 1, 1) := dk_4 (dk_at dksX6_until_2 13 rfl rfl)
theorem dX6_until_60 : decode cX6_until 60 = .ok (.isub, 1) := dk_100 (dk_at dksX6_until_2 14 rfl rfl)
theorem dX6_until_61 : decode cX6_until 61 = .ok (.goto 5, 3) := dk_167 0 5 (dk_at dksX6_until_2 15 rfl rfl)
theorem dX6_until_64 : decode cX6_until 64 = .ok (.bipush (-3), 2) := dk_16 253 (dk_at dksX6_until_2 18 rfl rfl)
theorem dX6_until_66 : decode cX6_until 66 = .ok (.istore_n 2, 1) := dk_61 (dk_at dksX6_until_2 20 rfl rfl)
theorem dX6_until_67 : decode cX6_until 67 = .ok (.goto (-39), 3) := dk_167 255 217 (dk_at dksX6_until_2 21 rfl rfl)
theorem dX6_until_70 : decode cX6_until 70 = .ok (.aload_n 0, 1) := dk_42 (dk_at dksX6_until_3 0 rfl rfl)
theorem dX6_until_71 : decode cX6_until 71 = .ok (.invokevirtual 160, 3) := dk_182 0 160 (dk_at dksX6_until_3 1 rfl rfl)
theorem dX6_until_74 : decode cX6_until 74 = .ok (.iload_n 2, 1) := dk_28 (dk_at dksX6_until_3 4 rfl rfl)
theorem dX6_until_75 : decode cX6_until 75 = .ok (.ireturn, 1) := dk_172 (dk_at dksX6_until_3 5 rfl rfl)
abbrev cX6_isGone : ByteArray := prog_26_method_42_code
def yX6_isGone : MethodName := ⟨RX6, "isGone", "(I)Z"⟩
def dkwX6_isGone_1 : List UInt8 := [3, 172]
abbrev dktX6_isGone_1 : List UInt8 := dkwX6_isGone_1 ++ []
def dkwX6_isGone_0 : List UInt8 := [42, 27, 7, 182, 0, 90, 5, 159, 0, 13, 42, 27, 7, 182, 0, 90, 6, 160, 0, 7, 4, 167, 0, 4]
abbrev dktX6_isGone_0 : List UInt8 := dkwX6_isGone_0 ++ dktX6_isGone_1
theorem dksX6_isGone_0 : cX6_isGone.data.toList.drop 0 = dktX6_isGone_0 := by decide +kernel
theorem dksX6_isGone_1 : cX6_isGone.data.toList.drop 24 = dktX6_isGone_1 := dk_seg dksX6_isGone_0 24 rfl rfl
theorem dX6_isGone_0 : decode cX6_isGone 0 = .ok (.aload_n 0, 1) := dk_42 (dk_at dksX6_isGone_0 0 rfl rfl)
theorem dX6_isGone_1 : decode cX6_isGone 1 = .ok (.iload_n 1, 1) := dk_27 (dk_at dksX6_isGone_0 1 rfl rfl)
theorem dX6_isGone_2 : decode cX6_isGone 2 = .ok (.iconst 4, 1) := dk_7 (dk_at dksX6_isGone_0 2 rfl rfl)
theorem dX6_isGone_3 : decode cX6_isGone 3 = .ok (.invokevirtual 90, 3) := dk_182 0 90 (dk_at dksX6_isGone_0 3 rfl rfl)
theorem dX6_isGone_6 : decode cX6_isGone 6 = .ok (.iconst 2, 1) := dk_5 (dk_at dksX6_isGone_0 6 rfl rfl)
theorem dX6_isGone_7 : decode cX6_isGone 7 = .ok (.if_icmp .eq 13, 3) := dk_159 0 13 (dk_at dksX6_isGone_0 7 rfl rfl)
theorem dX6_isGone_10 : decode cX6_isGone 10 = .ok (.aload_n 0, 1) := dk_42 (dk_at dksX6_isGone_0 10 rfl rfl)
theorem dX6_isGone_11 : decode cX6_isGone 11 = .ok (.iload_n 1, 1) := dk_27 (dk_at dksX6_isGone_0 11 rfl rfl)
theorem dX6_isGone_12 : decode cX6_isGone 12 = .ok (.iconst 4, 1) := dk_7 (dk_at dksX6_isGone_0 12 rfl rfl)
theorem dX6_isGone_13 : decode cX6_isGone 13 = .ok (.invokevirtual 90, 3) := dk_182 0 90 (dk_at dksX6_isGone_0 13 rfl rfl)
theorem dX6_isGone_16 : decode cX6_isGone 16 = .ok (.iconst 3, 1) := dk_6 (dk_at dksX6_isGone_0 16 rfl rfl)
theorem dX6_isGone_17 : decode cX6_isGone 17 = .ok (.if_icmp .ne 7, 3) := dk_160 0 7 (dk_at dksX6_isGone_0 17 rfl rfl)
theorem dX6_isGone_20 : decode cX6_isGone 20 = .ok (.iconst 1, 1) := dk_4 (dk_at dksX6_isGone_0 20 rfl rfl)
theorem dX6_isGone_21 : decode cX6_isGone 21 = .ok (.goto 4, 3) := dk_167 0 4 (dk_at dksX6_isGone_0 21 rfl rfl)
theorem dX6_isGone_24 : decode cX6_isGone 24 = .ok (.iconst 0, 1) := dk_3 (dk_at dksX6_isGone_1 0 rfl rfl)
theorem dX6_isGone_25 : decode cX6_isGone 25 = .ok (.ireturn, 1) := dk_172 (dk_at dksX6_isGone_1 1 rfl rfl)
abbrev cX6_overdue : ByteArray := prog_26_method_45_code
def yX6_overdue : MethodName := ⟨RX6, "overdue", "()I"⟩
def dkwX6_overdue_0 : List UInt8 := [42, 182, 0, 154, 42, 16, 16, 182, 0, 157, 60, 42, 182, 0, 166, 61, 42, 182, 0, 160, 28, 172]
abbrev dktX6_overdue_0 : List UInt8 := dkwX6_overdue_0 ++ []
theorem dksX6_overdue_0 : cX6_overdue.data.toList.drop 0 = dktX6_overdue_0 := by decide +kernel
theorem dX6_overdue_0 : decode cX6_overdue 0 = .ok (.aload_n 0, 1) := dk_42 (dk_at dksX6_overdue_0 0 rfl rfl)
theorem dX6_overdue_1 : decode cX6_overdue 1 = .ok (.invokevirtual 154, 3) := dk_182 0 154 (dk_at dksX6_overdue_0 1 rfl rfl)
theorem dX6_overdue_4 : decode cX6_overdue 4 = .ok (.aload_n 0, 1) := dk_42 (dk_at dksX6_overdue_0 4 rfl rfl)
theorem dX6_overdue_5 : decode cX6_overdue 5 = .ok (.bipush 16, 2) := dk_16 16 (dk_at dksX6_overdue_0 5 rfl rfl)
theorem dX6_overdue_7 : decode cX6_overdue 7 = .ok (.invokevirtual 157, 3) := dk_182 0 157 (dk_at dksX6_overdue_0 7 rfl rfl)
theorem dX6_overdue_10 : decode cX6_overdue 10 = .ok (.istore_n 1, 1) := dk_60 (dk_at dksX6_overdue_0 10 rfl rfl)
theorem dX6_overdue_11 : decode cX6_overdue 11 = .ok (.aload_n 0, 1) := dk_42 (dk_at dksX6_overdue_0 11 rfl rfl)
theorem dX6_overdue_12 : decode cX6_overdue 12 = .ok (.invokevirtual 166, 3) := dk_182 0 166 (dk_at dksX6_overdue_0 12 rfl rfl)
theorem dX6_overdue_15 : decode cX6_overdue 15 = .ok (.istore_n 2, 1) := dk_61 (dk_at dksX6_overdue_0 15 rfl rfl)
theorem dX6_overdue_16 : decode cX6_overdue 16 = .ok (.aload_n 0, 1) := dk_42 (dk_at dksX6_overdue_0 16 rfl rfl)
theorem dX6_overdue_17 : decode cX6_overdue 17 = .ok (.invokevirtual 160, 3) := dk_182 0 160 (dk_at dksX6_overdue_0 17 rfl rfl)
theorem dX6_overdue_20 : decode cX6_overdue 20 = .ok (.iload_n 2, 1) := dk_28 (dk_at dksX6_overdue_0 20 rfl rfl)
theorem dX6_overdue_21 : decode cX6_overdue 21 = .ok (.ireturn, 1) := dk_172 (dk_at dksX6_overdue_0 21 rfl rfl)
abbrev cX6_late : ByteArray := prog_26_method_44_code
def yX6_late : MethodName := ⟨RX6, "late", "()I"⟩
def dkwX6_late_2 : List UInt8 := [182, 0, 90, 120, 167, 0, 4, 3, 128, 60, 132, 2, 1, 167, 255, 202, 27, 172]
abbrev dktX6_late_2 : List UInt8 := dkwX6_late_2 ++ []
def dkwX6_late_1 : List UInt8 := [160, 0, 30, 42, 28, 182, 0, 119, 42, 180, 0, 7, 5, 46, 4, 100, 162, 0, 14, 4, 42, 28, 3]
abbrev dktX6_late_1 : List UInt8 := dkwX6_late_1 ++ dktX6_late_2
def dkwX6_late_0 : List UInt8 := [3, 60, 3, 61, 28, 42, 180, 0, 7, 8, 46, 162, 0, 50, 27, 42, 28, 7, 182, 0, 90, 4]
abbrev dktX6_late_0 : List UInt8 := dkwX6_late_0 ++ dktX6_late_1
theorem dksX6_late_0 : cX6_late.data.toList.drop 0 = dktX6_late_0 := by decide +kernel
theorem dksX6_late_1 : cX6_late.data.toList.drop 22 = dktX6_late_1 := dk_seg dksX6_late_0 22 rfl rfl
theorem dksX6_late_2 : cX6_late.data.toList.drop 45 = dktX6_late_2 := dk_seg dksX6_late_1 23 rfl rfl
theorem dX6_late_0 : decode cX6_late 0 = .ok (.iconst 0, 1) := dk_3 (dk_at dksX6_late_0 0 rfl rfl)
theorem dX6_late_1 : decode cX6_late 1 = .ok (.istore_n 1, 1) := dk_60 (dk_at dksX6_late_0 1 rfl rfl)
theorem dX6_late_2 : decode cX6_late 2 = .ok (.iconst 0, 1) := dk_3 (dk_at dksX6_late_0 2 rfl rfl)
theorem dX6_late_3 : decode cX6_late 3 = .ok (.istore_n 2, 1) := dk_61 (dk_at dksX6_late_0 3 rfl rfl)
theorem dX6_late_4 : decode cX6_late 4 = .ok (.iload_n 2, 1) := dk_28 (dk_at dksX6_late_0 4 rfl rfl)
theorem dX6_late_5 : decode cX6_late 5 = .ok (.aload_n 0, 1) := dk_42 (dk_at dksX6_late_0 5 rfl rfl)
theorem dX6_late_6 : decode cX6_late 6 = .ok (.getfield 7, 3) := dk_180 0 7 (dk_at dksX6_late_0 6 rfl rfl)
theorem dX6_late_9 : decode cX6_late 9 = .ok (.iconst 5, 1) := dk_8 (dk_at dksX6_late_0 9 rfl rfl)
theorem dX6_late_10 : decode cX6_late 10 = .ok (.iaload, 1) := dk_46 (dk_at dksX6_late_0 10 rfl rfl)
theorem dX6_late_11 : decode cX6_late 11 = .ok (.if_icmp .ge 50, 3) := dk_162 0 50 (dk_at dksX6_late_0 11 rfl rfl)
theorem dX6_late_14 : decode cX6_late 14 = .ok (.iload_n 1, 1) := dk_27 (dk_at dksX6_late_0 14 rfl rfl)
theorem dX6_late_15 : decode cX6_late 15 = .ok (.aload_n 0, 1) := dk_42 (dk_at dksX6_late_0 15 rfl rfl)
theorem dX6_late_16 : decode cX6_late 16 = .ok (.iload_n 2, 1) := dk_28 (dk_at dksX6_late_0 16 rfl rfl)
theorem dX6_late_17 : decode cX6_late 17 = .ok (.iconst 4, 1) := dk_7 (dk_at dksX6_late_0 17 rfl rfl)
theorem dX6_late_18 : decode cX6_late 18 = .ok (.invokevirtual 90, 3) := dk_182 0 90 (dk_at dksX6_late_0 18 rfl rfl)
theorem dX6_late_21 : decode cX6_late 21 = .ok (.iconst 1, 1) := dk_4 (dk_at dksX6_late_0 21 rfl rfl)
theorem dX6_late_22 : decode cX6_late 22 = .ok (.if_icmp .ne 30, 3) := dk_160 0 30 (dk_at dksX6_late_1 0 rfl rfl)
theorem dX6_late_25 : decode cX6_late 25 = .ok (.aload_n 0, 1) := dk_42 (dk_at dksX6_late_1 3 rfl rfl)
theorem dX6_late_26 : decode cX6_late 26 = .ok (.iload_n 2, 1) := dk_28 (dk_at dksX6_late_1 4 rfl rfl)
theorem dX6_late_27 : decode cX6_late 27 = .ok (.invokevirtual 119, 3) := dk_182 0 119 (dk_at dksX6_late_1 5 rfl rfl)
theorem dX6_late_30 : decode cX6_late 30 = .ok (.aload_n 0, 1) := dk_42 (dk_at dksX6_late_1 8 rfl rfl)
theorem dX6_late_31 : decode cX6_late 31 = .ok (.getfield 7, 3) := dk_180 0 7 (dk_at dksX6_late_1 9 rfl rfl)
theorem dX6_late_34 : decode cX6_late 34 = .ok (.iconst 2, 1) := dk_5 (dk_at dksX6_late_1 12 rfl rfl)
theorem dX6_late_35 : decode cX6_late 35 = .ok (.iaload, 1) := dk_46 (dk_at dksX6_late_1 13 rfl rfl)
theorem dX6_late_36 : decode cX6_late 36 = .ok (.iconst 1, 1) := dk_4 (dk_at dksX6_late_1 14 rfl rfl)
theorem dX6_late_37 : decode cX6_late 37 = .ok (.isub, 1) := dk_100 (dk_at dksX6_late_1 15 rfl rfl)
theorem dX6_late_38 : decode cX6_late 38 = .ok (.if_icmp .ge 14, 3) := dk_162 0 14 (dk_at dksX6_late_1 16 rfl rfl)
theorem dX6_late_41 : decode cX6_late 41 = .ok (.iconst 1, 1) := dk_4 (dk_at dksX6_late_1 19 rfl rfl)
theorem dX6_late_42 : decode cX6_late 42 = .ok (.aload_n 0, 1) := dk_42 (dk_at dksX6_late_1 20 rfl rfl)
theorem dX6_late_43 : decode cX6_late 43 = .ok (.iload_n 2, 1) := dk_28 (dk_at dksX6_late_1 21 rfl rfl)
theorem dX6_late_44 : decode cX6_late 44 = .ok (.iconst 0, 1) := dk_3 (dk_at dksX6_late_1 22 rfl rfl)
theorem dX6_late_45 : decode cX6_late 45 = .ok (.invokevirtual 90, 3) := dk_182 0 90 (dk_at dksX6_late_2 0 rfl rfl)
theorem dX6_late_48 : decode cX6_late 48 = .ok (.ishl, 1) := dk_120 (dk_at dksX6_late_2 3 rfl rfl)
theorem dX6_late_49 : decode cX6_late 49 = .ok (.goto 4, 3) := dk_167 0 4 (dk_at dksX6_late_2 4 rfl rfl)
theorem dX6_late_52 : decode cX6_late 52 = .ok (.iconst 0, 1) := dk_3 (dk_at dksX6_late_2 7 rfl rfl)
theorem dX6_late_53 : decode cX6_late 53 = .ok (.ior, 1) := dk_128 (dk_at dksX6_late_2 8 rfl rfl)
theorem dX6_late_54 : decode cX6_late 54 = .ok (.istore_n 1, 1) := dk_60 (dk_at dksX6_late_2 9 rfl rfl)
theorem dX6_late_55 : decode cX6_late 55 = .ok (.iinc 2 1, 3) := dk_132 2 1 (dk_at dksX6_late_2 10 rfl rfl)
theorem dX6_late_58 : decode cX6_late 58 = .ok (.goto (-54), 3) := dk_167 255 202 (dk_at dksX6_late_2 13 rfl rfl)
theorem dX6_late_61 : decode cX6_late 61 = .ok (.iload_n 1, 1) := dk_27 (dk_at dksX6_late_2 16 rfl rfl)
theorem dX6_late_62 : decode cX6_late 62 = .ok (.ireturn, 1) := dk_172 (dk_at dksX6_late_2 17 rfl rfl)
abbrev cX6_falls : ByteArray := prog_26_method_46_code
def yX6_falls : MethodName := ⟨RX6, "falls", "(I)I"⟩
def dkwX6_falls_2 : List UInt8 := [42, 182, 0, 160, 29, 172]
abbrev dktX6_falls_2 : List UInt8 := dkwX6_falls_2 ++ []
def dkwX6_falls_1 : List UInt8 := [182, 0, 154, 42, 6, 182, 0, 151, 61, 42, 27, 182, 0, 142, 42, 6, 182, 0, 151, 28, 2, 130, 126, 62]
abbrev dktX6_falls_1 : List UInt8 := dkwX6_falls_1 ++ dktX6_falls_2
def dkwX6_falls_0 : List UInt8 := [42, 27, 182, 0, 116, 154, 0, 5, 2, 172, 42, 27, 7, 182, 0, 90, 4, 159, 0, 6, 16, 252, 172, 42]
abbrev dktX6_falls_0 : List UInt8 := dkwX6_falls_0 ++ dktX6_falls_1
theorem dksX6_falls_0 : cX6_falls.data.toList.drop 0 = dktX6_falls_0 := by decide +kernel
theorem dksX6_falls_1 : cX6_falls.data.toList.drop 24 = dktX6_falls_1 := dk_seg dksX6_falls_0 24 rfl rfl
theorem dksX6_falls_2 : cX6_falls.data.toList.drop 48 = dktX6_falls_2 := dk_seg dksX6_falls_1 24 rfl rfl
theorem dX6_falls_0 : decode cX6_falls 0 = .ok (.aload_n 0, 1) := dk_42 (dk_at dksX6_falls_0 0 rfl rfl)
theorem dX6_falls_1 : decode cX6_falls 1 = .ok (.iload_n 1, 1) := dk_27 (dk_at dksX6_falls_0 1 rfl rfl)
theorem dX6_falls_2 : decode cX6_falls 2 = .ok (.invokevirtual 116, 3) := dk_182 0 116 (dk_at dksX6_falls_0 2 rfl rfl)
theorem dX6_falls_5 : decode cX6_falls 5 = .ok (.ifCond .ne 5, 3) := dk_154 0 5 (dk_at dksX6_falls_0 5 rfl rfl)
theorem dX6_falls_8 : decode cX6_falls 8 = .ok (.iconst (-1), 1) := dk_2 (dk_at dksX6_falls_0 8 rfl rfl)
theorem dX6_falls_9 : decode cX6_falls 9 = .ok (.ireturn, 1) := dk_172 (dk_at dksX6_falls_0 9 rfl rfl)
theorem dX6_falls_10 : decode cX6_falls 10 = .ok (.aload_n 0, 1) := dk_42 (dk_at dksX6_falls_0 10 rfl rfl)
theorem dX6_falls_11 : decode cX6_falls 11 = .ok (.iload_n 1, 1) := dk_27 (dk_at dksX6_falls_0 11 rfl rfl)
theorem dX6_falls_12 : decode cX6_falls 12 = .ok (.iconst 4, 1) := dk_7 (dk_at dksX6_falls_0 12 rfl rfl)
theorem dX6_falls_13 : decode cX6_falls 13 = .ok (.invokevirtual 90, 3) := dk_182 0 90 (dk_at dksX6_falls_0 13 rfl rfl)
theorem dX6_falls_16 : decode cX6_falls 16 = .ok (.iconst 1, 1) := dk_4 (dk_at dksX6_falls_0 16 rfl rfl)
theorem dX6_falls_17 : decode cX6_falls 17 = .ok (.if_icmp .eq 6, 3) := dk_159 0 6 (dk_at dksX6_falls_0 17 rfl rfl)
theorem dX6_falls_20 : decode cX6_falls 20 = .ok (.bipush (-4), 2) := dk_16 252 (dk_at dksX6_falls_0 20 rfl rfl)
theorem dX6_falls_22 : decode cX6_falls 22 = .ok (.ireturn, 1) := dk_172 (dk_at dksX6_falls_0 22 rfl rfl)
theorem dX6_falls_23 : decode cX6_falls 23 = .ok (.aload_n 0, 1) := dk_42 (dk_at dksX6_falls_0 23 rfl rfl)
theorem dX6_falls_24 : decode cX6_falls 24 = .ok (.invokevirtual 154, 3) := dk_182 0 154 (dk_at dksX6_falls_1 0 rfl rfl)
theorem dX6_falls_27 : decode cX6_falls 27 = .ok (.aload_n 0, 1) := dk_42 (dk_at dksX6_falls_1 3 rfl rfl)
theorem dX6_falls_28 : decode cX6_falls 28 = .ok (.iconst 3, 1) := dk_6 (dk_at dksX6_falls_1 4 rfl rfl)
theorem dX6_falls_29 : decode cX6_falls 29 = .ok (.invokevirtual 151, 3) := dk_182 0 151 (dk_at dksX6_falls_1 5 rfl rfl)
theorem dX6_falls_32 : decode cX6_falls 32 = .ok (.istore_n 2, 1) := dk_61 (dk_at dksX6_falls_1 8 rfl rfl)
theorem dX6_falls_33 : decode cX6_falls 33 = .ok (.aload_n 0, 1) := dk_42 (dk_at dksX6_falls_1 9 rfl rfl)
theorem dX6_falls_34 : decode cX6_falls 34 = .ok (.iload_n 1, 1) := dk_27 (dk_at dksX6_falls_1 10 rfl rfl)
theorem dX6_falls_35 : decode cX6_falls 35 = .ok (.invokevirtual 142, 3) := dk_182 0 142 (dk_at dksX6_falls_1 11 rfl rfl)
theorem dX6_falls_38 : decode cX6_falls 38 = .ok (.aload_n 0, 1) := dk_42 (dk_at dksX6_falls_1 14 rfl rfl)
theorem dX6_falls_39 : decode cX6_falls 39 = .ok (.iconst 3, 1) := dk_6 (dk_at dksX6_falls_1 15 rfl rfl)
theorem dX6_falls_40 : decode cX6_falls 40 = .ok (.invokevirtual 151, 3) := dk_182 0 151 (dk_at dksX6_falls_1 16 rfl rfl)
theorem dX6_falls_43 : decode cX6_falls 43 = .ok (.iload_n 2, 1) := dk_28 (dk_at dksX6_falls_1 19 rfl rfl)
theorem dX6_falls_44 : decode cX6_falls 44 = .ok (.iconst (-1), 1) := dk_2 (dk_at dksX6_falls_1 20 rfl rfl)
theorem dX6_falls_45 : decode cX6_falls 45 = .ok (.ixor, 1) := dk_130 (dk_at dksX6_falls_1 21 rfl rfl)
theorem dX6_falls_46 : decode cX6_falls 46 = .ok (.iand, 1) := dk_126 (dk_at dksX6_falls_1 22 rfl rfl)
theorem dX6_falls_47 : decode cX6_falls 47 = .ok (.istore_n 3, 1) := dk_62 (dk_at dksX6_falls_1 23 rfl rfl)
theorem dX6_falls_48 : decode cX6_falls 48 = .ok (.aload_n 0, 1) := dk_42 (dk_at dksX6_falls_2 0 rfl rfl)
theorem dX6_falls_49 : decode cX6_falls 49 = .ok (.invokevirtual 160, 3) := dk_182 0 160 (dk_at dksX6_falls_2 1 rfl rfl)
theorem dX6_falls_52 : decode cX6_falls 52 = .ok (.iload_n 3, 1) := dk_29 (dk_at dksX6_falls_2 4 rfl rfl)
theorem dX6_falls_53 : decode cX6_falls 53 = .ok (.ireturn, 1) := dk_172 (dk_at dksX6_falls_2 5 rfl rfl)
abbrev cX6_graceFor : ByteArray := prog_26_method_47_code
def yX6_graceFor : MethodName := ⟨RX6, "graceFor", "(I)I"⟩
def dkwX6_graceFor_3 : List UInt8 := [29, 62, 42, 182, 0, 160, 132, 4, 1, 167, 255, 192, 28, 172]
abbrev dktX6_graceFor_3 : List UInt8 := dkwX6_graceFor_3 ++ []
def dkwX6_graceFor_2 : List UInt8 := [21, 5, 29, 164, 0, 8, 21, 4, 167, 0, 4, 28, 61, 21, 5, 29, 164, 0, 8, 21, 5, 167, 0, 4]
abbrev dktX6_graceFor_2 : List UInt8 := dkwX6_graceFor_2 ++ dktX6_graceFor_3
def dkwX6_graceFor_1 : List UInt8 := [42, 182, 0, 154, 42, 180, 0, 7, 27, 4, 184, 0, 68, 21, 4, 79, 42, 16, 16, 182, 0, 157, 54, 5]
abbrev dktX6_graceFor_1 : List UInt8 := dkwX6_graceFor_1 ++ dktX6_graceFor_2
def dkwX6_graceFor_0 : List UInt8 := [42, 27, 182, 0, 96, 154, 0, 5, 2, 172, 3, 61, 2, 62, 4, 54, 4, 21, 4, 16, 10, 162, 0, 63]
abbrev dktX6_graceFor_0 : List UInt8 := dkwX6_graceFor_0 ++ dktX6_graceFor_1
theorem dksX6_graceFor_0 : cX6_graceFor.data.toList.drop 0 = dktX6_graceFor_0 := by decide +kernel
theorem dksX6_graceFor_1 : cX6_graceFor.data.toList.drop 24 = dktX6_graceFor_1 := dk_seg dksX6_graceFor_0 24 rfl rfl
theorem dksX6_graceFor_2 : cX6_graceFor.data.toList.drop 48 = dktX6_graceFor_2 := dk_seg dksX6_graceFor_1 24 rfl rfl
theorem dksX6_graceFor_3 : cX6_graceFor.data.toList.drop 72 = dktX6_graceFor_3 := dk_seg dksX6_graceFor_2 24 rfl rfl
theorem dX6_graceFor_0 : decode cX6_graceFor 0 = .ok (.aload_n 0, 1) := dk_42 (dk_at dksX6_graceFor_0 0 rfl rfl)
theorem dX6_graceFor_1 : decode cX6_graceFor 1 = .ok (.iload_n 1, 1) := dk_27 (dk_at dksX6_graceFor_0 1 rfl rfl)
theorem dX6_graceFor_2 : decode cX6_graceFor 2 = .ok (.invokevirtual 96, 3) := dk_182 0 96 (dk_at dksX6_graceFor_0 2 rfl rfl)
theorem dX6_graceFor_5 : decode cX6_graceFor 5 = .ok (.ifCond .ne 5, 3) := dk_154 0 5 (dk_at dksX6_graceFor_0 5 rfl rfl)
theorem dX6_graceFor_8 : decode cX6_graceFor 8 = .ok (.iconst (-1), 1) := dk_2 (dk_at dksX6_graceFor_0 8 rfl rfl)
theorem dX6_graceFor_9 : decode cX6_graceFor 9 = .ok (.ireturn, 1) := dk_172 (dk_at dksX6_graceFor_0 9 rfl rfl)
theorem dX6_graceFor_10 : decode cX6_graceFor 10 = .ok (.iconst 0, 1) := dk_3 (dk_at dksX6_graceFor_0 10 rfl rfl)
theorem dX6_graceFor_11 : decode cX6_graceFor 11 = .ok (.istore_n 2, 1) := dk_61 (dk_at dksX6_graceFor_0 11 rfl rfl)
theorem dX6_graceFor_12 : decode cX6_graceFor 12 = .ok (.iconst (-1), 1) := dk_2 (dk_at dksX6_graceFor_0 12 rfl rfl)
theorem dX6_graceFor_13 : decode cX6_graceFor 13 = .ok (.istore_n 3, 1) := dk_62 (dk_at dksX6_graceFor_0 13 rfl rfl)
theorem dX6_graceFor_14 : decode cX6_graceFor 14 = .ok (.iconst 1, 1) := dk_4 (dk_at dksX6_graceFor_0 14 rfl rfl)
theorem dX6_graceFor_15 : decode cX6_graceFor 15 = .ok (.istore 4, 2) := dk_54 4 (dk_at dksX6_graceFor_0 15 rfl rfl)
theorem dX6_graceFor_17 : decode cX6_graceFor 17 = .ok (.iload 4, 2) := dk_21 4 (dk_at dksX6_graceFor_0 17 rfl rfl)
theorem dX6_graceFor_19 : decode cX6_graceFor 19 = .ok (.bipush 10, 2) := dk_16 10 (dk_at dksX6_graceFor_0 19 rfl rfl)
theorem dX6_graceFor_21 : decode cX6_graceFor 21 = .ok (.if_icmp .ge 63, 3) := dk_162 0 63 (dk_at dksX6_graceFor_0 21 rfl rfl)
theorem dX6_graceFor_24 : decode cX6_graceFor 24 = .ok (.aload_n 0, 1) := dk_42 (dk_at dksX6_graceFor_1 0 rfl rfl)
theorem dX6_graceFor_25 : decode cX6_graceFor 25 = .ok (.invokevirtual 154, 3) := dk_182 0 154 (dk_at dksX6_graceFor_1 1 rfl rfl)
theorem dX6_graceFor_28 : decode cX6_graceFor 28 = .ok (.aload_n 0, 1) := dk_42 (dk_at dksX6_graceFor_1 4 rfl rfl)
theorem dX6_graceFor_29 : decode cX6_graceFor 29 = .ok (.getfield 7, 3) := dk_180 0 7 (dk_at dksX6_graceFor_1 5 rfl rfl)
theorem dX6_graceFor_32 : decode cX6_graceFor 32 = .ok (.iload_n 1, 1) := dk_27 (dk_at dksX6_graceFor_1 8 rfl rfl)
theorem dX6_graceFor_33 : decode cX6_graceFor 33 = .ok (.iconst 1, 1) := dk_4 (dk_at dksX6_graceFor_1 9 rfl rfl)
theorem dX6_graceFor_34 : decode cX6_graceFor 34 = .ok (.invokestatic 68, 3) := dk_184 0 68 (dk_at dksX6_graceFor_1 10 rfl rfl)
theorem dX6_graceFor_37 : decode cX6_graceFor 37 = .ok (.iload 4, 2) := dk_21 4 (dk_at dksX6_graceFor_1 13 rfl rfl)
theorem dX6_graceFor_39 : decode cX6_graceFor 39 = .ok (.iastore, 1) := dk_79 (dk_at dksX6_graceFor_1 15 rfl rfl)
theorem dX6_graceFor_40 : decode cX6_graceFor 40 = .ok (.aload_n 0, 1) := dk_42 (dk_at dksX6_graceFor_1 16 rfl rfl)
theorem dX6_graceFor_41 : decode cX6_graceFor 41 = .ok (.bipush 16, 2) := dk_16 16 (dk_at dksX6_graceFor_1 17 rfl rfl)
theorem dX6_graceFor_43 : decode cX6_graceFor 43 = .ok (.invokevirtual 157, 3) := dk_182 0 157 (dk_at dksX6_graceFor_1 19 rfl rfl)
theorem dX6_graceFor_46 : decode cX6_graceFor 46 = .ok (.istore 5, 2) := dk_54 5 (dk_at dksX6_graceFor_1 22 rfl rfl)
theorem dX6_graceFor_48 : decode cX6_graceFor 48 = .ok (.iload 5, 2) := dk_21 5 (dk_at dksX6_graceFor_2 0 rfl rfl)
theorem dX6_graceFor_50 : decode cX6_graceFor 50 = .ok (.iload_n 3, 1) := dk_29 (dk_at dksX6_graceFor_2 2 rfl rfl)
theorem dX6_graceFor_51 : decode cX6_graceFor 51 = .ok (.if_icmp .le 8, 3) := dk_164 0 8 (dk_at dksX6_graceFor_2 3 rfl rfl)
theorem dX6_graceFor_54 : decode cX6_graceFor 54 = .ok (.iload 4, 2) := dk_21 4 (dk_at dksX6_graceFor_2 6 rfl rfl)
theorem dX6_graceFor_56 : decode cX6_graceFor 56 = .ok (.goto 4, 3) := dk_167 0 4 (dk_at dksX6_graceFor_2 8 rfl rfl)
theorem dX6_graceFor_59 : decode cX6_graceFor 59 = .ok (.iload_n 2, 1) := dk_28 (dk_at dksX6_graceFor_2 11 rfl rfl)
theorem dX6_graceFor_60 : decode cX6_graceFor 60 = .ok (.istore_n 2, 1) := dk_61 (dk_at dksX6_graceFor_2 12 rfl rfl)
theorem dX6_graceFor_61 : decode cX6_graceFor 61 = .ok (.iload 5, 2) := dk_21 5 (dk_at dksX6_graceFor_2 13 rfl rfl)
theorem dX6_graceFor_63 : decode cX6_graceFor 63 = .ok (.iload_n 3, 1) := dk_29 (dk_at dksX6_graceFor_2 15 rfl rfl)
theorem dX6_graceFor_64 : decode cX6_graceFor 64 = .ok (.if_icmp .le 8, 3) := dk_164 0 8 (dk_at dksX6_graceFor_2 16 rfl rfl)
theorem dX6_graceFor_67 : decode cX6_graceFor 67 = .ok (.iload 5, 2) := dk_21 5 (dk_at dksX6_graceFor_2 19 rfl rfl)
theorem dX6_graceFor_69 : decode cX6_graceFor 69 = .ok (.goto 4, 3) := dk_167 0 4 (dk_at dksX6_graceFor_2 21 rfl rfl)
theorem dX6_graceFor_72 : decode cX6_graceFor 72 = .ok (.iload_n 3, 1) := dk_29 (dk_at dksX6_graceFor_3 0 rfl rfl)
theorem dX6_graceFor_73 : decode cX6_graceFor 73 = .ok (.istore_n 3, 1) := dk_62 (dk_at dksX6_graceFor_3 1 rfl rfl)
theorem dX6_graceFor_74 : decode cX6_graceFor 74 = .ok (.aload_n 0, 1) := dk_42 (dk_at dksX6_graceFor_3 2 rfl rfl)
theorem dX6_graceFor_75 : decode cX6_graceFor 75 = .ok (.invokevirtual 160, 3) := dk_182 0 160 (dk_at dksX6_graceFor_3 3 rfl rfl)
theorem dX6_graceFor_78 : decode cX6_graceFor 78 = .ok (.iinc 4 1, 3) := dk_132 4 1 (dk_at dksX6_graceFor_3 6 rfl rfl)
theorem dX6_graceFor_81 : decode cX6_graceFor 81 = .ok (.goto (-64), 3) := dk_167 255 192 (dk_at dksX6_graceFor_3 9 rfl rfl)
theorem dX6_graceFor_84 : decode cX6_graceFor 84 = .ok (.iload_n 2, 1) := dk_28 (dk_at dksX6_graceFor_3 12 rfl rfl)
theorem dX6_graceFor_85 : decode cX6_graceFor 85 = .ok (.ireturn, 1) := dk_172 (dk_at dksX6_graceFor_3 13 rfl rfl)
abbrev cX6_strengthFor : ByteArray := prog_26_method_48_code
def yX6_strengthFor : MethodName := ⟨RX6, "strengthFor", "(I)I"⟩
def dkwX6_strengthFor_3 : List UInt8 := [132, 2, 1, 167, 255, 196, 16, 253, 172]
abbrev dktX6_strengthFor_3 : List UInt8 := dkwX6_strengthFor_3 ++ []
def dkwX6_strengthFor_2 : List UInt8 := [126, 154, 0, 7, 4, 167, 0, 4, 3, 54, 4, 42, 182, 0, 160, 21, 4, 153, 0, 5, 28, 172]
abbrev dktX6_strengthFor_2 : List UInt8 := dkwX6_strengthFor_2 ++ dktX6_strengthFor_3
def dkwX6_strengthFor_1 : List UInt8 := [180, 0, 7, 27, 5, 184, 0, 68, 28, 79, 42, 16, 16, 182, 0, 157, 62, 42, 182, 0, 166, 27, 122, 4]
abbrev dktX6_strengthFor_1 : List UInt8 := dkwX6_strengthFor_1 ++ dktX6_strengthFor_2
def dkwX6_strengthFor_0 : List UInt8 := [42, 27, 182, 0, 96, 154, 0, 5, 2, 172, 4, 61, 28, 16, 10, 162, 0, 60, 42, 182, 0, 154, 42]
abbrev dktX6_strengthFor_0 : List UInt8 := dkwX6_strengthFor_0 ++ dktX6_strengthFor_1
theorem dksX6_strengthFor_0 : cX6_strengthFor.data.toList.drop 0 = dktX6_strengthFor_0 := by decide +kernel
theorem dksX6_strengthFor_1 : cX6_strengthFor.data.toList.drop 23 = dktX6_strengthFor_1 := dk_seg dksX6_strengthFor_0 23 rfl rfl
theorem dksX6_strengthFor_2 : cX6_strengthFor.data.toList.drop 47 = dktX6_strengthFor_2 := dk_seg dksX6_strengthFor_1 24 rfl rfl
theorem dksX6_strengthFor_3 : cX6_strengthFor.data.toList.drop 69 = dktX6_strengthFor_3 := dk_seg dksX6_strengthFor_2 22 rfl rfl
theorem dX6_strengthFor_0 : decode cX6_strengthFor 0 = .ok (.aload_n 0, 1) := dk_42 (dk_at dksX6_strengthFor_0 0 rfl rfl)
theorem dX6_strengthFor_1 : decode cX6_strengthFor 1 = .ok (.iload_n 1, 1) := dk_27 (dk_at dksX6_strengthFor_0 1 rfl rfl)
theorem dX6_strengthFor_2 : decode cX6_strengthFor 2 = .ok (.invokevirtual 96, 3) := dk_182 0 96 (dk_at dksX6_strengthFor_0 2 rfl rfl)
theorem dX6_strengthFor_5 : decode cX6_strengthFor 5 = .ok (.ifCond .ne 5, 3) := dk_154 0 5 (dk_at dksX6_strengthFor_0 5 rfl rfl)
theorem dX6_strengthFor_8 : decode cX6_strengthFor 8 = .ok (.iconst (-1), 1) := dk_2 (dk_at dksX6_strengthFor_0 8 rfl rfl)
theorem dX6_strengthFor_9 : decode cX6_strengthFor 9 = .ok (.ireturn, 1) := dk_172 (dk_at dksX6_strengthFor_0 9 rfl rfl)
theorem dX6_strengthFor_10 : decode cX6_strengthFor 10 = .ok (.iconst 1, 1) := dk_4 (dk_at dksX6_strengthFor_0 10 rfl rfl)
theorem dX6_strengthFor_11 : decode cX6_strengthFor 11 = .ok (.istore_n 2, 1) := dk_61 (dk_at dksX6_strengthFor_0 11 rfl rfl)
theorem dX6_strengthFor_12 : decode cX6_strengthFor 12 = .ok (.iload_n 2, 1) := dk_28 (dk_at dksX6_strengthFor_0 12 rfl rfl)
theorem dX6_strengthFor_13 : decode cX6_strengthFor 13 = .ok (.bipush 10, 2) := dk_16 10 (dk_at dksX6_strengthFor_0 13 rfl rfl)
theorem dX6_strengthFor_15 : decode cX6_strengthFor 15 = .ok (.if_icmp .ge 60, 3) := dk_162 0 60 (dk_at dksX6_strengthFor_0 15 rfl rfl)
theorem dX6_strengthFor_18 : decode cX6_strengthFor 18 = .ok (.aload_n 0, 1) := dk_42 (dk_at dksX6_strengthFor_0 18 rfl rfl)
theorem dX6_strengthFor_19 : decode cX6_strengthFor 19 = .ok (.invokevirtual 154, 3) := dk_182 0 154 (dk_at dksX6_strengthFor_0 19 rfl rfl)
theorem dX6_strengthFor_22 : decode cX6_strengthFor 22 = .ok (.aload_n 0, 1) := dk_42 (dk_at dksX6_strengthFor_0 22 rfl rfl)
theorem dX6_strengthFor_23 : decode cX6_strengthFor 23 = .ok (.getfield 7, 3) := dk_180 0 7 (dk_at dksX6_strengthFor_1 0 rfl rfl)
theorem dX6_strengthFor_26 : decode cX6_strengthFor 26 = .ok (.iload_n 1, 1) := dk_27 (dk_at dksX6_strengthFor_1 3 rfl rfl)
theorem dX6_strengthFor_27 : decode cX6_strengthFor 27 = .ok (.iconst 2, 1) := dk_5 (dk_at dksX6_strengthFor_1 4 rfl rfl)
theorem dX6_strengthFor_28 : decode cX6_strengthFor 28 = .ok (.invokestatic 68, 3) := dk_184 0 68 (dk_at dksX6_strengthFor_1 5 rfl rfl)
theorem dX6_strengthFor_31 : decode cX6_strengthFor 31 = .ok (.iload_n 2, 1) := dk_28 (dk_at dksX6_strengthFor_1 8 rfl rfl)
theorem dX6_strengthFor_32 : decode cX6_strengthFor 32 = .ok (.iastore, 1) := dk_79 (dk_at dksX6_strengthFor_1 9 rfl rfl)
theorem dX6_strengthFor_33 : decode cX6_strengthFor 33 = .ok (.aload_n 0, 1) := dk_42 (dk_at dksX6_strengthFor_1 10 rfl rfl)
theorem dX6_strengthFor_34 : decode cX6_strengthFor 34 = .ok (.bipush 16, 2) := dk_16 16 (dk_at dksX6_strengthFor_1 11 rfl rfl)
theorem dX6_strengthFor_36 : decode cX6_strengthFor 36 = .ok (.invokevirtual 157, 3) := dk_182 0 157 (dk_at dksX6_strengthFor_1 13 rfl rfl)
theorem dX6_strengthFor_39 : decode cX6_strengthFor 39 = .ok (.istore_n 3, 1) := dk_62 (dk_at dksX6_strengthFor_1 16 rfl rfl)
theorem dX6_strengthFor_40 : decode cX6_strengthFor 40 = .ok (.aload_n 0, 1) := dk_42 (dk_at dksX6_strengthFor_1 17 rfl rfl)
theorem dX6_strengthFor_41 : decode cX6_strengthFor 41 = .ok (.invokevirtual 166, 3) := dk_182 0 166 (dk_at dksX6_strengthFor_1 18 rfl rfl)
theorem dX6_strengthFor_44 : decode cX6_strengthFor 44 = .ok (.iload_n 1, 1) := dk_27 (dk_at dksX6_strengthFor_1 21 rfl rfl)
theorem dX6_strengthFor_45 : decode cX6_strengthFor 45 = .ok (.ishr, 1) := dk_122 (dk_at dksX6_strengthFor_1 22 rfl rfl)
theorem dX6_strengthFor_46 : decode cX6_strengthFor 46 = .ok (.iconst 1, 1) := dk_4 (dk_at dksX6_strengthFor_1 23 rfl rfl)
theorem dX6_strengthFor_47 : decode cX6_strengthFor 47 = .ok (.iand, 1) := dk_126 (dk_at dksX6_strengthFor_2 0 rfl rfl)
theorem dX6_strengthFor_48 : decode cX6_strengthFor 48 = .ok (.ifCond .ne 7, 3) := dk_154 0 7 (dk_at dksX6_strengthFor_2 1 rfl rfl)
theorem dX6_strengthFor_51 : decode cX6_strengthFor 51 = .ok (.iconst 1, 1) := dk_4 (dk_at dksX6_strengthFor_2 4 rfl rfl)
theorem dX6_strengthFor_52 : decode cX6_strengthFor 52 = .ok (.goto 4, 3) := dk_167 0 4 (dk_at dksX6_strengthFor_2 5 rfl rfl)
theorem dX6_strengthFor_55 : decode cX6_strengthFor 55 = .ok (.iconst 0, 1) := dk_3 (dk_at dksX6_strengthFor_2 8 rfl rfl)
theorem dX6_strengthFor_56 : decode cX6_strengthFor 56 = .ok (.istore 4, 2) := dk_54 4 (dk_at dksX6_strengthFor_2 9 rfl rfl)
theorem dX6_strengthFor_58 : decode cX6_strengthFor 58 = .ok (.aload_n 0, 1) := dk_42 (dk_at dksX6_strengthFor_2 11 rfl rfl)
theorem dX6_strengthFor_59 : decode cX6_strengthFor 59 = .ok (.invokevirtual 160, 3) := dk_182 0 160 (dk_at dksX6_strengthFor_2 12 rfl rfl)
theorem dX6_strengthFor_62 : decode cX6_strengthFor 62 = .ok (.iload 4, 2) := dk_21 4 (dk_at dksX6_strengthFor_2 15 rfl rfl)
theorem dX6_strengthFor_64 : decode cX6_strengthFor 64 = .ok (.ifCond .eq 5, 3) := dk_153 0 5 (dk_at dksX6_strengthFor_2 17 rfl rfl)
theorem dX6_strengthFor_67 : decode cX6_strengthFor 67 = .ok (.iload_n 2, 1) := dk_28 (dk_at dksX6_strengthFor_2 20 rfl rfl)
theorem dX6_strengthFor_68 : decode cX6_strengthFor 68 = .ok (.ireturn, 1) := dk_172 (dk_at dksX6_strengthFor_2 21 rfl rfl)
theorem dX6_strengthFor_69 : decode cX6_strengthFor 69 = .ok (.iinc 2 1, 3) := dk_132 2 1 (dk_at dksX6_strengthFor_3 0 rfl rfl)
theorem dX6_strengthFor_72 : decode cX6_strengthFor 72 = .ok (.goto (-60), 3) := dk_167 255 196 (dk_at dksX6_strengthFor_3 3 rfl rfl)
theorem dX6_strengthFor_75 : decode cX6_strengthFor 75 = .ok (.bipush (-3), 2) := dk_16 253 (dk_at dksX6_strengthFor_3 6 rfl rfl)
theorem dX6_strengthFor_77 : decode cX6_strengthFor 77 = .ok (.ireturn, 1) := dk_172 (dk_at dksX6_strengthFor_3 8 rfl rfl)
abbrev cX6_owe : ByteArray := prog_26_method_50_code
def yX6_owe : MethodName := ⟨RX6, "owe", "(III)I"⟩
def dkwX6_owe_1 : List UInt8 := [16, 6, 27, 104, 96, 28, 96, 29, 182, 0, 111, 167, 0, 4, 2, 172]
abbrev dktX6_owe_1 : List UInt8 := dkwX6_owe_1 ++ []
def dkwX6_owe_0 : List UInt8 := [42, 27, 28, 182, 0, 170, 153, 0, 32, 29, 133, 9, 20, 0, 173, 184, 0, 64, 153, 0, 20, 42, 16, 76]
abbrev dktX6_owe_0 : List UInt8 := dkwX6_owe_0 ++ dktX6_owe_1
theorem dksX6_owe_0 : cX6_owe.data.toList.drop 0 = dktX6_owe_0 := by decide +kernel
theorem dksX6_owe_1 : cX6_owe.data.toList.drop 24 = dktX6_owe_1 := dk_seg dksX6_owe_0 24 rfl rfl
theorem dX6_owe_0 : decode cX6_owe 0 = .ok (.aload_n 0, 1) := dk_42 (dk_at dksX6_owe_0 0 rfl rfl)
theorem dX6_owe_1 : decode cX6_owe 1 = .ok (.iload_n 1, 1) := dk_27 (dk_at dksX6_owe_0 1 rfl rfl)
theorem dX6_owe_2 : decode cX6_owe 2 = .ok (.iload_n 2, 1) := dk_28 (dk_at dksX6_owe_0 2 rfl rfl)
theorem dX6_owe_3 : decode cX6_owe 3 = .ok (.invokevirtual 170, 3) := dk_182 0 170 (dk_at dksX6_owe_0 3 rfl rfl)
theorem dX6_owe_6 : decode cX6_owe 6 = .ok (.ifCond .eq 32, 3) := dk_153 0 32 (dk_at dksX6_owe_0 6 rfl rfl)
theorem dX6_owe_9 : decode cX6_owe 9 = .ok (.iload_n 3, 1) := dk_29 (dk_at dksX6_owe_0 9 rfl rfl)
theorem dX6_owe_10 : decode cX6_owe 10 = .ok (.i2l, 1) := dk_133 (dk_at dksX6_owe_0 10 rfl rfl)
theorem dX6_owe_11 : decode cX6_owe 11 = .ok (.lconst 0, 1) := dk_9 (dk_at dksX6_owe_0 11 rfl rfl)
theorem dX6_owe_12 : decode cX6_owe 12 = .ok (.ldc2_w 173, 3) := dk_20 0 173 (dk_at dksX6_owe_0 12 rfl rfl)
theorem dX6_owe_15 : decode cX6_owe 15 = .ok (.invokestatic 64, 3) := dk_184 0 64 (dk_at dksX6_owe_0 15 rfl rfl)
theorem dX6_owe_18 : decode cX6_owe 18 = .ok (.ifCond .eq 20, 3) := dk_153 0 20 (dk_at dksX6_owe_0 18 rfl rfl)
theorem dX6_owe_21 : decode cX6_owe 21 = .ok (.aload_n 0, 1) := dk_42 (dk_at dksX6_owe_0 21 rfl rfl)
theorem dX6_owe_22 : decode cX6_owe 22 = .ok (.bipush 76, 2) := dk_16 76 (dk_at dksX6_owe_0 22 rfl rfl)
theorem dX6_owe_24 : decode cX6_owe 24 = .ok (.bipush 6, 2) := dk_16 6 (dk_at dksX6_owe_1 0 rfl rfl)
theorem dX6_owe_26 : decode cX6_owe 26 = .ok (.iload_n 1, 1) := dk_27 (dk_at dksX6_owe_1 2 rfl rfl)
theorem dX6_owe_27 : decode cX6_owe 27 = .ok (.imul, 1) := dk_104 (dk_at dksX6_owe_1 3 rfl rfl)
theorem dX6_owe_28 : decode cX6_owe 28 = .ok (.iadd, 1) := dk_96 (dk_at dksX6_owe_1 4 rfl rfl)
theorem dX6_owe_29 : decode cX6_owe 29 = .ok (.iload_n 2, 1) := dk_28 (dk_at dksX6_owe_1 5 rfl rfl)
theorem dX6_owe_30 : decode cX6_owe 30 = .ok (.iadd, 1) := dk_96 (dk_at dksX6_owe_1 6 rfl rfl)
theorem dX6_owe_31 : decode cX6_owe 31 = .ok (.iload_n 3, 1) := dk_29 (dk_at dksX6_owe_1 7 rfl rfl)
theorem dX6_owe_32 : decode cX6_owe 32 = .ok (.invokevirtual 111, 3) := dk_182 0 111 (dk_at dksX6_owe_1 8 rfl rfl)
theorem dX6_owe_35 : decode cX6_owe 35 = .ok (.goto 4, 3) := dk_167 0 4 (dk_at dksX6_owe_1 11 rfl rfl)
theorem dX6_owe_38 : decode cX6_owe 38 = .ok (.iconst (-1), 1) := dk_2 (dk_at dksX6_owe_1 14 rfl rfl)
theorem dX6_owe_39 : decode cX6_owe 39 = .ok (.ireturn, 1) := dk_172 (dk_at dksX6_owe_1 15 rfl rfl)
abbrev cX6_areTwo : ByteArray := prog_26_method_49_code
def yX6_areTwo : MethodName := ⟨RX6, "areTwo", "(II)Z"⟩
def dkwX6_areTwo_1 : List UInt8 := [167, 0, 4, 3, 172]
abbrev dktX6_areTwo_1 : List UInt8 := dkwX6_areTwo_1 ++ []
def dkwX6_areTwo_0 : List UInt8 := [42, 27, 182, 0, 96, 153, 0, 20, 42, 28, 182, 0, 96, 153, 0, 12, 27, 28, 159, 0, 7, 4]
abbrev dktX6_areTwo_0 : List UInt8 := dkwX6_areTwo_0 ++ dktX6_areTwo_1
theorem dksX6_areTwo_0 : cX6_areTwo.data.toList.drop 0 = dktX6_areTwo_0 := by decide +kernel
theorem dksX6_areTwo_1 : cX6_areTwo.data.toList.drop 22 = dktX6_areTwo_1 := dk_seg dksX6_areTwo_0 22 rfl rfl
theorem dX6_areTwo_0 : decode cX6_areTwo 0 = .ok (.aload_n 0, 1) := dk_42 (dk_at dksX6_areTwo_0 0 rfl rfl)
theorem dX6_areTwo_1 : decode cX6_areTwo 1 = .ok (.iload_n 1, 1) := dk_27 (dk_at dksX6_areTwo_0 1 rfl rfl)
theorem dX6_areTwo_2 : decode cX6_areTwo 2 = .ok (.invokevirtual 96, 3) := dk_182 0 96 (dk_at dksX6_areTwo_0 2 rfl rfl)
theorem dX6_areTwo_5 : decode cX6_areTwo 5 = .ok (.ifCond .eq 20, 3) := dk_153 0 20 (dk_at dksX6_areTwo_0 5 rfl rfl)
theorem dX6_areTwo_8 : decode cX6_areTwo 8 = .ok (.aload_n 0, 1) := dk_42 (dk_at dksX6_areTwo_0 8 rfl rfl)
theorem dX6_areTwo_9 : decode cX6_areTwo 9 = .ok (.iload_n 2, 1) := dk_28 (dk_at dksX6_areTwo_0 9 rfl rfl)
theorem dX6_areTwo_10 : decode cX6_areTwo 10 = .ok (.invokevirtual 96, 3) := dk_182 0 96 (dk_at dksX6_areTwo_0 10 rfl rfl)
theorem dX6_areTwo_13 : decode cX6_areTwo 13 = .ok (.ifCond .eq 12, 3) := dk_153 0 12 (dk_at dksX6_areTwo_0 13 rfl rfl)
theorem dX6_areTwo_16 : decode cX6_areTwo 16 = .ok (.iload_n 1, 1) := dk_27 (dk_at dksX6_areTwo_0 16 rfl rfl)
theorem dX6_areTwo_17 : decode cX6_areTwo 17 = .ok (.iload_n 2, 1) := dk_28 (dk_at dksX6_areTwo_0 17 rfl rfl)
theorem dX6_areTwo_18 : decode cX6_areTwo 18 = .ok (.if_icmp .eq 7, 3) := dk_159 0 7 (dk_at dksX6_areTwo_0 18 rfl rfl)
theorem dX6_areTwo_21 : decode cX6_areTwo 21 = .ok (.iconst 1, 1) := dk_4 (dk_at dksX6_areTwo_0 21 rfl rfl)
theorem dX6_areTwo_22 : decode cX6_areTwo 22 = .ok (.goto 4, 3) := dk_167 0 4 (dk_at dksX6_areTwo_1 0 rfl rfl)
theorem dX6_areTwo_25 : decode cX6_areTwo 25 = .ok (.iconst 0, 1) := dk_3 (dk_at dksX6_areTwo_1 3 rfl rfl)
theorem dX6_areTwo_26 : decode cX6_areTwo 26 = .ok (.ireturn, 1) := dk_172 (dk_at dksX6_areTwo_1 4 rfl rfl)
abbrev cX6_owes : ByteArray := prog_26_method_51_code
def yX6_owes : MethodName := ⟨RX6, "owes", "(II)I"⟩
def dkwX6_owes_1 : List UInt8 := [167, 0, 4, 2, 172]
abbrev dktX6_owes_1 : List UInt8 := dkwX6_owes_1 ++ []
def dkwX6_owes_0 : List UInt8 := [42, 27, 28, 182, 0, 170, 153, 0, 20, 42, 180, 0, 7, 16, 76, 16, 6, 27, 104, 96, 28, 96, 46]
abbrev dktX6_owes_0 : List UInt8 := dkwX6_owes_0 ++ dktX6_owes_1
theorem dksX6_owes_0 : cX6_owes.data.toList.drop 0 = dktX6_owes_0 := by decide +kernel
theorem dksX6_owes_1 : cX6_owes.data.toList.drop 23 = dktX6_owes_1 := dk_seg dksX6_owes_0 23 rfl rfl
theorem dX6_owes_0 : decode cX6_owes 0 = .ok (.aload_n 0, 1) := dk_42 (dk_at dksX6_owes_0 0 rfl rfl)
theorem dX6_owes_1 : decode cX6_owes 1 = .ok (.iload_n 1, 1) := dk_27 (dk_at dksX6_owes_0 1 rfl rfl)
theorem dX6_owes_2 : decode cX6_owes 2 = .ok (.iload_n 2, 1) := dk_28 (dk_at dksX6_owes_0 2 rfl rfl)
theorem dX6_owes_3 : decode cX6_owes 3 = .ok (.invokevirtual 170, 3) := dk_182 0 170 (dk_at dksX6_owes_0 3 rfl rfl)
theorem dX6_owes_6 : decode cX6_owes 6 = .ok (.ifCond .eq 20, 3) := dk_153 0 20 (dk_at dksX6_owes_0 6 rfl rfl)
theorem dX6_owes_9 : decode cX6_owes 9 = .ok (.aload_n 0, 1) := dk_42 (dk_at dksX6_owes_0 9 rfl rfl)
theorem dX6_owes_10 : decode cX6_owes 10 = .ok (.getfield 7, 3) := dk_180 0 7 (dk_at dksX6_owes_0 10 rfl rfl)
theorem dX6_owes_13 : decode cX6_owes 13 = .ok (.bipush 76, 2) := dk_16 76 (dk_at dksX6_owes_0 13 rfl rfl)
theorem dX6_owes_15 : decode cX6_owes 15 = .ok (.bipush 6, 2) := dk_16 6 (dk_at dksX6_owes_0 15 rfl rfl)
theorem dX6_owes_17 : decode cX6_owes 17 = .ok (.iload_n 1, 1) := dk_27 (dk_at dksX6_owes_0 17 rfl rfl)
theorem dX6_owes_18 : decode cX6_owes 18 = .ok (.imul, 1) := dk_104 (dk_at dksX6_owes_0 18 rfl rfl)
theorem dX6_owes_19 : decode cX6_owes 19 = .ok (.iadd, 1) := dk_96 (dk_at dksX6_owes_0 19 rfl rfl)
theorem dX6_owes_20 : decode cX6_owes 20 = .ok (.iload_n 2, 1) := dk_28 (dk_at dksX6_owes_0 20 rfl rfl)
theorem dX6_owes_21 : decode cX6_owes 21 = .ok (.iadd, 1) := dk_96 (dk_at dksX6_owes_0 21 rfl rfl)
theorem dX6_owes_22 : decode cX6_owes 22 = .ok (.iaload, 1) := dk_46 (dk_at dksX6_owes_0 22 rfl rfl)
theorem dX6_owes_23 : decode cX6_owes 23 = .ok (.goto 4, 3) := dk_167 0 4 (dk_at dksX6_owes_1 0 rfl rfl)
theorem dX6_owes_26 : decode cX6_owes 26 = .ok (.iconst (-1), 1) := dk_2 (dk_at dksX6_owes_1 3 rfl rfl)
theorem dX6_owes_27 : decode cX6_owes 27 = .ok (.ireturn, 1) := dk_172 (dk_at dksX6_owes_1 4 rfl rfl)
abbrev cX6_net : ByteArray := prog_26_method_53_code
def yX6_net : MethodName := ⟨RX6, "net", "(I)I"⟩
def dkwX6_net_0 : List UInt8 := [42, 27, 182, 0, 96, 153, 0, 15, 17, 39, 16, 42, 27, 182, 0, 175, 96, 167, 0, 4, 2, 172]
abbrev dktX6_net_0 : List UInt8 := dkwX6_net_0 ++ []
theorem dksX6_net_0 : cX6_net.data.toList.drop 0 = dktX6_net_0 := by decide +kernel
theorem dX6_net_0 : decode cX6_net 0 = .ok (.aload_n 0, 1) := dk_42 (dk_at dksX6_net_0 0 rfl rfl)
theorem dX6_net_1 : decode cX6_net 1 = .ok (.iload_n 1, 1) := dk_27 (dk_at dksX6_net_0 1 rfl rfl)
theorem dX6_net_2 : decode cX6_net 2 = .ok (.invokevirtual 96, 3) := dk_182 0 96 (dk_at dksX6_net_0 2 rfl rfl)
theorem dX6_net_5 : decode cX6_net 5 = .ok (.ifCond .eq 15, 3) := dk_153 0 15 (dk_at dksX6_net_0 5 rfl rfl)
theorem dX6_net_8 : decode cX6_net 8 = .ok (.sipush 10000, 3) := dk_17 39 16 (dk_at dksX6_net_0 8 rfl rfl)
theorem dX6_net_11 : decode cX6_net 11 = .ok (.aload_n 0, 1) := dk_42 (dk_at dksX6_net_0 11 rfl rfl)
theorem dX6_net_12 : decode cX6_net 12 = .ok (.iload_n 1, 1) := dk_27 (dk_at dksX6_net_0 12 rfl rfl)
theorem dX6_net_13 : decode cX6_net 13 = .ok (.invokevirtual 175, 3) := dk_182 0 175 (dk_at dksX6_net_0 13 rfl rfl)
theorem dX6_net_16 : decode cX6_net 16 = .ok (.iadd, 1) := dk_96 (dk_at dksX6_net_0 16 rfl rfl)
theorem dX6_net_17 : decode cX6_net 17 = .ok (.goto 4, 3) := dk_167 0 4 (dk_at dksX6_net_0 17 rfl rfl)
theorem dX6_net_20 : decode cX6_net 20 = .ok (.iconst (-1), 1) := dk_2 (dk_at dksX6_net_0 20 rfl rfl)
theorem dX6_net_21 : decode cX6_net 21 = .ok (.ireturn, 1) := dk_172 (dk_at dksX6_net_0 21 rfl rfl)
abbrev cX6_netOf : ByteArray := prog_26_method_52_code
def yX6_netOf : MethodName := ⟨RX6, "netOf", "(I)I"⟩
def dkwX6_netOf_2 : List UInt8 := [28, 172]
abbrev dktX6_netOf_2 : List UInt8 := dkwX6_netOf_2 ++ []
def dkwX6_netOf_1 : List UInt8 := [46, 42, 180, 0, 7, 16, 76, 16, 6, 27, 104, 96, 29, 96, 46, 100, 96, 61, 132, 3, 1, 167, 255, 215]
abbrev dktX6_netOf_1 : List UInt8 := dkwX6_netOf_1 ++ dktX6_netOf_2
def dkwX6_netOf_0 : List UInt8 := [3, 61, 3, 62, 29, 16, 6, 162, 0, 41, 28, 42, 180, 0, 7, 16, 76, 16, 6, 29, 104, 96, 27, 96]
abbrev dktX6_netOf_0 : List UInt8 := dkwX6_netOf_0 ++ dktX6_netOf_1
theorem dksX6_netOf_0 : cX6_netOf.data.toList.drop 0 = dktX6_netOf_0 := by decide +kernel
theorem dksX6_netOf_1 : cX6_netOf.data.toList.drop 24 = dktX6_netOf_1 := dk_seg dksX6_netOf_0 24 rfl rfl
theorem dksX6_netOf_2 : cX6_netOf.data.toList.drop 48 = dktX6_netOf_2 := dk_seg dksX6_netOf_1 24 rfl rfl
theorem dX6_netOf_0 : decode cX6_netOf 0 = .ok (.iconst 0, 1) := dk_3 (dk_at dksX6_netOf_0 0 rfl rfl)
theorem dX6_netOf_1 : decode cX6_netOf 1 = .ok (.istore_n 2, 1) := dk_61 (dk_at dksX6_netOf_0 1 rfl rfl)
theorem dX6_netOf_2 : decode cX6_netOf 2 = .ok (.iconst 0, 1) := dk_3 (dk_at dksX6_netOf_0 2 rfl rfl)
theorem dX6_netOf_3 : decode cX6_netOf 3 = .ok (.istore_n 3, 1) := dk_62 (dk_at dksX6_netOf_0 3 rfl rfl)
theorem dX6_netOf_4 : decode cX6_netOf 4 = .ok (.iload_n 3, 1) := dk_29 (dk_at dksX6_netOf_0 4 rfl rfl)
theorem dX6_netOf_5 : decode cX6_netOf 5 = .ok (.bipush 6, 2) := dk_16 6 (dk_at dksX6_netOf_0 5 rfl rfl)
theorem dX6_netOf_7 : decode cX6_netOf 7 = .ok (.if_icmp .ge 41, 3) := dk_162 0 41 (dk_at dksX6_netOf_0 7 rfl rfl)
theorem dX6_netOf_10 : decode cX6_netOf 10 = .ok (.iload_n 2, 1) := dk_28 (dk_at dksX6_netOf_0 10 rfl rfl)
theorem dX6_netOf_11 : decode cX6_netOf 11 = .ok (.aload_n 0, 1) := dk_42 (dk_at dksX6_netOf_0 11 rfl rfl)
theorem dX6_netOf_12 : decode cX6_netOf 12 = .ok (.getfield 7, 3) := dk_180 0 7 (dk_at dksX6_netOf_0 12 rfl rfl)
theorem dX6_netOf_15 : decode cX6_netOf 15 = .ok (.bipush 76, 2) := dk_16 76 (dk_at dksX6_netOf_0 15 rfl rfl)
theorem dX6_netOf_17 : decode cX6_netOf 17 = .ok (.bipush 6, 2) := dk_16 6 (dk_at dksX6_netOf_0 17 rfl rfl)
theorem dX6_netOf_19 : decode cX6_netOf 19 = .ok (.iload_n 3, 1) := dk_29 (dk_at dksX6_netOf_0 19 rfl rfl)
theorem dX6_netOf_20 : decode cX6_netOf 20 = .ok (.imul, 1) := dk_104 (dk_at dksX6_netOf_0 20 rfl rfl)
theorem dX6_netOf_21 : decode cX6_netOf 21 = .ok (.iadd, 1) := dk_96 (dk_at dksX6_netOf_0 21 rfl rfl)
theorem dX6_netOf_22 : decode cX6_netOf 22 = .ok (.iload_n 1, 1) := dk_27 (dk_at dksX6_netOf_0 22 rfl rfl)
theorem dX6_netOf_23 : decode cX6_netOf 23 = .ok (.iadd, 1) := dk_96 (dk_at dksX6_netOf_0 23 rfl rfl)
theorem dX6_netOf_24 : decode cX6_netOf 24 = .ok (.iaload, 1) := dk_46 (dk_at dksX6_netOf_1 0 rfl rfl)
theorem dX6_netOf_25 : decode cX6_netOf 25 = .ok (.aload_n 0, 1) := dk_42 (dk_at dksX6_netOf_1 1 rfl rfl)
theorem dX6_netOf_26 : decode cX6_netOf 26 = .ok (.getfield 7, 3) := dk_180 0 7 (dk_at dksX6_netOf_1 2 rfl rfl)
theorem dX6_netOf_29 : decode cX6_netOf 29 = .ok (.bipush 76, 2) := dk_16 76 (dk_at dksX6_netOf_1 5 rfl rfl)
theorem dX6_netOf_31 : decode cX6_netOf 31 = .ok (.bipush 6, 2) := dk_16 6 (dk_at dksX6_netOf_1 7 rfl rfl)
theorem dX6_netOf_33 : decode cX6_netOf 33 = .ok (.iload_n 1, 1) := dk_27 (dk_at dksX6_netOf_1 9 rfl rfl)
theorem dX6_netOf_34 : decode cX6_netOf 34 = .ok (.imul, 1) := dk_104 (dk_at dksX6_netOf_1 10 rfl rfl)
theorem dX6_netOf_35 : decode cX6_netOf 35 = .ok (.iadd, 1) := dk_96 (dk_at dksX6_netOf_1 11 rfl rfl)
theorem dX6_netOf_36 : decode cX6_netOf 36 = .ok (.iload_n 3, 1) := dk_29 (dk_at dksX6_netOf_1 12 rfl rfl)
theorem dX6_netOf_37 : decode cX6_netOf 37 = .ok (.iadd, 1) := dk_96 (dk_at dksX6_netOf_1 13 rfl rfl)
theorem dX6_netOf_38 : decode cX6_netOf 38 = .ok (.iaload, 1) := dk_46 (dk_at dksX6_netOf_1 14 rfl rfl)
theorem dX6_netOf_39 : decode cX6_netOf 39 = .ok (.isub, 1) := dk_100 (dk_at dksX6_netOf_1 15 rfl rfl)
theorem dX6_netOf_40 : decode cX6_netOf 40 = .ok (.iadd, 1) := dk_96 (dk_at dksX6_netOf_1 16 rfl rfl)
theorem dX6_netOf_41 : decode cX6_netOf 41 = .ok (.istore_n 2, 1) := dk_61 (dk_at dksX6_netOf_1 17 rfl rfl)
theorem dX6_netOf_42 : decode cX6_netOf 42 = .ok (.iinc 3 1, 3) := dk_132 3 1 (dk_at dksX6_netOf_1 18 rfl rfl)
theorem dX6_netOf_45 : decode cX6_netOf 45 = .ok (.goto (-41), 3) := dk_167 255 215 (dk_at dksX6_netOf_1 21 rfl rfl)
theorem dX6_netOf_48 : decode cX6_netOf 48 = .ok (.iload_n 2, 1) := dk_28 (dk_at dksX6_netOf_2 0 rfl rfl)
theorem dX6_netOf_49 : decode cX6_netOf 49 = .ok (.ireturn, 1) := dk_172 (dk_at dksX6_netOf_2 1 rfl rfl)
abbrev cX6_ring : ByteArray := prog_26_method_55_code
def yX6_ring : MethodName := ⟨RX6, "ring", "(I)I"⟩
def dkwX6_ring_1 : List UInt8 := [182, 0, 178, 61, 28, 27, 122, 4, 126, 4, 160, 0, 5, 29, 172, 132, 3, 1, 167, 255, 230, 16, 253, 172]
abbrev dktX6_ring_1 : List UInt8 := dkwX6_ring_1 ++ []
def dkwX6_ring_0 : List UInt8 := [42, 27, 182, 0, 96, 154, 0, 5, 2, 172, 4, 27, 120, 61, 4, 62, 29, 16, 6, 163, 0, 26, 42, 28]
abbrev dktX6_ring_0 : List UInt8 := dkwX6_ring_0 ++ dktX6_ring_1
theorem dksX6_ring_0 : cX6_ring.data.toList.drop 0 = dktX6_ring_0 := by decide +kernel
theorem dksX6_ring_1 : cX6_ring.data.toList.drop 24 = dktX6_ring_1 := dk_seg dksX6_ring_0 24 rfl rfl
theorem dX6_ring_0 : decode cX6_ring 0 = .ok (.aload_n 0, 1) := dk_42 (dk_at dksX6_ring_0 0 rfl rfl)
theorem dX6_ring_1 : decode cX6_ring 1 = .ok (.iload_n 1, 1) := dk_27 (dk_at dksX6_ring_0 1 rfl rfl)
theorem dX6_ring_2 : decode cX6_ring 2 = .ok (.invokevirtual 96, 3) := dk_182 0 96 (dk_at dksX6_ring_0 2 rfl rfl)
theorem dX6_ring_5 : decode cX6_ring 5 = .ok (.ifCond .ne 5, 3) := dk_154 0 5 (dk_at dksX6_ring_0 5 rfl rfl)
theorem dX6_ring_8 : decode cX6_ring 8 = .ok (.iconst (-1), 1) := dk_2 (dk_at dksX6_ring_0 8 rfl rfl)
theorem dX6_ring_9 : decode cX6_ring 9 = .ok (.ireturn, 1) := dk_172 (dk_at dksX6_ring_0 9 rfl rfl)
theorem dX6_ring_10 : decode cX6_ring 10 = .ok (.iconst 1, 1) := dk_4 (dk_at dksX6_ring_0 10 rfl rfl)
theorem dX6_ring_11 : decode cX6_ring 11 = .ok (.iload_n 1, 1) := dk_27 (dk_at dksX6_ring_0 11 rfl rfl)
theorem dX6_ring_12 : decode cX6_ring 12 = .ok (.ishl, 1) := dk_120 (dk_at dksX6_ring_0 12 rfl rfl)
theorem dX6_ring_13 : decode cX6_ring 13 = .ok (.istore_n 2, 1) := dk_61 (dk_at dksX6_ring_0 13 rfl rfl)
theorem dX6_ring_14 : decode cX6_ring 14 = .ok (.iconst 1, 1) := dk_4 (dk_at dksX6_ring_0 14 rfl rfl)
theorem dX6_ring_15 : decode cX6_ring 15 = .ok (.istore_n 3, 1) := dk_62 (dk_at dksX6_ring_0 15 rfl rfl)
theorem dX6_ring_16 : decode cX6_ring 16 = .ok (.iload_n 3, 1) := dk_29 (dk_at dksX6_ring_0 16 rfl rfl)
theorem dX6_ring_17 : decode cX6_ring 17 = .ok (.bipush 6, 2) := dk_16 6 (dk_at dksX6_ring_0 17 rfl rfl)
theorem dX6_ring_19 : decode cX6_ring 19 = .ok (.if_icmp .gt 26, 3) := dk_163 0 26 (dk_at dksX6_ring_0 19 rfl rfl)
theorem dX6_ring_22 : decode cX6_ring 22 = .ok (.aload_n 0, 1) := dk_42 (dk_at dksX6_ring_0 22 rfl rfl)
theorem dX6_ring_23 : decode cX6_ring 23 = .ok (.iload_n 2, 1) := dk_28 (dk_at dksX6_ring_0 23 rfl rfl)
theorem dX6_ring_24 : decode cX6_ring 24 = .ok (.invokevirtual 178, 3) := dk_182 0 178 (dk_at dksX6_ring_1 0 rfl rfl)
theorem dX6_ring_27 : decode cX6_ring 27 = .ok (.istore_n 2, 1) := dk_61 (dk_at dksX6_ring_1 3 rfl rfl)
theorem dX6_ring_28 : decode cX6_ring 28 = .ok (.iload_n 2, 1) := dk_28 (dk_at dksX6_ring_1 4 rfl rfl)
theorem dX6_ring_29 : decode cX6_ring 29 = .ok (.iload_n 1, 1) := dk_27 (dk_at dksX6_ring_1 5 rfl rfl)
theorem dX6_ring_30 : decode cX6_ring 30 = .ok (.ishr, 1) := dk_122 (dk_at dksX6_ring_1 6 rfl rfl)
theorem dX6_ring_31 : decode cX6_ring 31 = .ok (.iconst 1, 1) := dk_4 (dk_at dksX6_ring_1 7 rfl rfl)
theorem dX6_ring_32 : decode cX6_ring 32 = .ok (.iand, 1) := dk_126 (dk_at dksX6_ring_1 8 rfl rfl)
theorem dX6_ring_33 : decode cX6_ring 33 = .ok (.iconst 1, 1) := dk_4 (dk_at dksX6_ring_1 9 rfl rfl)
theorem dX6_ring_34 : decode cX6_ring 34 = .ok (.if_icmp .ne 5, 3) := dk_160 0 5 (dk_at dksX6_ring_1 10 rfl rfl)
theorem dX6_ring_37 : decode cX6_ring 37 = .ok (.iload_n 3, 1) := dk_29 (dk_at dksX6_ring_1 13 rfl rfl)
theorem dX6_ring_38 : decode cX6_ring 38 = .ok (.ireturn, 1) := dk_172 (dk_at dksX6_ring_1 14 rfl rfl)
theorem dX6_ring_39 : decode cX6_ring 39 = .ok (.iinc 3 1, 3) := dk_132 3 1 (dk_at dksX6_ring_1 15 rfl rfl)
theorem dX6_ring_42 : decode cX6_ring 42 = .ok (.goto (-26), 3) := dk_167 255 230 (dk_at dksX6_ring_1 18 rfl rfl)
theorem dX6_ring_45 : decode cX6_ring 45 = .ok (.bipush (-3), 2) := dk_16 253 (dk_at dksX6_ring_1 21 rfl rfl)
theorem dX6_ring_47 : decode cX6_ring 47 = .ok (.ireturn, 1) := dk_172 (dk_at dksX6_ring_1 23 rfl rfl)
abbrev cX6_owedBy : ByteArray := prog_26_method_54_code
def yX6_owedBy : MethodName := ⟨RX6, "owedBy", "(I)I"⟩
def dkwX6_owedBy_2 : List UInt8 := [132, 3, 1, 167, 255, 210, 28, 172]
abbrev dktX6_owedBy_2 : List UInt8 := dkwX6_owedBy_2 ++ []
def dkwX6_owedBy_1 : List UInt8 := [180, 0, 7, 16, 76, 29, 96, 46, 158, 0, 12, 4, 29, 16, 6, 112, 120, 167, 0, 4, 3, 128, 61]
abbrev dktX6_owedBy_1 : List UInt8 := dkwX6_owedBy_1 ++ dktX6_owedBy_2
def dkwX6_owedBy_0 : List UInt8 := [3, 61, 3, 62, 29, 16, 36, 162, 0, 46, 28, 27, 29, 16, 6, 108, 122, 4, 126, 4, 160, 0, 24, 42]
abbrev dktX6_owedBy_0 : List UInt8 := dkwX6_owedBy_0 ++ dktX6_owedBy_1
theorem dksX6_owedBy_0 : cX6_owedBy.data.toList.drop 0 = dktX6_owedBy_0 := by decide +kernel
theorem dksX6_owedBy_1 : cX6_owedBy.data.toList.drop 24 = dktX6_owedBy_1 := dk_seg dksX6_owedBy_0 24 rfl rfl
theorem dksX6_owedBy_2 : cX6_owedBy.data.toList.drop 47 = dktX6_owedBy_2 := dk_seg dksX6_owedBy_1 23 rfl rfl
theorem dX6_owedBy_0 : decode cX6_owedBy 0 = .ok (.iconst 0, 1) := dk_3 (dk_at dksX6_owedBy_0 0 rfl rfl)
theorem dX6_owedBy_1 : decode cX6_owedBy 1 = .ok (.istore_n 2, 1) := dk_61 (dk_at dksX6_owedBy_0 1 rfl rfl)
theorem dX6_owedBy_2 : decode cX6_owedBy 2 = .ok (.iconst 0, 1) := dk_3 (dk_at dksX6_owedBy_0 2 rfl rfl)
theorem dX6_owedBy_3 : decode cX6_owedBy 3 = .ok (.istore_n 3, 1) := dk_62 (dk_at dksX6_owedBy_0 3 rfl rfl)
theorem dX6_owedBy_4 : decode cX6_owedBy 4 = .ok (.iload_n 3, 1) := dk_29 (dk_at dksX6_owedBy_0 4 rfl rfl)
theorem dX6_owedBy_5 : decode cX6_owedBy 5 = .ok (.bipush 36, 2) := dk_16 36 (dk_at dksX6_owedBy_0 5 rfl rfl)
theorem dX6_owedBy_7 : decode cX6_owedBy 7 = .ok (.if_icmp .ge 46, 3) := dk_162 0 46 (dk_at dksX6_owedBy_0 7 rfl rfl)
theorem dX6_owedBy_10 : decode cX6_owedBy 10 = .ok (.iload_n 2, 1) := dk_28 (dk_at dksX6_owedBy_0 10 rfl rfl)
theorem dX6_owedBy_11 : decode cX6_owedBy 11 = .ok (.iload_n 1, 1) := dk_27 (dk_at dksX6_owedBy_0 11 rfl rfl)
theorem dX6_owedBy_12 : decode cX6_owedBy 12 = .ok (.iload_n 3, 1) := dk_29 (dk_at dksX6_owedBy_0 12 rfl rfl)
theorem dX6_owedBy_13 : decode cX6_owedBy 13 = .ok (.bipush 6, 2) := dk_16 6 (dk_at dksX6_owedBy_0 13 rfl rfl)
theorem dX6_owedBy_15 : decode cX6_owedBy 15 = .ok (.idiv, 1) := dk_108 (dk_at dksX6_owedBy_0 15 rfl rfl)
theorem dX6_owedBy_16 : decode cX6_owedBy 16 = .ok (.ishr, 1) := dk_122 (dk_at dksX6_owedBy_0 16 rfl rfl)
theorem dX6_owedBy_17 : decode cX6_owedBy 17 = .ok (.iconst 1, 1) := dk_4 (dk_at dksX6_owedBy_0 17 rfl rfl)
theorem dX6_owedBy_18 : decode cX6_owedBy 18 = .ok (.iand, 1) := dk_126 (dk_at dksX6_owedBy_0 18 rfl rfl)
theorem dX6_owedBy_19 : decode cX6_owedBy 19 = .ok (.iconst 1, 1) := dk_4 (dk_at dksX6_owedBy_0 19 rfl rfl)
theorem dX6_owedBy_20 : decode cX6_owedBy 20 = .ok (.if_icmp .ne 24, 3) := dk_160 0 24 (dk_at dksX6_owedBy_0 20 rfl rfl)
theorem dX6_owedBy_23 : decode cX6_owedBy 23 = .ok (.aload_n 0, 1) := dk_42 (dk_at dksX6_owedBy_0 23 rfl rfl)
theorem dX6_owedBy_24 : decode cX6_owedBy 24 = .ok (.getfield 7, 3) := dk_180 0 7 (dk_at dksX6_owedBy_1 0 rfl rfl)
theorem dX6_owedBy_27 : decode cX6_owedBy 27 = .ok (.bipush 76, 2) := dk_16 76 (dk_at dksX6_owedBy_1 3 rfl rfl)
theorem dX6_owedBy_29 : decode cX6_owedBy 29 = .ok (.iload_n 3, 1) := dk_29 (dk_at dksX6_owedBy_1 5 rfl rfl)
theorem dX6_owedBy_30 : decode cX6_owedBy 30 = .ok (.iadd, 1) := dk_96 (dk_at dksX6_owedBy_1 6 rfl rfl)
theorem dX6_owedBy_31 : decode cX6_owedBy 31 = .ok (.iaload, 1) := dk_46 (dk_at dksX6_owedBy_1 7 rfl rfl)
theorem dX6_owedBy_32 : decode cX6_owedBy 32 = .ok (.ifCond .le 12, 3) := dk_158 0 12 (dk_at dksX6_owedBy_1 8 rfl rfl)
theorem dX6_owedBy_35 : decode cX6_owedBy 35 = .ok (.iconst 1, 1) := dk_4 (dk_at dksX6_owedBy_1 11 rfl rfl)
theorem dX6_owedBy_36 : decode cX6_owedBy 36 = .ok (.iload_n 3, 1) := dk_29 (dk_at dksX6_owedBy_1 12 rfl rfl)
theorem dX6_owedBy_37 : decode cX6_owedBy 37 = .ok (.bipush 6, 2) := dk_16 6 (dk_at dksX6_owedBy_1 13 rfl rfl)
theorem dX6_owedBy_39 : decode cX6_owedBy 39 = .ok (.irem, 1) := dk_112 (dk_at dksX6_owedBy_1 15 rfl rfl)
theorem dX6_owedBy_40 : decode cX6_owedBy 40 = .ok (.ishl, 1) := dk_120 (dk_at dksX6_owedBy_1 16 rfl rfl)
theorem dX6_owedBy_41 : decode cX6_owedBy 41 = .ok (.goto 4, 3) := dk_167 0 4 (dk_at dksX6_owedBy_1 17 rfl rfl)
theorem dX6_owedBy_44 : decode cX6_owedBy 44 = .ok (.iconst 0, 1) := dk_3 (dk_at dksX6_owedBy_1 20 rfl rfl)
theorem dX6_owedBy_45 : decode cX6_owedBy 45 = .ok (.ior, 1) := dk_128 (dk_at dksX6_owedBy_1 21 rfl rfl)
theorem dX6_owedBy_46 : decode cX6_owedBy 46 = .ok (.istore_n 2, 1) := dk_61 (dk_at dksX6_owedBy_1 22 rfl rfl)
theorem dX6_owedBy_47 : decode cX6_owedBy 47 = .ok (.iinc 3 1, 3) := dk_132 3 1 (dk_at dksX6_owedBy_2 0 rfl rfl)
theorem dX6_owedBy_50 : decode cX6_owedBy 50 = .ok (.goto (-46), 3) := dk_167 255 210 (dk_at dksX6_owedBy_2 3 rfl rfl)
theorem dX6_owedBy_53 : decode cX6_owedBy 53 = .ok (.iload_n 2, 1) := dk_28 (dk_at dksX6_owedBy_2 6 rfl rfl)
theorem dX6_owedBy_54 : decode cX6_owedBy 54 = .ok (.ireturn, 1) := dk_172 (dk_at dksX6_owedBy_2 7 rfl rfl)
abbrev cX6_payments : ByteArray := prog_26_method_56_code
def yX6_payments : MethodName := ⟨RX6, "payments", "()I"⟩
def dkwX6_payments_8 : List UInt8 := [132, 2, 1, 29, 29, 4, 100, 126, 62, 167, 255, 243, 28, 42, 180, 0, 25, 27, 46, 100, 172]
abbrev dktX6_payments_8 : List UInt8 := dkwX6_payments_8 ++ []
def dkwX6_payments_7 : List UInt8 := [28, 120, 167, 0, 4, 3, 128, 60, 132, 2, 1, 167, 255, 229, 3, 61, 27, 62, 29, 153, 0, 15]
abbrev dktX6_payments_7 : List UInt8 := dkwX6_payments_7 ++ dktX6_payments_8
def dkwX6_payments_6 : List UInt8 := [132, 2, 1, 167, 255, 115, 3, 61, 28, 16, 6, 162, 0, 27, 27, 42, 28, 182, 0, 175, 153, 0, 9, 4]
abbrev dktX6_payments_6 : List UInt8 := dkwX6_payments_6 ++ dktX6_payments_7
def dkwX6_payments_5 : List UInt8 := [92, 46, 28, 153, 0, 16, 42, 180, 0, 22, 28, 46, 154, 0, 7, 4, 167, 0, 4, 3, 96, 79]
abbrev dktX6_payments_5 : List UInt8 := dkwX6_payments_5 ++ dktX6_payments_6
def dkwX6_payments_4 : List UInt8 := [21, 4, 46, 167, 0, 9, 42, 180, 0, 25, 28, 46, 79, 132, 3, 1, 167, 255, 170, 42, 180, 0, 25, 28]
abbrev dktX6_payments_4 : List UInt8 := dkwX6_payments_4 ++ dktX6_payments_5
def dkwX6_payments_3 : List UInt8 := [28, 159, 0, 29, 42, 180, 0, 25, 21, 4, 46, 42, 180, 0, 25, 28, 46, 164, 0, 13, 42, 180, 0, 25]
abbrev dktX6_payments_3 : List UInt8 := dkwX6_payments_3 ++ dktX6_payments_4
def dkwX6_payments_2 : List UInt8 := [21, 4, 28, 159, 0, 11, 42, 29, 182, 0, 175, 167, 0, 4, 3, 96, 79, 42, 180, 0, 25, 28, 21, 4]
abbrev dktX6_payments_2 : List UInt8 := dkwX6_payments_2 ++ dktX6_payments_3
def dkwX6_payments_1 : List UInt8 := [3, 62, 29, 16, 6, 162, 0, 86, 28, 4, 29, 120, 2, 130, 126, 54, 4, 42, 180, 0, 22, 28, 92, 46]
abbrev dktX6_payments_1 : List UInt8 := dkwX6_payments_1 ++ dktX6_payments_2
def dkwX6_payments_0 : List UInt8 := [3, 60, 3, 61, 28, 16, 64, 162, 0, 141, 42, 180, 0, 22, 28, 3, 79, 42, 180, 0, 25, 28, 3, 79]
abbrev dktX6_payments_0 : List UInt8 := dkwX6_payments_0 ++ dktX6_payments_1
theorem dksX6_payments_0 : cX6_payments.data.toList.drop 0 = dktX6_payments_0 := by decide +kernel
theorem dksX6_payments_1 : cX6_payments.data.toList.drop 24 = dktX6_payments_1 := dk_seg dksX6_payments_0 24 rfl rfl
theorem dksX6_payments_2 : cX6_payments.data.toList.drop 48 = dktX6_payments_2 := dk_seg dksX6_payments_1 24 rfl rfl
theorem dksX6_payments_3 : cX6_payments.data.toList.drop 72 = dktX6_payments_3 := dk_seg dksX6_payments_2 24 rfl rfl
theorem dksX6_payments_4 : cX6_payments.data.toList.drop 96 = dktX6_payments_4 := dk_seg dksX6_payments_3 24 rfl rfl
theorem dksX6_payments_5 : cX6_payments.data.toList.drop 120 = dktX6_payments_5 := dk_seg dksX6_payments_4 24 rfl rfl
theorem dksX6_payments_6 : cX6_payments.data.toList.drop 142 = dktX6_payments_6 := dk_seg dksX6_payments_5 22 rfl rfl
theorem dksX6_payments_7 : cX6_payments.data.toList.drop 166 = dktX6_payments_7 := dk_seg dksX6_payments_6 24 rfl rfl
theorem dksX6_payments_8 : cX6_payments.data.toList.drop 188 = dktX6_payments_8 := dk_seg dksX6_payments_7 22 rfl rfl
theorem dX6_payments_0 : decode cX6_payments 0 = .ok (.iconst 0, 1) := dk_3 (dk_at dksX6_payments_0 0 rfl rfl)
theorem dX6_payments_1 : decode cX6_payments 1 = .ok (.istore_n 1, 1) := dk_60 (dk_at dksX6_payments_0 1 rfl rfl)
theorem dX6_payments_2 : decode cX6_payments 2 = .ok (.iconst 0, 1) := dk_3 (dk_at dksX6_payments_0 2 rfl rfl)
theorem dX6_payments_3 : decode cX6_payments 3 = .ok (.istore_n 2, 1) := dk_61 (dk_at dksX6_payments_0 3 rfl rfl)
theorem dX6_payments_4 : decode cX6_payments 4 = .ok (.iload_n 2, 1) := dk_28 (dk_at dksX6_payments_0 4 rfl rfl)
theorem dX6_payments_5 : decode cX6_payments 5 = .ok (.bipush 64, 2) := dk_16 64 (dk_at dksX6_payments_0 5 rfl rfl)
theorem dX6_payments_7 : decode cX6_payments 7 = .ok (.if_icmp .ge 141, 3) := dk_162 0 141 (dk_at dksX6_payments_0 7 rfl rfl)
theorem dX6_payments_10 : decode cX6_payments 10 = .ok (.aload_n 0, 1) := dk_42 (dk_at dksX6_payments_0 10 rfl rfl)
theorem dX6_payments_11 : decode cX6_payments 11 = .ok (.getfield 22, 3) := dk_180 0 22 (dk_at dksX6_payments_0 11 rfl rfl)
theorem dX6_payments_14 : decode cX6_payments 14 = .ok (.iload_n 2, 1) := dk_28 (dk_at dksX6_payments_0 14 rfl rfl)
theorem dX6_payments_15 : decode cX6_payments 15 = .ok (.iconst 0, 1) := dk_3 (dk_at dksX6_payments_0 15 rfl rfl)
theorem dX6_payments_16 : decode cX6_payments 16 = .ok (.iastore, 1) := dk_79 (dk_at dksX6_payments_0 16 rfl rfl)
theorem dX6_payments_17 : decode cX6_payments 17 = .ok (.aload_n 0, 1) := dk_42 (dk_at dksX6_payments_0 17 rfl rfl)
theorem dX6_payments_18 : decode cX6_payments 18 = .ok (.getfield 25, 3) := dk_180 0 25 (dk_at dksX6_payments_0 18 rfl rfl)
theorem dX6_payments_21 : decode cX6_payments 21 = .ok (.iload_n 2, 1) := dk_28 (dk_at dksX6_payments_0 21 rfl rfl)
theorem dX6_payments_22 : decode cX6_payments 22 = .ok (.iconst 0, 1) := dk_3 (dk_at dksX6_payments_0 22 rfl rfl)
theorem dX6_payments_23 : decode cX6_payments 23 = .ok (.iastore, 1) := dk_79 (dk_at dksX6_payments_0 23 rfl rfl)
theorem dX6_payments_24 : decode cX6_payments 24 = .ok (.iconst 0, 1) := dk_3 (dk_at dksX6_payments_1 0 rfl rfl)
theorem dX6_payments_25 : decode cX6_payments 25 = .ok (.istore_n 3, 1) := dk_62 (dk_at dksX6_payments_1 1 rfl rfl)
theorem dX6_payments_26 : decode cX6_payments 26 = .ok (.iload_n 3, 1) := dk_29 (dk_at dksX6_payments_1 2 rfl rfl)
theorem dX6_payments_27 : decode cX6_payments 27 = .ok (.bipush 6, 2) := dk_16 6 (dk_at dksX6_payments_1 3 rfl rfl)
theorem dX6_payments_29 : decode cX6_payments 29 = .ok (.if_icmp .ge 86, 3) := dk_162 0 86 (dk_at dksX6_payments_1 5 rfl rfl)
theorem dX6_payments_32 : decode cX6_payments 32 = .ok (.iload_n 2, 1) := dk_28 (dk_at dksX6_payments_1 8 rfl rfl)
theorem dX6_payments_33 : decode cX6_payments 33 = .ok (.iconst 1, 1) := dk_4 (dk_at dksX6_payments_1 9 rfl rfl)
theorem dX6_payments_34 : decode cX6_payments 34 = .ok (.iload_n 3, 1) := dk_29 (dk_at dksX6_payments_1 10 rfl rfl)
theorem dX6_payments_35 : decode cX6_payments 35 = .ok (.ishl, 1) := dk_120 (dk_at dksX6_payments_1 11 rfl rfl)
theorem dX6_payments_36 : decode cX6_payments 36 = .ok (.iconst (-1), 1) := dk_2 (dk_at dksX6_payments_1 12 rfl rfl)
theorem dX6_payments_37 : decode cX6_payments 37 = .ok (.ixor, 1) := dk_130 (dk_at dksX6_payments_1 13 rfl rfl)
theorem dX6_payments_38 : decode cX6_payments 38 = .ok (.iand, 1) := dk_126 (dk_at dksX6_payments_1 14 rfl rfl)
theorem dX6_payments_39 : decode cX6_payments 39 = .ok (.istore 4, 2) := dk_54 4 (dk_at dksX6_payments_1 15 rfl rfl)
theorem dX6_payments_41 : decode cX6_payments 41 = .ok (.aload_n 0, 1) := dk_42 (dk_at dksX6_payments_1 17 rfl rfl)
theorem dX6_payments_42 : decode cX6_payments 42 = .ok (.getfield 22, 3) := dk_180 0 22 (dk_at dksX6_payments_1 18 rfl rfl)
theorem dX6_payments_45 : decode cX6_payments 45 = .ok (.iload_n 2, 1) := dk_28 (dk_at dksX6_payments_1 21 rfl rfl)
theorem dX6_payments_46 : decode cX6_payments 46 = .ok (.dup2, 1) := dk_92 (dk_at dksX6_payments_1 22 rfl rfl)
theorem dX6_payments_47 : decode cX6_payments 47 = .ok (.iaload, 1) := dk_46 (dk_at dksX6_payments_1 23 rfl rfl)
theorem dX6_payments_48 : decode cX6_payments 48 = .ok (.iload 4, 2) := dk_21 4 (dk_at dksX6_payments_2 0 rfl rfl)
theorem dX6_payments_50 : decode cX6_payments 50 = .ok (.iload_n 2, 1) := dk_28 (dk_at dksX6_payments_2 2 rfl rfl)
theorem dX6_payments_51 : decode cX6_payments 51 = .ok (.if_icmp .eq 11, 3) := dk_159 0 11 (dk_at dksX6_payments_2 3 rfl rfl)
theorem dX6_payments_54 : decode cX6_payments 54 = .ok (.aload_n 0, 1) := dk_42 (dk_at dksX6_payments_2 6 rfl rfl)
theorem dX6_payments_55 : decode cX6_payments 55 = .ok (.iload_n 3, 1) := dk_29 (dk_at dksX6_payments_2 7 rfl rfl)
theorem dX6_payments_56 : decode cX6_payments 56 = .ok (.invokevirtual 175, 3) := dk_182 0 175 (dk_at dksX6_payments_2 8 rfl rfl)
theorem dX6_payments_59 : decode cX6_payments 59 = .ok (.goto 4, 3) := dk_167 0 4 (dk_at dksX6_payments_2 11 rfl rfl)
theorem dX6_payments_62 : decode cX6_payments 62 = .ok (.iconst 0, 1) := dk_3 (dk_at dksX6_payments_2 14 rfl rfl)
theorem dX6_payments_63 : decode cX6_payments 63 = .ok (.iadd, 1) := dk_96 (dk_at dksX6_payments_2 15 rfl rfl)
theorem dX6_payments_64 : decode cX6_payments 64 = .ok (.iastore, 1) := dk_79 (dk_at dksX6_payments_2 16 rfl rfl)
theorem dX6_payments_65 : decode cX6_payments 65 = .ok (.aload_n 0, 1) := dk_42 (dk_at dksX6_payments_2 17 rfl rfl)
theorem dX6_payments_66 : decode cX6_payments 66 = .ok (.getfield 25, 3) := dk_180 0 25 (dk_at dksX6_payments_2 18 rfl rfl)
theorem dX6_payments_69 : decode cX6_payments 69 = .ok (.iload_n 2, 1) := dk_28 (dk_at dksX6_payments_2 21 rfl rfl)
theorem dX6_payments_70 : decode cX6_payments 70 = .ok (.iload 4, 2) := dk_21 4 (dk_at dksX6_payments_2 22 rfl rfl)
theorem dX6_payments_72 : decode cX6_payments 72 = .ok (.iload_n 2, 1) := dk_28 (dk_at dksX6_payments_3 0 rfl rfl)
theorem dX6_payments_73 : decode cX6_payments 73 = .ok (.if_icmp .eq 29, 3) := dk_159 0 29 (dk_at dksX6_payments_3 1 rfl rfl)
theorem dX6_payments_76 : decode cX6_payments 76 = .ok (.aload_n 0, 1) := dk_42 (dk_at dksX6_payments_3 4 rfl rfl)
theorem dX6_payments_77 : decode cX6_payments 77 = .ok (.getfield 25, 3) := dk_180 0 25 (dk_at dksX6_payments_3 5 rfl rfl)
theorem dX6_payments_80 : decode cX6_payments 80 = .ok (.iload 4, 2) := dk_21 4 (dk_at dksX6_payments_3 8 rfl rfl)
theorem dX6_payments_82 : decode cX6_payments 82 = .ok (.iaload, 1) := dk_46 (dk_at dksX6_payments_3 10 rfl rfl)
theorem dX6_payments_83 : decode cX6_payments 83 = .ok (.aload_n 0, 1) := dk_42 (dk_at dksX6_payments_3 11 rfl rfl)
theorem dX6_payments_84 : decode cX6_payments 84 = .ok (.getfield 25, 3) := dk_180 0 25 (dk_at dksX6_payments_3 12 rfl rfl)
theorem dX6_payments_87 : decode cX6_payments 87 = .ok (.iload_n 2, 1) := dk_28 (dk_at dksX6_payments_3 15 rfl rfl)
theorem dX6_payments_88 : decode cX6_payments 88 = .ok (.iaload, 1) := dk_46 (dk_at dksX6_payments_3 16 rfl rfl)
theorem dX6_payments_89 : decode cX6_payments 89 = .ok (.if_icmp .le 13, 3) := dk_164 0 13 (dk_at dksX6_payments_3 17 rfl rfl)
theorem dX6_payments_92 : decode cX6_payments 92 = .ok (.aload_n 0, 1) := dk_42 (dk_at dksX6_payments_3 20 rfl rfl)
theorem dX6_payments_93 : decode cX6_payments 93 = .ok (.getfield 25, 3) := dk_180 0 25 (dk_at dksX6_payments_3 21 rfl rfl)
theorem dX6_payments_96 : decode cX6_payments 96 = .ok (.iload 4, 2) := dk_21 4 (dk_at dksX6_payments_4 0 rfl rfl)
theorem dX6_payments_98 : decode cX6_payments 98 = .ok (.iaload, 1) := dk_46 (dk_at dksX6_payments_4 2 rfl rfl)
theorem dX6_payments_99 : decode cX6_payments 99 = .ok (.goto 9, 3) := dk_167 0 9 (dk_at dksX6_payments_4 3 rfl rfl)
theorem dX6_payments_102 : decode cX6_payments 102 = .ok (.aload_n 0, 1) := dk_42 (dk_at dksX6_payments_4 6 rfl rfl)
theorem dX6_payments_103 : decode cX6_payments 103 = .ok (.getfield 25, 3) := dk_180 0 25 (dk_at dksX6_payments_4 7 rfl rfl)
theorem dX6_payments_106 : decode cX6_payments 106 = .ok (.iload_n 2, 1) := dk_28 (dk_at dksX6_payments_4 10 rfl rfl)
theorem dX6_payments_107 : decode cX6_payments 107 = .ok (.iaload, 1) := dk_46 (dk_at dksX6_payments_4 11 rfl rfl)
theorem dX6_payments_108 : decode cX6_payments 108 = .ok (.iastore, 1) := dk_79 (dk_at dksX6_payments_4 12 rfl rfl)
theorem dX6_payments_109 : decode cX6_payments 109 = .ok (.iinc 3 1, 3) := dk_132 3 1 (dk_at dksX6_payments_4 13 rfl rfl)
theorem dX6_payments_112 : decode cX6_payments 112 = .ok (.goto (-86), 3) := dk_167 255 170 (dk_at dksX6_payments_4 16 rfl rfl)
theorem dX6_payments_115 : decode cX6_payments 115 = .ok (.aload_n 0, 1) := dk_42 (dk_at dksX6_payments_4 19 rfl rfl)
theorem dX6_payments_116 : decode cX6_payments 116 = .ok (.getfield 25, 3) := dk_180 0 25 (dk_at dksX6_payments_4 20 rfl rfl)
theorem dX6_payments_119 : decode cX6_payments 119 = .ok (.iload_n 2, 1) := dk_28 (dk_at dksX6_payments_4 23 rfl rfl)
theorem dX6_payments_120 : decode cX6_payments 120 = .ok (.dup2, 1) := dk_92 (dk_at dksX6_payments_5 0 rfl rfl)
theorem dX6_payments_121 : decode cX6_payments 121 = .ok (.iaload, 1) := dk_46 (dk_at dksX6_payments_5 1 rfl rfl)
theorem dX6_payments_122 : decode cX6_payments 122 = .ok (.iload_n 2, 1) := dk_28 (dk_at dksX6_payments_5 2 rfl rfl)
theorem dX6_payments_123 : decode cX6_payments 123 = .ok (.ifCond .eq 16, 3) := dk_153 0 16 (dk_at dksX6_payments_5 3 rfl rfl)
theorem dX6_payments_126 : decode cX6_payments 126 = .ok (.aload_n 0, 1) := dk_42 (dk_at dksX6_payments_5 6 rfl rfl)
theorem dX6_payments_127 : decode cX6_payments 127 = .ok (.getfield 22, 3) := dk_180 0 22 (dk_at dksX6_payments_5 7 rfl rfl)
theorem dX6_payments_130 : decode cX6_payments 130 = .ok (.iload_n 2, 1) := dk_28 (dk_at dksX6_payments_5 10 rfl rfl)
theorem dX6_payments_131 : decode cX6_payments 131 = .ok (.iaload, 1) := dk_46 (dk_at dksX6_payments_5 11 rfl rfl)
theorem dX6_payments_132 : decode cX6_payments 132 = .ok (.ifCond .ne 7, 3) := dk_154 0 7 (dk_at dksX6_payments_5 12 rfl rfl)
theorem dX6_payments_135 : decode cX6_payments 135 = .ok (.iconst 1, 1) := dk_4 (dk_at dksX6_payments_5 15 rfl rfl)
theorem dX6_payments_136 : decode cX6_payments 136 = .ok (.goto 4, 3) := dk_167 0 4 (dk_at dksX6_payments_5 16 rfl rfl)
theorem dX6_payments_139 : decode cX6_payments 139 = .ok (.iconst 0, 1) := dk_3 (dk_at dksX6_payments_5 19 rfl rfl)
theorem dX6_payments_140 : decode cX6_payments 140 = .ok (.iadd, 1) := dk_96 (dk_at dksX6_payments_5 20 rfl rfl)
theorem dX6_payments_141 : decode cX6_payments 141 = .ok (.iastore, 1) := dk_79 (dk_at dksX6_payments_5 21 rfl rfl)
theorem dX6_payments_142 : decode cX6_payments 142 = .ok (.iinc 2 1, 3) := dk_132 2 1 (dk_at dksX6_payments_6 0 rfl rfl)
theorem dX6_payments_145 : decode cX6_payments 145 = .ok (.goto (-141), 3) := dk_167 255 115 (dk_at dksX6_payments_6 3 rfl rfl)
theorem dX6_payments_148 : decode cX6_payments 148 = .ok (.iconst 0, 1) := dk_3 (dk_at dksX6_payments_6 6 rfl rfl)
theorem dX6_payments_149 : decode cX6_payments 149 = .ok (.istore_n 2, 1) := dk_61 (dk_at dksX6_payments_6 7 rfl rfl)
theorem dX6_payments_150 : decode cX6_payments 150 = .ok (.iload_n 2, 1) := dk_28 (dk_at dksX6_payments_6 8 rfl rfl)
theorem dX6_payments_151 : decode cX6_payments 151 = .ok (.bipush 6, 2) := dk_16 6 (dk_at dksX6_payments_6 9 rfl rfl)
theorem dX6_payments_153 : decode cX6_payments 153 = .ok (.if_icmp .ge 27, 3) := dk_162 0 27 (dk_at dksX6_payments_6 11 rfl rfl)
theorem dX6_payments_156 : decode cX6_payments 156 = .ok (.iload_n 1, 1) := dk_27 (dk_at dksX6_payments_6 14 rfl rfl)
theorem dX6_payments_157 : decode cX6_payments 157 = .ok (.aload_n 0, 1) := dk_42 (dk_at dksX6_payments_6 15 rfl rfl)
theorem dX6_payments_158 : decode cX6_payments 158 = .ok (.iload_n 2, 1) := dk_28 (dk_at dksX6_payments_6 16 rfl rfl)
theorem dX6_payments_159 : decode cX6_payments 159 = .ok (.invokevirtual 175, 3) := dk_182 0 175 (dk_at dksX6_payments_6 17 rfl rfl)
theorem dX6_payments_162 : decode cX6_payments 162 = .ok (.ifCond .eq 9, 3) := dk_153 0 9 (dk_at dksX6_payments_6 20 rfl rfl)
theorem dX6_payments_165 : decode cX6_payments 165 = .ok (.iconst 1, 1) := dk_4 (dk_at dksX6_payments_6 23 rfl rfl)
theorem dX6_payments_166 : decode cX6_payments 166 = .ok (.iload_n 2, 1) := dk_28 (dk_at dksX6_payments_7 0 rfl rfl)
theorem dX6_payments_167 : decode cX6_payments 167 = .ok (.ishl, 1) := dk_120 (dk_at dksX6_payments_7 1 rfl rfl)
theorem dX6_payments_168 : decode cX6_payments 168 = .ok (.goto 4, 3) := dk_167 0 4 (dk_at dksX6_payments_7 2 rfl rfl)
theorem dX6_payments_171 : decode cX6_payments 171 = .ok (.iconst 0, 1) := dk_3 (dk_at dksX6_payments_7 5 rfl rfl)
theorem dX6_payments_172 : decode cX6_payments 172 = .ok (.ior, 1) := dk_128 (dk_at dksX6_payments_7 6 rfl rfl)
theorem dX6_payments_173 : decode cX6_payments 173 = .ok (.istore_n 1, 1) := dk_60 (dk_at dksX6_payments_7 7 rfl rfl)
theorem dX6_payments_174 : decode cX6_payments 174 = .ok (.iinc 2 1, 3) := dk_132 2 1 (dk_at dksX6_payments_7 8 rfl rfl)
theorem dX6_payments_177 : decode cX6_payments 177 = .ok (.goto (-27), 3) := dk_167 255 229 (dk_at dksX6_payments_7 11 rfl rfl)
theorem dX6_payments_180 : decode cX6_payments 180 = .ok (.iconst 0, 1) := dk_3 (dk_at dksX6_payments_7 14 rfl rfl)
theorem dX6_payments_181 : decode cX6_payments 181 = .ok (.istore_n 2, 1) := dk_61 (dk_at dksX6_payments_7 15 rfl rfl)
theorem dX6_payments_182 : decode cX6_payments 182 = .ok (.iload_n 1, 1) := dk_27 (dk_at dksX6_payments_7 16 rfl rfl)
theorem dX6_payments_183 : decode cX6_payments 183 = .ok (.istore_n 3, 1) := dk_62 (dk_at dksX6_payments_7 17 rfl rfl)
theorem dX6_payments_184 : decode cX6_payments 184 = .ok (.iload_n 3, 1) := dk_29 (dk_at dksX6_payments_7 18 rfl rfl)
theorem dX6_payments_185 : decode cX6_payments 185 = .ok (.ifCond .eq 15, 3) := dk_153 0 15 (dk_at dksX6_payments_7 19 rfl rfl)
theorem dX6_payments_188 : decode cX6_payments 188 = .ok (.iinc 2 1, 3) := dk_132 2 1 (dk_at dksX6_payments_8 0 rfl rfl)
theorem dX6_payments_191 : decode cX6_payments 191 = .ok (.iload_n 3, 1) := dk_29 (dk_at dksX6_payments_8 3 rfl rfl)
theorem dX6_payments_192 : decode cX6_payments 192 = .ok (.iload_n 3, 1) := dk_29 (dk_at dksX6_payments_8 4 rfl rfl)
theorem dX6_payments_193 : decode cX6_payments 193 = .ok (.iconst 1, 1) := dk_4 (dk_at dksX6_payments_8 5 rfl rfl)
theorem dX6_payments_194 : decode cX6_payments 194 = .ok (.isub, 1) := dk_100 (dk_at dksX6_payments_8 6 rfl rfl)
theorem dX6_payments_195 : decode cX6_payments 195 = .ok (.iand, 1) := dk_126 (dk_at dksX6_payments_8 7 rfl rfl)
theorem dX6_payments_196 : decode cX6_payments 196 = .ok (.istore_n 3, 1) := dk_62 (dk_at dksX6_payments_8 8 rfl rfl)
theorem dX6_payments_197 : decode cX6_payments 197 = .ok (.goto (-13), 3) := dk_167 255 243 (dk_at dksX6_payments_8 9 rfl rfl)
theorem dX6_payments_200 : decode cX6_payments 200 = .ok (.iload_n 2, 1) := dk_28 (dk_at dksX6_payments_8 12 rfl rfl)
theorem dX6_payments_201 : decode cX6_payments 201 = .ok (.aload_n 0, 1) := dk_42 (dk_at dksX6_payments_8 13 rfl rfl)
theorem dX6_payments_202 : decode cX6_payments 202 = .ok (.getfield 25, 3) := dk_180 0 25 (dk_at dksX6_payments_8 14 rfl rfl)
theorem dX6_payments_205 : decode cX6_payments 205 = .ok (.iload_n 1, 1) := dk_27 (dk_at dksX6_payments_8 17 rfl rfl)
theorem dX6_payments_206 : decode cX6_payments 206 = .ok (.iaload, 1) := dk_46 (dk_at dksX6_payments_8 18 rfl rfl)
theorem dX6_payments_207 : decode cX6_payments 207 = .ok (.isub, 1) := dk_100 (dk_at dksX6_payments_8 19 rfl rfl)
theorem dX6_payments_208 : decode cX6_payments 208 = .ok (.ireturn, 1) := dk_172 (dk_at dksX6_payments_8 20 rfl rfl)
abbrev cX6_best : ByteArray := prog_26_method_64_code
def yX6_best : MethodName := ⟨RX6, "best", "(I)I"⟩
def dkwX6_best_0 : List UInt8 := [27, 184, 0, 214, 154, 0, 5, 2, 172, 42, 27, 3, 182, 0, 217, 61, 42, 180, 0, 181, 172]
abbrev dktX6_best_0 : List UInt8 := dkwX6_best_0 ++ []
theorem dksX6_best_0 : cX6_best.data.toList.drop 0 = dktX6_best_0 := by decide +kernel
theorem dX6_best_0 : decode cX6_best 0 = .ok (.iload_n 1, 1) := dk_27 (dk_at dksX6_best_0 0 rfl rfl)
theorem dX6_best_1 : decode cX6_best 1 = .ok (.invokestatic 214, 3) := dk_184 0 214 (dk_at dksX6_best_0 1 rfl rfl)
theorem dX6_best_4 : decode cX6_best 4 = .ok (.ifCond .ne 5, 3) := dk_154 0 5 (dk_at dksX6_best_0 4 rfl rfl)
theorem dX6_best_7 : decode cX6_best 7 = .ok (.iconst (-1), 1) := dk_2 (dk_at dksX6_best_0 7 rfl rfl)
theorem dX6_best_8 : decode cX6_best 8 = .ok (.ireturn, 1) := dk_172 (dk_at dksX6_best_0 8 rfl rfl)
theorem dX6_best_9 : decode cX6_best 9 = .ok (.aload_n 0, 1) := dk_42 (dk_at dksX6_best_0 9 rfl rfl)
theorem dX6_best_10 : decode cX6_best 10 = .ok (.iload_n 1, 1) := dk_27 (dk_at dksX6_best_0 10 rfl rfl)
theorem dX6_best_11 : decode cX6_best 11 = .ok (.iconst 0, 1) := dk_3 (dk_at dksX6_best_0 11 rfl rfl)
theorem dX6_best_12 : decode cX6_best 12 = .ok (.invokevirtual 217, 3) := dk_182 0 217 (dk_at dksX6_best_0 12 rfl rfl)
theorem dX6_best_15 : decode cX6_best 15 = .ok (.istore_n 2, 1) := dk_61 (dk_at dksX6_best_0 15 rfl rfl)
theorem dX6_best_16 : decode cX6_best 16 = .ok (.aload_n 0, 1) := dk_42 (dk_at dksX6_best_0 16 rfl rfl)
theorem dX6_best_17 : decode cX6_best 17 = .ok (.getfield 181, 3) := dk_180 0 181 (dk_at dksX6_best_0 17 rfl rfl)
theorem dX6_best_20 : decode cX6_best 20 = .ok (.ireturn, 1) := dk_172 (dk_at dksX6_best_0 20 rfl rfl)
abbrev cX6_isLong : ByteArray := prog_26_method_63_code
def yX6_isLong : MethodName := ⟨RX6, "isLong", "(I)Z"⟩
def dkwX6_isLong_0 : List UInt8 := [26, 133, 9, 20, 0, 149, 184, 0, 64, 172]
abbrev dktX6_isLong_0 : List UInt8 := dkwX6_isLong_0 ++ []
theorem dksX6_isLong_0 : cX6_isLong.data.toList.drop 0 = dktX6_isLong_0 := by decide +kernel
theorem dX6_isLong_0 : decode cX6_isLong 0 = .ok (.iload_n 0, 1) := dk_26 (dk_at dksX6_isLong_0 0 rfl rfl)
theorem dX6_isLong_1 : decode cX6_isLong 1 = .ok (.i2l, 1) := dk_133 (dk_at dksX6_isLong_0 1 rfl rfl)
theorem dX6_isLong_2 : decode cX6_isLong 2 = .ok (.lconst 0, 1) := dk_9 (dk_at dksX6_isLong_0 2 rfl rfl)
theorem dX6_isLong_3 : decode cX6_isLong 3 = .ok (.ldc2_w 149, 3) := dk_20 0 149 (dk_at dksX6_isLong_0 3 rfl rfl)
theorem dX6_isLong_6 : decode cX6_isLong 6 = .ok (.invokestatic 64, 3) := dk_184 0 64 (dk_at dksX6_isLong_0 6 rfl rfl)
theorem dX6_isLong_9 : decode cX6_isLong 9 = .ok (.ireturn, 1) := dk_172 (dk_at dksX6_isLong_0 9 rfl rfl)
abbrev cX6_plansOf : ByteArray := prog_26_method_62_code
def yX6_plansOf : MethodName := ⟨RX6, "plansOf", "(II)I"⟩
def dkwX6_plansOf_1 : List UInt8 := [181, 0, 191, 42, 27, 182, 0, 211, 62, 42, 3, 29, 3, 182, 0, 204, 29, 172]
abbrev dktX6_plansOf_1 : List UInt8 := dkwX6_plansOf_1 ++ []
def dkwX6_plansOf_0 : List UInt8 := [42, 2, 181, 0, 181, 42, 3, 181, 0, 185, 42, 8, 181, 0, 194, 42, 3, 181, 0, 188, 42, 28]
abbrev dktX6_plansOf_0 : List UInt8 := dkwX6_plansOf_0 ++ dktX6_plansOf_1
theorem dksX6_plansOf_0 : cX6_plansOf.data.toList.drop 0 = dktX6_plansOf_0 := by decide +kernel
theorem dksX6_plansOf_1 : cX6_plansOf.data.toList.drop 22 = dktX6_plansOf_1 := dk_seg dksX6_plansOf_0 22 rfl rfl
theorem dX6_plansOf_0 : decode cX6_plansOf 0 = .ok (.aload_n 0, 1) := dk_42 (dk_at dksX6_plansOf_0 0 rfl rfl)
theorem dX6_plansOf_1 : decode cX6_plansOf 1 = .ok (.iconst (-1), 1) := dk_2 (dk_at dksX6_plansOf_0 1 rfl rfl)
theorem dX6_plansOf_2 : decode cX6_plansOf 2 = .ok (.putfield 181, 3) := dk_181 0 181 (dk_at dksX6_plansOf_0 2 rfl rfl)
theorem dX6_plansOf_5 : decode cX6_plansOf 5 = .ok (.aload_n 0, 1) := dk_42 (dk_at dksX6_plansOf_0 5 rfl rfl)
theorem dX6_plansOf_6 : decode cX6_plansOf 6 = .ok (.iconst 0, 1) := dk_3 (dk_at dksX6_plansOf_0 6 rfl rfl)
theorem dX6_plansOf_7 : decode cX6_plansOf 7 = .ok (.putfield 185, 3) := dk_181 0 185 (dk_at dksX6_plansOf_0 7 rfl rfl)
theorem dX6_plansOf_10 : decode cX6_plansOf 10 = .ok (.aload_n 0, 1) := dk_42 (dk_at dksX6_plansOf_0 10 rfl rfl)
theorem dX6_plansOf_11 : decode cX6_plansOf 11 = .ok (.iconst 5, 1) := dk_8 (dk_at dksX6_plansOf_0 11 rfl rfl)
theorem dX6_plansOf_12 : decode cX6_plansOf 12 = .ok (.putfield 194, 3) := dk_181 0 194 (dk_at dksX6_plansOf_0 12 rfl rfl)
theorem dX6_plansOf_15 : decode cX6_plansOf 15 = .ok (.aload_n 0, 1) := dk_42 (dk_at dksX6_plansOf_0 15 rfl rfl)
theorem dX6_plansOf_16 : decode cX6_plansOf 16 = .ok (.iconst 0, 1) := dk_3 (dk_at dksX6_plansOf_0 16 rfl rfl)
theorem dX6_plansOf_17 : decode cX6_plansOf 17 = .ok (.putfield 188, 3) := dk_181 0 188 (dk_at dksX6_plansOf_0 17 rfl rfl)
theorem dX6_plansOf_20 : decode cX6_plansOf 20 = .ok (.aload_n 0, 1) := dk_42 (dk_at dksX6_plansOf_0 20 rfl rfl)
theorem dX6_plansOf_21 : decode cX6_plansOf 21 = .ok (.iload_n 2, 1) := dk_28 (dk_at dksX6_plansOf_0 21 rfl rfl)
theorem dX6_plansOf_22 : decode cX6_plansOf 22 = .ok (.putfield 191, 3) := dk_181 0 191 (dk_at dksX6_plansOf_1 0 rfl rfl)
theorem dX6_plansOf_25 : decode cX6_plansOf 25 = .ok (.aload_n 0, 1) := dk_42 (dk_at dksX6_plansOf_1 3 rfl rfl)
theorem dX6_plansOf_26 : decode cX6_plansOf 26 = .ok (.iload_n 1, 1) := dk_27 (dk_at dksX6_plansOf_1 4 rfl rfl)
theorem dX6_plansOf_27 : decode cX6_plansOf 27 = .ok (.invokevirtual 211, 3) := dk_182 0 211 (dk_at dksX6_plansOf_1 5 rfl rfl)
theorem dX6_plansOf_30 : decode cX6_plansOf 30 = .ok (.istore_n 3, 1) := dk_62 (dk_at dksX6_plansOf_1 8 rfl rfl)
theorem dX6_plansOf_31 : decode cX6_plansOf 31 = .ok (.aload_n 0, 1) := dk_42 (dk_at dksX6_plansOf_1 9 rfl rfl)
theorem dX6_plansOf_32 : decode cX6_plansOf 32 = .ok (.iconst 0, 1) := dk_3 (dk_at dksX6_plansOf_1 10 rfl rfl)
theorem dX6_plansOf_33 : decode cX6_plansOf 33 = .ok (.iload_n 3, 1) := dk_29 (dk_at dksX6_plansOf_1 11 rfl rfl)
theorem dX6_plansOf_34 : decode cX6_plansOf 34 = .ok (.iconst 0, 1) := dk_3 (dk_at dksX6_plansOf_1 12 rfl rfl)
theorem dX6_plansOf_35 : decode cX6_plansOf 35 = .ok (.invokevirtual 204, 3) := dk_182 0 204 (dk_at dksX6_plansOf_1 13 rfl rfl)
theorem dX6_plansOf_38 : decode cX6_plansOf 38 = .ok (.iload_n 3, 1) := dk_29 (dk_at dksX6_plansOf_1 16 rfl rfl)
theorem dX6_plansOf_39 : decode cX6_plansOf 39 = .ok (.ireturn, 1) := dk_172 (dk_at dksX6_plansOf_1 17 rfl rfl)
abbrev cX6_yearsOf : ByteArray := prog_26_method_61_code
def yX6_yearsOf : MethodName := ⟨RX6, "yearsOf", "(I)I"⟩
def dkwX6_yearsOf_1 : List UInt8 := [156, 0, 7, 3, 167, 0, 4, 28, 172]
abbrev dktX6_yearsOf_1 : List UInt8 := dkwX6_yearsOf_1 ++ []
def dkwX6_yearsOf_0 : List UInt8 := [42, 180, 0, 7, 5, 46, 42, 180, 0, 7, 6, 46, 100, 61, 27, 28, 162, 0, 7, 27, 167, 0, 12, 28]
abbrev dktX6_yearsOf_0 : List UInt8 := dkwX6_yearsOf_0 ++ dktX6_yearsOf_1
theorem dksX6_yearsOf_0 : cX6_yearsOf.data.toList.drop 0 = dktX6_yearsOf_0 := by decide +kernel
theorem dksX6_yearsOf_1 : cX6_yearsOf.data.toList.drop 24 = dktX6_yearsOf_1 := dk_seg dksX6_yearsOf_0 24 rfl rfl
theorem dX6_yearsOf_0 : decode cX6_yearsOf 0 = .ok (.aload_n 0, 1) := dk_42 (dk_at dksX6_yearsOf_0 0 rfl rfl)
theorem dX6_yearsOf_1 : decode cX6_yearsOf 1 = .ok (.getfield 7, 3) := dk_180 0 7 (dk_at dksX6_yearsOf_0 1 rfl rfl)
theorem dX6_yearsOf_4 : decode cX6_yearsOf 4 = .ok (.iconst 2, 1) := dk_5 (dk_at dksX6_yearsOf_0 4 rfl rfl)
theorem dX6_yearsOf_5 : decode cX6_yearsOf 5 = .ok (.iaload, 1) := dk_46 (dk_at dksX6_yearsOf_0 5 rfl rfl)
theorem dX6_yearsOf_6 : decode cX6_yearsOf 6 = .ok (.aload_n 0, 1) := dk_42 (dk_at dksX6_yearsOf_0 6 rfl rfl)
theorem dX6_yearsOf_7 : decode cX6_yearsOf 7 = .ok (.getfield 7, 3) := dk_180 0 7 (dk_at dksX6_yearsOf_0 7 rfl rfl)
theorem dX6_yearsOf_10 : decode cX6_yearsOf 10 = .ok (.iconst 3, 1) := dk_6 (dk_at dksX6_yearsOf_0 10 rfl rfl)
theorem dX6_yearsOf_11 : decode cX6_yearsOf 11 = .ok (.iaload, 1) := dk_46 (dk_at dksX6_yearsOf_0 11 rfl rfl)
theorem dX6_yearsOf_12 : decode cX6_yearsOf 12 = .ok (.isub, 1) := dk_100 (dk_at dksX6_yearsOf_0 12 rfl rfl)
theorem dX6_yearsOf_13 : decode cX6_yearsOf 13 = .ok (.istore_n 2, 1) := dk_61 (dk_at dksX6_yearsOf_0 13 rfl rfl)
theorem dX6_yearsOf_14 : decode cX6_yearsOf 14 = .ok (.iload_n 1, 1) := dk_27 (dk_at dksX6_yearsOf_0 14 rfl rfl)
theorem dX6_yearsOf_15 : decode cX6_yearsOf 15 = .ok (.iload_n 2, 1) := dk_28 (dk_at dksX6_yearsOf_0 15 rfl rfl)
theorem dX6_yearsOf_16 : decode cX6_yearsOf 16 = .ok (.if_icmp .ge 7, 3) := dk_162 0 7 (dk_at dksX6_yearsOf_0 16 rfl rfl)
theorem dX6_yearsOf_19 : decode cX6_yearsOf 19 = .ok (.iload_n 1, 1) := dk_27 (dk_at dksX6_yearsOf_0 19 rfl rfl)
theorem dX6_yearsOf_20 : decode cX6_yearsOf 20 = .ok (.goto 12, 3) := dk_167 0 12 (dk_at dksX6_yearsOf_0 20 rfl rfl)
theorem dX6_yearsOf_23 : decode cX6_yearsOf 23 = .ok (.iload_n 2, 1) := dk_28 (dk_at dksX6_yearsOf_0 23 rfl rfl)
theorem dX6_yearsOf_24 : decode cX6_yearsOf 24 = .ok (.ifCond .ge 7, 3) := dk_156 0 7 (dk_at dksX6_yearsOf_1 0 rfl rfl)
theorem dX6_yearsOf_27 : decode cX6_yearsOf 27 = .ok (.iconst 0, 1) := dk_3 (dk_at dksX6_yearsOf_1 3 rfl rfl)
theorem dX6_yearsOf_28 : decode cX6_yearsOf 28 = .ok (.goto 4, 3) := dk_167 0 4 (dk_at dksX6_yearsOf_1 4 rfl rfl)
theorem dX6_yearsOf_31 : decode cX6_yearsOf 31 = .ok (.iload_n 2, 1) := dk_28 (dk_at dksX6_yearsOf_1 7 rfl rfl)
theorem dX6_yearsOf_32 : decode cX6_yearsOf 32 = .ok (.ireturn, 1) := dk_172 (dk_at dksX6_yearsOf_1 8 rfl rfl)
abbrev cX6_plans : ByteArray := prog_26_method_60_code
def yX6_plans : MethodName := ⟨RX6, "plans", "(III)V"⟩
def dkwX6_plans_2 : List UInt8 := [21, 4, 182, 0, 146, 96, 182, 0, 204, 42, 27, 182, 0, 208, 132, 4, 1, 167, 255, 208, 177]
abbrev dktX6_plans_2 : List UInt8 := dkwX6_plans_2 ++ []
def dkwX6_plans_1 : List UInt8 := [163, 0, 43, 42, 27, 182, 0, 201, 42, 180, 0, 31, 27, 21, 4, 79, 42, 27, 4, 96, 28, 29, 42]
abbrev dktX6_plans_1 : List UInt8 := dkwX6_plans_1 ++ dktX6_plans_2
def dkwX6_plans_0 : List UInt8 := [27, 28, 160, 0, 10, 42, 28, 29, 182, 0, 197, 177, 3, 54, 4, 21, 4, 42, 180, 0, 7, 3, 46]
abbrev dktX6_plans_0 : List UInt8 := dkwX6_plans_0 ++ dktX6_plans_1
theorem dksX6_plans_0 : cX6_plans.data.toList.drop 0 = dktX6_plans_0 := by decide +kernel
theorem dksX6_plans_1 : cX6_plans.data.toList.drop 23 = dktX6_plans_1 := dk_seg dksX6_plans_0 23 rfl rfl
theorem dksX6_plans_2 : cX6_plans.data.toList.drop 46 = dktX6_plans_2 := dk_seg dksX6_plans_1 23 rfl rfl
theorem dX6_plans_0 : decode cX6_plans 0 = .ok (.iload_n 1, 1) := dk_27 (dk_at dksX6_plans_0 0 rfl rfl)
theorem dX6_plans_1 : decode cX6_plans 1 = .ok (.iload_n 2, 1) := dk_28 (dk_at dksX6_plans_0 1 rfl rfl)
theorem dX6_plans_2 : decode cX6_plans 2 = .ok (.if_icmp .ne 10, 3) := dk_160 0 10 (dk_at dksX6_plans_0 2 rfl rfl)
theorem dX6_plans_5 : decode cX6_plans 5 = .ok (.aload_n 0, 1) := dk_42 (dk_at dksX6_plans_0 5 rfl rfl)
theorem dX6_plans_6 : decode cX6_plans 6 = .ok (.iload_n 2, 1) := dk_28 (dk_at dksX6_plans_0 6 rfl rfl)
theorem dX6_plans_7 : decode cX6_plans 7 = .ok (.iload_n 3, 1) := dk_29 (dk_at dksX6_plans_0 7 rfl rfl)
theorem dX6_plans_8 : decode cX6_plans 8 = .ok (.invokevirtual 197, 3) := dk_182 0 197 (dk_at dksX6_plans_0 8 rfl rfl)
theorem dX6_plans_11 : decode cX6_plans 11 = .ok (.return_, 1) := dk_177 (dk_at dksX6_plans_0 11 rfl rfl)
theorem dX6_plans_12 : decode cX6_plans 12 = .ok (.iconst 0, 1) := dk_3 (dk_at dksX6_plans_0 12 rfl rfl)
theorem dX6_plans_13 : decode cX6_plans 13 = .ok (.istore 4, 2) := dk_54 4 (dk_at dksX6_plans_0 13 rfl rfl)
theorem dX6_plans_15 : decode cX6_plans 15 = .ok (.iload 4, 2) := dk_21 4 (dk_at dksX6_plans_0 15 rfl rfl)
theorem dX6_plans_17 : decode cX6_plans 17 = .ok (.aload_n 0, 1) := dk_42 (dk_at dksX6_plans_0 17 rfl rfl)
theorem dX6_plans_18 : decode cX6_plans 18 = .ok (.getfield 7, 3) := dk_180 0 7 (dk_at dksX6_plans_0 18 rfl rfl)
theorem dX6_plans_21 : decode cX6_plans 21 = .ok (.iconst 0, 1) := dk_3 (dk_at dksX6_plans_0 21 rfl rfl)
theorem dX6_plans_22 : decode cX6_plans 22 = .ok (.iaload, 1) := dk_46 (dk_at dksX6_plans_0 22 rfl rfl)
theorem dX6_plans_23 : decode cX6_plans 23 = .ok (.if_icmp .gt 43, 3) := dk_163 0 43 (dk_at dksX6_plans_1 0 rfl rfl)
theorem dX6_plans_26 : decode cX6_plans 26 = .ok (.aload_n 0, 1) := dk_42 (dk_at dksX6_plans_1 3 rfl rfl)
theorem dX6_plans_27 : decode cX6_plans 27 = .ok (.iload_n 1, 1) := dk_27 (dk_at dksX6_plans_1 4 rfl rfl)
theorem dX6_plans_28 : decode cX6_plans 28 = .ok (.invokevirtual 201, 3) := dk_182 0 201 (dk_at dksX6_plans_1 5 rfl rfl)
theorem dX6_plans_31 : decode cX6_plans 31 = .ok (.aload_n 0, 1) := dk_42 (dk_at dksX6_plans_1 8 rfl rfl)
theorem dX6_plans_32 : decode cX6_plans 32 = .ok (.getfield 31, 3) := dk_180 0 31 (dk_at dksX6_plans_1 9 rfl rfl)
theorem dX6_plans_35 : decode cX6_plans 35 = .ok (.iload_n 1, 1) := dk_27 (dk_at dksX6_plans_1 12 rfl rfl)
theorem dX6_plans_36 : decode cX6_plans 36 = .ok (.iload 4, 2) := dk_21 4 (dk_at dksX6_plans_1 13 rfl rfl)
theorem dX6_plans_38 : decode cX6_plans 38 = .ok (.iastore, 1) := dk_79 (dk_at dksX6_plans_1 15 rfl rfl)
theorem dX6_plans_39 : decode cX6_plans 39 = .ok (.aload_n 0, 1) := dk_42 (dk_at dksX6_plans_1 16 rfl rfl)
theorem dX6_plans_40 : decode cX6_plans 40 = .ok (.iload_n 1, 1) := dk_27 (dk_at dksX6_plans_1 17 rfl rfl)
theorem dX6_plans_41 : decode cX6_plans 41 = .ok (.iconst 1, 1) := dk_4 (dk_at dksX6_plans_1 18 rfl rfl)
theorem dX6_plans_42 : decode cX6_plans 42 = .ok (.iadd, 1) := dk_96 (dk_at dksX6_plans_1 19 rfl rfl)
theorem dX6_plans_43 : decode cX6_plans 43 = .ok (.iload_n 2, 1) := dk_28 (dk_at dksX6_plans_1 20 rfl rfl)
theorem dX6_plans_44 : decode cX6_plans 44 = .ok (.iload_n 3, 1) := dk_29 (dk_at dksX6_plans_1 21 rfl rfl)
theorem dX6_plans_45 : decode cX6_plans 45 = .ok (.aload_n 0, 1) := dk_42 (dk_at dksX6_plans_1 22 rfl rfl)
theorem dX6_plans_46 : decode cX6_plans 46 = .ok (.iload 4, 2) := dk_21 4 (dk_at dksX6_plans_2 0 rfl rfl)
theorem dX6_plans_48 : decode cX6_plans 48 = .ok (.invokevirtual 146, 3) := dk_182 0 146 (dk_at dksX6_plans_2 2 rfl rfl)
theorem dX6_plans_51 : decode cX6_plans 51 = .ok (.iadd, 1) := dk_96 (dk_at dksX6_plans_2 5 rfl rfl)
theorem dX6_plans_52 : decode cX6_plans 52 = .ok (.invokevirtual 204, 3) := dk_182 0 204 (dk_at dksX6_plans_2 6 rfl rfl)
theorem dX6_plans_55 : decode cX6_plans 55 = .ok (.aload_n 0, 1) := dk_42 (dk_at dksX6_plans_2 9 rfl rfl)
theorem dX6_plans_56 : decode cX6_plans 56 = .ok (.iload_n 1, 1) := dk_27 (dk_at dksX6_plans_2 10 rfl rfl)
theorem dX6_plans_57 : decode cX6_plans 57 = .ok (.invokevirtual 208, 3) := dk_182 0 208 (dk_at dksX6_plans_2 11 rfl rfl)
theorem dX6_plans_60 : decode cX6_plans 60 = .ok (.iinc 4 1, 3) := dk_132 4 1 (dk_at dksX6_plans_2 14 rfl rfl)
theorem dX6_plans_63 : decode cX6_plans 63 = .ok (.goto (-48), 3) := dk_167 255 208 (dk_at dksX6_plans_2 17 rfl rfl)
theorem dX6_plans_66 : decode cX6_plans 66 = .ok (.return_, 1) := dk_177 (dk_at dksX6_plans_2 20 rfl rfl)
abbrev cX6_ended : ByteArray := prog_26_method_59_code
def yX6_ended : MethodName := ⟨RX6, "ended", "(II)V"⟩
def dkwX6_ended_6 : List UInt8 := [29, 167, 0, 7, 42, 180, 0, 194, 181, 0, 194, 177]
abbrev dktX6_ended_6 : List UInt8 := dkwX6_ended_6 ++ []
def dkwX6_ended_5 : List UInt8 := [181, 0, 188, 42, 42, 180, 0, 191, 21, 4, 2, 130, 126, 154, 0, 15, 29, 42, 180, 0, 194, 162, 0, 7]
abbrev dktX6_ended_5 : List UInt8 := dkwX6_ended_5 ++ dktX6_ended_6
def dkwX6_ended_4 : List UInt8 := [96, 62, 132, 4, 1, 167, 255, 229, 42, 4, 182, 0, 151, 54, 4, 42, 89, 180, 0, 188, 21, 4, 128]
abbrev dktX6_ended_4 : List UInt8 := dkwX6_ended_4 ++ dktX6_ended_5
def dkwX6_ended_3 : List UInt8 := [54, 4, 21, 4, 27, 162, 0, 27, 29, 42, 180, 0, 31, 21, 4, 46, 158, 0, 7, 4, 167, 0, 4, 3]
abbrev dktX6_ended_3 : List UInt8 := dkwX6_ended_3 ++ dktX6_ended_4
def dkwX6_ended_2 : List UInt8 := [180, 0, 185, 28, 42, 180, 0, 181, 160, 0, 7, 4, 167, 0, 4, 3, 96, 181, 0, 185, 3, 62, 3]
abbrev dktX6_ended_2 : List UInt8 := dkwX6_ended_2 ++ dktX6_ended_3
def dkwX6_ended_1 : List UInt8 := [162, 0, 21, 42, 180, 0, 34, 29, 42, 180, 0, 31, 29, 46, 79, 132, 3, 1, 167, 255, 236, 42, 89]
abbrev dktX6_ended_1 : List UInt8 := dkwX6_ended_1 ++ dktX6_ended_2
def dkwX6_ended_0 : List UInt8 := [28, 42, 180, 0, 181, 164, 0, 38, 42, 28, 181, 0, 181, 42, 3, 181, 0, 185, 3, 62, 29, 27]
abbrev dktX6_ended_0 : List UInt8 := dkwX6_ended_0 ++ dktX6_ended_1
theorem dksX6_ended_0 : cX6_ended.data.toList.drop 0 = dktX6_ended_0 := by decide +kernel
theorem dksX6_ended_1 : cX6_ended.data.toList.drop 22 = dktX6_ended_1 := dk_seg dksX6_ended_0 22 rfl rfl
theorem dksX6_ended_2 : cX6_ended.data.toList.drop 45 = dktX6_ended_2 := dk_seg dksX6_ended_1 23 rfl rfl
theorem dksX6_ended_3 : cX6_ended.data.toList.drop 68 = dktX6_ended_3 := dk_seg dksX6_ended_2 23 rfl rfl
theorem dksX6_ended_4 : cX6_ended.data.toList.drop 92 = dktX6_ended_4 := dk_seg dksX6_ended_3 24 rfl rfl
theorem dksX6_ended_5 : cX6_ended.data.toList.drop 115 = dktX6_ended_5 := dk_seg dksX6_ended_4 23 rfl rfl
theorem dksX6_ended_6 : cX6_ended.data.toList.drop 139 = dktX6_ended_6 := dk_seg dksX6_ended_5 24 rfl rfl
theorem dX6_ended_0 : decode cX6_ended 0 = .ok (.iload_n 2, 1) := dk_28 (dk_at dksX6_ended_0 0 rfl rfl)
theorem dX6_ended_1 : decode cX6_ended 1 = .ok (.aload_n 0, 1) := dk_42 (dk_at dksX6_ended_0 1 rfl rfl)
theorem dX6_ended_2 : decode cX6_ended 2 = .ok (.getfield 181, 3) := dk_180 0 181 (dk_at dksX6_ended_0 2 rfl rfl)
theorem dX6_ended_5 : decode cX6_ended 5 = .ok (.if_icmp .le 38, 3) := dk_164 0 38 (dk_at dksX6_ended_0 5 rfl rfl)
theorem dX6_ended_8 : decode cX6_ended 8 = .ok (.aload_n 0, 1) := dk_42 (dk_at dksX6_ended_0 8 rfl rfl)
theorem dX6_ended_9 : decode cX6_ended 9 = .ok (.iload_n 2, 1) := dk_28 (dk_at dksX6_ended_0 9 rfl rfl)
theorem dX6_ended_10 : decode cX6_ended 10 = .ok (.putfield 181, 3) := dk_181 0 181 (dk_at dksX6_ended_0 10 rfl rfl)
theorem dX6_ended_13 : decode cX6_ended 13 = .ok (.aload_n 0, 1) := dk_42 (dk_at dksX6_ended_0 13 rfl rfl)
theorem dX6_ended_14 : decode cX6_ended 14 = .ok (.iconst 0, 1) := dk_3 (dk_at dksX6_ended_0 14 rfl rfl)
theorem dX6_ended_15 : decode cX6_ended 15 = .ok (.putfield 185, 3) := dk_181 0 185 (dk_at dksX6_ended_0 15 rfl rfl)
theorem dX6_ended_18 : decode cX6_ended 18 = .ok (.iconst 0, 1) := dk_3 (dk_at dksX6_ended_0 18 rfl rfl)
theorem dX6_ended_19 : decode cX6_ended 19 = .ok (.istore_n 3, 1) := dk_62 (dk_at dksX6_ended_0 19 rfl rfl)
theorem dX6_ended_20 : decode cX6_ended 20 = .ok (.iload_n 3, 1) := dk_29 (dk_at dksX6_ended_0 20 rfl rfl)
theorem dX6_ended_21 : decode cX6_ended 21 = .ok (.iload_n 1, 1) := dk_27 (dk_at dksX6_ended_0 21 rfl rfl)
theorem dX6_ended_22 : decode cX6_ended 22 = .ok (.if_icmp .ge 21, 3) := dk_162 0 21 (dk_at dksX6_ended_1 0 rfl rfl)
theorem dX6_ended_25 : decode cX6_ended 25 = .ok (.aload_n 0, 1) := dk_42 (dk_at dksX6_ended_1 3 rfl rfl)
theorem dX6_ended_26 : decode cX6_ended 26 = .ok (.getfield 34, 3) := dk_180 0 34 (dk_at dksX6_ended_1 4 rfl rfl)
theorem dX6_ended_29 : decode cX6_ended 29 = .ok (.iload_n 3, 1) := dk_29 (dk_at dksX6_ended_1 7 rfl rfl)
theorem dX6_ended_30 : decode cX6_ended 30 = .ok (.aload_n 0, 1) := dk_42 (dk_at dksX6_ended_1 8 rfl rfl)
theorem dX6_ended_31 : decode cX6_ended 31 = .ok (.getfield 31, 3) := dk_180 0 31 (dk_at dksX6_ended_1 9 rfl rfl)
theorem dX6_ended_34 : decode cX6_ended 34 = .ok (.iload_n 3, 1) := dk_29 (dk_at dksX6_ended_1 12 rfl rfl)
theorem dX6_ended_35 : decode cX6_ended 35 = .ok (.iaload, 1) := dk_46 (dk_at dksX6_ended_1 13 rfl rfl)
theorem dX6_ended_36 : decode cX6_ended 36 = .ok (.iastore, 1) := dk_79 (dk_at dksX6_ended_1 14 rfl rfl)
theorem dX6_ended_37 : decode cX6_ended 37 = .ok (.iinc 3 1, 3) := dk_132 3 1 (dk_at dksX6_ended_1 15 rfl rfl)
theorem dX6_ended_40 : decode cX6_ended 40 = .ok (.goto (-20), 3) := dk_167 255 236 (dk_at dksX6_ended_1 18 rfl rfl)
theorem dX6_ended_43 : decode cX6_ended 43 = .ok (.aload_n 0, 1) := dk_42 (dk_at dksX6_ended_1 21 rfl rfl)
theorem dX6_ended_44 : decode cX6_ended 44 = .ok (.dup, 1) := dk_89 (dk_at dksX6_ended_1 22 rfl rfl)
theorem dX6_ended_45 : decode cX6_ended 45 = .ok (.getfield 185, 3) := dk_180 0 185 (dk_at dksX6_ended_2 0 rfl rfl)
theorem dX6_ended_48 : decode cX6_ended 48 = .ok (.iload_n 2, 1) := dk_28 (dk_at dksX6_ended_2 3 rfl rfl)
theorem dX6_ended_49 : decode cX6_ended 49 = .ok (.aload_n 0, 1) := dk_42 (dk_at dksX6_ended_2 4 rfl rfl)
theorem dX6_ended_50 : decode cX6_ended 50 = .ok (.getfield 181, 3) := dk_180 0 181 (dk_at dksX6_ended_2 5 rfl rfl)
theorem dX6_ended_53 : decode cX6_ended 53 = .ok (.if_icmp .ne 7, 3) := dk_160 0 7 (dk_at dksX6_ended_2 8 rfl rfl)
theorem dX6_ended_56 : decode cX6_ended 56 = .ok (.iconst 1, 1) := dk_4 (dk_at dksX6_ended_2 11 rfl rfl)
theorem dX6_ended_57 : decode cX6_ended 57 = .ok (.goto 4, 3) := dk_167 0 4 (dk_at dksX6_ended_2 12 rfl rfl)
theorem dX6_ended_60 : decode cX6_ended 60 = .ok (.iconst 0, 1) := dk_3 (dk_at dksX6_ended_2 15 rfl rfl)
theorem dX6_ended_61 : decode cX6_ended 61 = .ok (.iadd, 1) := dk_96 (dk_at dksX6_ended_2 16 rfl rfl)
theorem dX6_ended_62 : decode cX6_ended 62 = .ok (.putfield 185, 3) := dk_181 0 185 (dk_at dksX6_ended_2 17 rfl rfl)
theorem dX6_ended_65 : decode cX6_ended 65 = .ok (.iconst 0, 1) := dk_3 (dk_at dksX6_ended_2 20 rfl rfl)
theorem dX6_ended_66 : decode cX6_ended 66 = .ok (.istore_n 3, 1) := dk_62 (dk_at dksX6_ended_2 21 rfl rfl)
theorem dX6_ended_67 : decode cX6_ended 67 = .ok (.iconst 0, 1) := dk_3 (dk_at dksX6_ended_2 22 rfl rfl)
theorem dX6_ended_68 : decode cX6_ended 68 = .ok (.istore 4, 2) := dk_54 4 (dk_at dksX6_ended_3 0 rfl rfl)
theorem dX6_ended_70 : decode cX6_ended 70 = .ok (.iload 4, 2) := dk_21 4 (dk_at dksX6_ended_3 2 rfl rfl)
theorem dX6_ended_72 : decode cX6_ended 72 = .ok (.iload_n 1, 1) := dk_27 (dk_at dksX6_ended_3 4 rfl rfl)
theorem dX6_ended_73 : decode cX6_ended 73 = .ok (.if_icmp .ge 27, 3) := dk_162 0 27 (dk_at dksX6_ended_3 5 rfl rfl)
theorem dX6_ended_76 : decode cX6_ended 76 = .ok (.iload_n 3, 1) := dk_29 (dk_at dksX6_ended_3 8 rfl rfl)
theorem dX6_ended_77 : decode cX6_ended 77 = .ok (.aload_n 0, 1) := dk_42 (dk_at dksX6_ended_3 9 rfl rfl)
theorem dX6_ended_78 : decode cX6_ended 78 = .ok (.getfield 31, 3) := dk_180 0 31 (dk_at dksX6_ended_3 10 rfl rfl)
theorem dX6_ended_81 : decode cX6_ended 81 = .ok (.iload 4, 2) := dk_21 4 (dk_at dksX6_ended_3 13 rfl rfl)
theorem dX6_ended_83 : decode cX6_ended 83 = .ok (.iaload, 1) := dk_46 (dk_at dksX6_ended_3 15 rfl rfl)
theorem dX6_ended_84 : decode cX6_ended 84 = .ok (.ifCond .le 7, 3) := dk_158 0 7 (dk_at dksX6_ended_3 16 rfl rfl)
theorem dX6_ended_87 : decode cX6_ended 87 = .ok (.iconst 1, 1) := dk_4 (dk_at dksX6_ended_3 19 rfl rfl)
theorem dX6_ended_88 : decode cX6_ended 88 = .ok (.goto 4, 3) := dk_167 0 4 (dk_at dksX6_ended_3 20 rfl rfl)
theorem dX6_ended_91 : decode cX6_ended 91 = .ok (.iconst 0, 1) := dk_3 (dk_at dksX6_ended_3 23 rfl rfl)
theorem dX6_ended_92 : decode cX6_ended 92 = .ok (.iadd, 1) := dk_96 (dk_at dksX6_ended_4 0 rfl rfl)
theorem dX6_ended_93 : decode cX6_ended 93 = .ok (.istore_n 3, 1) := dk_62 (dk_at dksX6_ended_4 1 rfl rfl)
theorem dX6_ended_94 : decode cX6_ended 94 = .ok (.iinc 4 1, 3) := dk_132 4 1 (dk_at dksX6_ended_4 2 rfl rfl)
theorem dX6_ended_97 : decode cX6_ended 97 = .ok (.goto (-27), 3) := dk_167 255 229 (dk_at dksX6_ended_4 5 rfl rfl)
theorem dX6_ended_100 : decode cX6_ended 100 = .ok (.aload_n 0, 1) := dk_42 (dk_at dksX6_ended_4 8 rfl rfl)
theorem dX6_ended_101 : decode cX6_ended 101 = .ok (.iconst 1, 1) := dk_4 (dk_at dksX6_ended_4 9 rfl rfl)
theorem dX6_ended_102 : decode cX6_ended 102 = .ok (.invokevirtual 151, 3) := dk_182 0 151 (dk_at dksX6_ended_4 10 rfl rfl)
theorem dX6_ended_105 : decode cX6_ended 105 = .ok (.istore 4, 2) := dk_54 4 (dk_at dksX6_ended_4 13 rfl rfl)
theorem dX6_ended_107 : decode cX6_ended 107 = .ok (.aload_n 0, 1) := dk_42 (dk_at dksX6_ended_4 15 rfl rfl)
theorem dX6_ended_108 : decode cX6_ended 108 = .ok (.dup, 1) := dk_89 (dk_at dksX6_ended_4 16 rfl rfl)
theorem dX6_ended_109 : decode cX6_ended 109 = .ok (.getfield 188, 3) := dk_180 0 188 (dk_at dksX6_ended_4 17 rfl rfl)
theorem dX6_ended_112 : decode cX6_ended 112 = .ok (.iload 4, 2) := dk_21 4 (dk_at dksX6_ended_4 20 rfl rfl)
theorem dX6_ended_114 : decode cX6_ended 114 = .ok (.ior, 1) := dk_128 (dk_at dksX6_ended_4 22 rfl rfl)
theorem dX6_ended_115 : decode cX6_ended 115 = .ok (.putfield 188, 3) := dk_181 0 188 (dk_at dksX6_ended_5 0 rfl rfl)
theorem dX6_ended_118 : decode cX6_ended 118 = .ok (.aload_n 0, 1) := dk_42 (dk_at dksX6_ended_5 3 rfl rfl)
theorem dX6_ended_119 : decode cX6_ended 119 = .ok (.aload_n 0, 1) := dk_42 (dk_at dksX6_ended_5 4 rfl rfl)
theorem dX6_ended_120 : decode cX6_ended 120 = .ok (.getfield 191, 3) := dk_180 0 191 (dk_at dksX6_ended_5 5 rfl rfl)
theorem dX6_ended_123 : decode cX6_ended 123 = .ok (.iload 4, 2) := dk_21 4 (dk_at dksX6_ended_5 8 rfl rfl)
theorem dX6_ended_125 : decode cX6_ended 125 = .ok (.iconst (-1), 1) := dk_2 (dk_at dksX6_ended_5 10 rfl rfl)
theorem dX6_ended_126 : decode cX6_ended 126 = .ok (.ixor, 1) := dk_130 (dk_at dksX6_ended_5 11 rfl rfl)
theorem dX6_ended_127 : decode cX6_ended 127 = .ok (.iand, 1) := dk_126 (dk_at dksX6_ended_5 12 rfl rfl)
theorem dX6_ended_128 : decode cX6_ended 128 = .ok (.ifCond .ne 15, 3) := dk_154 0 15 (dk_at dksX6_ended_5 13 rfl rfl)
theorem dX6_ended_131 : decode cX6_ended 131 = .ok (.iload_n 3, 1) := dk_29 (dk_at dksX6_ended_5 16 rfl rfl)
theorem dX6_ended_132 : decode cX6_ended 132 = .ok (.aload_n 0, 1) := dk_42 (dk_at dksX6_ended_5 17 rfl rfl)
theorem dX6_ended_133 : decode cX6_ended 133 = .ok (.getfield 194, 3) := dk_180 0 194 (dk_at dksX6_ended_5 18 rfl rfl)
theorem dX6_ended_136 : decode cX6_ended 136 = .ok (.if_icmp .ge 7, 3) := dk_162 0 7 (dk_at dksX6_ended_5 21 rfl rfl)
theorem dX6_ended_139 : decode cX6_ended 139 = .ok (.iload_n 3, 1) := dk_29 (dk_at dksX6_ended_6 0 rfl rfl)
theorem dX6_ended_140 : decode cX6_ended 140 = .ok (.goto 7, 3) := dk_167 0 7 (dk_at dksX6_ended_6 1 rfl rfl)
theorem dX6_ended_143 : decode cX6_ended 143 = .ok (.aload_n 0, 1) := dk_42 (dk_at dksX6_ended_6 4 rfl rfl)
theorem dX6_ended_144 : decode cX6_ended 144 = .ok (.getfield 194, 3) := dk_180 0 194 (dk_at dksX6_ended_6 5 rfl rfl)
theorem dX6_ended_147 : decode cX6_ended 147 = .ok (.putfield 194, 3) := dk_181 0 194 (dk_at dksX6_ended_6 8 rfl rfl)
theorem dX6_ended_150 : decode cX6_ended 150 = .ok (.return_, 1) := dk_177 (dk_at dksX6_ended_6 11 rfl rfl)
abbrev cX6_saves : ByteArray := prog_26_method_57_code
def yX6_saves : MethodName := ⟨RX6, "saves", "(I)V"⟩
def dkwX6_saves_2 : List UInt8 := [79, 42, 180, 0, 28, 16, 12, 27, 104, 16, 11, 96, 42, 180, 0, 7, 7, 46, 79, 177]
abbrev dktX6_saves_2 : List UInt8 := dkwX6_saves_2 ++ []
def dkwX6_saves_1 : List UInt8 := [79, 132, 2, 1, 167, 255, 230, 42, 180, 0, 28, 16, 12, 27, 104, 16, 10, 96, 42, 180, 0, 7, 6, 46]
abbrev dktX6_saves_1 : List UInt8 := dkwX6_saves_1 ++ dktX6_saves_2
def dkwX6_saves_0 : List UInt8 := [3, 61, 28, 16, 10, 162, 0, 26, 42, 180, 0, 28, 16, 12, 27, 104, 28, 96, 42, 28, 7, 182, 0, 90]
abbrev dktX6_saves_0 : List UInt8 := dkwX6_saves_0 ++ dktX6_saves_1
theorem dksX6_saves_0 : cX6_saves.data.toList.drop 0 = dktX6_saves_0 := by decide +kernel
theorem dksX6_saves_1 : cX6_saves.data.toList.drop 24 = dktX6_saves_1 := dk_seg dksX6_saves_0 24 rfl rfl
theorem dksX6_saves_2 : cX6_saves.data.toList.drop 48 = dktX6_saves_2 := dk_seg dksX6_saves_1 24 rfl rfl
theorem dX6_saves_0 : decode cX6_saves 0 = .ok (.iconst 0, 1) := dk_3 (dk_at dksX6_saves_0 0 rfl rfl)
theorem dX6_saves_1 : decode cX6_saves 1 = .ok (.istore_n 2, 1) := dk_61 (dk_at dksX6_saves_0 1 rfl rfl)
theorem dX6_saves_2 : decode cX6_saves 2 = .ok (.iload_n 2, 1) := dk_28 (dk_at dksX6_saves_0 2 rfl rfl)
theorem dX6_saves_3 : decode cX6_saves 3 = .ok (.bipush 10, 2) := dk_16 10 (dk_at dksX6_saves_0 3 rfl rfl)
theorem dX6_saves_5 : decode cX6_saves 5 = .ok (.if_icmp .ge 26, 3) := dk_162 0 26 (dk_at dksX6_saves_0 5 rfl rfl)
theorem dX6_saves_8 : decode cX6_saves 8 = .ok (.aload_n 0, 1) := dk_42 (dk_at dksX6_saves_0 8 rfl rfl)
theorem dX6_saves_9 : decode cX6_saves 9 = .ok (.getfield 28, 3) := dk_180 0 28 (dk_at dksX6_saves_0 9 rfl rfl)
theorem dX6_saves_12 : decode cX6_saves 12 = .ok (.bipush 12, 2) := dk_16 12 (dk_at dksX6_saves_0 12 rfl rfl)
theorem dX6_saves_14 : decode cX6_saves 14 = .ok (.iload_n 1, 1) := dk_27 (dk_at dksX6_saves_0 14 rfl rfl)
theorem dX6_saves_15 : decode cX6_saves 15 = .ok (.imul, 1) := dk_104 (dk_at dksX6_saves_0 15 rfl rfl)
theorem dX6_saves_16 : decode cX6_saves 16 = .ok (.iload_n 2, 1) := dk_28 (dk_at dksX6_saves_0 16 rfl rfl)
theorem dX6_saves_17 : decode cX6_saves 17 = .ok (.iadd, 1) := dk_96 (dk_at dksX6_saves_0 17 rfl rfl)
theorem dX6_saves_18 : decode cX6_saves 18 = .ok (.aload_n 0, 1) := dk_42 (dk_at dksX6_saves_0 18 rfl rfl)
theorem dX6_saves_19 : decode cX6_saves 19 = .ok (.iload_n 2, 1) := dk_28 (dk_at dksX6_saves_0 19 rfl rfl)
theorem dX6_saves_20 : decode cX6_saves 20 = .ok (.iconst 4, 1) := dk_7 (dk_at dksX6_saves_0 20 rfl rfl)
theorem dX6_saves_21 : decode cX6_saves 21 = .ok (.invokevirtual 90, 3) := dk_182 0 90 (dk_at dksX6_saves_0 21 rfl rfl)
theorem dX6_saves_24 : decode cX6_saves 24 = .ok (.iastore, 1) := dk_79 (dk_at dksX6_saves_1 0 rfl rfl)
theorem dX6_saves_25 : decode cX6_saves 25 = .ok (.iinc 2 1, 3) := dk_132 2 1 (dk_at dksX6_saves_1 1 rfl rfl)
theorem dX6_saves_28 : decode cX6_saves 28 = .ok (.goto (-26), 3) := dk_167 255 230 (dk_at dksX6_saves_1 4 rfl rfl)
theorem dX6_saves_31 : decode cX6_saves 31 = .ok (.aload_n 0, 1) := dk_42 (dk_at dksX6_saves_1 7 rfl rfl)
theorem dX6_saves_32 : decode cX6_saves 32 = .ok (.getfield 28, 3) := dk_180 0 28 (dk_at dksX6_saves_1 8 rfl rfl)
theorem dX6_saves_35 : decode cX6_saves 35 = .ok (.bipush 12, 2) := dk_16 12 (dk_at dksX6_saves_1 11 rfl rfl)
theorem dX6_saves_37 : decode cX6_saves 37 = .ok (.iload_n 1, 1) := dk_27 (dk_at dksX6_saves_1 13 rfl rfl)
theorem dX6_saves_38 : decode cX6_saves 38 = .ok (.imul, 1) := dk_104 (dk_at dksX6_saves_1 14 rfl rfl)
theorem dX6_saves_39 : decode cX6_saves 39 = .ok (.bipush 10, 2) := dk_16 10 (dk_at dksX6_saves_1 15 rfl rfl)
theorem dX6_saves_41 : decode cX6_saves 41 = .ok (.iadd, 1) := dk_96 (dk_at dksX6_saves_1 17 rfl rfl)
theorem dX6_saves_42 : decode cX6_saves 42 = .ok (.aload_n 0, 1) := dk_42 (dk_at dksX6_saves_1 18 rfl rfl)
theorem dX6_saves_43 : decode cX6_saves 43 = .ok (.getfield 7, 3) := dk_180 0 7 (dk_at dksX6_saves_1 19 rfl rfl)
theorem dX6_saves_46 : decode cX6_saves 46 = .ok (.iconst 3, 1) := dk_6 (dk_at dksX6_saves_1 22 rfl rfl)
theorem dX6_saves_47 : decode cX6_saves 47 = .ok (.iaload, 1) := dk_46 (dk_at dksX6_saves_1 23 rfl rfl)
theorem dX6_saves_48 : decode cX6_saves 48 = .ok (.iastore, 1) := dk_79 (dk_at dksX6_saves_2 0 rfl rfl)
theorem dX6_saves_49 : decode cX6_saves 49 = .ok (.aload_n 0, 1) := dk_42 (dk_at dksX6_saves_2 1 rfl rfl)
theorem dX6_saves_50 : decode cX6_saves 50 = .ok (.getfield 28, 3) := dk_180 0 28 (dk_at dksX6_saves_2 2 rfl rfl)
theorem dX6_saves_53 : decode cX6_saves 53 = .ok (.bipush 12, 2) := dk_16 12 (dk_at dksX6_saves_2 5 rfl rfl)
theorem dX6_saves_55 : decode cX6_saves 55 = .ok (.iload_n 1, 1) := dk_27 (dk_at dksX6_saves_2 7 rfl rfl)
theorem dX6_saves_56 : decode cX6_saves 56 = .ok (.imul, 1) := dk_104 (dk_at dksX6_saves_2 8 rfl rfl)
theorem dX6_saves_57 : decode cX6_saves 57 = .ok (.bipush 11, 2) := dk_16 11 (dk_at dksX6_saves_2 9 rfl rfl)
theorem dX6_saves_59 : decode cX6_saves 59 = .ok (.iadd, 1) := dk_96 (dk_at dksX6_saves_2 11 rfl rfl)
theorem dX6_saves_60 : decode cX6_saves 60 = .ok (.aload_n 0, 1) := dk_42 (dk_at dksX6_saves_2 12 rfl rfl)
theorem dX6_saves_61 : decode cX6_saves 61 = .ok (.getfield 7, 3) := dk_180 0 7 (dk_at dksX6_saves_2 13 rfl rfl)
theorem dX6_saves_64 : decode cX6_saves 64 = .ok (.iconst 4, 1) := dk_7 (dk_at dksX6_saves_2 16 rfl rfl)
theorem dX6_saves_65 : decode cX6_saves 65 = .ok (.iaload, 1) := dk_46 (dk_at dksX6_saves_2 17 rfl rfl)
theorem dX6_saves_66 : decode cX6_saves 66 = .ok (.iastore, 1) := dk_79 (dk_at dksX6_saves_2 18 rfl rfl)
theorem dX6_saves_67 : decode cX6_saves 67 = .ok (.return_, 1) := dk_177 (dk_at dksX6_saves_2 19 rfl rfl)
abbrev cX6_takesBack : ByteArray := prog_26_method_58_code
def yX6_takesBack : MethodName := ⟨RX6, "takesBack", "(I)V"⟩
def dkwX6_takesBack_2 : List UInt8 := [16, 10, 96, 46, 79, 42, 180, 0, 7, 7, 42, 180, 0, 28, 16, 12, 27, 104, 16, 11, 96, 46, 79, 177]
abbrev dktX6_takesBack_2 : List UInt8 := dkwX6_takesBack_2 ++ []
def dkwX6_takesBack_1 : List UInt8 := [104, 28, 96, 46, 79, 132, 2, 1, 167, 255, 226, 42, 180, 0, 7, 6, 42, 180, 0, 28, 16, 12, 27, 104]
abbrev dktX6_takesBack_1 : List UInt8 := dkwX6_takesBack_1 ++ dktX6_takesBack_2
def dkwX6_takesBack_0 : List UInt8 := [3, 61, 28, 16, 10, 162, 0, 30, 42, 180, 0, 7, 28, 7, 184, 0, 72, 42, 180, 0, 28, 16, 12, 27]
abbrev dktX6_takesBack_0 : List UInt8 := dkwX6_takesBack_0 ++ dktX6_takesBack_1
theorem dksX6_takesBack_0 : cX6_takesBack.data.toList.drop 0 = dktX6_takesBack_0 := by decide +kernel
theorem dksX6_takesBack_1 : cX6_takesBack.data.toList.drop 24 = dktX6_takesBack_1 := dk_seg dksX6_takesBack_0 24 rfl rfl
theorem dksX6_takesBack_2 : cX6_takesBack.data.toList.drop 48 = dktX6_takesBack_2 := dk_seg dksX6_takesBack_1 24 rfl rfl
theorem dX6_takesBack_0 : decode cX6_takesBack 0 = .ok (.iconst 0, 1) := dk_3 (dk_at dksX6_takesBack_0 0 rfl rfl)
theorem dX6_takesBack_1 : decode cX6_takesBack 1 = .ok (.istore_n 2, 1) := dk_61 (dk_at dksX6_takesBack_0 1 rfl rfl)
theorem dX6_takesBack_2 : decode cX6_takesBack 2 = .ok (.iload_n 2, 1) := dk_28 (dk_at dksX6_takesBack_0 2 rfl rfl)
theorem dX6_takesBack_3 : decode cX6_takesBack 3 = .ok (.bipush 10, 2) := dk_16 10 (dk_at dksX6_takesBack_0 3 rfl rfl)
theorem dX6_takesBack_5 : decode cX6_takesBack 5 = .ok (.if_icmp .ge 30, 3) := dk_162 0 30 (dk_at dksX6_takesBack_0 5 rfl rfl)
theorem dX6_takesBack_8 : decode cX6_takesBack 8 = .ok (.aload_n 0, 1) := dk_42 (dk_at dksX6_takesBack_0 8 rfl rfl)
theorem dX6_takesBack_9 : decode cX6_takesBack 9 = .ok (.getfield 7, 3) := dk_180 0 7 (dk_at dksX6_takesBack_0 9 rfl rfl)
theorem dX6_takesBack_12 : decode cX6_takesBack 12 = .ok (.iload_n 2, 1) := dk_28 (dk_at dksX6_takesBack_0 12 rfl rfl)
theorem dX6_takesBack_13 : decode cX6_takesBack 13 = .ok (.iconst 4, 1) := dk_7 (dk_at dksX6_takesBack_0 13 rfl rfl)
theorem dX6_takesBack_14 : decode cX6_takesBack 14 = .ok (.invokestatic 72, 3) := dk_184 0 72 (dk_at dksX6_takesBack_0 14 rfl rfl)
theorem dX6_takesBack_17 : decode cX6_takesBack 17 = .ok (.aload_n 0, 1) := dk_42 (dk_at dksX6_takesBack_0 17 rfl rfl)
theorem dX6_takesBack_18 : decode cX6_takesBack 18 = .ok (.getfield 28, 3) := dk_180 0 28 (dk_at dksX6_takesBack_0 18 rfl rfl)
theorem dX6_takesBack_21 : decode cX6_takesBack 21 = .ok (.bipush 12, 2) := dk_16 12 (dk_at dksX6_takesBack_0 21 rfl rfl)
theorem dX6_takesBack_23 : decode cX6_takesBack 23 = .ok (.iload_n 1, 1) := dk_27 (dk_at dksX6_takesBack_0 23 rfl rfl)
theorem dX6_takesBack_24 : decode cX6_takesBack 24 = .ok (.imul, 1) := dk_104 (dk_at dksX6_takesBack_1 0 rfl rfl)
theorem dX6_takesBack_25 : decode cX6_takesBack 25 = .ok (.iload_n 2, 1) := dk_28 (dk_at dksX6_takesBack_1 1 rfl rfl)
theorem dX6_takesBack_26 : decode cX6_takesBack 26 = .ok (.iadd, 1) := dk_96 (dk_at dksX6_takesBack_1 2 rfl rfl)
theorem dX6_takesBack_27 : decode cX6_takesBack 27 = .ok (.iaload, 1) := dk_46 (dk_at dksX6_takesBack_1 3 rfl rfl)
theorem dX6_takesBack_28 : decode cX6_takesBack 28 = .ok (.iastore, 1) := dk_79 (dk_at dksX6_takesBack_1 4 rfl rfl)
theorem dX6_takesBack_29 : decode cX6_takesBack 29 = .ok (.iinc 2 1, 3) := dk_132 2 1 (dk_at dksX6_takesBack_1 5 rfl rfl)
theorem dX6_takesBack_32 : decode cX6_takesBack 32 = .ok (.goto (-30), 3) := dk_167 255 226 (dk_at dksX6_takesBack_1 8 rfl rfl)
theorem dX6_takesBack_35 : decode cX6_takesBack 35 = .ok (.aload_n 0, 1) := dk_42 (dk_at dksX6_takesBack_1 11 rfl rfl)
theorem dX6_takesBack_36 : decode cX6_takesBack 36 = .ok (.getfield 7, 3) := dk_180 0 7 (dk_at dksX6_takesBack_1 12 rfl rfl)
theorem dX6_takesBack_39 : decode cX6_takesBack 39 = .ok (.iconst 3, 1) := dk_6 (dk_at dksX6_takesBack_1 15 rfl rfl)
theorem dX6_takesBack_40 : decode cX6_takesBack 40 = .ok (.aload_n 0, 1) := dk_42 (dk_at dksX6_takesBack_1 16 rfl rfl)
theorem dX6_takesBack_41 : decode cX6_takesBack 41 = .ok (.getfield 28, 3) := dk_180 0 28 (dk_at dksX6_takesBack_1 17 rfl rfl)
theorem dX6_takesBack_44 : decode cX6_takesBack 44 = .ok (.bipush 12, 2) := dk_16 12 (dk_at dksX6_takesBack_1 20 rfl rfl)
theorem dX6_takesBack_46 : decode cX6_takesBack 46 = .ok (.iload_n 1, 1) := dk_27 (dk_at dksX6_takesBack_1 22 rfl rfl)
theorem dX6_takesBack_47 : decode cX6_takesBack 47 = .ok (.imul, 1) := dk_104 (dk_at dksX6_takesBack_1 23 rfl rfl)
theorem dX6_takesBack_48 : decode cX6_takesBack 48 = .ok (.bipush 10, 2) := dk_16 10 (dk_at dksX6_takesBack_2 0 rfl rfl)
theorem dX6_takesBack_50 : decode cX6_takesBack 50 = .ok (.iadd, 1) := dk_96 (dk_at dksX6_takesBack_2 2 rfl rfl)
theorem dX6_takesBack_51 : decode cX6_takesBack 51 = .ok (.iaload, 1) := dk_46 (dk_at dksX6_takesBack_2 3 rfl rfl)
theorem dX6_takesBack_52 : decode cX6_takesBack 52 = .ok (.iastore, 1) := dk_79 (dk_at dksX6_takesBack_2 4 rfl rfl)
theorem dX6_takesBack_53 : decode cX6_takesBack 53 = .ok (.aload_n 0, 1) := dk_42 (dk_at dksX6_takesBack_2 5 rfl rfl)
theorem dX6_takesBack_54 : decode cX6_takesBack 54 = .ok (.getfield 7, 3) := dk_180 0 7 (dk_at dksX6_takesBack_2 6 rfl rfl)
theorem dX6_takesBack_57 : decode cX6_takesBack 57 = .ok (.iconst 4, 1) := dk_7 (dk_at dksX6_takesBack_2 9 rfl rfl)
theorem dX6_takesBack_58 : decode cX6_takesBack 58 = .ok (.aload_n 0, 1) := dk_42 (dk_at dksX6_takesBack_2 10 rfl rfl)
theorem dX6_takesBack_59 : decode cX6_takesBack 59 = .ok (.getfield 28, 3) := dk_180 0 28 (dk_at dksX6_takesBack_2 11 rfl rfl)
theorem dX6_takesBack_62 : decode cX6_takesBack 62 = .ok (.bipush 12, 2) := dk_16 12 (dk_at dksX6_takesBack_2 14 rfl rfl)
theorem dX6_takesBack_64 : decode cX6_takesBack 64 = .ok (.iload_n 1, 1) := dk_27 (dk_at dksX6_takesBack_2 16 rfl rfl)
theorem dX6_takesBack_65 : decode cX6_takesBack 65 = .ok (.imul, 1) := dk_104 (dk_at dksX6_takesBack_2 17 rfl rfl)
theorem dX6_takesBack_66 : decode cX6_takesBack 66 = .ok (.bipush 11, 2) := dk_16 11 (dk_at dksX6_takesBack_2 18 rfl rfl)
theorem dX6_takesBack_68 : decode cX6_takesBack 68 = .ok (.iadd, 1) := dk_96 (dk_at dksX6_takesBack_2 20 rfl rfl)
theorem dX6_takesBack_69 : decode cX6_takesBack 69 = .ok (.iaload, 1) := dk_46 (dk_at dksX6_takesBack_2 21 rfl rfl)
theorem dX6_takesBack_70 : decode cX6_takesBack 70 = .ok (.iastore, 1) := dk_79 (dk_at dksX6_takesBack_2 22 rfl rfl)
theorem dX6_takesBack_71 : decode cX6_takesBack 71 = .ok (.return_, 1) := dk_177 (dk_at dksX6_takesBack_2 23 rfl rfl)
abbrev cX6_ith : ByteArray := prog_26_method_65_code
def yX6_ith : MethodName := ⟨RX6, "ith", "(II)I"⟩
def dkwX6_ith_1 : List UInt8 := [3, 182, 0, 217, 162, 0, 12, 42, 180, 0, 34, 28, 46, 167, 0, 5, 16, 253, 172]
abbrev dktX6_ith_1 : List UInt8 := dkwX6_ith_1 ++ []
def dkwX6_ith_0 : List UInt8 := [27, 184, 0, 214, 153, 0, 15, 28, 133, 9, 20, 0, 220, 184, 0, 64, 154, 0, 5, 2, 172, 28, 42, 27]
abbrev dktX6_ith_0 : List UInt8 := dkwX6_ith_0 ++ dktX6_ith_1
theorem dksX6_ith_0 : cX6_ith.data.toList.drop 0 = dktX6_ith_0 := by decide +kernel
theorem dksX6_ith_1 : cX6_ith.data.toList.drop 24 = dktX6_ith_1 := dk_seg dksX6_ith_0 24 rfl rfl
theorem dX6_ith_0 : decode cX6_ith 0 = .ok (.iload_n 1, 1) := dk_27 (dk_at dksX6_ith_0 0 rfl rfl)
theorem dX6_ith_1 : decode cX6_ith 1 = .ok (.invokestatic 214, 3) := dk_184 0 214 (dk_at dksX6_ith_0 1 rfl rfl)
theorem dX6_ith_4 : decode cX6_ith 4 = .ok (.ifCond .eq 15, 3) := dk_153 0 15 (dk_at dksX6_ith_0 4 rfl rfl)
theorem dX6_ith_7 : decode cX6_ith 7 = .ok (.iload_n 2, 1) := dk_28 (dk_at dksX6_ith_0 7 rfl rfl)
theorem dX6_ith_8 : decode cX6_ith 8 = .ok (.i2l, 1) := dk_133 (dk_at dksX6_ith_0 8 rfl rfl)
theorem dX6_ith_9 : decode cX6_ith 9 = .ok (.lconst 0, 1) := dk_9 (dk_at dksX6_ith_0 9 rfl rfl)
theorem dX6_ith_10 : decode cX6_ith 10 = .ok (.ldc2_w 220, 3) := dk_20 0 220 (dk_at dksX6_ith_0 10 rfl rfl)
theorem dX6_ith_13 : decode cX6_ith 13 = .ok (.invokestatic 64, 3) := dk_184 0 64 (dk_at dksX6_ith_0 13 rfl rfl)
theorem dX6_ith_16 : decode cX6_ith 16 = .ok (.ifCond .ne 5, 3) := dk_154 0 5 (dk_at dksX6_ith_0 16 rfl rfl)
theorem dX6_ith_19 : decode cX6_ith 19 = .ok (.iconst (-1), 1) := dk_2 (dk_at dksX6_ith_0 19 rfl rfl)
theorem dX6_ith_20 : decode cX6_ith 20 = .ok (.ireturn, 1) := dk_172 (dk_at dksX6_ith_0 20 rfl rfl)
theorem dX6_ith_21 : decode cX6_ith 21 = .ok (.iload_n 2, 1) := dk_28 (dk_at dksX6_ith_0 21 rfl rfl)
theorem dX6_ith_22 : decode cX6_ith 22 = .ok (.aload_n 0, 1) := dk_42 (dk_at dksX6_ith_0 22 rfl rfl)
theorem dX6_ith_23 : decode cX6_ith 23 = .ok (.iload_n 1, 1) := dk_27 (dk_at dksX6_ith_0 23 rfl rfl)
theorem dX6_ith_24 : decode cX6_ith 24 = .ok (.iconst 0, 1) := dk_3 (dk_at dksX6_ith_1 0 rfl rfl)
theorem dX6_ith_25 : decode cX6_ith 25 = .ok (.invokevirtual 217, 3) := dk_182 0 217 (dk_at dksX6_ith_1 1 rfl rfl)
theorem dX6_ith_28 : decode cX6_ith 28 = .ok (.if_icmp .ge 12, 3) := dk_162 0 12 (dk_at dksX6_ith_1 4 rfl rfl)
theorem dX6_ith_31 : decode cX6_ith 31 = .ok (.aload_n 0, 1) := dk_42 (dk_at dksX6_ith_1 7 rfl rfl)
theorem dX6_ith_32 : decode cX6_ith 32 = .ok (.getfield 34, 3) := dk_180 0 34 (dk_at dksX6_ith_1 8 rfl rfl)
theorem dX6_ith_35 : decode cX6_ith 35 = .ok (.iload_n 2, 1) := dk_28 (dk_at dksX6_ith_1 11 rfl rfl)
theorem dX6_ith_36 : decode cX6_ith 36 = .ok (.iaload, 1) := dk_46 (dk_at dksX6_ith_1 12 rfl rfl)
theorem dX6_ith_37 : decode cX6_ith 37 = .ok (.goto 5, 3) := dk_167 0 5 (dk_at dksX6_ith_1 13 rfl rfl)
theorem dX6_ith_40 : decode cX6_ith 40 = .ok (.bipush (-3), 2) := dk_16 253 (dk_at dksX6_ith_1 16 rfl rfl)
theorem dX6_ith_42 : decode cX6_ith 42 = .ok (.ireturn, 1) := dk_172 (dk_at dksX6_ith_1 18 rfl rfl)
abbrev cX6_ways : ByteArray := prog_26_method_66_code
def yX6_ways : MethodName := ⟨RX6, "ways", "(I)I"⟩
def dkwX6_ways_0 : List UInt8 := [27, 184, 0, 214, 154, 0, 5, 2, 172, 42, 27, 3, 182, 0, 217, 61, 42, 180, 0, 185, 172]
abbrev dktX6_ways_0 : List UInt8 := dkwX6_ways_0 ++ []
theorem dksX6_ways_0 : cX6_ways.data.toList.drop 0 = dktX6_ways_0 := by decide +kernel
theorem dX6_ways_0 : decode cX6_ways 0 = .ok (.iload_n 1, 1) := dk_27 (dk_at dksX6_ways_0 0 rfl rfl)
theorem dX6_ways_1 : decode cX6_ways 1 = .ok (.invokestatic 214, 3) := dk_184 0 214 (dk_at dksX6_ways_0 1 rfl rfl)
theorem dX6_ways_4 : decode cX6_ways 4 = .ok (.ifCond .ne 5, 3) := dk_154 0 5 (dk_at dksX6_ways_0 4 rfl rfl)
theorem dX6_ways_7 : decode cX6_ways 7 = .ok (.iconst (-1), 1) := dk_2 (dk_at dksX6_ways_0 7 rfl rfl)
theorem dX6_ways_8 : decode cX6_ways 8 = .ok (.ireturn, 1) := dk_172 (dk_at dksX6_ways_0 8 rfl rfl)
theorem dX6_ways_9 : decode cX6_ways 9 = .ok (.aload_n 0, 1) := dk_42 (dk_at dksX6_ways_0 9 rfl rfl)
theorem dX6_ways_10 : decode cX6_ways 10 = .ok (.iload_n 1, 1) := dk_27 (dk_at dksX6_ways_0 10 rfl rfl)
theorem dX6_ways_11 : decode cX6_ways 11 = .ok (.iconst 0, 1) := dk_3 (dk_at dksX6_ways_0 11 rfl rfl)
theorem dX6_ways_12 : decode cX6_ways 12 = .ok (.invokevirtual 217, 3) := dk_182 0 217 (dk_at dksX6_ways_0 12 rfl rfl)
theorem dX6_ways_15 : decode cX6_ways 15 = .ok (.istore_n 2, 1) := dk_61 (dk_at dksX6_ways_0 15 rfl rfl)
theorem dX6_ways_16 : decode cX6_ways 16 = .ok (.aload_n 0, 1) := dk_42 (dk_at dksX6_ways_0 16 rfl rfl)
theorem dX6_ways_17 : decode cX6_ways 17 = .ok (.getfield 185, 3) := dk_180 0 185 (dk_at dksX6_ways_0 17 rfl rfl)
theorem dX6_ways_20 : decode cX6_ways 20 = .ok (.ireturn, 1) := dk_172 (dk_at dksX6_ways_0 20 rfl rfl)
abbrev cX6_life : ByteArray := prog_26_method_67_code
def yX6_life : MethodName := ⟨RX6, "life", "(II)I"⟩
def dkwX6_life_1 : List UInt8 := [42, 180, 0, 194, 7, 164, 0, 8, 16, 253, 167, 0, 7, 42, 180, 0, 194, 172]
abbrev dktX6_life_1 : List UInt8 := dkwX6_life_1 ++ []
def dkwX6_life_0 : List UInt8 := [27, 184, 0, 214, 153, 0, 11, 42, 28, 182, 0, 222, 154, 0, 5, 2, 172, 42, 27, 28, 182, 0, 217, 62]
abbrev dktX6_life_0 : List UInt8 := dkwX6_life_0 ++ dktX6_life_1
theorem dksX6_life_0 : cX6_life.data.toList.drop 0 = dktX6_life_0 := by decide +kernel
theorem dksX6_life_1 : cX6_life.data.toList.drop 24 = dktX6_life_1 := dk_seg dksX6_life_0 24 rfl rfl
theorem dX6_life_0 : decode cX6_life 0 = .ok (.iload_n 1, 1) := dk_27 (dk_at dksX6_life_0 0 rfl rfl)
theorem dX6_life_1 : decode cX6_life 1 = .ok (.invokestatic 214, 3) := dk_184 0 214 (dk_at dksX6_life_0 1 rfl rfl)
theorem dX6_life_4 : decode cX6_life 4 = .ok (.ifCond .eq 11, 3) := dk_153 0 11 (dk_at dksX6_life_0 4 rfl rfl)
theorem dX6_life_7 : decode cX6_life 7 = .ok (.aload_n 0, 1) := dk_42 (dk_at dksX6_life_0 7 rfl rfl)
theorem dX6_life_8 : decode cX6_life 8 = .ok (.iload_n 2, 1) := dk_28 (dk_at dksX6_life_0 8 rfl rfl)
theorem dX6_life_9 : decode cX6_life 9 = .ok (.invokevirtual 222, 3) := dk_182 0 222 (dk_at dksX6_life_0 9 rfl rfl)
theorem dX6_life_12 : decode cX6_life 12 = .ok (.ifCond .ne 5, 3) := dk_154 0 5 (dk_at dksX6_life_0 12 rfl rfl)
theorem dX6_life_15 : decode cX6_life 15 = .ok (.iconst (-1), 1) := dk_2 (dk_at dksX6_life_0 15 rfl rfl)
theorem dX6_life_16 : decode cX6_life 16 = .ok (.ireturn, 1) := dk_172 (dk_at dksX6_life_0 16 rfl rfl)
theorem dX6_life_17 : decode cX6_life 17 = .ok (.aload_n 0, 1) := dk_42 (dk_at dksX6_life_0 17 rfl rfl)
theorem dX6_life_18 : decode cX6_life 18 = .ok (.iload_n 1, 1) := dk_27 (dk_at dksX6_life_0 18 rfl rfl)
theorem dX6_life_19 : decode cX6_life 19 = .ok (.iload_n 2, 1) := dk_28 (dk_at dksX6_life_0 19 rfl rfl)
theorem dX6_life_20 : decode cX6_life 20 = .ok (.invokevirtual 217, 3) := dk_182 0 217 (dk_at dksX6_life_0 20 rfl rfl)
theorem dX6_life_23 : decode cX6_life 23 = .ok (.istore_n 3, 1) := dk_62 (dk_at dksX6_life_0 23 rfl rfl)
theorem dX6_life_24 : decode cX6_life 24 = .ok (.aload_n 0, 1) := dk_42 (dk_at dksX6_life_1 0 rfl rfl)
theorem dX6_life_25 : decode cX6_life 25 = .ok (.getfield 194, 3) := dk_180 0 194 (dk_at dksX6_life_1 1 rfl rfl)
theorem dX6_life_28 : decode cX6_life 28 = .ok (.iconst 4, 1) := dk_7 (dk_at dksX6_life_1 4 rfl rfl)
theorem dX6_life_29 : decode cX6_life 29 = .ok (.if_icmp .le 8, 3) := dk_164 0 8 (dk_at dksX6_life_1 5 rfl rfl)
theorem dX6_life_32 : decode cX6_life 32 = .ok (.bipush (-3), 2) := dk_16 253 (dk_at dksX6_life_1 8 rfl rfl)
theorem dX6_life_34 : decode cX6_life 34 = .ok (.goto 7, 3) := dk_167 0 7 (dk_at dksX6_life_1 10 rfl rfl)
theorem dX6_life_37 : decode cX6_life 37 = .ok (.aload_n 0, 1) := dk_42 (dk_at dksX6_life_1 13 rfl rfl)
theorem dX6_life_38 : decode cX6_life 38 = .ok (.getfield 194, 3) := dk_180 0 194 (dk_at dksX6_life_1 14 rfl rfl)
theorem dX6_life_41 : decode cX6_life 41 = .ok (.ireturn, 1) := dk_172 (dk_at dksX6_life_1 17 rfl rfl)
abbrev cX6_areDeeds : ByteArray := prog_26_method_5_code
def yX6_areDeeds : MethodName := ⟨RX6, "areDeeds", "(I)Z"⟩
def dkwX6_areDeeds_0 : List UInt8 := [27, 133, 9, 4, 42, 180, 0, 7, 8, 46, 120, 4, 100, 133, 184, 0, 64, 172]
abbrev dktX6_areDeeds_0 : List UInt8 := dkwX6_areDeeds_0 ++ []
theorem dksX6_areDeeds_0 : cX6_areDeeds.data.toList.drop 0 = dktX6_areDeeds_0 := by decide +kernel
theorem dX6_areDeeds_0 : decode cX6_areDeeds 0 = .ok (.iload_n 1, 1) := dk_27 (dk_at dksX6_areDeeds_0 0 rfl rfl)
theorem dX6_areDeeds_1 : decode cX6_areDeeds 1 = .ok (.i2l, 1) := dk_133 (dk_at dksX6_areDeeds_0 1 rfl rfl)
theorem dX6_areDeeds_2 : decode cX6_areDeeds 2 = .ok (.lconst 0, 1) := dk_9 (dk_at dksX6_areDeeds_0 2 rfl rfl)
theorem dX6_areDeeds_3 : decode cX6_areDeeds 3 = .ok (.iconst 1, 1) := dk_4 (dk_at dksX6_areDeeds_0 3 rfl rfl)
theorem dX6_areDeeds_4 : decode cX6_areDeeds 4 = .ok (.aload_n 0, 1) := dk_42 (dk_at dksX6_areDeeds_0 4 rfl rfl)
theorem dX6_areDeeds_5 : decode cX6_areDeeds 5 = .ok (.getfield 7, 3) := dk_180 0 7 (dk_at dksX6_areDeeds_0 5 rfl rfl)
theorem dX6_areDeeds_8 : decode cX6_areDeeds 8 = .ok (.iconst 5, 1) := dk_8 (dk_at dksX6_areDeeds_0 8 rfl rfl)
theorem dX6_areDeeds_9 : decode cX6_areDeeds 9 = .ok (.iaload, 1) := dk_46 (dk_at dksX6_areDeeds_0 9 rfl rfl)
theorem dX6_areDeeds_10 : decode cX6_areDeeds 10 = .ok (.ishl, 1) := dk_120 (dk_at dksX6_areDeeds_0 10 rfl rfl)
theorem dX6_areDeeds_11 : decode cX6_areDeeds 11 = .ok (.iconst 1, 1) := dk_4 (dk_at dksX6_areDeeds_0 11 rfl rfl)
theorem dX6_areDeeds_12 : decode cX6_areDeeds 12 = .ok (.isub, 1) := dk_100 (dk_at dksX6_areDeeds_0 12 rfl rfl)
theorem dX6_areDeeds_13 : decode cX6_areDeeds 13 = .ok (.i2l, 1) := dk_133 (dk_at dksX6_areDeeds_0 13 rfl rfl)
theorem dX6_areDeeds_14 : decode cX6_areDeeds 14 = .ok (.invokestatic 64, 3) := dk_184 0 64 (dk_at dksX6_areDeeds_0 14 rfl rfl)
theorem dX6_areDeeds_17 : decode cX6_areDeeds 17 = .ok (.ireturn, 1) := dk_172 (dk_at dksX6_areDeeds_0 17 rfl rfl)
abbrev cX6_bars : ByteArray := prog_26_method_68_code
def yX6_bars : MethodName := ⟨RX6, "bars", "(II)I"⟩
def dkwX6_bars_3 : List UInt8 := [167, 255, 212, 16, 253, 172]
abbrev dktX6_bars_3 : List UInt8 := dkwX6_bars_3 ++ []
def dkwX6_bars_2 : List UInt8 := [28, 42, 180, 0, 188, 2, 130, 126, 21, 4, 122, 4, 126, 4, 160, 0, 6, 21, 4, 172, 132, 4, 1]
abbrev dktX6_bars_2 : List UInt8 := dkwX6_bars_2 ++ dktX6_bars_3
def dkwX6_bars_1 : List UInt8 := [3, 54, 4, 21, 4, 16, 10, 162, 0, 43, 28, 42, 180, 0, 188, 2, 130, 126, 21, 4, 122, 153, 0, 23]
abbrev dktX6_bars_1 : List UInt8 := dkwX6_bars_1 ++ dktX6_bars_2
def dkwX6_bars_0 : List UInt8 := [27, 184, 0, 214, 153, 0, 11, 42, 28, 182, 0, 222, 154, 0, 5, 2, 172, 42, 27, 28, 182, 0, 217, 62]
abbrev dktX6_bars_0 : List UInt8 := dkwX6_bars_0 ++ dktX6_bars_1
theorem dksX6_bars_0 : cX6_bars.data.toList.drop 0 = dktX6_bars_0 := by decide +kernel
theorem dksX6_bars_1 : cX6_bars.data.toList.drop 24 = dktX6_bars_1 := dk_seg dksX6_bars_0 24 rfl rfl
theorem dksX6_bars_2 : cX6_bars.data.toList.drop 48 = dktX6_bars_2 := dk_seg dksX6_bars_1 24 rfl rfl
theorem dksX6_bars_3 : cX6_bars.data.toList.drop 71 = dktX6_bars_3 := dk_seg dksX6_bars_2 23 rfl rfl
theorem dX6_bars_0 : decode cX6_bars 0 = .ok (.iload_n 1, 1) := dk_27 (dk_at dksX6_bars_0 0 rfl rfl)
theorem dX6_bars_1 : decode cX6_bars 1 = .ok (.invokestatic 214, 3) := dk_184 0 214 (dk_at dksX6_bars_0 1 rfl rfl)
theorem dX6_bars_4 : decode cX6_bars 4 = .ok (.ifCond .eq 11, 3) := dk_153 0 11 (dk_at dksX6_bars_0 4 rfl rfl)
theorem dX6_bars_7 : decode cX6_bars 7 = .ok (.aload_n 0, 1) := dk_42 (dk_at dksX6_bars_0 7 rfl rfl)
theorem dX6_bars_8 : decode cX6_bars 8 = .ok (.iload_n 2, 1) := dk_28 (dk_at dksX6_bars_0 8 rfl rfl)
theorem dX6_bars_9 : decode cX6_bars 9 = .ok (.invokevirtual 222, 3) := dk_182 0 222 (dk_at dksX6_bars_0 9 rfl rfl)
theorem dX6_bars_12 : decode cX6_bars 12 = .ok (.ifCond .ne 5, 3) := dk_154 0 5 (dk_at dksX6_bars_0 12 rfl rfl)
theorem dX6_bars_15 : decode cX6_bars 15 = .ok (.iconst (-1), 1) := dk_2 (dk_at dksX6_bars_0 15 rfl rfl)
theorem dX6_bars_16 : decode cX6_bars 16 = .ok (.ireturn, 1) := dk_172 (dk_at dksX6_bars_0 16 rfl rfl)
theorem dX6_bars_17 : decode cX6_bars 17 = .ok (.aload_n 0, 1) := dk_42 (dk_at dksX6_bars_0 17 rfl rfl)
theorem dX6_bars_18 : decode cX6_bars 18 = .ok (.iload_n 1, 1) := dk_27 (dk_at dksX6_bars_0 18 rfl rfl)
theorem dX6_bars_19 : decode cX6_bars 19 = .ok (.iload_n 2, 1) := dk_28 (dk_at dksX6_bars_0 19 rfl rfl)
theorem dX6_bars_20 : decode cX6_bars 20 = .ok (.invokevirtual 217, 3) := dk_182 0 217 (dk_at dksX6_bars_0 20 rfl rfl)
theorem dX6_bars_23 : decode cX6_bars 23 = .ok (.istore_n 3, 1) := dk_62 (dk_at dksX6_bars_0 23 rfl rfl)
theorem dX6_bars_24 : decode cX6_bars 24 = .ok (.iconst 0, 1) := dk_3 (dk_at dksX6_bars_1 0 rfl rfl)
theorem dX6_bars_25 : decode cX6_bars 25 = .ok (.istore 4, 2) := dk_54 4 (dk_at dksX6_bars_1 1 rfl rfl)
theorem dX6_bars_27 : decode cX6_bars 27 = .ok (.iload 4, 2) := dk_21 4 (dk_at dksX6_bars_1 3 rfl rfl)
theorem dX6_bars_29 : decode cX6_bars 29 = .ok (.bipush 10, 2) := dk_16 10 (dk_at dksX6_bars_1 5 rfl rfl)
theorem dX6_bars_31 : decode cX6_bars 31 = .ok (.if_icmp .ge 43, 3) := dk_162 0 43 (dk_at dksX6_bars_1 7 rfl rfl)
theorem dX6_bars_34 : decode cX6_bars 34 = .ok (.iload_n 2, 1) := dk_28 (dk_at dksX6_bars_1 10 rfl rfl)
theorem dX6_bars_35 : decode cX6_bars 35 = .ok (.aload_n 0, 1) := dk_42 (dk_at dksX6_bars_1 11 rfl rfl)
theorem dX6_bars_36 : decode cX6_bars 36 = .ok (.getfield 188, 3) := dk_180 0 188 (dk_at dksX6_bars_1 12 rfl rfl)
theorem dX6_bars_39 : decode cX6_bars 39 = .ok (.iconst (-1), 1) := dk_2 (dk_at dksX6_bars_1 15 rfl rfl)
theorem dX6_bars_40 : decode cX6_bars 40 = .ok (.ixor, 1) := dk_130 (dk_at dksX6_bars_1 16 rfl rfl)
theorem dX6_bars_41 : decode cX6_bars 41 = .ok (.iand, 1) := dk_126 (dk_at dksX6_bars_1 17 rfl rfl)
theorem dX6_bars_42 : decode cX6_bars 42 = .ok (.iload 4, 2) := dk_21 4 (dk_at dksX6_bars_1 18 rfl rfl)
theorem dX6_bars_44 : decode cX6_bars 44 = .ok (.ishr, 1) := dk_122 (dk_at dksX6_bars_1 20 rfl rfl)
theorem dX6_bars_45 : decode cX6_bars 45 = .ok (.ifCond .eq 23, 3) := dk_153 0 23 (dk_at dksX6_bars_1 21 rfl rfl)
theorem dX6_bars_48 : decode cX6_bars 48 = .ok (.iload_n 2, 1) := dk_28 (dk_at dksX6_bars_2 0 rfl rfl)
theorem dX6_bars_49 : decode cX6_bars 49 = .ok (.aload_n 0, 1) := dk_42 (dk_at dksX6_bars_2 1 rfl rfl)
theorem dX6_bars_50 : decode cX6_bars 50 = .ok (.getfield 188, 3) := dk_180 0 188 (dk_at dksX6_bars_2 2 rfl rfl)
theorem dX6_bars_53 : decode cX6_bars 53 = .ok (.iconst (-1), 1) := dk_2 (dk_at dksX6_bars_2 5 rfl rfl)
theorem dX6_bars_54 : decode cX6_bars 54 = .ok (.ixor, 1) := dk_130 (dk_at dksX6_bars_2 6 rfl rfl)
theorem dX6_bars_55 : decode cX6_bars 55 = .ok (.iand, 1) := dk_126 (dk_at dksX6_bars_2 7 rfl rfl)
theorem dX6_bars_56 : decode cX6_bars 56 = .ok (.iload 4, 2) := dk_21 4 (dk_at dksX6_bars_2 8 rfl rfl)
theorem dX6_bars_58 : decode cX6_bars 58 = .ok (.ishr, 1) := dk_122 (dk_at dksX6_bars_2 10 rfl rfl)
theorem dX6_bars_59 : decode cX6_bars 59 = .ok (.iconst 1, 1) := dk_4 (dk_at dksX6_bars_2 11 rfl rfl)
theorem dX6_bars_60 : decode cX6_bars 60 = .ok (.iand, 1) := dk_126 (dk_at dksX6_bars_2 12 rfl rfl)
theorem dX6_bars_61 : decode cX6_bars 61 = .ok (.iconst 1, 1) := dk_4 (dk_at dksX6_bars_2 13 rfl rfl)
theorem dX6_bars_62 : decode cX6_bars 62 = .ok (.if_icmp .ne 6, 3) := dk_160 0 6 (dk_at dksX6_bars_2 14 rfl rfl)
theorem dX6_bars_65 : decode cX6_bars 65 = .ok (.iload 4, 2) := dk_21 4 (dk_at dksX6_bars_2 17 rfl rfl)
theorem dX6_bars_67 : decode cX6_bars 67 = .ok (.ireturn, 1) := dk_172 (dk_at dksX6_bars_2 19 rfl rfl)
theorem dX6_bars_68 : decode cX6_bars 68 = .ok (.iinc 4 1, 3) := dk_132 4 1 (dk_at dksX6_bars_2 20 rfl rfl)
theorem dX6_bars_71 : decode cX6_bars 71 = .ok (.goto (-44), 3) := dk_167 255 212 (dk_at dksX6_bars_3 0 rfl rfl)
theorem dX6_bars_74 : decode cX6_bars 74 = .ok (.bipush (-3), 2) := dk_16 253 (dk_at dksX6_bars_3 3 rfl rfl)
theorem dX6_bars_76 : decode cX6_bars 76 = .ok (.ireturn, 1) := dk_172 (dk_at dksX6_bars_3 5 rfl rfl)
abbrev cX6_game : ByteArray := prog_26_method_70_code
def yX6_game : MethodName := ⟨RX6, "game", "(I)I"⟩
def dkwX6_game_1 : List UInt8 := [167, 0, 4, 2, 172]
abbrev dktX6_game_1 : List UInt8 := dkwX6_game_1 ++ []
def dkwX6_game_0 : List UInt8 := [27, 133, 10, 20, 0, 149, 184, 0, 64, 153, 0, 17, 42, 3, 42, 27, 182, 0, 211, 4, 182, 0, 225]
abbrev dktX6_game_0 : List UInt8 := dkwX6_game_0 ++ dktX6_game_1
theorem dksX6_game_0 : cX6_game.data.toList.drop 0 = dktX6_game_0 := by decide +kernel
theorem dksX6_game_1 : cX6_game.data.toList.drop 23 = dktX6_game_1 := dk_seg dksX6_game_0 23 rfl rfl
theorem dX6_game_0 : decode cX6_game 0 = .ok (.iload_n 1, 1) := dk_27 (dk_at dksX6_game_0 0 rfl rfl)
theorem dX6_game_1 : decode cX6_game 1 = .ok (.i2l, 1) := dk_133 (dk_at dksX6_game_0 1 rfl rfl)
theorem dX6_game_2 : decode cX6_game 2 = .ok (.lconst 1, 1) := dk_10 (dk_at dksX6_game_0 2 rfl rfl)
theorem dX6_game_3 : decode cX6_game 3 = .ok (.ldc2_w 149, 3) := dk_20 0 149 (dk_at dksX6_game_0 3 rfl rfl)
theorem dX6_game_6 : decode cX6_game 6 = .ok (.invokestatic 64, 3) := dk_184 0 64 (dk_at dksX6_game_0 6 rfl rfl)
theorem dX6_game_9 : decode cX6_game 9 = .ok (.ifCond .eq 17, 3) := dk_153 0 17 (dk_at dksX6_game_0 9 rfl rfl)
theorem dX6_game_12 : decode cX6_game 12 = .ok (.aload_n 0, 1) := dk_42 (dk_at dksX6_game_0 12 rfl rfl)
theorem dX6_game_13 : decode cX6_game 13 = .ok (.iconst 0, 1) := dk_3 (dk_at dksX6_game_0 13 rfl rfl)
theorem dX6_game_14 : decode cX6_game 14 = .ok (.aload_n 0, 1) := dk_42 (dk_at dksX6_game_0 14 rfl rfl)
theorem dX6_game_15 : decode cX6_game 15 = .ok (.iload_n 1, 1) := dk_27 (dk_at dksX6_game_0 15 rfl rfl)
theorem dX6_game_16 : decode cX6_game 16 = .ok (.invokevirtual 211, 3) := dk_182 0 211 (dk_at dksX6_game_0 16 rfl rfl)
theorem dX6_game_19 : decode cX6_game 19 = .ok (.iconst 1, 1) := dk_4 (dk_at dksX6_game_0 19 rfl rfl)
theorem dX6_game_20 : decode cX6_game 20 = .ok (.invokevirtual 225, 3) := dk_182 0 225 (dk_at dksX6_game_0 20 rfl rfl)
theorem dX6_game_23 : decode cX6_game 23 = .ok (.goto 4, 3) := dk_167 0 4 (dk_at dksX6_game_1 0 rfl rfl)
theorem dX6_game_26 : decode cX6_game 26 = .ok (.iconst (-1), 1) := dk_2 (dk_at dksX6_game_1 3 rfl rfl)
theorem dX6_game_27 : decode cX6_game 27 = .ok (.ireturn, 1) := dk_172 (dk_at dksX6_game_1 4 rfl rfl)
abbrev cX6_played : ByteArray := prog_26_method_69_code
def yX6_played : MethodName := ⟨RX6, "played", "(IIZ)I"⟩
def dkwX6_played_6 : List UInt8 := [21, 4, 172]
abbrev dktX6_played_6 : List UInt8 := dkwX6_played_6 ++ []
def dkwX6_played_5 : List UInt8 := [153, 0, 8, 21, 6, 167, 0, 5, 21, 5, 54, 5, 132, 6, 1, 167, 255, 141, 42, 21, 5, 181, 0, 229]
abbrev dktX6_played_5 : List UInt8 := dkwX6_played_5 ++ dktX6_played_6
def dkwX6_played_4 : List UInt8 := [167, 0, 4, 3, 54, 8, 21, 8, 153, 0, 8, 21, 7, 167, 0, 5, 21, 4, 54, 4, 21, 8]
abbrev dktX6_played_4 : List UInt8 := dkwX6_played_4 ++ dktX6_played_5
def dkwX6_played_3 : List UInt8 := [29, 153, 0, 13, 21, 7, 21, 4, 164, 0, 17, 167, 0, 10, 21, 7, 21, 4, 162, 0, 7, 4]
abbrev dktX6_played_3 : List UInt8 := dkwX6_played_3 ++ dktX6_played_4
def dkwX6_played_2 : List UInt8 := [154, 0, 7, 4, 167, 0, 4, 3, 182, 0, 225, 96, 54, 7, 42, 27, 182, 0, 208, 21, 5, 155, 0, 24]
abbrev dktX6_played_2 : List UInt8 := dkwX6_played_2 ++ dktX6_played_3
def dkwX6_played_1 : List UInt8 := [163, 0, 110, 42, 27, 182, 0, 201, 42, 21, 6, 182, 0, 146, 54, 7, 21, 7, 42, 27, 4, 96, 28, 29]
abbrev dktX6_played_1 : List UInt8 := dkwX6_played_1 ++ dktX6_played_2
def dkwX6_played_0 : List UInt8 := [27, 28, 160, 0, 5, 3, 172, 3, 54, 4, 2, 54, 5, 3, 54, 6, 21, 6, 42, 180, 0, 7, 3, 46]
abbrev dktX6_played_0 : List UInt8 := dkwX6_played_0 ++ dktX6_played_1
theorem dksX6_played_0 : cX6_played.data.toList.drop 0 = dktX6_played_0 := by decide +kernel
theorem dksX6_played_1 : cX6_played.data.toList.drop 24 = dktX6_played_1 := dk_seg dksX6_played_0 24 rfl rfl
theorem dksX6_played_2 : cX6_played.data.toList.drop 48 = dktX6_played_2 := dk_seg dksX6_played_1 24 rfl rfl
theorem dksX6_played_3 : cX6_played.data.toList.drop 72 = dktX6_played_3 := dk_seg dksX6_played_2 24 rfl rfl
theorem dksX6_played_4 : cX6_played.data.toList.drop 94 = dktX6_played_4 := dk_seg dksX6_played_3 22 rfl rfl
theorem dksX6_played_5 : cX6_played.data.toList.drop 116 = dktX6_played_5 := dk_seg dksX6_played_4 22 rfl rfl
theorem dksX6_played_6 : cX6_played.data.toList.drop 140 = dktX6_played_6 := dk_seg dksX6_played_5 24 rfl rfl
theorem dX6_played_0 : decode cX6_played 0 = .ok (.iload_n 1, 1) := dk_27 (dk_at dksX6_played_0 0 rfl rfl)
theorem dX6_played_1 : decode cX6_played 1 = .ok (.iload_n 2, 1) := dk_28 (dk_at dksX6_played_0 1 rfl rfl)
theorem dX6_played_2 : decode cX6_played 2 = .ok (.if_icmp .ne 5, 3) := dk_160 0 5 (dk_at dksX6_played_0 2 rfl rfl)
theorem dX6_played_5 : decode cX6_played 5 = .ok (.iconst 0, 1) := dk_3 (dk_at dksX6_played_0 5 rfl rfl)
theorem dX6_played_6 : decode cX6_played 6 = .ok (.ireturn, 1) := dk_172 (dk_at dksX6_played_0 6 rfl rfl)
theorem dX6_played_7 : decode cX6_played 7 = .ok (.iconst 0, 1) := dk_3 (dk_at dksX6_played_0 7 rfl rfl)
theorem dX6_played_8 : decode cX6_played 8 = .ok (.istore 4, 2) := dk_54 4 (dk_at dksX6_played_0 8 rfl rfl)
theorem dX6_played_10 : decode cX6_played 10 = .ok (.iconst (-1), 1) := dk_2 (dk_at dksX6_played_0 10 rfl rfl)
theorem dX6_played_11 : decode cX6_played 11 = .ok (.istore 5, 2) := dk_54 5 (dk_at dksX6_played_0 11 rfl rfl)
theorem dX6_played_13 : decode cX6_played 13 = .ok (.iconst 0, 1) := dk_3 (dk_at dksX6_played_0 13 rfl rfl)
theorem dX6_played_14 : decode cX6_played 14 = .ok (.istore 6, 2) := dk_54 6 (dk_at dksX6_played_0 14 rfl rfl)
theorem dX6_played_16 : decode cX6_played 16 = .ok (.iload 6, 2) := dk_21 6 (dk_at dksX6_played_0 16 rfl rfl)
theorem dX6_played_18 : decode cX6_played 18 = .ok (.aload_n 0, 1) := dk_42 (dk_at dksX6_played_0 18 rfl rfl)
theorem dX6_played_19 : decode cX6_played 19 = .ok (.getfield 7, 3) := dk_180 0 7 (dk_at dksX6_played_0 19 rfl rfl)
theorem dX6_played_22 : decode cX6_played 22 = .ok (.iconst 0, 1) := dk_3 (dk_at dksX6_played_0 22 rfl rfl)
theorem dX6_played_23 : decode cX6_played 23 = .ok (.iaload, 1) := dk_46 (dk_at dksX6_played_0 23 rfl rfl)
theorem dX6_played_24 : decode cX6_played 24 = .ok (.if_icmp .gt 110, 3) := dk_163 0 110 (dk_at dksX6_played_1 0 rfl rfl)
theorem dX6_played_27 : decode cX6_played 27 = .ok (.aload_n 0, 1) := dk_42 (dk_at dksX6_played_1 3 rfl rfl)
theorem dX6_played_28 : decode cX6_played 28 = .ok (.iload_n 1, 1) := dk_27 (dk_at dksX6_played_1 4 rfl rfl)
theorem dX6_played_29 : decode cX6_played 29 = .ok (.invokevirtual 201, 3) := dk_182 0 201 (dk_at dksX6_played_1 5 rfl rfl)
theorem dX6_played_32 : decode cX6_played 32 = .ok (.aload_n 0, 1) := dk_42 (dk_at dksX6_played_1 8 rfl rfl)
theorem dX6_played_33 : decode cX6_played 33 = .ok (.iload 6, 2) := dk_21 6 (dk_at dksX6_played_1 9 rfl rfl)
theorem dX6_played_35 : decode cX6_played 35 = .ok (.invokevirtual 146, 3) := dk_182 0 146 (dk_at dksX6_played_1 11 rfl rfl)
theorem dX6_played_38 : decode cX6_played 38 = .ok (.istore 7, 2) := dk_54 7 (dk_at dksX6_played_1 14 rfl rfl)
theorem dX6_played_40 : decode cX6_played 40 = .ok (.iload 7, 2) := dk_21 7 (dk_at dksX6_played_1 16 rfl rfl)
theorem dX6_played_42 : decode cX6_played 42 = .ok (.aload_n 0, 1) := dk_42 (dk_at dksX6_played_1 18 rfl rfl)
theorem dX6_played_43 : decode cX6_played 43 = .ok (.iload_n 1, 1) := dk_27 (dk_at dksX6_played_1 19 rfl rfl)
theorem dX6_played_44 : decode cX6_played 44 = .ok (.iconst 1, 1) := dk_4 (dk_at dksX6_played_1 20 rfl rfl)
theorem dX6_played_45 : decode cX6_played 45 = .ok (.iadd, 1) := dk_96 (dk_at dksX6_played_1 21 rfl rfl)
theorem dX6_played_46 : decode cX6_played 46 = .ok (.iload_n 2, 1) := dk_28 (dk_at dksX6_played_1 22 rfl rfl)
theorem dX6_played_47 : decode cX6_played 47 = .ok (.iload_n 3, 1) := dk_29 (dk_at dksX6_played_1 23 rfl rfl)
theorem dX6_played_48 : decode cX6_played 48 = .ok (.ifCond .ne 7, 3) := dk_154 0 7 (dk_at dksX6_played_2 0 rfl rfl)
theorem dX6_played_51 : decode cX6_played 51 = .ok (.iconst 1, 1) := dk_4 (dk_at dksX6_played_2 3 rfl rfl)
theorem dX6_played_52 : decode cX6_played 52 = .ok (.goto 4, 3) := dk_167 0 4 (dk_at dksX6_played_2 4 rfl rfl)
theorem dX6_played_55 : decode cX6_played 55 = .ok (.iconst 0, 1) := dk_3 (dk_at dksX6_played_2 7 rfl rfl)
theorem dX6_played_56 : decode cX6_played 56 = .ok (.invokevirtual 225, 3) := dk_182 0 225 (dk_at dksX6_played_2 8 rfl rfl)
theorem dX6_played_59 : decode cX6_played 59 = .ok (.iadd, 1) := dk_96 (dk_at dksX6_played_2 11 rfl rfl)
theorem dX6_played_60 : decode cX6_played 60 = .ok (.istore 7, 2) := dk_54 7 (dk_at dksX6_played_2 12 rfl rfl)
theorem dX6_played_62 : decode cX6_played 62 = .ok (.aload_n 0, 1) := dk_42 (dk_at dksX6_played_2 14 rfl rfl)
theorem dX6_played_63 : decode cX6_played 63 = .ok (.iload_n 1, 1) := dk_27 (dk_at dksX6_played_2 15 rfl rfl)
theorem dX6_played_64 : decode cX6_played 64 = .ok (.invokevirtual 208, 3) := dk_182 0 208 (dk_at dksX6_played_2 16 rfl rfl)
theorem dX6_played_67 : decode cX6_played 67 = .ok (.iload 5, 2) := dk_21 5 (dk_at dksX6_played_2 19 rfl rfl)
theorem dX6_played_69 : decode cX6_played 69 = .ok (.ifCond .lt 24, 3) := dk_155 0 24 (dk_at dksX6_played_2 21 rfl rfl)
theorem dX6_played_72 : decode cX6_played 72 = .ok (.iload_n 3, 1) := dk_29 (dk_at dksX6_played_3 0 rfl rfl)
theorem dX6_played_73 : decode cX6_played 73 = .ok (.ifCond .eq 13, 3) := dk_153 0 13 (dk_at dksX6_played_3 1 rfl rfl)
theorem dX6_played_76 : decode cX6_played 76 = .ok (.iload 7, 2) := dk_21 7 (dk_at dksX6_played_3 4 rfl rfl)
theorem dX6_played_78 : decode cX6_played 78 = .ok (.iload 4, 2) := dk_21 4 (dk_at dksX6_played_3 6 rfl rfl)
theorem dX6_played_80 : decode cX6_played 80 = .ok (.if_icmp .le 17, 3) := dk_164 0 17 (dk_at dksX6_played_3 8 rfl rfl)
theorem dX6_played_83 : decode cX6_played 83 = .ok (.goto 10, 3) := dk_167 0 10 (dk_at dksX6_played_3 11 rfl rfl)
theorem dX6_played_86 : decode cX6_played 86 = .ok (.iload 7, 2) := dk_21 7 (dk_at dksX6_played_3 14 rfl rfl)
theorem dX6_played_88 : decode cX6_played 88 = .ok (.iload 4, 2) := dk_21 4 (dk_at dksX6_played_3 16 rfl rfl)
theorem dX6_played_90 : decode cX6_played 90 = .ok (.if_icmp .ge 7, 3) := dk_162 0 7 (dk_at dksX6_played_3 18 rfl rfl)
theorem dX6_played_93 : decode cX6_played 93 = .ok (.iconst 1, 1) := dk_4 (dk_at dksX6_played_3 21 rfl rfl)
theorem dX6_played_94 : decode cX6_played 94 = .ok (.goto 4, 3) := dk_167 0 4 (dk_at dksX6_played_4 0 rfl rfl)
theorem dX6_played_97 : decode cX6_played 97 = .ok (.iconst 0, 1) := dk_3 (dk_at dksX6_played_4 3 rfl rfl)
theorem dX6_played_98 : decode cX6_played 98 = .ok (.istore 8, 2) := dk_54 8 (dk_at dksX6_played_4 4 rfl rfl)
theorem dX6_played_100 : decode cX6_played 100 = .ok (.iload 8, 2) := dk_21 8 (dk_at dksX6_played_4 6 rfl rfl)
theorem dX6_played_102 : decode cX6_played 102 = .ok (.ifCond .eq 8, 3) := dk_153 0 8 (dk_at dksX6_played_4 8 rfl rfl)
theorem dX6_played_105 : decode cX6_played 105 = .ok (.iload 7, 2) := dk_21 7 (dk_at dksX6_played_4 11 rfl rfl)
theorem dX6_played_107 : decode cX6_played 107 = .ok (.goto 5, 3) := dk_167 0 5 (dk_at dksX6_played_4 13 rfl rfl)
theorem dX6_played_110 : decode cX6_played 110 = .ok (.iload 4, 2) := dk_21 4 (dk_at dksX6_played_4 16 rfl rfl)
theorem dX6_played_112 : decode cX6_played 112 = .ok (.istore 4, 2) := dk_54 4 (dk_at dksX6_played_4 18 rfl rfl)
theorem dX6_played_114 : decode cX6_played 114 = .ok (.iload 8, 2) := dk_21 8 (dk_at dksX6_played_4 20 rfl rfl)
theorem dX6_played_116 : decode cX6_played 116 = .ok (.ifCond .eq 8, 3) := dk_153 0 8 (dk_at dksX6_played_5 0 rfl rfl)
theorem dX6_played_119 : decode cX6_played 119 = .ok (.iload 6, 2) := dk_21 6 (dk_at dksX6_played_5 3 rfl rfl)
theorem dX6_played_121 : decode cX6_played 121 = .ok (.goto 5, 3) := dk_167 0 5 (dk_at dksX6_played_5 5 rfl rfl)
theorem dX6_played_124 : decode cX6_played 124 = .ok (.iload 5, 2) := dk_21 5 (dk_at dksX6_played_5 8 rfl rfl)
theorem dX6_played_126 : decode cX6_played 126 = .ok (.istore 5, 2) := dk_54 5 (dk_at dksX6_played_5 10 rfl rfl)
theorem dX6_played_128 : decode cX6_played 128 = .ok (.iinc 6 1, 3) := dk_132 6 1 (dk_at dksX6_played_5 12 rfl rfl)
theorem dX6_played_131 : decode cX6_played 131 = .ok (.goto (-115), 3) := dk_167 255 141 (dk_at dksX6_played_5 15 rfl rfl)
theorem dX6_played_134 : decode cX6_played 134 = .ok (.aload_n 0, 1) := dk_42 (dk_at dksX6_played_5 18 rfl rfl)
theorem dX6_played_135 : decode cX6_played 135 = .ok (.iload 5, 2) := dk_21 5 (dk_at dksX6_played_5 19 rfl rfl)
theorem dX6_played_137 : decode cX6_played 137 = .ok (.putfield 229, 3) := dk_181 0 229 (dk_at dksX6_played_5 21 rfl rfl)
theorem dX6_played_140 : decode cX6_played 140 = .ok (.iload 4, 2) := dk_21 4 (dk_at dksX6_played_6 0 rfl rfl)
theorem dX6_played_142 : decode cX6_played 142 = .ok (.ireturn, 1) := dk_172 (dk_at dksX6_played_6 2 rfl rfl)
abbrev cX6_play : ByteArray := prog_26_method_71_code
def yX6_play : MethodName := ⟨RX6, "play", "(I)I"⟩
def dkwX6_play_1 : List UInt8 := [42, 3, 42, 27, 182, 0, 211, 4, 182, 0, 225, 61, 42, 180, 0, 229, 172]
abbrev dktX6_play_1 : List UInt8 := dkwX6_play_1 ++ []
def dkwX6_play_0 : List UInt8 := [27, 133, 10, 20, 0, 149, 184, 0, 64, 154, 0, 5, 2, 172, 42, 182, 0, 124, 153, 0, 6, 16, 253, 172]
abbrev dktX6_play_0 : List UInt8 := dkwX6_play_0 ++ dktX6_play_1
theorem dksX6_play_0 : cX6_play.data.toList.drop 0 = dktX6_play_0 := by decide +kernel
theorem dksX6_play_1 : cX6_play.data.toList.drop 24 = dktX6_play_1 := dk_seg dksX6_play_0 24 rfl rfl
theorem dX6_play_0 : decode cX6_play 0 = .ok (.iload_n 1, 1) := dk_27 (dk_at dksX6_play_0 0 rfl rfl)
theorem dX6_play_1 : decode cX6_play 1 = .ok (.i2l, 1) := dk_133 (dk_at dksX6_play_0 1 rfl rfl)
theorem dX6_play_2 : decode cX6_play 2 = .ok (.lconst 1, 1) := dk_10 (dk_at dksX6_play_0 2 rfl rfl)
theorem dX6_play_3 : decode cX6_play 3 = .ok (.ldc2_w 149, 3) := dk_20 0 149 (dk_at dksX6_play_0 3 rfl rfl)
theorem dX6_play_6 : decode cX6_play 6 = .ok (.invokestatic 64, 3) := dk_184 0 64 (dk_at dksX6_play_0 6 rfl rfl)
theorem dX6_play_9 : decode cX6_play 9 = .ok (.ifCond .ne 5, 3) := dk_154 0 5 (dk_at dksX6_play_0 9 rfl rfl)
theorem dX6_play_12 : decode cX6_play 12 = .ok (.iconst (-1), 1) := dk_2 (dk_at dksX6_play_0 12 rfl rfl)
theorem dX6_play_13 : decode cX6_play 13 = .ok (.ireturn, 1) := dk_172 (dk_at dksX6_play_0 13 rfl rfl)
theorem dX6_play_14 : decode cX6_play 14 = .ok (.aload_n 0, 1) := dk_42 (dk_at dksX6_play_0 14 rfl rfl)
theorem dX6_play_15 : decode cX6_play 15 = .ok (.invokevirtual 124, 3) := dk_182 0 124 (dk_at dksX6_play_0 15 rfl rfl)
theorem dX6_play_18 : decode cX6_play 18 = .ok (.ifCond .eq 6, 3) := dk_153 0 6 (dk_at dksX6_play_0 18 rfl rfl)
theorem dX6_play_21 : decode cX6_play 21 = .ok (.bipush (-3), 2) := dk_16 253 (dk_at dksX6_play_0 21 rfl rfl)
theorem dX6_play_23 : decode cX6_play 23 = .ok (.ireturn, 1) := dk_172 (dk_at dksX6_play_0 23 rfl rfl)
theorem dX6_play_24 : decode cX6_play 24 = .ok (.aload_n 0, 1) := dk_42 (dk_at dksX6_play_1 0 rfl rfl)
theorem dX6_play_25 : decode cX6_play 25 = .ok (.iconst 0, 1) := dk_3 (dk_at dksX6_play_1 1 rfl rfl)
theorem dX6_play_26 : decode cX6_play 26 = .ok (.aload_n 0, 1) := dk_42 (dk_at dksX6_play_1 2 rfl rfl)
theorem dX6_play_27 : decode cX6_play 27 = .ok (.iload_n 1, 1) := dk_27 (dk_at dksX6_play_1 3 rfl rfl)
theorem dX6_play_28 : decode cX6_play 28 = .ok (.invokevirtual 211, 3) := dk_182 0 211 (dk_at dksX6_play_1 4 rfl rfl)
theorem dX6_play_31 : decode cX6_play 31 = .ok (.iconst 1, 1) := dk_4 (dk_at dksX6_play_1 7 rfl rfl)
theorem dX6_play_32 : decode cX6_play 32 = .ok (.invokevirtual 225, 3) := dk_182 0 225 (dk_at dksX6_play_1 8 rfl rfl)
theorem dX6_play_35 : decode cX6_play 35 = .ok (.istore_n 2, 1) := dk_61 (dk_at dksX6_play_1 11 rfl rfl)
theorem dX6_play_36 : decode cX6_play 36 = .ok (.aload_n 0, 1) := dk_42 (dk_at dksX6_play_1 12 rfl rfl)
theorem dX6_play_37 : decode cX6_play 37 = .ok (.getfield 229, 3) := dk_180 0 229 (dk_at dksX6_play_1 13 rfl rfl)
theorem dX6_play_40 : decode cX6_play 40 = .ok (.ireturn, 1) := dk_172 (dk_at dksX6_play_1 16 rfl rfl)
abbrev cX6_report : ByteArray := prog_26_method_72_code
def yX6_report : MethodName := ⟨RX6, "report", "(IIII)I"⟩
def dkwX6_report_5 : List UInt8 := [180, 0, 7, 16, 6, 92, 46, 4, 96, 79, 42, 180, 0, 7, 16, 6, 46, 4, 100, 172]
abbrev dktX6_report_5 : List UInt8 := dkwX6_report_5 ++ []
def dkwX6_report_4 : List UInt8 := [79, 42, 180, 0, 7, 21, 5, 5, 96, 29, 79, 42, 180, 0, 7, 21, 5, 6, 96, 21, 4, 79, 42]
abbrev dktX6_report_4 : List UInt8 := dkwX6_report_4 ++ dktX6_report_5
def dkwX6_report_3 : List UInt8 := [16, 6, 46, 104, 96, 54, 5, 42, 180, 0, 7, 21, 5, 27, 79, 42, 180, 0, 7, 21, 5, 4, 96, 28]
abbrev dktX6_report_3 : List UInt8 := dkwX6_report_3 ++ dktX6_report_4
def dkwX6_report_2 : List UInt8 := [172, 42, 180, 0, 7, 16, 6, 46, 16, 6, 160, 0, 6, 16, 254, 172, 16, 112, 7, 42, 180, 0, 7]
abbrev dktX6_report_2 : List UInt8 := dkwX6_report_2 ++ dktX6_report_3
def dkwX6_report_1 : List UInt8 := [29, 133, 9, 20, 0, 232, 184, 0, 64, 153, 0, 14, 21, 4, 133, 9, 10, 184, 0, 64, 154, 0, 5, 2]
abbrev dktX6_report_1 : List UInt8 := dkwX6_report_1 ++ dktX6_report_2
def dkwX6_report_0 : List UInt8 := [27, 133, 10, 20, 0, 81, 184, 0, 64, 153, 0, 38, 28, 133, 9, 20, 0, 114, 184, 0, 64, 153, 0, 26]
abbrev dktX6_report_0 : List UInt8 := dkwX6_report_0 ++ dktX6_report_1
theorem dksX6_report_0 : cX6_report.data.toList.drop 0 = dktX6_report_0 := by decide +kernel
theorem dksX6_report_1 : cX6_report.data.toList.drop 24 = dktX6_report_1 := dk_seg dksX6_report_0 24 rfl rfl
theorem dksX6_report_2 : cX6_report.data.toList.drop 48 = dktX6_report_2 := dk_seg dksX6_report_1 24 rfl rfl
theorem dksX6_report_3 : cX6_report.data.toList.drop 71 = dktX6_report_3 := dk_seg dksX6_report_2 23 rfl rfl
theorem dksX6_report_4 : cX6_report.data.toList.drop 95 = dktX6_report_4 := dk_seg dksX6_report_3 24 rfl rfl
theorem dksX6_report_5 : cX6_report.data.toList.drop 118 = dktX6_report_5 := dk_seg dksX6_report_4 23 rfl rfl
theorem dX6_report_0 : decode cX6_report 0 = .ok (.iload_n 1, 1) := dk_27 (dk_at dksX6_report_0 0 rfl rfl)
theorem dX6_report_1 : decode cX6_report 1 = .ok (.i2l, 1) := dk_133 (dk_at dksX6_report_0 1 rfl rfl)
theorem dX6_report_2 : decode cX6_report 2 = .ok (.lconst 1, 1) := dk_10 (dk_at dksX6_report_0 2 rfl rfl)
theorem dX6_report_3 : decode cX6_report 3 = .ok (.ldc2_w 81, 3) := dk_20 0 81 (dk_at dksX6_report_0 3 rfl rfl)
theorem dX6_report_6 : decode cX6_report 6 = .ok (.invokestatic 64, 3) := dk_184 0 64 (dk_at dksX6_report_0 6 rfl rfl)
theorem dX6_report_9 : decode cX6_report 9 = .ok (.ifCond .eq 38, 3) := dk_153 0 38 (dk_at dksX6_report_0 9 rfl rfl)
theorem dX6_report_12 : decode cX6_report 12 = .ok (.iload_n 2, 1) := dk_28 (dk_at dksX6_report_0 12 rfl rfl)
theorem dX6_report_13 : decode cX6_report 13 = .ok (.i2l, 1) := dk_133 (dk_at dksX6_report_0 13 rfl rfl)
theorem dX6_report_14 : decode cX6_report 14 = .ok (.lconst 0, 1) := dk_9 (dk_at dksX6_report_0 14 rfl rfl)
theorem dX6_report_15 : decode cX6_report 15 = .ok (.ldc2_w 114, 3) := dk_20 0 114 (dk_at dksX6_report_0 15 rfl rfl)
theorem dX6_report_18 : decode cX6_report 18 = .ok (.invokestatic 64, 3) := dk_184 0 64 (dk_at dksX6_report_0 18 rfl rfl)
theorem dX6_report_21 : decode cX6_report 21 = .ok (.ifCond .eq 26, 3) := dk_153 0 26 (dk_at dksX6_report_0 21 rfl rfl)
theorem dX6_report_24 : decode cX6_report 24 = .ok (.iload_n 3, 1) := dk_29 (dk_at dksX6_report_1 0 rfl rfl)
theorem dX6_report_25 : decode cX6_report 25 = .ok (.i2l, 1) := dk_133 (dk_at dksX6_report_1 1 rfl rfl)
theorem dX6_report_26 : decode cX6_report 26 = .ok (.lconst 0, 1) := dk_9 (dk_at dksX6_report_1 2 rfl rfl)
theorem dX6_report_27 : decode cX6_report 27 = .ok (.ldc2_w 232, 3) := dk_20 0 232 (dk_at dksX6_report_1 3 rfl rfl)
theorem dX6_report_30 : decode cX6_report 30 = .ok (.invokestatic 64, 3) := dk_184 0 64 (dk_at dksX6_report_1 6 rfl rfl)
theorem dX6_report_33 : decode cX6_report 33 = .ok (.ifCond .eq 14, 3) := dk_153 0 14 (dk_at dksX6_report_1 9 rfl rfl)
theorem dX6_report_36 : decode cX6_report 36 = .ok (.iload 4, 2) := dk_21 4 (dk_at dksX6_report_1 12 rfl rfl)
theorem dX6_report_38 : decode cX6_report 38 = .ok (.i2l, 1) := dk_133 (dk_at dksX6_report_1 14 rfl rfl)
theorem dX6_report_39 : decode cX6_report 39 = .ok (.lconst 0, 1) := dk_9 (dk_at dksX6_report_1 15 rfl rfl)
theorem dX6_report_40 : decode cX6_report 40 = .ok (.lconst 1, 1) := dk_10 (dk_at dksX6_report_1 16 rfl rfl)
theorem dX6_report_41 : decode cX6_report 41 = .ok (.invokestatic 64, 3) := dk_184 0 64 (dk_at dksX6_report_1 17 rfl rfl)
theorem dX6_report_44 : decode cX6_report 44 = .ok (.ifCond .ne 5, 3) := dk_154 0 5 (dk_at dksX6_report_1 20 rfl rfl)
theorem dX6_report_47 : decode cX6_report 47 = .ok (.iconst (-1), 1) := dk_2 (dk_at dksX6_report_1 23 rfl rfl)
theorem dX6_report_48 : decode cX6_report 48 = .ok (.ireturn, 1) := dk_172 (dk_at dksX6_report_2 0 rfl rfl)
theorem dX6_report_49 : decode cX6_report 49 = .ok (.aload_n 0, 1) := dk_42 (dk_at dksX6_report_2 1 rfl rfl)
theorem dX6_report_50 : decode cX6_report 50 = .ok (.getfield 7, 3) := dk_180 0 7 (dk_at dksX6_report_2 2 rfl rfl)
theorem dX6_report_53 : decode cX6_report 53 = .ok (.bipush 6, 2) := dk_16 6 (dk_at dksX6_report_2 5 rfl rfl)
theorem dX6_report_55 : decode cX6_report 55 = .ok (.iaload, 1) := dk_46 (dk_at dksX6_report_2 7 rfl rfl)
theorem dX6_report_56 : decode cX6_report 56 = .ok (.bipush 6, 2) := dk_16 6 (dk_at dksX6_report_2 8 rfl rfl)
theorem dX6_report_58 : decode cX6_report 58 = .ok (.if_icmp .ne 6, 3) := dk_160 0 6 (dk_at dksX6_report_2 10 rfl rfl)
theorem dX6_report_61 : decode cX6_report 61 = .ok (.bipush (-2), 2) := dk_16 254 (dk_at dksX6_report_2 13 rfl rfl)
theorem dX6_report_63 : decode cX6_report 63 = .ok (.ireturn, 1) := dk_172 (dk_at dksX6_report_2 15 rfl rfl)
theorem dX6_report_64 : decode cX6_report 64 = .ok (.bipush 112, 2) := dk_16 112 (dk_at dksX6_report_2 16 rfl rfl)
theorem dX6_report_66 : decode cX6_report 66 = .ok (.iconst 4, 1) := dk_7 (dk_at dksX6_report_2 18 rfl rfl)
theorem dX6_report_67 : decode cX6_report 67 = .ok (.aload_n 0, 1) := dk_42 (dk_at dksX6_report_2 19 rfl rfl)
theorem dX6_report_68 : decode cX6_report 68 = .ok (.getfield 7, 3) := dk_180 0 7 (dk_at dksX6_report_2 20 rfl rfl)
theorem dX6_report_71 : decode cX6_report 71 = .ok (.bipush 6, 2) := dk_16 6 (dk_at dksX6_report_3 0 rfl rfl)
theorem dX6_report_73 : decode cX6_report 73 = .ok (.iaload, 1) := dk_46 (dk_at dksX6_report_3 2 rfl rfl)
theorem dX6_report_74 : decode cX6_report 74 = .ok (.imul, 1) := dk_104 (dk_at dksX6_report_3 3 rfl rfl)
theorem dX6_report_75 : decode cX6_report 75 = .ok (.iadd, 1) := dk_96 (dk_at dksX6_report_3 4 rfl rfl)
theorem dX6_report_76 : decode cX6_report 76 = .ok (.istore 5, 2) := dk_54 5 (dk_at dksX6_report_3 5 rfl rfl)
theorem dX6_report_78 : decode cX6_report 78 = .ok (.aload_n 0, 1) := dk_42 (dk_at dksX6_report_3 7 rfl rfl)
theorem dX6_report_79 : decode cX6_report 79 = .ok (.getfield 7, 3) := dk_180 0 7 (dk_at dksX6_report_3 8 rfl rfl)
theorem dX6_report_82 : decode cX6_report 82 = .ok (.iload 5, 2) := dk_21 5 (dk_at dksX6_report_3 11 rfl rfl)
theorem dX6_report_84 : decode cX6_report 84 = .ok (.iload_n 1, 1) := dk_27 (dk_at dksX6_report_3 13 rfl rfl)
theorem dX6_report_85 : decode cX6_report 85 = .ok (.iastore, 1) := dk_79 (dk_at dksX6_report_3 14 rfl rfl)
theorem dX6_report_86 : decode cX6_report 86 = .ok (.aload_n 0, 1) := dk_42 (dk_at dksX6_report_3 15 rfl rfl)
theorem dX6_report_87 : decode cX6_report 87 = .ok (.getfield 7, 3) := dk_180 0 7 (dk_at dksX6_report_3 16 rfl rfl)
theorem dX6_report_90 : decode cX6_report 90 = .ok (.iload 5, 2) := dk_21 5 (dk_at dksX6_report_3 19 rfl rfl)
theorem dX6_report_92 : decode cX6_report 92 = .ok (.iconst 1, 1) := dk_4 (dk_at dksX6_report_3 21 rfl rfl)
theorem dX6_report_93 : decode cX6_report 93 = .ok (.iadd, 1) := dk_96 (dk_at dksX6_report_3 22 rfl rfl)
theorem dX6_report_94 : decode cX6_report 94 = .ok (.iload_n 2, 1) := dk_28 (dk_at dksX6_report_3 23 rfl rfl)
theorem dX6_report_95 : decode cX6_report 95 = .ok (.iastore, 1) := dk_79 (dk_at dksX6_report_4 0 rfl rfl)
theorem dX6_report_96 : decode cX6_report 96 = .ok (.aload_n 0, 1) := dk_42 (dk_at dksX6_report_4 1 rfl rfl)
theorem dX6_report_97 : decode cX6_report 97 = .ok (.getfield 7, 3) := dk_180 0 7 (dk_at dksX6_report_4 2 rfl rfl)
theorem dX6_report_100 : decode cX6_report 100 = .ok (.iload 5, 2) := dk_21 5 (dk_at dksX6_report_4 5 rfl rfl)
theorem dX6_report_102 : decode cX6_report 102 = .ok (.iconst 2, 1) := dk_5 (dk_at dksX6_report_4 7 rfl rfl)
theorem dX6_report_103 : decode cX6_report 103 = .ok (.iadd, 1) := dk_96 (dk_at dksX6_report_4 8 rfl rfl)
theorem dX6_report_104 : decode cX6_report 104 = .ok (.iload_n 3, 1) := dk_29 (dk_at dksX6_report_4 9 rfl rfl)
theorem dX6_report_105 : decode cX6_report 105 = .ok (.iastore, 1) := dk_79 (dk_at dksX6_report_4 10 rfl rfl)
theorem dX6_report_106 : decode cX6_report 106 = .ok (.aload_n 0, 1) := dk_42 (dk_at dksX6_report_4 11 rfl rfl)
theorem dX6_report_107 : decode cX6_report 107 = .ok (.getfield 7, 3) := dk_180 0 7 (dk_at dksX6_report_4 12 rfl rfl)
theorem dX6_report_110 : decode cX6_report 110 = .ok (.iload 5, 2) := dk_21 5 (dk_at dksX6_report_4 15 rfl rfl)
theorem dX6_report_112 : decode cX6_report 112 = .ok (.iconst 3, 1) := dk_6 (dk_at dksX6_report_4 17 rfl rfl)
theorem dX6_report_113 : decode cX6_report 113 = .ok (.iadd, 1) := dk_96 (dk_at dksX6_report_4 18 rfl rfl)
theorem dX6_report_114 : decode cX6_report 114 = .ok (.iload 4, 2) := dk_21 4 (dk_at dksX6_report_4 19 rfl rfl)
theorem dX6_report_116 : decode cX6_report 116 = .ok (.iastore, 1) := dk_79 (dk_at dksX6_report_4 21 rfl rfl)
theorem dX6_report_117 : decode cX6_report 117 = .ok (.aload_n 0, 1) := dk_42 (dk_at dksX6_report_4 22 rfl rfl)
theorem dX6_report_118 : decode cX6_report 118 = .ok (.getfield 7, 3) := dk_180 0 7 (dk_at dksX6_report_5 0 rfl rfl)
theorem dX6_report_121 : decode cX6_report 121 = .ok (.bipush 6, 2) := dk_16 6 (dk_at dksX6_report_5 3 rfl rfl)
theorem dX6_report_123 : decode cX6_report 123 = .ok (.dup2, 1) := dk_92 (dk_at dksX6_report_5 5 rfl rfl)
theorem dX6_report_124 : decode cX6_report 124 = .ok (.iaload, 1) := dk_46 (dk_at dksX6_report_5 6 rfl rfl)
theorem dX6_report_125 : decode cX6_report 125 = .ok (.iconst 1, 1) := dk_4 (dk_at dksX6_report_5 7 rfl rfl)
theorem dX6_report_126 : decode cX6_report 126 = .ok (.iadd, 1) := dk_96 (dk_at dksX6_report_5 8 rfl rfl)
theorem dX6_report_127 : decode cX6_report 127 = .ok (.iastore, 1) := dk_79 (dk_at dksX6_report_5 9 rfl rfl)
theorem dX6_report_128 : decode cX6_report 128 = .ok (.aload_n 0, 1) := dk_42 (dk_at dksX6_report_5 10 rfl rfl)
theorem dX6_report_129 : decode cX6_report 129 = .ok (.getfield 7, 3) := dk_180 0 7 (dk_at dksX6_report_5 11 rfl rfl)
theorem dX6_report_132 : decode cX6_report 132 = .ok (.bipush 6, 2) := dk_16 6 (dk_at dksX6_report_5 14 rfl rfl)
theorem dX6_report_134 : decode cX6_report 134 = .ok (.iaload, 1) := dk_46 (dk_at dksX6_report_5 16 rfl rfl)
theorem dX6_report_135 : decode cX6_report 135 = .ok (.iconst 1, 1) := dk_4 (dk_at dksX6_report_5 17 rfl rfl)
theorem dX6_report_136 : decode cX6_report 136 = .ok (.isub, 1) := dk_100 (dk_at dksX6_report_5 18 rfl rfl)
theorem dX6_report_137 : decode cX6_report 137 = .ok (.ireturn, 1) := dk_172 (dk_at dksX6_report_5 19 rfl rfl)
abbrev cX6_forget : ByteArray := prog_26_method_73_code
def yX6_forget : MethodName := ⟨RX6, "forget", "()I"⟩
def dkwX6_forget_0 : List UInt8 := [42, 16, 6, 3, 182, 0, 111, 172]
abbrev dktX6_forget_0 : List UInt8 := dkwX6_forget_0 ++ []
theorem dksX6_forget_0 : cX6_forget.data.toList.drop 0 = dktX6_forget_0 := by decide +kernel
theorem dX6_forget_0 : decode cX6_forget 0 = .ok (.aload_n 0, 1) := dk_42 (dk_at dksX6_forget_0 0 rfl rfl)
theorem dX6_forget_1 : decode cX6_forget 1 = .ok (.bipush 6, 2) := dk_16 6 (dk_at dksX6_forget_0 1 rfl rfl)
theorem dX6_forget_3 : decode cX6_forget 3 = .ok (.iconst 0, 1) := dk_3 (dk_at dksX6_forget_0 3 rfl rfl)
theorem dX6_forget_4 : decode cX6_forget 4 = .ok (.invokevirtual 111, 3) := dk_182 0 111 (dk_at dksX6_forget_0 4 rfl rfl)
theorem dX6_forget_7 : decode cX6_forget 7 = .ok (.ireturn, 1) := dk_172 (dk_at dksX6_forget_0 7 rfl rfl)
abbrev cX6_span : ByteArray := prog_26_method_77_code
def yX6_span : MethodName := ⟨RX6, "span", "(I)I"⟩
def dkwX6_span_3 : List UInt8 := [180, 0, 250, 172]
abbrev dktX6_span_3 : List UInt8 := dkwX6_span_3 ++ []
def dkwX6_span_2 : List UInt8 := [160, 0, 10, 42, 180, 0, 244, 167, 0, 19, 27, 5, 160, 0, 10, 42, 180, 0, 247, 167, 0, 7, 42]
abbrev dktX6_span_2 : List UInt8 := dkwX6_span_2 ++ dktX6_span_3
def dkwX6_span_1 : List UInt8 := [180, 0, 238, 154, 0, 17, 27, 154, 0, 10, 42, 180, 0, 238, 167, 0, 5, 16, 253, 172, 27, 4]
abbrev dktX6_span_1 : List UInt8 := dkwX6_span_1 ++ dktX6_span_2
def dkwX6_span_0 : List UInt8 := [27, 133, 9, 20, 0, 220, 184, 0, 64, 154, 0, 5, 2, 172, 42, 2, 182, 0, 253, 27, 153, 0, 10, 42]
abbrev dktX6_span_0 : List UInt8 := dkwX6_span_0 ++ dktX6_span_1
theorem dksX6_span_0 : cX6_span.data.toList.drop 0 = dktX6_span_0 := by decide +kernel
theorem dksX6_span_1 : cX6_span.data.toList.drop 24 = dktX6_span_1 := dk_seg dksX6_span_0 24 rfl rfl
theorem dksX6_span_2 : cX6_span.data.toList.drop 46 = dktX6_span_2 := dk_seg dksX6_span_1 22 rfl rfl
theorem dksX6_span_3 : cX6_span.data.toList.drop 69 = dktX6_span_3 := dk_seg dksX6_span_2 23 rfl rfl
theorem dX6_span_0 : decode cX6_span 0 = .ok (.iload_n 1, 1) := dk_27 (dk_at dksX6_span_0 0 rfl rfl)
theorem dX6_span_1 : decode cX6_span 1 = .ok (.i2l, 1) := dk_133 (dk_at dksX6_span_0 1 rfl rfl)
theorem dX6_span_2 : decode cX6_span 2 = .ok (.lconst 0, 1) := dk_9 (dk_at dksX6_span_0 2 rfl rfl)
theorem dX6_span_3 : decode cX6_span 3 = .ok (.ldc2_w 220, 3) := dk_20 0 220 (dk_at dksX6_span_0 3 rfl rfl)
theorem dX6_span_6 : decode cX6_span 6 = .ok (.invokestatic 64, 3) := dk_184 0 64 (dk_at dksX6_span_0 6 rfl rfl)
theorem dX6_span_9 : decode cX6_span 9 = .ok (.ifCond .ne 5, 3) := dk_154 0 5 (dk_at dksX6_span_0 9 rfl rfl)
theorem dX6_span_12 : decode cX6_span 12 = .ok (.iconst (-1), 1) := dk_2 (dk_at dksX6_span_0 12 rfl rfl)
theorem dX6_span_13 : decode cX6_span 13 = .ok (.ireturn, 1) := dk_172 (dk_at dksX6_span_0 13 rfl rfl)
theorem dX6_span_14 : decode cX6_span 14 = .ok (.aload_n 0, 1) := dk_42 (dk_at dksX6_span_0 14 rfl rfl)
theorem dX6_span_15 : decode cX6_span 15 = .ok (.iconst (-1), 1) := dk_2 (dk_at dksX6_span_0 15 rfl rfl)
theorem dX6_span_16 : decode cX6_span 16 = .ok (.invokevirtual 253, 3) := dk_182 0 253 (dk_at dksX6_span_0 16 rfl rfl)
theorem dX6_span_19 : decode cX6_span 19 = .ok (.iload_n 1, 1) := dk_27 (dk_at dksX6_span_0 19 rfl rfl)
theorem dX6_span_20 : decode cX6_span 20 = .ok (.ifCond .eq 10, 3) := dk_153 0 10 (dk_at dksX6_span_0 20 rfl rfl)
theorem dX6_span_23 : decode cX6_span 23 = .ok (.aload_n 0, 1) := dk_42 (dk_at dksX6_span_0 23 rfl rfl)
theorem dX6_span_24 : decode cX6_span 24 = .ok (.getfield 238, 3) := dk_180 0 238 (dk_at dksX6_span_1 0 rfl rfl)
theorem dX6_span_27 : decode cX6_span 27 = .ok (.ifCond .ne 17, 3) := dk_154 0 17 (dk_at dksX6_span_1 3 rfl rfl)
theorem dX6_span_30 : decode cX6_span 30 = .ok (.iload_n 1, 1) := dk_27 (dk_at dksX6_span_1 6 rfl rfl)
theorem dX6_span_31 : decode cX6_span 31 = .ok (.ifCond .ne 10, 3) := dk_154 0 10 (dk_at dksX6_span_1 7 rfl rfl)
theorem dX6_span_34 : decode cX6_span 34 = .ok (.aload_n 0, 1) := dk_42 (dk_at dksX6_span_1 10 rfl rfl)
theorem dX6_span_35 : decode cX6_span 35 = .ok (.getfield 238, 3) := dk_180 0 238 (dk_at dksX6_span_1 11 rfl rfl)
theorem dX6_span_38 : decode cX6_span 38 = .ok (.goto 5, 3) := dk_167 0 5 (dk_at dksX6_span_1 14 rfl rfl)
theorem dX6_span_41 : decode cX6_span 41 = .ok (.bipush (-3), 2) := dk_16 253 (dk_at dksX6_span_1 17 rfl rfl)
theorem dX6_span_43 : decode cX6_span 43 = .ok (.ireturn, 1) := dk_172 (dk_at dksX6_span_1 19 rfl rfl)
theorem dX6_span_44 : decode cX6_span 44 = .ok (.iload_n 1, 1) := dk_27 (dk_at dksX6_span_1 20 rfl rfl)
theorem dX6_span_45 : decode cX6_span 45 = .ok (.iconst 1, 1) := dk_4 (dk_at dksX6_span_1 21 rfl rfl)
theorem dX6_span_46 : decode cX6_span 46 = .ok (.if_icmp .ne 10, 3) := dk_160 0 10 (dk_at dksX6_span_2 0 rfl rfl)
theorem dX6_span_49 : decode cX6_span 49 = .ok (.aload_n 0, 1) := dk_42 (dk_at dksX6_span_2 3 rfl rfl)
theorem dX6_span_50 : decode cX6_span 50 = .ok (.getfield 244, 3) := dk_180 0 244 (dk_at dksX6_span_2 4 rfl rfl)
theorem dX6_span_53 : decode cX6_span 53 = .ok (.goto 19, 3) := dk_167 0 19 (dk_at dksX6_span_2 7 rfl rfl)
theorem dX6_span_56 : decode cX6_span 56 = .ok (.iload_n 1, 1) := dk_27 (dk_at dksX6_span_2 10 rfl rfl)
theorem dX6_span_57 : decode cX6_span 57 = .ok (.iconst 2, 1) := dk_5 (dk_at dksX6_span_2 11 rfl rfl)
theorem dX6_span_58 : decode cX6_span 58 = .ok (.if_icmp .ne 10, 3) := dk_160 0 10 (dk_at dksX6_span_2 12 rfl rfl)
theorem dX6_span_61 : decode cX6_span 61 = .ok (.aload_n 0, 1) := dk_42 (dk_at dksX6_span_2 15 rfl rfl)
theorem dX6_span_62 : decode cX6_span 62 = .ok (.getfield 247, 3) := dk_180 0 247 (dk_at dksX6_span_2 16 rfl rfl)
theorem dX6_span_65 : decode cX6_span 65 = .ok (.goto 7, 3) := dk_167 0 7 (dk_at dksX6_span_2 19 rfl rfl)
theorem dX6_span_68 : decode cX6_span 68 = .ok (.aload_n 0, 1) := dk_42 (dk_at dksX6_span_2 22 rfl rfl)
theorem dX6_span_69 : decode cX6_span 69 = .ok (.getfield 250, 3) := dk_180 0 250 (dk_at dksX6_span_3 0 rfl rfl)
theorem dX6_span_72 : decode cX6_span 72 = .ok (.ireturn, 1) := dk_172 (dk_at dksX6_span_3 3 rfl rfl)
abbrev cX6_findFits : ByteArray := prog_26_method_76_code
def yX6_findFits : MethodName := ⟨RX6, "findFits", "(I)V"⟩
def dkwX6_findFits_5 : List UInt8 := [4, 96, 181, 0, 238, 132, 2, 1, 167, 255, 138, 177]
abbrev dktX6_findFits_5 : List UInt8 := dkwX6_findFits_5 ++ []
def dkwX6_findFits_4 : List UInt8 := [42, 180, 0, 238, 154, 0, 8, 21, 5, 167, 0, 7, 42, 180, 0, 250, 181, 0, 250, 42, 89, 180, 0, 238]
abbrev dktX6_findFits_4 : List UInt8 := dkwX6_findFits_4 ++ dktX6_findFits_5
def dkwX6_findFits_3 : List UInt8 := [181, 0, 244, 42, 42, 180, 0, 238, 154, 0, 8, 21, 4, 167, 0, 7, 42, 180, 0, 247, 181, 0, 247, 42]
abbrev dktX6_findFits_3 : List UInt8 := dkwX6_findFits_3 ++ dktX6_findFits_4
def dkwX6_findFits_2 : List UInt8 := [182, 0, 241, 153, 0, 72, 42, 42, 180, 0, 238, 154, 0, 7, 29, 167, 0, 7, 42, 180, 0, 244]
abbrev dktX6_findFits_2 : List UInt8 := dkwX6_findFits_2 ++ dktX6_findFits_3
def dkwX6_findFits_1 : List UInt8 := [16, 9, 108, 16, 9, 112, 96, 54, 4, 4, 28, 16, 9, 112, 96, 54, 5, 42, 29, 21, 4, 21, 5, 27]
abbrev dktX6_findFits_1 : List UInt8 := dkwX6_findFits_1 ++ dktX6_findFits_2
def dkwX6_findFits_0 : List UInt8 := [42, 3, 181, 0, 238, 3, 61, 28, 17, 1, 149, 162, 0, 117, 4, 28, 16, 81, 108, 96, 62, 4, 28]
abbrev dktX6_findFits_0 : List UInt8 := dkwX6_findFits_0 ++ dktX6_findFits_1
theorem dksX6_findFits_0 : cX6_findFits.data.toList.drop 0 = dktX6_findFits_0 := by decide +kernel
theorem dksX6_findFits_1 : cX6_findFits.data.toList.drop 23 = dktX6_findFits_1 := dk_seg dksX6_findFits_0 23 rfl rfl
theorem dksX6_findFits_2 : cX6_findFits.data.toList.drop 47 = dktX6_findFits_2 := dk_seg dksX6_findFits_1 24 rfl rfl
theorem dksX6_findFits_3 : cX6_findFits.data.toList.drop 69 = dktX6_findFits_3 := dk_seg dksX6_findFits_2 22 rfl rfl
theorem dksX6_findFits_4 : cX6_findFits.data.toList.drop 93 = dktX6_findFits_4 := dk_seg dksX6_findFits_3 24 rfl rfl
theorem dksX6_findFits_5 : cX6_findFits.data.toList.drop 117 = dktX6_findFits_5 := dk_seg dksX6_findFits_4 24 rfl rfl
theorem dX6_findFits_0 : decode cX6_findFits 0 = .ok (.aload_n 0, 1) := dk_42 (dk_at dksX6_findFits_0 0 rfl rfl)
theorem dX6_findFits_1 : decode cX6_findFits 1 = .ok (.iconst 0, 1) := dk_3 (dk_at dksX6_findFits_0 1 rfl rfl)
theorem dX6_findFits_2 : decode cX6_findFits 2 = .ok (.putfield 238, 3) := dk_181 0 238 (dk_at dksX6_findFits_0 2 rfl rfl)
theorem dX6_findFits_5 : decode cX6_findFits 5 = .ok (.iconst 0, 1) := dk_3 (dk_at dksX6_findFits_0 5 rfl rfl)
theorem dX6_findFits_6 : decode cX6_findFits 6 = .ok (.istore_n 2, 1) := dk_61 (dk_at dksX6_findFits_0 6 rfl rfl)
theorem dX6_findFits_7 : decode cX6_findFits 7 = .ok (.iload_n 2, 1) := dk_28 (dk_at dksX6_findFits_0 7 rfl rfl)
theorem dX6_findFits_8 : decode cX6_findFits 8 = .ok (.sipush 405, 3) := dk_17 1 149 (dk_at dksX6_findFits_0 8 rfl rfl)
theorem dX6_findFits_11 : decode cX6_findFits 11 = .ok (.if_icmp .ge 117, 3) := dk_162 0 117 (dk_at dksX6_findFits_0 11 rfl rfl)
theorem dX6_findFits_14 : decode cX6_findFits 14 = .ok (.iconst 1, 1) := dk_4 (dk_at dksX6_findFits_0 14 rfl rfl)
theorem dX6_findFits_15 : decode cX6_findFits 15 = .ok (.iload_n 2, 1) := dk_28 (dk_at dksX6_findFits_0 15 rfl rfl)
theorem dX6_findFits_16 : decode cX6_findFits 16 = .ok (.bipush 81, 2) := dk_16 81 (dk_at dksX6_findFits_0 16 rfl rfl)
theorem dX6_findFits_18 : decode cX6_findFits 18 = .ok (.idiv, 1) := dk_108 (dk_at dksX6_findFits_0 18 rfl rfl)
theorem dX6_findFits_19 : decode cX6_findFits 19 = .ok (.iadd, 1) := dk_96 (dk_at dksX6_findFits_0 19 rfl rfl)
theorem dX6_findFits_20 : decode cX6_findFits 20 = .ok (.istore_n 3, 1) := dk_62 (dk_at dksX6_findFits_0 20 rfl rfl)
theorem dX6_findFits_21 : decode cX6_findFits 21 = .ok (.iconst 1, 1) := dk_4 (dk_at dksX6_findFits_0 21 rfl rfl)
theorem dX6_findFits_22 : decode cX6_findFits 22 = .ok (.iload_n 2, 1) := dk_28 (dk_at dksX6_findFits_0 22 rfl rfl)
theorem dX6_findFits_23 : decode cX6_findFits 23 = .ok (.bipush 9, 2) := dk_16 9 (dk_at dksX6_findFits_1 0 rfl rfl)
theorem dX6_findFits_25 : decode cX6_findFits 25 = .ok (.idiv, 1) := dk_108 (dk_at dksX6_findFits_1 2 rfl rfl)
theorem dX6_findFits_26 : decode cX6_findFits 26 = .ok (.bipush 9, 2) := dk_16 9 (dk_at dksX6_findFits_1 3 rfl rfl)
theorem dX6_findFits_28 : decode cX6_findFits 28 = .ok (.irem, 1) := dk_112 (dk_at dksX6_findFits_1 5 rfl rfl)
theorem dX6_findFits_29 : decode cX6_findFits 29 = .ok (.iadd, 1) := dk_96 (dk_at dksX6_findFits_1 6 rfl rfl)
theorem dX6_findFits_30 : decode cX6_findFits 30 = .ok (.istore 4, 2) := dk_54 4 (dk_at dksX6_findFits_1 7 rfl rfl)
theorem dX6_findFits_32 : decode cX6_findFits 32 = .ok (.iconst 1, 1) := dk_4 (dk_at dksX6_findFits_1 9 rfl rfl)
theorem dX6_findFits_33 : decode cX6_findFits 33 = .ok (.iload_n 2, 1) := dk_28 (dk_at dksX6_findFits_1 10 rfl rfl)
theorem dX6_findFits_34 : decode cX6_findFits 34 = .ok (.bipush 9, 2) := dk_16 9 (dk_at dksX6_findFits_1 11 rfl rfl)
theorem dX6_findFits_36 : decode cX6_findFits 36 = .ok (.irem, 1) := dk_112 (dk_at dksX6_findFits_1 13 rfl rfl)
theorem dX6_findFits_37 : decode cX6_findFits 37 = .ok (.iadd, 1) := dk_96 (dk_at dksX6_findFits_1 14 rfl rfl)
theorem dX6_findFits_38 : decode cX6_findFits 38 = .ok (.istore 5, 2) := dk_54 5 (dk_at dksX6_findFits_1 15 rfl rfl)
theorem dX6_findFits_40 : decode cX6_findFits 40 = .ok (.aload_n 0, 1) := dk_42 (dk_at dksX6_findFits_1 17 rfl rfl)
theorem dX6_findFits_41 : decode cX6_findFits 41 = .ok (.iload_n 3, 1) := dk_29 (dk_at dksX6_findFits_1 18 rfl rfl)
theorem dX6_findFits_42 : decode cX6_findFits 42 = .ok (.iload 4, 2) := dk_21 4 (dk_at dksX6_findFits_1 19 rfl rfl)
theorem dX6_findFits_44 : decode cX6_findFits 44 = .ok (.iload 5, 2) := dk_21 5 (dk_at dksX6_findFits_1 21 rfl rfl)
theorem dX6_findFits_46 : decode cX6_findFits 46 = .ok (.iload_n 1, 1) := dk_27 (dk_at dksX6_findFits_1 23 rfl rfl)
theorem dX6_findFits_47 : decode cX6_findFits 47 = .ok (.invokevirtual 241, 3) := dk_182 0 241 (dk_at dksX6_findFits_2 0 rfl rfl)
theorem dX6_findFits_50 : decode cX6_findFits 50 = .ok (.ifCond .eq 72, 3) := dk_153 0 72 (dk_at dksX6_findFits_2 3 rfl rfl)
theorem dX6_findFits_53 : decode cX6_findFits 53 = .ok (.aload_n 0, 1) := dk_42 (dk_at dksX6_findFits_2 6 rfl rfl)
theorem dX6_findFits_54 : decode cX6_findFits 54 = .ok (.aload_n 0, 1) := dk_42 (dk_at dksX6_findFits_2 7 rfl rfl)
theorem dX6_findFits_55 : decode cX6_findFits 55 = .ok (.getfield 238, 3) := dk_180 0 238 (dk_at dksX6_findFits_2 8 rfl rfl)
theorem dX6_findFits_58 : decode cX6_findFits 58 = .ok (.ifCond .ne 7, 3) := dk_154 0 7 (dk_at dksX6_findFits_2 11 rfl rfl)
theorem dX6_findFits_61 : decode cX6_findFits 61 = .ok (.iload_n 3, 1) := dk_29 (dk_at dksX6_findFits_2 14 rfl rfl)
theorem dX6_findFits_62 : decode cX6_findFits 62 = .ok (.goto 7, 3) := dk_167 0 7 (dk_at dksX6_findFits_2 15 rfl rfl)
theorem dX6_findFits_65 : decode cX6_findFits 65 = .ok (.aload_n 0, 1) := dk_42 (dk_at dksX6_findFits_2 18 rfl rfl)
theorem dX6_findFits_66 : decode cX6_findFits 66 = .ok (.getfield 244, 3) := dk_180 0 244 (dk_at dksX6_findFits_2 19 rfl rfl)
theorem dX6_findFits_69 : decode cX6_findFits 69 = .ok (.putfield 244, 3) := dk_181 0 244 (dk_at dksX6_findFits_3 0 rfl rfl)
theorem dX6_findFits_72 : decode cX6_findFits 72 = .ok (.aload_n 0, 1) := dk_42 (dk_at dksX6_findFits_3 3 rfl rfl)
theorem dX6_findFits_73 : decode cX6_findFits 73 = .ok (.aload_n 0, 1) := dk_42 (dk_at dksX6_findFits_3 4 rfl rfl)
theorem dX6_findFits_74 : decode cX6_findFits 74 = .ok (.getfield 238, 3) := dk_180 0 238 (dk_at dksX6_findFits_3 5 rfl rfl)
theorem dX6_findFits_77 : decode cX6_findFits 77 = .ok (.ifCond .ne 8, 3) := dk_154 0 8 (dk_at dksX6_findFits_3 8 rfl rfl)
theorem dX6_findFits_80 : decode cX6_findFits 80 = .ok (.iload 4, 2) := dk_21 4 (dk_at dksX6_findFits_3 11 rfl rfl)
theorem dX6_findFits_82 : decode cX6_findFits 82 = .ok (.goto 7, 3) := dk_167 0 7 (dk_at dksX6_findFits_3 13 rfl rfl)
theorem dX6_findFits_85 : decode cX6_findFits 85 = .ok (.aload_n 0, 1) := dk_42 (dk_at dksX6_findFits_3 16 rfl rfl)
theorem dX6_findFits_86 : decode cX6_findFits 86 = .ok (.getfield 247, 3) := dk_180 0 247 (dk_at dksX6_findFits_3 17 rfl rfl)
theorem dX6_findFits_89 : decode cX6_findFits 89 = .ok (.putfield 247, 3) := dk_181 0 247 (dk_at dksX6_findFits_3 20 rfl rfl)
theorem dX6_findFits_92 : decode cX6_findFits 92 = .ok (.aload_n 0, 1) := dk_42 (dk_at dksX6_findFits_3 23 rfl rfl)
theorem dX6_findFits_93 : decode cX6_findFits 93 = .ok (.aload_n 0, 1) := dk_42 (dk_at dksX6_findFits_4 0 rfl rfl)
theorem dX6_findFits_94 : decode cX6_findFits 94 = .ok (.getfield 238, 3) := dk_180 0 238 (dk_at dksX6_findFits_4 1 rfl rfl)
theorem dX6_findFits_97 : decode cX6_findFits 97 = .ok (.ifCond .ne 8, 3) := dk_154 0 8 (dk_at dksX6_findFits_4 4 rfl rfl)
theorem dX6_findFits_100 : decode cX6_findFits 100 = .ok (.iload 5, 2) := dk_21 5 (dk_at dksX6_findFits_4 7 rfl rfl)
theorem dX6_findFits_102 : decode cX6_findFits 102 = .ok (.goto 7, 3) := dk_167 0 7 (dk_at dksX6_findFits_4 9 rfl rfl)
theorem dX6_findFits_105 : decode cX6_findFits 105 = .ok (.aload_n 0, 1) := dk_42 (dk_at dksX6_findFits_4 12 rfl rfl)
theorem dX6_findFits_106 : decode cX6_findFits 106 = .ok (.getfield 250, 3) := dk_180 0 250 (dk_at dksX6_findFits_4 13 rfl rfl)
theorem dX6_findFits_109 : decode cX6_findFits 109 = .ok (.putfield 250, 3) := dk_181 0 250 (dk_at dksX6_findFits_4 16 rfl rfl)
theorem dX6_findFits_112 : decode cX6_findFits 112 = .ok (.aload_n 0, 1) := dk_42 (dk_at dksX6_findFits_4 19 rfl rfl)
theorem dX6_findFits_113 : decode cX6_findFits 113 = .ok (.dup, 1) := dk_89 (dk_at dksX6_findFits_4 20 rfl rfl)
theorem dX6_findFits_114 : decode cX6_findFits 114 = .ok (.getfield 238, 3) := dk_180 0 238 (dk_at dksX6_findFits_4 21 rfl rfl)
theorem dX6_findFits_117 : decode cX6_findFits 117 = .ok (.iconst 1, 1) := dk_4 (dk_at dksX6_findFits_5 0 rfl rfl)
theorem dX6_findFits_118 : decode cX6_findFits 118 = .ok (.iadd, 1) := dk_96 (dk_at dksX6_findFits_5 1 rfl rfl)
theorem dX6_findFits_119 : decode cX6_findFits 119 = .ok (.putfield 238, 3) := dk_181 0 238 (dk_at dksX6_findFits_5 2 rfl rfl)
theorem dX6_findFits_122 : decode cX6_findFits 122 = .ok (.iinc 2 1, 3) := dk_132 2 1 (dk_at dksX6_findFits_5 5 rfl rfl)
theorem dX6_findFits_125 : decode cX6_findFits 125 = .ok (.goto (-118), 3) := dk_167 255 138 (dk_at dksX6_findFits_5 8 rfl rfl)
theorem dX6_findFits_128 : decode cX6_findFits 128 = .ok (.return_, 1) := dk_177 (dk_at dksX6_findFits_5 11 rfl rfl)
abbrev cX6_isFit : ByteArray := prog_26_method_75_code
def yX6_isFit : MethodName := ⟨RX6, "isFit", "(IIII)Z"⟩
def dkwX6_isFit_2 : List UInt8 := [54, 5, 132, 6, 1, 167, 255, 210, 21, 5, 172]
abbrev dktX6_isFit_2 : List UInt8 := dkwX6_isFit_2 ++ []
def dkwX6_isFit_1 : List UInt8 := [21, 6, 21, 4, 159, 0, 15, 42, 21, 6, 27, 28, 29, 182, 0, 234, 153, 0, 7, 4, 167, 0, 4, 3]
abbrev dktX6_isFit_1 : List UInt8 := dkwX6_isFit_1 ++ dktX6_isFit_2
def dkwX6_isFit_0 : List UInt8 := [4, 54, 5, 3, 54, 6, 21, 6, 42, 180, 0, 7, 16, 6, 46, 162, 0, 40, 21, 5, 153, 0, 35]
abbrev dktX6_isFit_0 : List UInt8 := dkwX6_isFit_0 ++ dktX6_isFit_1
theorem dksX6_isFit_0 : cX6_isFit.data.toList.drop 0 = dktX6_isFit_0 := by decide +kernel
theorem dksX6_isFit_1 : cX6_isFit.data.toList.drop 23 = dktX6_isFit_1 := dk_seg dksX6_isFit_0 23 rfl rfl
theorem dksX6_isFit_2 : cX6_isFit.data.toList.drop 47 = dktX6_isFit_2 := dk_seg dksX6_isFit_1 24 rfl rfl
theorem dX6_isFit_0 : decode cX6_isFit 0 = .ok (.iconst 1, 1) := dk_4 (dk_at dksX6_isFit_0 0 rfl rfl)
theorem dX6_isFit_1 : decode cX6_isFit 1 = .ok (.istore 5, 2) := dk_54 5 (dk_at dksX6_isFit_0 1 rfl rfl)
theorem dX6_isFit_3 : decode cX6_isFit 3 = .ok (.iconst 0, 1) := dk_3 (dk_at dksX6_isFit_0 3 rfl rfl)
theorem dX6_isFit_4 : decode cX6_isFit 4 = .ok (.istore 6, 2) := dk_54 6 (dk_at dksX6_isFit_0 4 rfl rfl)
theorem dX6_isFit_6 : decode cX6_isFit 6 = .ok (.iload 6, 2) := dk_21 6 (dk_at dksX6_isFit_0 6 rfl rfl)
theorem dX6_isFit_8 : decode cX6_isFit 8 = .ok (.aload_n 0, 1) := dk_42 (dk_at dksX6_isFit_0 8 rfl rfl)
theorem dX6_isFit_9 : decode cX6_isFit 9 = .ok (.getfield 7, 3) := dk_180 0 7 (dk_at dksX6_isFit_0 9 rfl rfl)
theorem dX6_isFit_12 : decode cX6_isFit 12 = .ok (.bipush 6, 2) := dk_16 6 (dk_at dksX6_isFit_0 12 rfl rfl)
theorem dX6_isFit_14 : decode cX6_isFit 14 = .ok (.iaload, 1) := dk_46 (dk_at dksX6_isFit_0 14 rfl rfl)
theorem dX6_isFit_15 : decode cX6_isFit 15 = .ok (.if_icmp .ge 40, 3) := dk_162 0 40 (dk_at dksX6_isFit_0 15 rfl rfl)
theorem dX6_isFit_18 : decode cX6_isFit 18 = .ok (.iload 5, 2) := dk_21 5 (dk_at dksX6_isFit_0 18 rfl rfl)
theorem dX6_isFit_20 : decode cX6_isFit 20 = .ok (.ifCond .eq 35, 3) := dk_153 0 35 (dk_at dksX6_isFit_0 20 rfl rfl)
theorem dX6_isFit_23 : decode cX6_isFit 23 = .ok (.iload 6, 2) := dk_21 6 (dk_at dksX6_isFit_1 0 rfl rfl)
theorem dX6_isFit_25 : decode cX6_isFit 25 = .ok (.iload 4, 2) := dk_21 4 (dk_at dksX6_isFit_1 2 rfl rfl)
theorem dX6_isFit_27 : decode cX6_isFit 27 = .ok (.if_icmp .eq 15, 3) := dk_159 0 15 (dk_at dksX6_isFit_1 4 rfl rfl)
theorem dX6_isFit_30 : decode cX6_isFit 30 = .ok (.aload_n 0, 1) := dk_42 (dk_at dksX6_isFit_1 7 rfl rfl)
theorem dX6_isFit_31 : decode cX6_isFit 31 = .ok (.iload 6, 2) := dk_21 6 (dk_at dksX6_isFit_1 8 rfl rfl)
theorem dX6_isFit_33 : decode cX6_isFit 33 = .ok (.iload_n 1, 1) := dk_27 (dk_at dksX6_isFit_1 10 rfl rfl)
theorem dX6_isFit_34 : decode cX6_isFit 34 = .ok (.iload_n 2, 1) := dk_28 (dk_at dksX6_isFit_1 11 rfl rfl)
theorem dX6_isFit_35 : decode cX6_isFit 35 = .ok (.iload_n 3, 1) := dk_29 (dk_at dksX6_isFit_1 12 rfl rfl)
theorem dX6_isFit_36 : decode cX6_isFit 36 = .ok (.invokevirtual 234, 3) := dk_182 0 234 (dk_at dksX6_isFit_1 13 rfl rfl)
theorem dX6_isFit_39 : decode cX6_isFit 39 = .ok (.ifCond .eq 7, 3) := dk_153 0 7 (dk_at dksX6_isFit_1 16 rfl rfl)
theorem dX6_isFit_42 : decode cX6_isFit 42 = .ok (.iconst 1, 1) := dk_4 (dk_at dksX6_isFit_1 19 rfl rfl)
theorem dX6_isFit_43 : decode cX6_isFit 43 = .ok (.goto 4, 3) := dk_167 0 4 (dk_at dksX6_isFit_1 20 rfl rfl)
theorem dX6_isFit_46 : decode cX6_isFit 46 = .ok (.iconst 0, 1) := dk_3 (dk_at dksX6_isFit_1 23 rfl rfl)
theorem dX6_isFit_47 : decode cX6_isFit 47 = .ok (.istore 5, 2) := dk_54 5 (dk_at dksX6_isFit_2 0 rfl rfl)
theorem dX6_isFit_49 : decode cX6_isFit 49 = .ok (.iinc 6 1, 3) := dk_132 6 1 (dk_at dksX6_isFit_2 2 rfl rfl)
theorem dX6_isFit_52 : decode cX6_isFit 52 = .ok (.goto (-46), 3) := dk_167 255 210 (dk_at dksX6_isFit_2 5 rfl rfl)
theorem dX6_isFit_55 : decode cX6_isFit 55 = .ok (.iload 5, 2) := dk_21 5 (dk_at dksX6_isFit_2 8 rfl rfl)
theorem dX6_isFit_57 : decode cX6_isFit 57 = .ok (.ireturn, 1) := dk_172 (dk_at dksX6_isFit_2 10 rfl rfl)
abbrev cX6_isSoBy : ByteArray := prog_26_method_74_code
def yX6_isSoBy : MethodName := ⟨RX6, "isSoBy", "(IIII)Z"⟩
def dkwX6_isSoBy_4 : List UInt8 := [4, 160, 0, 7, 4, 167, 0, 4, 3, 160, 0, 7, 4, 167, 0, 4, 3, 172]
abbrev dktX6_isSoBy_4 : List UInt8 := dkwX6_isSoBy_4 ++ []
def dkwX6_isSoBy_3 : List UInt8 := [5, 96, 46, 163, 0, 7, 4, 167, 0, 4, 3, 54, 7, 21, 7, 42, 180, 0, 7, 21, 5, 6, 96, 46]
abbrev dktX6_isSoBy_3 : List UInt8 := dkwX6_isSoBy_3 ++ dktX6_isSoBy_4
def dkwX6_isSoBy_2 : List UInt8 := [162, 0, 9, 132, 6, 1, 167, 255, 228, 21, 6, 16, 31, 163, 0, 21, 21, 6, 42, 180, 0, 7, 21, 5]
abbrev dktX6_isSoBy_2 : List UInt8 := dkwX6_isSoBy_2 ++ dktX6_isSoBy_3
def dkwX6_isSoBy_1 : List UInt8 := [54, 6, 21, 6, 16, 31, 163, 0, 27, 28, 21, 4, 21, 6, 184, 0, 86, 42, 180, 0, 7, 21, 5, 46]
abbrev dktX6_isSoBy_1 : List UInt8 := dkwX6_isSoBy_1 ++ dktX6_isSoBy_2
def dkwX6_isSoBy_0 : List UInt8 := [16, 112, 7, 27, 104, 96, 54, 5, 42, 180, 0, 7, 21, 5, 4, 96, 46, 28, 29, 184, 0, 93, 96]
abbrev dktX6_isSoBy_0 : List UInt8 := dkwX6_isSoBy_0 ++ dktX6_isSoBy_1
theorem dksX6_isSoBy_0 : cX6_isSoBy.data.toList.drop 0 = dktX6_isSoBy_0 := by decide +kernel
theorem dksX6_isSoBy_1 : cX6_isSoBy.data.toList.drop 23 = dktX6_isSoBy_1 := dk_seg dksX6_isSoBy_0 23 rfl rfl
theorem dksX6_isSoBy_2 : cX6_isSoBy.data.toList.drop 47 = dktX6_isSoBy_2 := dk_seg dksX6_isSoBy_1 24 rfl rfl
theorem dksX6_isSoBy_3 : cX6_isSoBy.data.toList.drop 71 = dktX6_isSoBy_3 := dk_seg dksX6_isSoBy_2 24 rfl rfl
theorem dksX6_isSoBy_4 : cX6_isSoBy.data.toList.drop 95 = dktX6_isSoBy_4 := dk_seg dksX6_isSoBy_3 24 rfl rfl
theorem dX6_isSoBy_0 : decode cX6_isSoBy 0 = .ok (.bipush 112, 2) := dk_16 112 (dk_at dksX6_isSoBy_0 0 rfl rfl)
theorem dX6_isSoBy_2 : decode cX6_isSoBy 2 = .ok (.iconst 4, 1) := dk_7 (dk_at dksX6_isSoBy_0 2 rfl rfl)
theorem dX6_isSoBy_3 : decode cX6_isSoBy 3 = .ok (.iload_n 1, 1) := dk_27 (dk_at dksX6_isSoBy_0 3 rfl rfl)
theorem dX6_isSoBy_4 : decode cX6_isSoBy 4 = .ok (.imul, 1) := dk_104 (dk_at dksX6_isSoBy_0 4 rfl rfl)
theorem dX6_isSoBy_5 : decode cX6_isSoBy 5 = .ok (.iadd, 1) := dk_96 (dk_at dksX6_isSoBy_0 5 rfl rfl)
theorem dX6_isSoBy_6 : decode cX6_isSoBy 6 = .ok (.istore 5, 2) := dk_54 5 (dk_at dksX6_isSoBy_0 6 rfl rfl)
theorem dX6_isSoBy_8 : decode cX6_isSoBy 8 = .ok (.aload_n 0, 1) := dk_42 (dk_at dksX6_isSoBy_0 8 rfl rfl)
theorem dX6_isSoBy_9 : decode cX6_isSoBy 9 = .ok (.getfield 7, 3) := dk_180 0 7 (dk_at dksX6_isSoBy_0 9 rfl rfl)
theorem dX6_isSoBy_12 : decode cX6_isSoBy 12 = .ok (.iload 5, 2) := dk_21 5 (dk_at dksX6_isSoBy_0 12 rfl rfl)
theorem dX6_isSoBy_14 : decode cX6_isSoBy 14 = .ok (.iconst 1, 1) := dk_4 (dk_at dksX6_isSoBy_0 14 rfl rfl)
theorem dX6_isSoBy_15 : decode cX6_isSoBy 15 = .ok (.iadd, 1) := dk_96 (dk_at dksX6_isSoBy_0 15 rfl rfl)
theorem dX6_isSoBy_16 : decode cX6_isSoBy 16 = .ok (.iaload, 1) := dk_46 (dk_at dksX6_isSoBy_0 16 rfl rfl)
theorem dX6_isSoBy_17 : decode cX6_isSoBy 17 = .ok (.iload_n 2, 1) := dk_28 (dk_at dksX6_isSoBy_0 17 rfl rfl)
theorem dX6_isSoBy_18 : decode cX6_isSoBy 18 = .ok (.iload_n 3, 1) := dk_29 (dk_at dksX6_isSoBy_0 18 rfl rfl)
theorem dX6_isSoBy_19 : decode cX6_isSoBy 19 = .ok (.invokestatic 93, 3) := dk_184 0 93 (dk_at dksX6_isSoBy_0 19 rfl rfl)
theorem dX6_isSoBy_22 : decode cX6_isSoBy 22 = .ok (.iadd, 1) := dk_96 (dk_at dksX6_isSoBy_0 22 rfl rfl)
theorem dX6_isSoBy_23 : decode cX6_isSoBy 23 = .ok (.istore 6, 2) := dk_54 6 (dk_at dksX6_isSoBy_1 0 rfl rfl)
theorem dX6_isSoBy_25 : decode cX6_isSoBy 25 = .ok (.iload 6, 2) := dk_21 6 (dk_at dksX6_isSoBy_1 2 rfl rfl)
theorem dX6_isSoBy_27 : decode cX6_isSoBy 27 = .ok (.bipush 31, 2) := dk_16 31 (dk_at dksX6_isSoBy_1 4 rfl rfl)
theorem dX6_isSoBy_29 : decode cX6_isSoBy 29 = .ok (.if_icmp .gt 27, 3) := dk_163 0 27 (dk_at dksX6_isSoBy_1 6 rfl rfl)
theorem dX6_isSoBy_32 : decode cX6_isSoBy 32 = .ok (.iload_n 2, 1) := dk_28 (dk_at dksX6_isSoBy_1 9 rfl rfl)
theorem dX6_isSoBy_33 : decode cX6_isSoBy 33 = .ok (.iload 4, 2) := dk_21 4 (dk_at dksX6_isSoBy_1 10 rfl rfl)
theorem dX6_isSoBy_35 : decode cX6_isSoBy 35 = .ok (.iload 6, 2) := dk_21 6 (dk_at dksX6_isSoBy_1 12 rfl rfl)
theorem dX6_isSoBy_37 : decode cX6_isSoBy 37 = .ok (.invokestatic 86, 3) := dk_184 0 86 (dk_at dksX6_isSoBy_1 14 rfl rfl)
theorem dX6_isSoBy_40 : decode cX6_isSoBy 40 = .ok (.aload_n 0, 1) := dk_42 (dk_at dksX6_isSoBy_1 17 rfl rfl)
theorem dX6_isSoBy_41 : decode cX6_isSoBy 41 = .ok (.getfield 7, 3) := dk_180 0 7 (dk_at dksX6_isSoBy_1 18 rfl rfl)
theorem dX6_isSoBy_44 : decode cX6_isSoBy 44 = .ok (.iload 5, 2) := dk_21 5 (dk_at dksX6_isSoBy_1 21 rfl rfl)
theorem dX6_isSoBy_46 : decode cX6_isSoBy 46 = .ok (.iaload, 1) := dk_46 (dk_at dksX6_isSoBy_1 23 rfl rfl)
theorem dX6_isSoBy_47 : decode cX6_isSoBy 47 = .ok (.if_icmp .ge 9, 3) := dk_162 0 9 (dk_at dksX6_isSoBy_2 0 rfl rfl)
theorem dX6_isSoBy_50 : decode cX6_isSoBy 50 = .ok (.iinc 6 1, 3) := dk_132 6 1 (dk_at dksX6_isSoBy_2 3 rfl rfl)
theorem dX6_isSoBy_53 : decode cX6_isSoBy 53 = .ok (.goto (-28), 3) := dk_167 255 228 (dk_at dksX6_isSoBy_2 6 rfl rfl)
theorem dX6_isSoBy_56 : decode cX6_isSoBy 56 = .ok (.iload 6, 2) := dk_21 6 (dk_at dksX6_isSoBy_2 9 rfl rfl)
theorem dX6_isSoBy_58 : decode cX6_isSoBy 58 = .ok (.bipush 31, 2) := dk_16 31 (dk_at dksX6_isSoBy_2 11 rfl rfl)
theorem dX6_isSoBy_60 : decode cX6_isSoBy 60 = .ok (.if_icmp .gt 21, 3) := dk_163 0 21 (dk_at dksX6_isSoBy_2 13 rfl rfl)
theorem dX6_isSoBy_63 : decode cX6_isSoBy 63 = .ok (.iload 6, 2) := dk_21 6 (dk_at dksX6_isSoBy_2 16 rfl rfl)
theorem dX6_isSoBy_65 : decode cX6_isSoBy 65 = .ok (.aload_n 0, 1) := dk_42 (dk_at dksX6_isSoBy_2 18 rfl rfl)
theorem dX6_isSoBy_66 : decode cX6_isSoBy 66 = .ok (.getfield 7, 3) := dk_180 0 7 (dk_at dksX6_isSoBy_2 19 rfl rfl)
theorem dX6_isSoBy_69 : decode cX6_isSoBy 69 = .ok (.iload 5, 2) := dk_21 5 (dk_at dksX6_isSoBy_2 22 rfl rfl)
theorem dX6_isSoBy_71 : decode cX6_isSoBy 71 = .ok (.iconst 2, 1) := dk_5 (dk_at dksX6_isSoBy_3 0 rfl rfl)
theorem dX6_isSoBy_72 : decode cX6_isSoBy 72 = .ok (.iadd, 1) := dk_96 (dk_at dksX6_isSoBy_3 1 rfl rfl)
theorem dX6_isSoBy_73 : decode cX6_isSoBy 73 = .ok (.iaload, 1) := dk_46 (dk_at dksX6_isSoBy_3 2 rfl rfl)
theorem dX6_isSoBy_74 : decode cX6_isSoBy 74 = .ok (.if_icmp .gt 7, 3) := dk_163 0 7 (dk_at dksX6_isSoBy_3 3 rfl rfl)
theorem dX6_isSoBy_77 : decode cX6_isSoBy 77 = .ok (.iconst 1, 1) := dk_4 (dk_at dksX6_isSoBy_3 6 rfl rfl)
theorem dX6_isSoBy_78 : decode cX6_isSoBy 78 = .ok (.goto 4, 3) := dk_167 0 4 (dk_at dksX6_isSoBy_3 7 rfl rfl)
theorem dX6_isSoBy_81 : decode cX6_isSoBy 81 = .ok (.iconst 0, 1) := dk_3 (dk_at dksX6_isSoBy_3 10 rfl rfl)
theorem dX6_isSoBy_82 : decode cX6_isSoBy 82 = .ok (.istore 7, 2) := dk_54 7 (dk_at dksX6_isSoBy_3 11 rfl rfl)
theorem dX6_isSoBy_84 : decode cX6_isSoBy 84 = .ok (.iload 7, 2) := dk_21 7 (dk_at dksX6_isSoBy_3 13 rfl rfl)
theorem dX6_isSoBy_86 : decode cX6_isSoBy 86 = .ok (.aload_n 0, 1) := dk_42 (dk_at dksX6_isSoBy_3 15 rfl rfl)
theorem dX6_isSoBy_87 : decode cX6_isSoBy 87 = .ok (.getfield 7, 3) := dk_180 0 7 (dk_at dksX6_isSoBy_3 16 rfl rfl)
theorem dX6_isSoBy_90 : decode cX6_isSoBy 90 = .ok (.iload 5, 2) := dk_21 5 (dk_at dksX6_isSoBy_3 19 rfl rfl)
theorem dX6_isSoBy_92 : decode cX6_isSoBy 92 = .ok (.iconst 3, 1) := dk_6 (dk_at dksX6_isSoBy_3 21 rfl rfl)
theorem dX6_isSoBy_93 : decode cX6_isSoBy 93 = .ok (.iadd, 1) := dk_96 (dk_at dksX6_isSoBy_3 22 rfl rfl)
theorem dX6_isSoBy_94 : decode cX6_isSoBy 94 = .ok (.iaload, 1) := dk_46 (dk_at dksX6_isSoBy_3 23 rfl rfl)
theorem dX6_isSoBy_95 : decode cX6_isSoBy 95 = .ok (.iconst 1, 1) := dk_4 (dk_at dksX6_isSoBy_4 0 rfl rfl)
theorem dX6_isSoBy_96 : decode cX6_isSoBy 96 = .ok (.if_icmp .ne 7, 3) := dk_160 0 7 (dk_at dksX6_isSoBy_4 1 rfl rfl)
theorem dX6_isSoBy_99 : decode cX6_isSoBy 99 = .ok (.iconst 1, 1) := dk_4 (dk_at dksX6_isSoBy_4 4 rfl rfl)
theorem dX6_isSoBy_100 : decode cX6_isSoBy 100 = .ok (.goto 4, 3) := dk_167 0 4 (dk_at dksX6_isSoBy_4 5 rfl rfl)
theorem dX6_isSoBy_103 : decode cX6_isSoBy 103 = .ok (.iconst 0, 1) := dk_3 (dk_at dksX6_isSoBy_4 8 rfl rfl)
theorem dX6_isSoBy_104 : decode cX6_isSoBy 104 = .ok (.if_icmp .ne 7, 3) := dk_160 0 7 (dk_at dksX6_isSoBy_4 9 rfl rfl)
theorem dX6_isSoBy_107 : decode cX6_isSoBy 107 = .ok (.iconst 1, 1) := dk_4 (dk_at dksX6_isSoBy_4 12 rfl rfl)
theorem dX6_isSoBy_108 : decode cX6_isSoBy 108 = .ok (.goto 4, 3) := dk_167 0 4 (dk_at dksX6_isSoBy_4 13 rfl rfl)
theorem dX6_isSoBy_111 : decode cX6_isSoBy 111 = .ok (.iconst 0, 1) := dk_3 (dk_at dksX6_isSoBy_4 16 rfl rfl)
theorem dX6_isSoBy_112 : decode cX6_isSoBy 112 = .ok (.ireturn, 1) := dk_172 (dk_at dksX6_isSoBy_4 17 rfl rfl)
abbrev cX6_liar : ByteArray := prog_26_method_78_code
def yX6_liar : MethodName := ⟨RX6, "liar", "()I"⟩
def dkwX6_liar_2 : List UInt8 := [158, 0, 5, 28, 172, 132, 2, 1, 167, 255, 224, 16, 253, 172]
abbrev dktX6_liar_2 : List UInt8 := dkwX6_liar_2 ++ []
def dkwX6_liar_1 : List UInt8 := [180, 0, 7, 16, 6, 46, 162, 0, 27, 27, 153, 0, 23, 42, 28, 182, 0, 253, 42, 180, 0, 238]
abbrev dktX6_liar_1 : List UInt8 := dkwX6_liar_1 ++ dktX6_liar_2
def dkwX6_liar_0 : List UInt8 := [42, 2, 182, 0, 253, 42, 180, 0, 238, 154, 0, 7, 4, 167, 0, 4, 3, 60, 3, 61, 28, 42]
abbrev dktX6_liar_0 : List UInt8 := dkwX6_liar_0 ++ dktX6_liar_1
theorem dksX6_liar_0 : cX6_liar.data.toList.drop 0 = dktX6_liar_0 := by decide +kernel
theorem dksX6_liar_1 : cX6_liar.data.toList.drop 22 = dktX6_liar_1 := dk_seg dksX6_liar_0 22 rfl rfl
theorem dksX6_liar_2 : cX6_liar.data.toList.drop 44 = dktX6_liar_2 := dk_seg dksX6_liar_1 22 rfl rfl
theorem dX6_liar_0 : decode cX6_liar 0 = .ok (.aload_n 0, 1) := dk_42 (dk_at dksX6_liar_0 0 rfl rfl)
theorem dX6_liar_1 : decode cX6_liar 1 = .ok (.iconst (-1), 1) := dk_2 (dk_at dksX6_liar_0 1 rfl rfl)
theorem dX6_liar_2 : decode cX6_liar 2 = .ok (.invokevirtual 253, 3) := dk_182 0 253 (dk_at dksX6_liar_0 2 rfl rfl)
theorem dX6_liar_5 : decode cX6_liar 5 = .ok (.aload_n 0, 1) := dk_42 (dk_at dksX6_liar_0 5 rfl rfl)
theorem dX6_liar_6 : decode cX6_liar 6 = .ok (.getfield 238, 3) := dk_180 0 238 (dk_at dksX6_liar_0 6 rfl rfl)
theorem dX6_liar_9 : decode cX6_liar 9 = .ok (.ifCond .ne 7, 3) := dk_154 0 7 (dk_at dksX6_liar_0 9 rfl rfl)
theorem dX6_liar_12 : decode cX6_liar 12 = .ok (.iconst 1, 1) := dk_4 (dk_at dksX6_liar_0 12 rfl rfl)
theorem dX6_liar_13 : decode cX6_liar 13 = .ok (.goto 4, 3) := dk_167 0 4 (dk_at dksX6_liar_0 13 rfl rfl)
theorem dX6_liar_16 : decode cX6_liar 16 = .ok (.iconst 0, 1) := dk_3 (dk_at dksX6_liar_0 16 rfl rfl)
theorem dX6_liar_17 : decode cX6_liar 17 = .ok (.istore_n 1, 1) := dk_60 (dk_at dksX6_liar_0 17 rfl rfl)
theorem dX6_liar_18 : decode cX6_liar 18 = .ok (.iconst 0, 1) := dk_3 (dk_at dksX6_liar_0 18 rfl rfl)
theorem dX6_liar_19 : decode cX6_liar 19 = .ok (.istore_n 2, 1) := dk_61 (dk_at dksX6_liar_0 19 rfl rfl)
theorem dX6_liar_20 : decode cX6_liar 20 = .ok (.iload_n 2, 1) := dk_28 (dk_at dksX6_liar_0 20 rfl rfl)
theorem dX6_liar_21 : decode cX6_liar 21 = .ok (.aload_n 0, 1) := dk_42 (dk_at dksX6_liar_0 21 rfl rfl)
theorem dX6_liar_22 : decode cX6_liar 22 = .ok (.getfield 7, 3) := dk_180 0 7 (dk_at dksX6_liar_1 0 rfl rfl)
theorem dX6_liar_25 : decode cX6_liar 25 = .ok (.bipush 6, 2) := dk_16 6 (dk_at dksX6_liar_1 3 rfl rfl)
theorem dX6_liar_27 : decode cX6_liar 27 = .ok (.iaload, 1) := dk_46 (dk_at dksX6_liar_1 5 rfl rfl)
theorem dX6_liar_28 : decode cX6_liar 28 = .ok (.if_icmp .ge 27, 3) := dk_162 0 27 (dk_at dksX6_liar_1 6 rfl rfl)
theorem dX6_liar_31 : decode cX6_liar 31 = .ok (.iload_n 1, 1) := dk_27 (dk_at dksX6_liar_1 9 rfl rfl)
theorem dX6_liar_32 : decode cX6_liar 32 = .ok (.ifCond .eq 23, 3) := dk_153 0 23 (dk_at dksX6_liar_1 10 rfl rfl)
theorem dX6_liar_35 : decode cX6_liar 35 = .ok (.aload_n 0, 1) := dk_42 (dk_at dksX6_liar_1 13 rfl rfl)
theorem dX6_liar_36 : decode cX6_liar 36 = .ok (.iload_n 2, 1) := dk_28 (dk_at dksX6_liar_1 14 rfl rfl)
theorem dX6_liar_37 : decode cX6_liar 37 = .ok (.invokevirtual 253, 3) := dk_182 0 253 (dk_at dksX6_liar_1 15 rfl rfl)
theorem dX6_liar_40 : decode cX6_liar 40 = .ok (.aload_n 0, 1) := dk_42 (dk_at dksX6_liar_1 18 rfl rfl)
theorem dX6_liar_41 : decode cX6_liar 41 = .ok (.getfield 238, 3) := dk_180 0 238 (dk_at dksX6_liar_1 19 rfl rfl)
theorem dX6_liar_44 : decode cX6_liar 44 = .ok (.ifCond .le 5, 3) := dk_158 0 5 (dk_at dksX6_liar_2 0 rfl rfl)
theorem dX6_liar_47 : decode cX6_liar 47 = .ok (.iload_n 2, 1) := dk_28 (dk_at dksX6_liar_2 3 rfl rfl)
theorem dX6_liar_48 : decode cX6_liar 48 = .ok (.ireturn, 1) := dk_172 (dk_at dksX6_liar_2 4 rfl rfl)
theorem dX6_liar_49 : decode cX6_liar 49 = .ok (.iinc 2 1, 3) := dk_132 2 1 (dk_at dksX6_liar_2 5 rfl rfl)
theorem dX6_liar_52 : decode cX6_liar 52 = .ok (.goto (-32), 3) := dk_167 255 224 (dk_at dksX6_liar_2 8 rfl rfl)
theorem dX6_liar_55 : decode cX6_liar 55 = .ok (.bipush (-3), 2) := dk_16 253 (dk_at dksX6_liar_2 11 rfl rfl)
theorem dX6_liar_57 : decode cX6_liar 57 = .ok (.ireturn, 1) := dk_172 (dk_at dksX6_liar_2 13 rfl rfl)
abbrev cX6_seed : ByteArray := prog_26_method_79_code
def yX6_seed : MethodName := ⟨RX6, "seed", "(I)I"⟩
def dkwX6_seed_0 : List UInt8 := [42, 16, 7, 27, 182, 0, 111, 172]
abbrev dktX6_seed_0 : List UInt8 := dkwX6_seed_0 ++ []
theorem dksX6_seed_0 : cX6_seed.data.toList.drop 0 = dktX6_seed_0 := by decide +kernel
theorem dX6_seed_0 : decode cX6_seed 0 = .ok (.aload_n 0, 1) := dk_42 (dk_at dksX6_seed_0 0 rfl rfl)
theorem dX6_seed_1 : decode cX6_seed 1 = .ok (.bipush 7, 2) := dk_16 7 (dk_at dksX6_seed_0 1 rfl rfl)
theorem dX6_seed_3 : decode cX6_seed 3 = .ok (.iload_n 1, 1) := dk_27 (dk_at dksX6_seed_0 3 rfl rfl)
theorem dX6_seed_4 : decode cX6_seed 4 = .ok (.invokevirtual 111, 3) := dk_182 0 111 (dk_at dksX6_seed_0 4 rfl rfl)
theorem dX6_seed_7 : decode cX6_seed 7 = .ok (.ireturn, 1) := dk_172 (dk_at dksX6_seed_0 7 rfl rfl)
abbrev cX6_lot : ByteArray := prog_26_method_81_code
def yX6_lot : MethodName := ⟨RX6, "lot", "()I"⟩
def dkwX6_lot_0 : List UInt8 := [42, 182, 0, 124, 153, 0, 8, 16, 252, 167, 0, 7, 42, 182, 1, 1, 172]
abbrev dktX6_lot_0 : List UInt8 := dkwX6_lot_0 ++ []
theorem dksX6_lot_0 : cX6_lot.data.toList.drop 0 = dktX6_lot_0 := by decide +kernel
theorem dX6_lot_0 : decode cX6_lot 0 = .ok (.aload_n 0, 1) := dk_42 (dk_at dksX6_lot_0 0 rfl rfl)
theorem dX6_lot_1 : decode cX6_lot 1 = .ok (.invokevirtual 124, 3) := dk_182 0 124 (dk_at dksX6_lot_0 1 rfl rfl)
theorem dX6_lot_4 : decode cX6_lot 4 = .ok (.ifCond .eq 8, 3) := dk_153 0 8 (dk_at dksX6_lot_0 4 rfl rfl)
theorem dX6_lot_7 : decode cX6_lot 7 = .ok (.bipush (-4), 2) := dk_16 252 (dk_at dksX6_lot_0 7 rfl rfl)
theorem dX6_lot_9 : decode cX6_lot 9 = .ok (.goto 7, 3) := dk_167 0 7 (dk_at dksX6_lot_0 9 rfl rfl)
theorem dX6_lot_12 : decode cX6_lot 12 = .ok (.aload_n 0, 1) := dk_42 (dk_at dksX6_lot_0 12 rfl rfl)
theorem dX6_lot_13 : decode cX6_lot 13 = .ok (.invokevirtual 257, 3) := dk_182 1 1 (dk_at dksX6_lot_0 13 rfl rfl)
theorem dX6_lot_16 : decode cX6_lot 16 = .ok (.ireturn, 1) := dk_172 (dk_at dksX6_lot_0 16 rfl rfl)
abbrev cX6_byLot : ByteArray := prog_26_method_80_code
def yX6_byLot : MethodName := ⟨RX6, "byLot", "()I"⟩
def dkwX6_byLot_1 : List UInt8 := [180, 0, 7, 16, 7, 46, 16, 16, 124, 42, 180, 0, 7, 3, 46, 4, 96, 112, 182, 0, 146, 172]
abbrev dktX6_byLot_1 : List UInt8 := dkwX6_byLot_1 ++ []
def dkwX6_byLot_0 : List UInt8 := [42, 180, 0, 7, 16, 7, 42, 180, 0, 7, 16, 7, 46, 19, 1, 0, 104, 17, 48, 57, 96, 79, 42, 42]
abbrev dktX6_byLot_0 : List UInt8 := dkwX6_byLot_0 ++ dktX6_byLot_1
theorem dksX6_byLot_0 : cX6_byLot.data.toList.drop 0 = dktX6_byLot_0 := by decide +kernel
theorem dksX6_byLot_1 : cX6_byLot.data.toList.drop 24 = dktX6_byLot_1 := dk_seg dksX6_byLot_0 24 rfl rfl
theorem dX6_byLot_0 : decode cX6_byLot 0 = .ok (.aload_n 0, 1) := dk_42 (dk_at dksX6_byLot_0 0 rfl rfl)
theorem dX6_byLot_1 : decode cX6_byLot 1 = .ok (.getfield 7, 3) := dk_180 0 7 (dk_at dksX6_byLot_0 1 rfl rfl)
theorem dX6_byLot_4 : decode cX6_byLot 4 = .ok (.bipush 7, 2) := dk_16 7 (dk_at dksX6_byLot_0 4 rfl rfl)
theorem dX6_byLot_6 : decode cX6_byLot 6 = .ok (.aload_n 0, 1) := dk_42 (dk_at dksX6_byLot_0 6 rfl rfl)
theorem dX6_byLot_7 : decode cX6_byLot 7 = .ok (.getfield 7, 3) := dk_180 0 7 (dk_at dksX6_byLot_0 7 rfl rfl)
theorem dX6_byLot_10 : decode cX6_byLot 10 = .ok (.bipush 7, 2) := dk_16 7 (dk_at dksX6_byLot_0 10 rfl rfl)
theorem dX6_byLot_12 : decode cX6_byLot 12 = .ok (.iaload, 1) := dk_46 (dk_at dksX6_byLot_0 12 rfl rfl)
theorem dX6_byLot_13 : decode cX6_byLot 13 = .ok (.ldc_w 256, 3) := dk_19 1 0 (dk_at dksX6_byLot_0 13 rfl rfl)
theorem dX6_byLot_16 : decode cX6_byLot 16 = .ok (.imul, 1) := dk_104 (dk_at dksX6_byLot_0 16 rfl rfl)
theorem dX6_byLot_17 : decode cX6_byLot 17 = .ok (.sipush 12345, 3) := dk_17 48 57 (dk_at dksX6_byLot_0 17 rfl rfl)
theorem dX6_byLot_20 : decode cX6_byLot 20 = .ok (.iadd, 1) := dk_96 (dk_at dksX6_byLot_0 20 rfl rfl)
theorem dX6_byLot_21 : decode cX6_byLot 21 = .ok (.iastore, 1) := dk_79 (dk_at dksX6_byLot_0 21 rfl rfl)
theorem dX6_byLot_22 : decode cX6_byLot 22 = .ok (.aload_n 0, 1) := dk_42 (dk_at dksX6_byLot_0 22 rfl rfl)
theorem dX6_byLot_23 : decode cX6_byLot 23 = .ok (.aload_n 0, 1) := dk_42 (dk_at dksX6_byLot_0 23 rfl rfl)
theorem dX6_byLot_24 : decode cX6_byLot 24 = .ok (.getfield 7, 3) := dk_180 0 7 (dk_at dksX6_byLot_1 0 rfl rfl)
theorem dX6_byLot_27 : decode cX6_byLot 27 = .ok (.bipush 7, 2) := dk_16 7 (dk_at dksX6_byLot_1 3 rfl rfl)
theorem dX6_byLot_29 : decode cX6_byLot 29 = .ok (.iaload, 1) := dk_46 (dk_at dksX6_byLot_1 5 rfl rfl)
theorem dX6_byLot_30 : decode cX6_byLot 30 = .ok (.bipush 16, 2) := dk_16 16 (dk_at dksX6_byLot_1 6 rfl rfl)
theorem dX6_byLot_32 : decode cX6_byLot 32 = .ok (.iushr, 1) := dk_124 (dk_at dksX6_byLot_1 8 rfl rfl)
theorem dX6_byLot_33 : decode cX6_byLot 33 = .ok (.aload_n 0, 1) := dk_42 (dk_at dksX6_byLot_1 9 rfl rfl)
theorem dX6_byLot_34 : decode cX6_byLot 34 = .ok (.getfield 7, 3) := dk_180 0 7 (dk_at dksX6_byLot_1 10 rfl rfl)
theorem dX6_byLot_37 : decode cX6_byLot 37 = .ok (.iconst 0, 1) := dk_3 (dk_at dksX6_byLot_1 13 rfl rfl)
theorem dX6_byLot_38 : decode cX6_byLot 38 = .ok (.iaload, 1) := dk_46 (dk_at dksX6_byLot_1 14 rfl rfl)
theorem dX6_byLot_39 : decode cX6_byLot 39 = .ok (.iconst 1, 1) := dk_4 (dk_at dksX6_byLot_1 15 rfl rfl)
theorem dX6_byLot_40 : decode cX6_byLot 40 = .ok (.iadd, 1) := dk_96 (dk_at dksX6_byLot_1 16 rfl rfl)
theorem dX6_byLot_41 : decode cX6_byLot 41 = .ok (.irem, 1) := dk_112 (dk_at dksX6_byLot_1 17 rfl rfl)
theorem dX6_byLot_42 : decode cX6_byLot 42 = .ok (.invokevirtual 146, 3) := dk_182 0 146 (dk_at dksX6_byLot_1 18 rfl rfl)
theorem dX6_byLot_45 : decode cX6_byLot 45 = .ok (.ireturn, 1) := dk_172 (dk_at dksX6_byLot_1 21 rfl rfl)
abbrev cX6_often : ByteArray := prog_26_method_82_code
def yX6_often : MethodName := ⟨RX6, "often", "(II)I"⟩
def dkwX6_often_4 : List UInt8 := [16, 7, 21, 6, 79, 132, 4, 1, 167, 255, 189, 42, 182, 0, 160, 29, 172]
abbrev dktX6_often_4 : List UInt8 := dkwX6_often_4 ++ []
def dkwX6_often_3 : List UInt8 := [167, 0, 4, 3, 96, 62, 42, 180, 0, 7, 16, 7, 46, 54, 6, 42, 182, 0, 160, 42, 180, 0, 7]
abbrev dktX6_often_3 : List UInt8 := dkwX6_often_3 ++ dktX6_often_4
def dkwX6_often_2 : List UInt8 := [154, 0, 15, 21, 5, 42, 182, 1, 1, 96, 54, 5, 167, 255, 240, 29, 21, 5, 28, 161, 0, 7, 4]
abbrev dktX6_often_2 : List UInt8 := dkwX6_often_2 ++ dktX6_often_3
def dkwX6_often_1 : List UInt8 := [2, 172, 42, 182, 0, 154, 3, 62, 3, 54, 4, 21, 4, 27, 162, 0, 67, 3, 54, 5, 42, 182, 0, 124]
abbrev dktX6_often_1 : List UInt8 := dkwX6_often_1 ++ dktX6_often_2
def dkwX6_often_0 : List UInt8 := [27, 133, 10, 20, 1, 4, 184, 0, 64, 153, 0, 15, 28, 133, 9, 20, 1, 6, 184, 0, 64, 154, 0, 5]
abbrev dktX6_often_0 : List UInt8 := dkwX6_often_0 ++ dktX6_often_1
theorem dksX6_often_0 : cX6_often.data.toList.drop 0 = dktX6_often_0 := by decide +kernel
theorem dksX6_often_1 : cX6_often.data.toList.drop 24 = dktX6_often_1 := dk_seg dksX6_often_0 24 rfl rfl
theorem dksX6_often_2 : cX6_often.data.toList.drop 48 = dktX6_often_2 := dk_seg dksX6_often_1 24 rfl rfl
theorem dksX6_often_3 : cX6_often.data.toList.drop 71 = dktX6_often_3 := dk_seg dksX6_often_2 23 rfl rfl
theorem dksX6_often_4 : cX6_often.data.toList.drop 94 = dktX6_often_4 := dk_seg dksX6_often_3 23 rfl rfl
theorem dX6_often_0 : decode cX6_often 0 = .ok (.iload_n 1, 1) := dk_27 (dk_at dksX6_often_0 0 rfl rfl)
theorem dX6_often_1 : decode cX6_often 1 = .ok (.i2l, 1) := dk_133 (dk_at dksX6_often_0 1 rfl rfl)
theorem dX6_often_2 : decode cX6_often 2 = .ok (.lconst 1, 1) := dk_10 (dk_at dksX6_often_0 2 rfl rfl)
theorem dX6_often_3 : decode cX6_often 3 = .ok (.ldc2_w 260, 3) := dk_20 1 4 (dk_at dksX6_often_0 3 rfl rfl)
theorem dX6_often_6 : decode cX6_often 6 = .ok (.invokestatic 64, 3) := dk_184 0 64 (dk_at dksX6_often_0 6 rfl rfl)
theorem dX6_often_9 : decode cX6_often 9 = .ok (.ifCond .eq 15, 3) := dk_153 0 15 (dk_at dksX6_often_0 9 rfl rfl)
theorem dX6_often_12 : decode cX6_often 12 = .ok (.iload_n 2, 1) := dk_28 (dk_at dksX6_often_0 12 rfl rfl)
theorem dX6_often_13 : decode cX6_often 13 = .ok (.i2l, 1) := dk_133 (dk_at dksX6_often_0 13 rfl rfl)
theorem dX6_often_14 : decode cX6_often 14 = .ok (.lconst 0, 1) := dk_9 (dk_at dksX6_often_0 14 rfl rfl)
theorem dX6_often_15 : decode cX6_often 15 = .ok (.ldc2_w 262, 3) := dk_20 1 6 (dk_at dksX6_often_0 15 rfl rfl)
theorem dX6_often_18 : decode cX6_often 18 = .ok (.invokestatic 64, 3) := dk_184 0 64 (dk_at dksX6_often_0 18 rfl rfl)
theorem dX6_often_21 : decode cX6_often 21 = .ok (.ifCond .ne 5, 3) := dk_154 0 5 (dk_at dksX6_often_0 21 rfl rfl)
theorem dX6_often_24 : decode cX6_often 24 = .ok (.iconst (-1), 1) := dk_2 (dk_at dksX6_often_1 0 rfl rfl)
theorem dX6_often_25 : decode cX6_often 25 = .ok (.ireturn, 1) := dk_172 (dk_at dksX6_often_1 1 rfl rfl)
theorem dX6_often_26 : decode cX6_often 26 = .ok (.aload_n 0, 1) := dk_42 (dk_at dksX6_often_1 2 rfl rfl)
theorem dX6_often_27 : decode cX6_often 27 = .ok (.invokevirtual 154, 3) := dk_182 0 154 (dk_at dksX6_often_1 3 rfl rfl)
theorem dX6_often_30 : decode cX6_often 30 = .ok (.iconst 0, 1) := dk_3 (dk_at dksX6_often_1 6 rfl rfl)
theorem dX6_often_31 : decode cX6_often 31 = .ok (.istore_n 3, 1) := dk_62 (dk_at dksX6_often_1 7 rfl rfl)
theorem dX6_often_32 : decode cX6_often 32 = .ok (.iconst 0, 1) := dk_3 (dk_at dksX6_often_1 8 rfl rfl)
theorem dX6_often_33 : decode cX6_often 33 = .ok (.istore 4, 2) := dk_54 4 (dk_at dksX6_often_1 9 rfl rfl)
theorem dX6_often_35 : decode cX6_often 35 = .ok (.iload 4, 2) := dk_21 4 (dk_at dksX6_often_1 11 rfl rfl)
theorem dX6_often_37 : decode cX6_often 37 = .ok (.iload_n 1, 1) := dk_27 (dk_at dksX6_often_1 13 rfl rfl)
theorem dX6_often_38 : decode cX6_often 38 = .ok (.if_icmp .ge 67, 3) := dk_162 0 67 (dk_at dksX6_often_1 14 rfl rfl)
theorem dX6_often_41 : decode cX6_often 41 = .ok (.iconst 0, 1) := dk_3 (dk_at dksX6_often_1 17 rfl rfl)
theorem dX6_often_42 : decode cX6_often 42 = .ok (.istore 5, 2) := dk_54 5 (dk_at dksX6_often_1 18 rfl rfl)
theorem dX6_often_44 : decode cX6_often 44 = .ok (.aload_n 0, 1) := dk_42 (dk_at dksX6_often_1 20 rfl rfl)
theorem dX6_often_45 : decode cX6_often 45 = .ok (.invokevirtual 124, 3) := dk_182 0 124 (dk_at dksX6_often_1 21 rfl rfl)
theorem dX6_often_48 : decode cX6_often 48 = .ok (.ifCond .ne 15, 3) := dk_154 0 15 (dk_at dksX6_often_2 0 rfl rfl)
theorem dX6_often_51 : decode cX6_often 51 = .ok (.iload 5, 2) := dk_21 5 (dk_at dksX6_often_2 3 rfl rfl)
theorem dX6_often_53 : decode cX6_often 53 = .ok (.aload_n 0, 1) := dk_42 (dk_at dksX6_often_2 5 rfl rfl)
theorem dX6_often_54 : decode cX6_often 54 = .ok (.invokevirtual 257, 3) := dk_182 1 1 (dk_at dksX6_often_2 6 rfl rfl)
theorem dX6_often_57 : decode cX6_often 57 = .ok (.iadd, 1) := dk_96 (dk_at dksX6_often_2 9 rfl rfl)
theorem dX6_often_58 : decode cX6_often 58 = .ok (.istore 5, 2) := dk_54 5 (dk_at dksX6_often_2 10 rfl rfl)
theorem dX6_often_60 : decode cX6_often 60 = .ok (.goto (-16), 3) := dk_167 255 240 (dk_at dksX6_often_2 12 rfl rfl)
theorem dX6_often_63 : decode cX6_often 63 = .ok (.iload_n 3, 1) := dk_29 (dk_at dksX6_often_2 15 rfl rfl)
theorem dX6_often_64 : decode cX6_often 64 = .ok (.iload 5, 2) := dk_21 5 (dk_at dksX6_often_2 16 rfl rfl)
theorem dX6_often_66 : decode cX6_often 66 = .ok (.iload_n 2, 1) := dk_28 (dk_at dksX6_often_2 18 rfl rfl)
theorem dX6_often_67 : decode cX6_often 67 = .ok (.if_icmp .lt 7, 3) := dk_161 0 7 (dk_at dksX6_often_2 19 rfl rfl)
theorem dX6_often_70 : decode cX6_often 70 = .ok (.iconst 1, 1) := dk_4 (dk_at dksX6_often_2 22 rfl rfl)
theorem dX6_often_71 : decode cX6_often 71 = .ok (.goto 4, 3) := dk_167 0 4 (dk_at dksX6_often_3 0 rfl rfl)
theorem dX6_often_74 : decode cX6_often 74 = .ok (.iconst 0, 1) := dk_3 (dk_at dksX6_often_3 3 rfl rfl)
theorem dX6_often_75 : decode cX6_often 75 = .ok (.iadd, 1) := dk_96 (dk_at dksX6_often_3 4 rfl rfl)
theorem dX6_often_76 : decode cX6_often 76 = .ok (.istore_n 3, 1) := dk_62 (dk_at dksX6_often_3 5 rfl rfl)
theorem dX6_often_77 : decode cX6_often 77 = .ok (.aload_n 0, 1) := dk_42 (dk_at dksX6_often_3 6 rfl rfl)
theorem dX6_often_78 : decode cX6_often 78 = .ok (.getfield 7, 3) := dk_180 0 7 (dk_at dksX6_often_3 7 rfl rfl)
theorem dX6_often_81 : decode cX6_often 81 = .ok (.bipush 7, 2) := dk_16 7 (dk_at dksX6_often_3 10 rfl rfl)
theorem dX6_often_83 : decode cX6_often 83 = .ok (.iaload, 1) := dk_46 (dk_at dksX6_often_3 12 rfl rfl)
theorem dX6_often_84 : decode cX6_often 84 = .ok (.istore 6, 2) := dk_54 6 (dk_at dksX6_often_3 13 rfl rfl)
theorem dX6_often_86 : decode cX6_often 86 = .ok (.aload_n 0, 1) := dk_42 (dk_at dksX6_often_3 15 rfl rfl)
theorem dX6_often_87 : decode cX6_often 87 = .ok (.invokevirtual 160, 3) := dk_182 0 160 (dk_at dksX6_often_3 16 rfl rfl)
theorem dX6_often_90 : decode cX6_often 90 = .ok (.aload_n 0, 1) := dk_42 (dk_at dksX6_often_3 19 rfl rfl)
theorem dX6_often_91 : decode cX6_often 91 = .ok (.getfield 7, 3) := dk_180 0 7 (dk_at dksX6_often_3 20 rfl rfl)
theorem dX6_often_94 : decode cX6_often 94 = .ok (.bipush 7, 2) := dk_16 7 (dk_at dksX6_often_4 0 rfl rfl)
theorem dX6_often_96 : decode cX6_often 96 = .ok (.iload 6, 2) := dk_21 6 (dk_at dksX6_often_4 2 rfl rfl)
theorem dX6_often_98 : decode cX6_often 98 = .ok (.iastore, 1) := dk_79 (dk_at dksX6_often_4 4 rfl rfl)
theorem dX6_often_99 : decode cX6_often 99 = .ok (.iinc 4 1, 3) := dk_132 4 1 (dk_at dksX6_often_4 5 rfl rfl)
theorem dX6_often_102 : decode cX6_often 102 = .ok (.goto (-67), 3) := dk_167 255 189 (dk_at dksX6_often_4 8 rfl rfl)
theorem dX6_often_105 : decode cX6_often 105 = .ok (.aload_n 0, 1) := dk_42 (dk_at dksX6_often_4 11 rfl rfl)
theorem dX6_often_106 : decode cX6_often 106 = .ok (.invokevirtual 160, 3) := dk_182 0 160 (dk_at dksX6_often_4 12 rfl rfl)
theorem dX6_often_109 : decode cX6_often 109 = .ok (.iload_n 3, 1) := dk_29 (dk_at dksX6_often_4 15 rfl rfl)
theorem dX6_often_110 : decode cX6_often 110 = .ok (.ireturn, 1) := dk_172 (dk_at dksX6_often_4 16 rfl rfl)
abbrev cX6_prove : ByteArray := prog_26_method_83_code
def yX6_prove : MethodName := ⟨RX6, "prove", "(I)I"⟩
def dkwX6_prove_4 : List UInt8 := [172]
abbrev dktX6_prove_4 : List UInt8 := dkwX6_prove_4 ++ []
def dkwX6_prove_3 : List UInt8 := [28, 104, 5, 96, 42, 4, 182, 0, 151, 79, 132, 2, 1, 167, 255, 196, 42, 182, 0, 160, 42, 180, 1, 8]
abbrev dktX6_prove_3 : List UInt8 := dkwX6_prove_3 ++ dktX6_prove_4
def dkwX6_prove_2 : List UInt8 := [180, 0, 37, 6, 28, 104, 4, 96, 42, 42, 180, 0, 34, 28, 46, 182, 0, 146, 79, 42, 180, 0, 37, 6]
abbrev dktX6_prove_2 : List UInt8 := dkwX6_prove_2 ++ dktX6_prove_3
def dkwX6_prove_1 : List UInt8 := [61, 28, 42, 180, 1, 8, 162, 0, 58, 42, 180, 0, 37, 6, 28, 104, 42, 180, 0, 34, 28, 46, 79, 42]
abbrev dktX6_prove_1 : List UInt8 := dkwX6_prove_1 ++ dktX6_prove_2
def dkwX6_prove_0 : List UInt8 := [27, 184, 0, 214, 154, 0, 5, 2, 172, 42, 42, 27, 3, 182, 0, 217, 181, 1, 8, 42, 182, 0, 154, 3]
abbrev dktX6_prove_0 : List UInt8 := dkwX6_prove_0 ++ dktX6_prove_1
theorem dksX6_prove_0 : cX6_prove.data.toList.drop 0 = dktX6_prove_0 := by decide +kernel
theorem dksX6_prove_1 : cX6_prove.data.toList.drop 24 = dktX6_prove_1 := dk_seg dksX6_prove_0 24 rfl rfl
theorem dksX6_prove_2 : cX6_prove.data.toList.drop 48 = dktX6_prove_2 := dk_seg dksX6_prove_1 24 rfl rfl
theorem dksX6_prove_3 : cX6_prove.data.toList.drop 72 = dktX6_prove_3 := dk_seg dksX6_prove_2 24 rfl rfl
theorem dksX6_prove_4 : cX6_prove.data.toList.drop 96 = dktX6_prove_4 := dk_seg dksX6_prove_3 24 rfl rfl
theorem dX6_prove_0 : decode cX6_prove 0 = .ok (.iload_n 1, 1) := dk_27 (dk_at dksX6_prove_0 0 rfl rfl)
theorem dX6_prove_1 : decode cX6_prove 1 = .ok (.invokestatic 214, 3) := dk_184 0 214 (dk_at dksX6_prove_0 1 rfl rfl)
theorem dX6_prove_4 : decode cX6_prove 4 = .ok (.ifCond .ne 5, 3) := dk_154 0 5 (dk_at dksX6_prove_0 4 rfl rfl)
theorem dX6_prove_7 : decode cX6_prove 7 = .ok (.iconst (-1), 1) := dk_2 (dk_at dksX6_prove_0 7 rfl rfl)
theorem dX6_prove_8 : decode cX6_prove 8 = .ok (.ireturn, 1) := dk_172 (dk_at dksX6_prove_0 8 rfl rfl)
theorem dX6_prove_9 : decode cX6_prove 9 = .ok (.aload_n 0, 1) := dk_42 (dk_at dksX6_prove_0 9 rfl rfl)
theorem dX6_prove_10 : decode cX6_prove 10 = .ok (.aload_n 0, 1) := dk_42 (dk_at dksX6_prove_0 10 rfl rfl)
theorem dX6_prove_11 : decode cX6_prove 11 = .ok (.iload_n 1, 1) := dk_27 (dk_at dksX6_prove_0 11 rfl rfl)
theorem dX6_prove_12 : decode cX6_prove 12 = .ok (.iconst 0, 1) := dk_3 (dk_at dksX6_prove_0 12 rfl rfl)
theorem dX6_prove_13 : decode cX6_prove 13 = .ok (.invokevirtual 217, 3) := dk_182 0 217 (dk_at dksX6_prove_0 13 rfl rfl)
theorem dX6_prove_16 : decode cX6_prove 16 = .ok (.putfield 264, 3) := dk_181 1 8 (dk_at dksX6_prove_0 16 rfl rfl)
theorem dX6_prove_19 : decode cX6_prove 19 = .ok (.aload_n 0, 1) := dk_42 (dk_at dksX6_prove_0 19 rfl rfl)
theorem dX6_prove_20 : decode cX6_prove 20 = .ok (.invokevirtual 154, 3) := dk_182 0 154 (dk_at dksX6_prove_0 20 rfl rfl)
theorem dX6_prove_23 : decode cX6_prove 23 = .ok (.iconst 0, 1) := dk_3 (dk_at dksX6_prove_0 23 rfl rfl)
theorem dX6_prove_24 : decode cX6_prove 24 = .ok (.istore_n 2, 1) := dk_61 (dk_at dksX6_prove_1 0 rfl rfl)
theorem dX6_prove_25 : decode cX6_prove 25 = .ok (.iload_n 2, 1) := dk_28 (dk_at dksX6_prove_1 1 rfl rfl)
theorem dX6_prove_26 : decode cX6_prove 26 = .ok (.aload_n 0, 1) := dk_42 (dk_at dksX6_prove_1 2 rfl rfl)
theorem dX6_prove_27 : decode cX6_prove 27 = .ok (.getfield 264, 3) := dk_180 1 8 (dk_at dksX6_prove_1 3 rfl rfl)
theorem dX6_prove_30 : decode cX6_prove 30 = .ok (.if_icmp .ge 58, 3) := dk_162 0 58 (dk_at dksX6_prove_1 6 rfl rfl)
theorem dX6_prove_33 : decode cX6_prove 33 = .ok (.aload_n 0, 1) := dk_42 (dk_at dksX6_prove_1 9 rfl rfl)
theorem dX6_prove_34 : decode cX6_prove 34 = .ok (.getfield 37, 3) := dk_180 0 37 (dk_at dksX6_prove_1 10 rfl rfl)
theorem dX6_prove_37 : decode cX6_prove 37 = .ok (.iconst 3, 1) := dk_6 (dk_at dksX6_prove_1 13 rfl rfl)
theorem dX6_prove_38 : decode cX6_prove 38 = .ok (.iload_n 2, 1) := dk_28 (dk_at dksX6_prove_1 14 rfl rfl)
theorem dX6_prove_39 : decode cX6_prove 39 = .ok (.imul, 1) := dk_104 (dk_at dksX6_prove_1 15 rfl rfl)
theorem dX6_prove_40 : decode cX6_prove 40 = .ok (.aload_n 0, 1) := dk_42 (dk_at dksX6_prove_1 16 rfl rfl)
theorem dX6_prove_41 : decode cX6_prove 41 = .ok (.getfield 34, 3) := dk_180 0 34 (dk_at dksX6_prove_1 17 rfl rfl)
theorem dX6_prove_44 : decode cX6_prove 44 = .ok (.iload_n 2, 1) := dk_28 (dk_at dksX6_prove_1 20 rfl rfl)
theorem dX6_prove_45 : decode cX6_prove 45 = .ok (.iaload, 1) := dk_46 (dk_at dksX6_prove_1 21 rfl rfl)
theorem dX6_prove_46 : decode cX6_prove 46 = .ok (.iastore, 1) := dk_79 (dk_at dksX6_prove_1 22 rfl rfl)
theorem dX6_prove_47 : decode cX6_prove 47 = .ok (.aload_n 0, 1) := dk_42 (dk_at dksX6_prove_1 23 rfl rfl)
theorem dX6_prove_48 : decode cX6_prove 48 = .ok (.getfield 37, 3) := dk_180 0 37 (dk_at dksX6_prove_2 0 rfl rfl)
theorem dX6_prove_51 : decode cX6_prove 51 = .ok (.iconst 3, 1) := dk_6 (dk_at dksX6_prove_2 3 rfl rfl)
theorem dX6_prove_52 : decode cX6_prove 52 = .ok (.iload_n 2, 1) := dk_28 (dk_at dksX6_prove_2 4 rfl rfl)
theorem dX6_prove_53 : decode cX6_prove 53 = .ok (.imul, 1) := dk_104 (dk_at dksX6_prove_2 5 rfl rfl)
theorem dX6_prove_54 : decode cX6_prove 54 = .ok (.iconst 1, 1) := dk_4 (dk_at dksX6_prove_2 6 rfl rfl)
theorem dX6_prove_55 : decode cX6_prove 55 = .ok (.iadd, 1) := dk_96 (dk_at dksX6_prove_2 7 rfl rfl)
theorem dX6_prove_56 : decode cX6_prove 56 = .ok (.aload_n 0, 1) := dk_42 (dk_at dksX6_prove_2 8 rfl rfl)
theorem dX6_prove_57 : decode cX6_prove 57 = .ok (.aload_n 0, 1) := dk_42 (dk_at dksX6_prove_2 9 rfl rfl)
theorem dX6_prove_58 : decode cX6_prove 58 = .ok (.getfield 34, 3) := dk_180 0 34 (dk_at dksX6_prove_2 10 rfl rfl)
theorem dX6_prove_61 : decode cX6_prove 61 = .ok (.iload_n 2, 1) := dk_28 (dk_at dksX6_prove_2 13 rfl rfl)
theorem dX6_prove_62 : decode cX6_prove 62 = .ok (.iaload, 1) := dk_46 (dk_at dksX6_prove_2 14 rfl rfl)
theorem dX6_prove_63 : decode cX6_prove 63 = .ok (.invokevirtual 146, 3) := dk_182 0 146 (dk_at dksX6_prove_2 15 rfl rfl)
theorem dX6_prove_66 : decode cX6_prove 66 = .ok (.iastore, 1) := dk_79 (dk_at dksX6_prove_2 18 rfl rfl)
theorem dX6_prove_67 : decode cX6_prove 67 = .ok (.aload_n 0, 1) := dk_42 (dk_at dksX6_prove_2 19 rfl rfl)
theorem dX6_prove_68 : decode cX6_prove 68 = .ok (.getfield 37, 3) := dk_180 0 37 (dk_at dksX6_prove_2 20 rfl rfl)
theorem dX6_prove_71 : decode cX6_prove 71 = .ok (.iconst 3, 1) := dk_6 (dk_at dksX6_prove_2 23 rfl rfl)
theorem dX6_prove_72 : decode cX6_prove 72 = .ok (.iload_n 2, 1) := dk_28 (dk_at dksX6_prove_3 0 rfl rfl)
theorem dX6_prove_73 : decode cX6_prove 73 = .ok (.imul, 1) := dk_104 (dk_at dksX6_prove_3 1 rfl rfl)
theorem dX6_prove_74 : decode cX6_prove 74 = .ok (.iconst 2, 1) := dk_5 (dk_at dksX6_prove_3 2 rfl rfl)
theorem dX6_prove_75 : decode cX6_prove 75 = .ok (.iadd, 1) := dk_96 (dk_at dksX6_prove_3 3 rfl rfl)
theorem dX6_prove_76 : decode cX6_prove 76 = .ok (.aload_n 0, 1) := dk_42 (dk_at dksX6_prove_3 4 rfl rfl)
theorem dX6_prove_77 : decode cX6_prove 77 = .ok (.iconst 1, 1) := dk_4 (dk_at dksX6_prove_3 5 rfl rfl)
theorem dX6_prove_78 : decode cX6_prove 78 = .ok (.invokevirtual 151, 3) := dk_182 0 151 (dk_at dksX6_prove_3 6 rfl rfl)
theorem dX6_prove_81 : decode cX6_prove 81 = .ok (.iastore, 1) := dk_79 (dk_at dksX6_prove_3 9 rfl rfl)
theorem dX6_prove_82 : decode cX6_prove 82 = .ok (.iinc 2 1, 3) := dk_132 2 1 (dk_at dksX6_prove_3 10 rfl rfl)
theorem dX6_prove_85 : decode cX6_prove 85 = .ok (.goto (-60), 3) := dk_167 255 196 (dk_at dksX6_prove_3 13 rfl rfl)
theorem dX6_prove_88 : decode cX6_prove 88 = .ok (.aload_n 0, 1) := dk_42 (dk_at dksX6_prove_3 16 rfl rfl)
theorem dX6_prove_89 : decode cX6_prove 89 = .ok (.invokevirtual 160, 3) := dk_182 0 160 (dk_at dksX6_prove_3 17 rfl rfl)
theorem dX6_prove_92 : decode cX6_prove 92 = .ok (.aload_n 0, 1) := dk_42 (dk_at dksX6_prove_3 20 rfl rfl)
theorem dX6_prove_93 : decode cX6_prove 93 = .ok (.getfield 264, 3) := dk_180 1 8 (dk_at dksX6_prove_3 21 rfl rfl)
theorem dX6_prove_96 : decode cX6_prove 96 = .ok (.ireturn, 1) := dk_172 (dk_at dksX6_prove_4 0 rfl rfl)
abbrev cX6_row : ByteArray := prog_26_method_85_code
def yX6_row : MethodName := ⟨RX6, "row", "(II)I"⟩
def dkwX6_row_1 : List UInt8 := [172]
abbrev dktX6_row_1 : List UInt8 := dkwX6_row_1 ++ []
def dkwX6_row_0 : List UInt8 := [42, 27, 28, 182, 1, 11, 153, 0, 16, 42, 180, 0, 37, 6, 27, 104, 28, 96, 46, 167, 0, 5, 16, 247]
abbrev dktX6_row_0 : List UInt8 := dkwX6_row_0 ++ dktX6_row_1
theorem dksX6_row_0 : cX6_row.data.toList.drop 0 = dktX6_row_0 := by decide +kernel
theorem dksX6_row_1 : cX6_row.data.toList.drop 24 = dktX6_row_1 := dk_seg dksX6_row_0 24 rfl rfl
theorem dX6_row_0 : decode cX6_row 0 = .ok (.aload_n 0, 1) := dk_42 (dk_at dksX6_row_0 0 rfl rfl)
theorem dX6_row_1 : decode cX6_row 1 = .ok (.iload_n 1, 1) := dk_27 (dk_at dksX6_row_0 1 rfl rfl)
theorem dX6_row_2 : decode cX6_row 2 = .ok (.iload_n 2, 1) := dk_28 (dk_at dksX6_row_0 2 rfl rfl)
theorem dX6_row_3 : decode cX6_row 3 = .ok (.invokevirtual 267, 3) := dk_182 1 11 (dk_at dksX6_row_0 3 rfl rfl)
theorem dX6_row_6 : decode cX6_row 6 = .ok (.ifCond .eq 16, 3) := dk_153 0 16 (dk_at dksX6_row_0 6 rfl rfl)
theorem dX6_row_9 : decode cX6_row 9 = .ok (.aload_n 0, 1) := dk_42 (dk_at dksX6_row_0 9 rfl rfl)
theorem dX6_row_10 : decode cX6_row 10 = .ok (.getfield 37, 3) := dk_180 0 37 (dk_at dksX6_row_0 10 rfl rfl)
theorem dX6_row_13 : decode cX6_row 13 = .ok (.iconst 3, 1) := dk_6 (dk_at dksX6_row_0 13 rfl rfl)
theorem dX6_row_14 : decode cX6_row 14 = .ok (.iload_n 1, 1) := dk_27 (dk_at dksX6_row_0 14 rfl rfl)
theorem dX6_row_15 : decode cX6_row 15 = .ok (.imul, 1) := dk_104 (dk_at dksX6_row_0 15 rfl rfl)
theorem dX6_row_16 : decode cX6_row 16 = .ok (.iload_n 2, 1) := dk_28 (dk_at dksX6_row_0 16 rfl rfl)
theorem dX6_row_17 : decode cX6_row 17 = .ok (.iadd, 1) := dk_96 (dk_at dksX6_row_0 17 rfl rfl)
theorem dX6_row_18 : decode cX6_row 18 = .ok (.iaload, 1) := dk_46 (dk_at dksX6_row_0 18 rfl rfl)
theorem dX6_row_19 : decode cX6_row 19 = .ok (.goto 5, 3) := dk_167 0 5 (dk_at dksX6_row_0 19 rfl rfl)
theorem dX6_row_22 : decode cX6_row 22 = .ok (.bipush (-9), 2) := dk_16 247 (dk_at dksX6_row_0 22 rfl rfl)
theorem dX6_row_24 : decode cX6_row 24 = .ok (.ireturn, 1) := dk_172 (dk_at dksX6_row_1 0 rfl rfl)
abbrev cX6_isRow : ByteArray := prog_26_method_84_code
def yX6_isRow : MethodName := ⟨RX6, "isRow", "(II)Z"⟩
def dkwX6_isRow_1 : List UInt8 := [184, 0, 64, 153, 0, 7, 4, 167, 0, 4, 3, 172]
abbrev dktX6_isRow_1 : List UInt8 := dkwX6_isRow_1 ++ []
def dkwX6_isRow_0 : List UInt8 := [27, 133, 9, 42, 180, 1, 8, 4, 100, 133, 184, 0, 64, 153, 0, 19, 28, 133, 9, 20, 0, 109]
abbrev dktX6_isRow_0 : List UInt8 := dkwX6_isRow_0 ++ dktX6_isRow_1
theorem dksX6_isRow_0 : cX6_isRow.data.toList.drop 0 = dktX6_isRow_0 := by decide +kernel
theorem dksX6_isRow_1 : cX6_isRow.data.toList.drop 22 = dktX6_isRow_1 := dk_seg dksX6_isRow_0 22 rfl rfl
theorem dX6_isRow_0 : decode cX6_isRow 0 = .ok (.iload_n 1, 1) := dk_27 (dk_at dksX6_isRow_0 0 rfl rfl)
theorem dX6_isRow_1 : decode cX6_isRow 1 = .ok (.i2l, 1) := dk_133 (dk_at dksX6_isRow_0 1 rfl rfl)
theorem dX6_isRow_2 : decode cX6_isRow 2 = .ok (.lconst 0, 1) := dk_9 (dk_at dksX6_isRow_0 2 rfl rfl)
theorem dX6_isRow_3 : decode cX6_isRow 3 = .ok (.aload_n 0, 1) := dk_42 (dk_at dksX6_isRow_0 3 rfl rfl)
theorem dX6_isRow_4 : decode cX6_isRow 4 = .ok (.getfield 264, 3) := dk_180 1 8 (dk_at dksX6_isRow_0 4 rfl rfl)
theorem dX6_isRow_7 : decode cX6_isRow 7 = .ok (.iconst 1, 1) := dk_4 (dk_at dksX6_isRow_0 7 rfl rfl)
theorem dX6_isRow_8 : decode cX6_isRow 8 = .ok (.isub, 1) := dk_100 (dk_at dksX6_isRow_0 8 rfl rfl)
theorem dX6_isRow_9 : decode cX6_isRow 9 = .ok (.i2l, 1) := dk_133 (dk_at dksX6_isRow_0 9 rfl rfl)
theorem dX6_isRow_10 : decode cX6_isRow 10 = .ok (.invokestatic 64, 3) := dk_184 0 64 (dk_at dksX6_isRow_0 10 rfl rfl)
theorem dX6_isRow_13 : decode cX6_isRow 13 = .ok (.ifCond .eq 19, 3) := dk_153 0 19 (dk_at dksX6_isRow_0 13 rfl rfl)
theorem dX6_isRow_16 : decode cX6_isRow 16 = .ok (.iload_n 2, 1) := dk_28 (dk_at dksX6_isRow_0 16 rfl rfl)
theorem dX6_isRow_17 : decode cX6_isRow 17 = .ok (.i2l, 1) := dk_133 (dk_at dksX6_isRow_0 17 rfl rfl)
theorem dX6_isRow_18 : decode cX6_isRow 18 = .ok (.lconst 0, 1) := dk_9 (dk_at dksX6_isRow_0 18 rfl rfl)
theorem dX6_isRow_19 : decode cX6_isRow 19 = .ok (.ldc2_w 109, 3) := dk_20 0 109 (dk_at dksX6_isRow_0 19 rfl rfl)
theorem dX6_isRow_22 : decode cX6_isRow 22 = .ok (.invokestatic 64, 3) := dk_184 0 64 (dk_at dksX6_isRow_1 0 rfl rfl)
theorem dX6_isRow_25 : decode cX6_isRow 25 = .ok (.ifCond .eq 7, 3) := dk_153 0 7 (dk_at dksX6_isRow_1 3 rfl rfl)
theorem dX6_isRow_28 : decode cX6_isRow 28 = .ok (.iconst 1, 1) := dk_4 (dk_at dksX6_isRow_1 6 rfl rfl)
theorem dX6_isRow_29 : decode cX6_isRow 29 = .ok (.goto 4, 3) := dk_167 0 4 (dk_at dksX6_isRow_1 7 rfl rfl)
theorem dX6_isRow_32 : decode cX6_isRow 32 = .ok (.iconst 0, 1) := dk_3 (dk_at dksX6_isRow_1 10 rfl rfl)
theorem dX6_isRow_33 : decode cX6_isRow 33 = .ok (.ireturn, 1) := dk_172 (dk_at dksX6_isRow_1 11 rfl rfl)
abbrev cX6_alterRow : ByteArray := prog_26_method_86_code
def yX6_alterRow : MethodName := ⟨RX6, "alterRow", "(III)I"⟩
def dkwX6_alterRow_1 : List UInt8 := [42, 180, 0, 37, 6, 27, 104, 28, 96, 29, 79, 21, 4, 172]
abbrev dktX6_alterRow_1 : List UInt8 := dkwX6_alterRow_1 ++ []
def dkwX6_alterRow_0 : List UInt8 := [42, 27, 28, 182, 1, 11, 154, 0, 6, 16, 247, 172, 42, 180, 0, 37, 6, 27, 104, 28, 96, 46, 54, 4]
abbrev dktX6_alterRow_0 : List UInt8 := dkwX6_alterRow_0 ++ dktX6_alterRow_1
theorem dksX6_alterRow_0 : cX6_alterRow.data.toList.drop 0 = dktX6_alterRow_0 := by decide +kernel
theorem dksX6_alterRow_1 : cX6_alterRow.data.toList.drop 24 = dktX6_alterRow_1 := dk_seg dksX6_alterRow_0 24 rfl rfl
theorem dX6_alterRow_0 : decode cX6_alterRow 0 = .ok (.aload_n 0, 1) := dk_42 (dk_at dksX6_alterRow_0 0 rfl rfl)
theorem dX6_alterRow_1 : decode cX6_alterRow 1 = .ok (.iload_n 1, 1) := dk_27 (dk_at dksX6_alterRow_0 1 rfl rfl)
theorem dX6_alterRow_2 : decode cX6_alterRow 2 = .ok (.iload_n 2, 1) := dk_28 (dk_at dksX6_alterRow_0 2 rfl rfl)
theorem dX6_alterRow_3 : decode cX6_alterRow 3 = .ok (.invokevirtual 267, 3) := dk_182 1 11 (dk_at dksX6_alterRow_0 3 rfl rfl)
theorem dX6_alterRow_6 : decode cX6_alterRow 6 = .ok (.ifCond .ne 6, 3) := dk_154 0 6 (dk_at dksX6_alterRow_0 6 rfl rfl)
theorem dX6_alterRow_9 : decode cX6_alterRow 9 = .ok (.bipush (-9), 2) := dk_16 247 (dk_at dksX6_alterRow_0 9 rfl rfl)
theorem dX6_alterRow_11 : decode cX6_alterRow 11 = .ok (.ireturn, 1) := dk_172 (dk_at dksX6_alterRow_0 11 rfl rfl)
theorem dX6_alterRow_12 : decode cX6_alterRow 12 = .ok (.aload_n 0, 1) := dk_42 (dk_at dksX6_alterRow_0 12 rfl rfl)
theorem dX6_alterRow_13 : decode cX6_alterRow 13 = .ok (.getfield 37, 3) := dk_180 0 37 (dk_at dksX6_alterRow_0 13 rfl rfl)
theorem dX6_alterRow_16 : decode cX6_alterRow 16 = .ok (.iconst 3, 1) := dk_6 (dk_at dksX6_alterRow_0 16 rfl rfl)
theorem dX6_alterRow_17 : decode cX6_alterRow 17 = .ok (.iload_n 1, 1) := dk_27 (dk_at dksX6_alterRow_0 17 rfl rfl)
theorem dX6_alterRow_18 : decode cX6_alterRow 18 = .ok (.imul, 1) := dk_104 (dk_at dksX6_alterRow_0 18 rfl rfl)
theorem dX6_alterRow_19 : decode cX6_alterRow 19 = .ok (.iload_n 2, 1) := dk_28 (dk_at dksX6_alterRow_0 19 rfl rfl)
theorem dX6_alterRow_20 : decode cX6_alterRow 20 = .ok (.iadd, 1) := dk_96 (dk_at dksX6_alterRow_0 20 rfl rfl)
theorem dX6_alterRow_21 : decode cX6_alterRow 21 = .ok (.iaload, 1) := dk_46 (dk_at dksX6_alterRow_0 21 rfl rfl)
theorem dX6_alterRow_22 : decode cX6_alterRow 22 = .ok (.istore 4, 2) := dk_54 4 (dk_at dksX6_alterRow_0 22 rfl rfl)
theorem dX6_alterRow_24 : decode cX6_alterRow 24 = .ok (.aload_n 0, 1) := dk_42 (dk_at dksX6_alterRow_1 0 rfl rfl)
theorem dX6_alterRow_25 : decode cX6_alterRow 25 = .ok (.getfield 37, 3) := dk_180 0 37 (dk_at dksX6_alterRow_1 1 rfl rfl)
theorem dX6_alterRow_28 : decode cX6_alterRow 28 = .ok (.iconst 3, 1) := dk_6 (dk_at dksX6_alterRow_1 4 rfl rfl)
theorem dX6_alterRow_29 : decode cX6_alterRow 29 = .ok (.iload_n 1, 1) := dk_27 (dk_at dksX6_alterRow_1 5 rfl rfl)
theorem dX6_alterRow_30 : decode cX6_alterRow 30 = .ok (.imul, 1) := dk_104 (dk_at dksX6_alterRow_1 6 rfl rfl)
theorem dX6_alterRow_31 : decode cX6_alterRow 31 = .ok (.iload_n 2, 1) := dk_28 (dk_at dksX6_alterRow_1 7 rfl rfl)
theorem dX6_alterRow_32 : decode cX6_alterRow 32 = .ok (.iadd, 1) := dk_96 (dk_at dksX6_alterRow_1 8 rfl rfl)
theorem dX6_alterRow_33 : decode cX6_alterRow 33 = .ok (.iload_n 3, 1) := dk_29 (dk_at dksX6_alterRow_1 9 rfl rfl)
theorem dX6_alterRow_34 : decode cX6_alterRow 34 = .ok (.iastore, 1) := dk_79 (dk_at dksX6_alterRow_1 10 rfl rfl)
theorem dX6_alterRow_35 : decode cX6_alterRow 35 = .ok (.iload 4, 2) := dk_21 4 (dk_at dksX6_alterRow_1 11 rfl rfl)
theorem dX6_alterRow_37 : decode cX6_alterRow 37 = .ok (.ireturn, 1) := dk_172 (dk_at dksX6_alterRow_1 13 rfl rfl)
abbrev cX6_judge : ByteArray := prog_26_method_88_code
def yX6_judge : MethodName := ⟨RX6, "judge", "()I"⟩
def dkwX6_judge_4 : List UInt8 := [167, 0, 6, 28, 4, 96, 60, 132, 2, 1, 167, 255, 165, 42, 182, 0, 160, 27, 172]
abbrev dktX6_judge_4 : List UInt8 := dkwX6_judge_4 ++ []
def dkwX6_judge_3 : List UInt8 := [180, 0, 37, 6, 28, 104, 5, 96, 46, 160, 0, 7, 4, 167, 0, 4, 3, 62, 29, 153, 0, 7, 3]
abbrev dktX6_judge_3 : List UInt8 := dkwX6_judge_3 ++ dktX6_judge_4
def dkwX6_judge_2 : List UInt8 := [182, 0, 146, 42, 180, 0, 37, 6, 28, 104, 4, 96, 46, 160, 0, 25, 42, 4, 182, 0, 151, 42]
abbrev dktX6_judge_2 : List UInt8 := dkwX6_judge_2 ++ dktX6_judge_3
def dkwX6_judge_1 : List UInt8 := [180, 0, 37, 6, 28, 104, 46, 182, 1, 14, 153, 0, 50, 42, 42, 180, 0, 37, 6, 28, 104, 46]
abbrev dktX6_judge_1 : List UInt8 := dkwX6_judge_1 ++ dktX6_judge_2
def dkwX6_judge_0 : List UInt8 := [42, 182, 0, 154, 3, 60, 3, 61, 28, 42, 180, 1, 8, 162, 0, 89, 27, 154, 0, 85, 42, 42]
abbrev dktX6_judge_0 : List UInt8 := dkwX6_judge_0 ++ dktX6_judge_1
theorem dksX6_judge_0 : cX6_judge.data.toList.drop 0 = dktX6_judge_0 := by decide +kernel
theorem dksX6_judge_1 : cX6_judge.data.toList.drop 22 = dktX6_judge_1 := dk_seg dksX6_judge_0 22 rfl rfl
theorem dksX6_judge_2 : cX6_judge.data.toList.drop 44 = dktX6_judge_2 := dk_seg dksX6_judge_1 22 rfl rfl
theorem dksX6_judge_3 : cX6_judge.data.toList.drop 66 = dktX6_judge_3 := dk_seg dksX6_judge_2 22 rfl rfl
theorem dksX6_judge_4 : cX6_judge.data.toList.drop 89 = dktX6_judge_4 := dk_seg dksX6_judge_3 23 rfl rfl
theorem dX6_judge_0 : decode cX6_judge 0 = .ok (.aload_n 0, 1) := dk_42 (dk_at dksX6_judge_0 0 rfl rfl)
theorem dX6_judge_1 : decode cX6_judge 1 = .ok (.invokevirtual 154, 3) := dk_182 0 154 (dk_at dksX6_judge_0 1 rfl rfl)
theorem dX6_judge_4 : decode cX6_judge 4 = .ok (.iconst 0, 1) := dk_3 (dk_at dksX6_judge_0 4 rfl rfl)
theorem dX6_judge_5 : decode cX6_judge 5 = .ok (.istore_n 1, 1) := dk_60 (dk_at dksX6_judge_0 5 rfl rfl)
theorem dX6_judge_6 : decode cX6_judge 6 = .ok (.iconst 0, 1) := dk_3 (dk_at dksX6_judge_0 6 rfl rfl)
theorem dX6_judge_7 : decode cX6_judge 7 = .ok (.istore_n 2, 1) := dk_61 (dk_at dksX6_judge_0 7 rfl rfl)
theorem dX6_judge_8 : decode cX6_judge 8 = .ok (.iload_n 2, 1) := dk_28 (dk_at dksX6_judge_0 8 rfl rfl)
theorem dX6_judge_9 : decode cX6_judge 9 = .ok (.aload_n 0, 1) := dk_42 (dk_at dksX6_judge_0 9 rfl rfl)
theorem dX6_judge_10 : decode cX6_judge 10 = .ok (.getfield 264, 3) := dk_180 1 8 (dk_at dksX6_judge_0 10 rfl rfl)
theorem dX6_judge_13 : decode cX6_judge 13 = .ok (.if_icmp .ge 89, 3) := dk_162 0 89 (dk_at dksX6_judge_0 13 rfl rfl)
theorem dX6_judge_16 : decode cX6_judge 16 = .ok (.iload_n 1, 1) := dk_27 (dk_at dksX6_judge_0 16 rfl rfl)
theorem dX6_judge_17 : decode cX6_judge 17 = .ok (.ifCond .ne 85, 3) := dk_154 0 85 (dk_at dksX6_judge_0 17 rfl rfl)
theorem dX6_judge_20 : decode cX6_judge 20 = .ok (.aload_n 0, 1) := dk_42 (dk_at dksX6_judge_0 20 rfl rfl)
theorem dX6_judge_21 : decode cX6_judge 21 = .ok (.aload_n 0, 1) := dk_42 (dk_at dksX6_judge_0 21 rfl rfl)
theorem dX6_judge_22 : decode cX6_judge 22 = .ok (.getfield 37, 3) := dk_180 0 37 (dk_at dksX6_judge_1 0 rfl rfl)
theorem dX6_judge_25 : decode cX6_judge 25 = .ok (.iconst 3, 1) := dk_6 (dk_at dksX6_judge_1 3 rfl rfl)
theorem dX6_judge_26 : decode cX6_judge 26 = .ok (.iload_n 2, 1) := dk_28 (dk_at dksX6_judge_1 4 rfl rfl)
theorem dX6_judge_27 : decode cX6_judge 27 = .ok (.imul, 1) := dk_104 (dk_at dksX6_judge_1 5 rfl rfl)
theorem dX6_judge_28 : decode cX6_judge 28 = .ok (.iaload, 1) := dk_46 (dk_at dksX6_judge_1 6 rfl rfl)
theorem dX6_judge_29 : decode cX6_judge 29 = .ok (.invokevirtual 270, 3) := dk_182 1 14 (dk_at dksX6_judge_1 7 rfl rfl)
theorem dX6_judge_32 : decode cX6_judge 32 = .ok (.ifCond .eq 50, 3) := dk_153 0 50 (dk_at dksX6_judge_1 10 rfl rfl)
theorem dX6_judge_35 : decode cX6_judge 35 = .ok (.aload_n 0, 1) := dk_42 (dk_at dksX6_judge_1 13 rfl rfl)
theorem dX6_judge_36 : decode cX6_judge 36 = .ok (.aload_n 0, 1) := dk_42 (dk_at dksX6_judge_1 14 rfl rfl)
theorem dX6_judge_37 : decode cX6_judge 37 = .ok (.getfield 37, 3) := dk_180 0 37 (dk_at dksX6_judge_1 15 rfl rfl)
theorem dX6_judge_40 : decode cX6_judge 40 = .ok (.iconst 3, 1) := dk_6 (dk_at dksX6_judge_1 18 rfl rfl)
theorem dX6_judge_41 : decode cX6_judge 41 = .ok (.iload_n 2, 1) := dk_28 (dk_at dksX6_judge_1 19 rfl rfl)
theorem dX6_judge_42 : decode cX6_judge 42 = .ok (.imul, 1) := dk_104 (dk_at dksX6_judge_1 20 rfl rfl)
theorem dX6_judge_43 : decode cX6_judge 43 = .ok (.iaload, 1) := dk_46 (dk_at dksX6_judge_1 21 rfl rfl)
theorem dX6_judge_44 : decode cX6_judge 44 = .ok (.invokevirtual 146, 3) := dk_182 0 146 (dk_at dksX6_judge_2 0 rfl rfl)
theorem dX6_judge_47 : decode cX6_judge 47 = .ok (.aload_n 0, 1) := dk_42 (dk_at dksX6_judge_2 3 rfl rfl)
theorem dX6_judge_48 : decode cX6_judge 48 = .ok (.getfield 37, 3) := dk_180 0 37 (dk_at dksX6_judge_2 4 rfl rfl)
theorem dX6_judge_51 : decode cX6_judge 51 = .ok (.iconst 3, 1) := dk_6 (dk_at dksX6_judge_2 7 rfl rfl)
theorem dX6_judge_52 : decode cX6_judge 52 = .ok (.iload_n 2, 1) := dk_28 (dk_at dksX6_judge_2 8 rfl rfl)
theorem dX6_judge_53 : decode cX6_judge 53 = .ok (.imul, 1) := dk_104 (dk_at dksX6_judge_2 9 rfl rfl)
theorem dX6_judge_54 : decode cX6_judge 54 = .ok (.iconst 1, 1) := dk_4 (dk_at dksX6_judge_2 10 rfl rfl)
theorem dX6_judge_55 : decode cX6_judge 55 = .ok (.iadd, 1) := dk_96 (dk_at dksX6_judge_2 11 rfl rfl)
theorem dX6_judge_56 : decode cX6_judge 56 = .ok (.iaload, 1) := dk_46 (dk_at dksX6_judge_2 12 rfl rfl)
theorem dX6_judge_57 : decode cX6_judge 57 = .ok (.if_icmp .ne 25, 3) := dk_160 0 25 (dk_at dksX6_judge_2 13 rfl rfl)
theorem dX6_judge_60 : decode cX6_judge 60 = .ok (.aload_n 0, 1) := dk_42 (dk_at dksX6_judge_2 16 rfl rfl)
theorem dX6_judge_61 : decode cX6_judge 61 = .ok (.iconst 1, 1) := dk_4 (dk_at dksX6_judge_2 17 rfl rfl)
theorem dX6_judge_62 : decode cX6_judge 62 = .ok (.invokevirtual 151, 3) := dk_182 0 151 (dk_at dksX6_judge_2 18 rfl rfl)
theorem dX6_judge_65 : decode cX6_judge 65 = .ok (.aload_n 0, 1) := dk_42 (dk_at dksX6_judge_2 21 rfl rfl)
theorem dX6_judge_66 : decode cX6_judge 66 = .ok (.getfield 37, 3) := dk_180 0 37 (dk_at dksX6_judge_3 0 rfl rfl)
theorem dX6_judge_69 : decode cX6_judge 69 = .ok (.iconst 3, 1) := dk_6 (dk_at dksX6_judge_3 3 rfl rfl)
theorem dX6_judge_70 : decode cX6_judge 70 = .ok (.iload_n 2, 1) := dk_28 (dk_at dksX6_judge_3 4 rfl rfl)
theorem dX6_judge_71 : decode cX6_judge 71 = .ok (.imul, 1) := dk_104 (dk_at dksX6_judge_3 5 rfl rfl)
theorem dX6_judge_72 : decode cX6_judge 72 = .ok (.iconst 2, 1) := dk_5 (dk_at dksX6_judge_3 6 rfl rfl)
theorem dX6_judge_73 : decode cX6_judge 73 = .ok (.iadd, 1) := dk_96 (dk_at dksX6_judge_3 7 rfl rfl)
theorem dX6_judge_74 : decode cX6_judge 74 = .ok (.iaload, 1) := dk_46 (dk_at dksX6_judge_3 8 rfl rfl)
theorem dX6_judge_75 : decode cX6_judge 75 = .ok (.if_icmp .ne 7, 3) := dk_160 0 7 (dk_at dksX6_judge_3 9 rfl rfl)
theorem dX6_judge_78 : decode cX6_judge 78 = .ok (.iconst 1, 1) := dk_4 (dk_at dksX6_judge_3 12 rfl rfl)
theorem dX6_judge_79 : decode cX6_judge 79 = .ok (.goto 4, 3) := dk_167 0 4 (dk_at dksX6_judge_3 13 rfl rfl)
theorem dX6_judge_82 : decode cX6_judge 82 = .ok (.iconst 0, 1) := dk_3 (dk_at dksX6_judge_3 16 rfl rfl)
theorem dX6_judge_83 : decode cX6_judge 83 = .ok (.istore_n 3, 1) := dk_62 (dk_at dksX6_judge_3 17 rfl rfl)
theorem dX6_judge_84 : decode cX6_judge 84 = .ok (.iload_n 3, 1) := dk_29 (dk_at dksX6_judge_3 18 rfl rfl)
theorem dX6_judge_85 : decode cX6_judge 85 = .ok (.ifCond .eq 7, 3) := dk_153 0 7 (dk_at dksX6_judge_3 19 rfl rfl)
theorem dX6_judge_88 : decode cX6_judge 88 = .ok (.iconst 0, 1) := dk_3 (dk_at dksX6_judge_3 22 rfl rfl)
theorem dX6_judge_89 : decode cX6_judge 89 = .ok (.goto 6, 3) := dk_167 0 6 (dk_at dksX6_judge_4 0 rfl rfl)
theorem dX6_judge_92 : decode cX6_judge 92 = .ok (.iload_n 2, 1) := dk_28 (dk_at dksX6_judge_4 3 rfl rfl)
theorem dX6_judge_93 : decode cX6_judge 93 = .ok (.iconst 1, 1) := dk_4 (dk_at dksX6_judge_4 4 rfl rfl)
theorem dX6_judge_94 : decode cX6_judge 94 = .ok (.iadd, 1) := dk_96 (dk_at dksX6_judge_4 5 rfl rfl)
theorem dX6_judge_95 : decode cX6_judge 95 = .ok (.istore_n 1, 1) := dk_60 (dk_at dksX6_judge_4 6 rfl rfl)
theorem dX6_judge_96 : decode cX6_judge 96 = .ok (.iinc 2 1, 3) := dk_132 2 1 (dk_at dksX6_judge_4 7 rfl rfl)
theorem dX6_judge_99 : decode cX6_judge 99 = .ok (.goto (-91), 3) := dk_167 255 165 (dk_at dksX6_judge_4 10 rfl rfl)
theorem dX6_judge_102 : decode cX6_judge 102 = .ok (.aload_n 0, 1) := dk_42 (dk_at dksX6_judge_4 13 rfl rfl)
theorem dX6_judge_103 : decode cX6_judge 103 = .ok (.invokevirtual 160, 3) := dk_182 0 160 (dk_at dksX6_judge_4 14 rfl rfl)
theorem dX6_judge_106 : decode cX6_judge 106 = .ok (.iload_n 1, 1) := dk_27 (dk_at dksX6_judge_4 17 rfl rfl)
theorem dX6_judge_107 : decode cX6_judge 107 = .ok (.ireturn, 1) := dk_172 (dk_at dksX6_judge_4 18 rfl rfl)
abbrev cX6_isAct : ByteArray := prog_26_method_87_code
def yX6_isAct : MethodName := ⟨RX6, "isAct", "(I)Z"⟩
def dkwX6_isAct_1 : List UInt8 := [167, 0, 4, 3, 172]
abbrev dktX6_isAct_1 : List UInt8 := dkwX6_isAct_1 ++ []
def dkwX6_isAct_0 : List UInt8 := [27, 133, 9, 42, 180, 0, 7, 3, 46, 133, 184, 0, 64, 153, 0, 14, 42, 182, 0, 124, 154, 0, 7, 4]
abbrev dktX6_isAct_0 : List UInt8 := dkwX6_isAct_0 ++ dktX6_isAct_1
theorem dksX6_isAct_0 : cX6_isAct.data.toList.drop 0 = dktX6_isAct_0 := by decide +kernel
theorem dksX6_isAct_1 : cX6_isAct.data.toList.drop 24 = dktX6_isAct_1 := dk_seg dksX6_isAct_0 24 rfl rfl
theorem dX6_isAct_0 : decode cX6_isAct 0 = .ok (.iload_n 1, 1) := dk_27 (dk_at dksX6_isAct_0 0 rfl rfl)
theorem dX6_isAct_1 : decode cX6_isAct 1 = .ok (.i2l, 1) := dk_133 (dk_at dksX6_isAct_0 1 rfl rfl)
theorem dX6_isAct_2 : decode cX6_isAct 2 = .ok (.lconst 0, 1) := dk_9 (dk_at dksX6_isAct_0 2 rfl rfl)
theorem dX6_isAct_3 : decode cX6_isAct 3 = .ok (.aload_n 0, 1) := dk_42 (dk_at dksX6_isAct_0 3 rfl rfl)
theorem dX6_isAct_4 : decode cX6_isAct 4 = .ok (.getfield 7, 3) := dk_180 0 7 (dk_at dksX6_isAct_0 4 rfl rfl)
theorem dX6_isAct_7 : decode cX6_isAct 7 = .ok (.iconst 0, 1) := dk_3 (dk_at dksX6_isAct_0 7 rfl rfl)
theorem dX6_isAct_8 : decode cX6_isAct 8 = .ok (.iaload, 1) := dk_46 (dk_at dksX6_isAct_0 8 rfl rfl)
theorem dX6_isAct_9 : decode cX6_isAct 9 = .ok (.i2l, 1) := dk_133 (dk_at dksX6_isAct_0 9 rfl rfl)
theorem dX6_isAct_10 : decode cX6_isAct 10 = .ok (.invokestatic 64, 3) := dk_184 0 64 (dk_at dksX6_isAct_0 10 rfl rfl)
theorem dX6_isAct_13 : decode cX6_isAct 13 = .ok (.ifCond .eq 14, 3) := dk_153 0 14 (dk_at dksX6_isAct_0 13 rfl rfl)
theorem dX6_isAct_16 : decode cX6_isAct 16 = .ok (.aload_n 0, 1) := dk_42 (dk_at dksX6_isAct_0 16 rfl rfl)
theorem dX6_isAct_17 : decode cX6_isAct 17 = .ok (.invokevirtual 124, 3) := dk_182 0 124 (dk_at dksX6_isAct_0 17 rfl rfl)
theorem dX6_isAct_20 : decode cX6_isAct 20 = .ok (.ifCond .ne 7, 3) := dk_154 0 7 (dk_at dksX6_isAct_0 20 rfl rfl)
theorem dX6_isAct_23 : decode cX6_isAct 23 = .ok (.iconst 1, 1) := dk_4 (dk_at dksX6_isAct_0 23 rfl rfl)
theorem dX6_isAct_24 : decode cX6_isAct 24 = .ok (.goto 4, 3) := dk_167 0 4 (dk_at dksX6_isAct_1 0 rfl rfl)
theorem dX6_isAct_27 : decode cX6_isAct 27 = .ok (.iconst 0, 1) := dk_3 (dk_at dksX6_isAct_1 3 rfl rfl)
theorem dX6_isAct_28 : decode cX6_isAct 28 = .ok (.ireturn, 1) := dk_172 (dk_at dksX6_isAct_1 4 rfl rfl)
abbrev cX6_feed : ByteArray := prog_26_method_89_code
def yX6_feed : MethodName := ⟨RX6, "feed", "(JI)I"⟩
def dkwX6_feed_3 : List UInt8 := [132, 4, 1, 167, 255, 216, 42, 180, 1, 19, 172]
abbrev dktX6_feed_3 : List UInt8 := dkwX6_feed_3 ++ []
def dkwX6_feed_2 : List UInt8 := [16, 8, 21, 4, 104, 123, 20, 1, 22, 127, 136, 79, 42, 89, 180, 1, 19, 4, 96, 181, 1, 19]
abbrev dktX6_feed_2 : List UInt8 := dkwX6_feed_2 ++ dktX6_feed_3
def dkwX6_feed_1 : List UInt8 := [164, 0, 6, 16, 254, 172, 3, 54, 4, 21, 4, 29, 162, 0, 40, 42, 180, 0, 40, 42, 180, 1, 19, 31]
abbrev dktX6_feed_1 : List UInt8 := dkwX6_feed_1 ++ dktX6_feed_2
def dkwX6_feed_0 : List UInt8 := [29, 133, 10, 20, 1, 17, 184, 0, 64, 154, 0, 5, 2, 172, 42, 180, 1, 19, 29, 96, 17, 0, 200]
abbrev dktX6_feed_0 : List UInt8 := dkwX6_feed_0 ++ dktX6_feed_1
theorem dksX6_feed_0 : cX6_feed.data.toList.drop 0 = dktX6_feed_0 := by decide +kernel
theorem dksX6_feed_1 : cX6_feed.data.toList.drop 23 = dktX6_feed_1 := dk_seg dksX6_feed_0 23 rfl rfl
theorem dksX6_feed_2 : cX6_feed.data.toList.drop 47 = dktX6_feed_2 := dk_seg dksX6_feed_1 24 rfl rfl
theorem dksX6_feed_3 : cX6_feed.data.toList.drop 69 = dktX6_feed_3 := dk_seg dksX6_feed_2 22 rfl rfl
theorem dX6_feed_0 : decode cX6_feed 0 = .ok (.iload_n 3, 1) := dk_29 (dk_at dksX6_feed_0 0 rfl rfl)
theorem dX6_feed_1 : decode cX6_feed 1 = .ok (.i2l, 1) := dk_133 (dk_at dksX6_feed_0 1 rfl rfl)
theorem dX6_feed_2 : decode cX6_feed 2 = .ok (.lconst 1, 1) := dk_10 (dk_at dksX6_feed_0 2 rfl rfl)
theorem dX6_feed_3 : decode cX6_feed 3 = .ok (.ldc2_w 273, 3) := dk_20 1 17 (dk_at dksX6_feed_0 3 rfl rfl)
theorem dX6_feed_6 : decode cX6_feed 6 = .ok (.invokestatic 64, 3) := dk_184 0 64 (dk_at dksX6_feed_0 6 rfl rfl)
theorem dX6_feed_9 : decode cX6_feed 9 = .ok (.ifCond .ne 5, 3) := dk_154 0 5 (dk_at dksX6_feed_0 9 rfl rfl)
theorem dX6_feed_12 : decode cX6_feed 12 = .ok (.iconst (-1), 1) := dk_2 (dk_at dksX6_feed_0 12 rfl rfl)
theorem dX6_feed_13 : decode cX6_feed 13 = .ok (.ireturn, 1) := dk_172 (dk_at dksX6_feed_0 13 rfl rfl)
theorem dX6_feed_14 : decode cX6_feed 14 = .ok (.aload_n 0, 1) := dk_42 (dk_at dksX6_feed_0 14 rfl rfl)
theorem dX6_feed_15 : decode cX6_feed 15 = .ok (.getfield 275, 3) := dk_180 1 19 (dk_at dksX6_feed_0 15 rfl rfl)
theorem dX6_feed_18 : decode cX6_feed 18 = .ok (.iload_n 3, 1) := dk_29 (dk_at dksX6_feed_0 18 rfl rfl)
theorem dX6_feed_19 : decode cX6_feed 19 = .ok (.iadd, 1) := dk_96 (dk_at dksX6_feed_0 19 rfl rfl)
theorem dX6_feed_20 : decode cX6_feed 20 = .ok (.sipush 200, 3) := dk_17 0 200 (dk_at dksX6_feed_0 20 rfl rfl)
theorem dX6_feed_23 : decode cX6_feed 23 = .ok (.if_icmp .le 6, 3) := dk_164 0 6 (dk_at dksX6_feed_1 0 rfl rfl)
theorem dX6_feed_26 : decode cX6_feed 26 = .ok (.bipush (-2), 2) := dk_16 254 (dk_at dksX6_feed_1 3 rfl rfl)
theorem dX6_feed_28 : decode cX6_feed 28 = .ok (.ireturn, 1) := dk_172 (dk_at dksX6_feed_1 5 rfl rfl)
theorem dX6_feed_29 : decode cX6_feed 29 = .ok (.iconst 0, 1) := dk_3 (dk_at dksX6_feed_1 6 rfl rfl)
theorem dX6_feed_30 : decode cX6_feed 30 = .ok (.istore 4, 2) := dk_54 4 (dk_at dksX6_feed_1 7 rfl rfl)
theorem dX6_feed_32 : decode cX6_feed 32 = .ok (.iload 4, 2) := dk_21 4 (dk_at dksX6_feed_1 9 rfl rfl)
theorem dX6_feed_34 : decode cX6_feed 34 = .ok (.iload_n 3, 1) := dk_29 (dk_at dksX6_feed_1 11 rfl rfl)
theorem dX6_feed_35 : decode cX6_feed 35 = .ok (.if_icmp .ge 40, 3) := dk_162 0 40 (dk_at dksX6_feed_1 12 rfl rfl)
theorem dX6_feed_38 : decode cX6_feed 38 = .ok (.aload_n 0, 1) := dk_42 (dk_at dksX6_feed_1 15 rfl rfl)
theorem dX6_feed_39 : decode cX6_feed 39 = .ok (.getfield 40, 3) := dk_180 0 40 (dk_at dksX6_feed_1 16 rfl rfl)
theorem dX6_feed_42 : decode cX6_feed 42 = .ok (.aload_n 0, 1) := dk_42 (dk_at dksX6_feed_1 19 rfl rfl)
theorem dX6_feed_43 : decode cX6_feed 43 = .ok (.getfield 275, 3) := dk_180 1 19 (dk_at dksX6_feed_1 20 rfl rfl)
theorem dX6_feed_46 : decode cX6_feed 46 = .ok (.lload_n 1, 1) := dk_31 (dk_at dksX6_feed_1 23 rfl rfl)
theorem dX6_feed_47 : decode cX6_feed 47 = .ok (.bipush 8, 2) := dk_16 8 (dk_at dksX6_feed_2 0 rfl rfl)
theorem dX6_feed_49 : decode cX6_feed 49 = .ok (.iload 4, 2) := dk_21 4 (dk_at dksX6_feed_2 2 rfl rfl)
theorem dX6_feed_51 : decode cX6_feed 51 = .ok (.imul, 1) := dk_104 (dk_at dksX6_feed_2 4 rfl rfl)
theorem dX6_feed_52 : decode cX6_feed 52 = .ok (.lshr, 1) := dk_123 (dk_at dksX6_feed_2 5 rfl rfl)
theorem dX6_feed_53 : decode cX6_feed 53 = .ok (.ldc2_w 278, 3) := dk_20 1 22 (dk_at dksX6_feed_2 6 rfl rfl)
theorem dX6_feed_56 : decode cX6_feed 56 = .ok (.land, 1) := dk_127 (dk_at dksX6_feed_2 9 rfl rfl)
theorem dX6_feed_57 : decode cX6_feed 57 = .ok (.l2i, 1) := dk_136 (dk_at dksX6_feed_2 10 rfl rfl)
theorem dX6_feed_58 : decode cX6_feed 58 = .ok (.iastore, 1) := dk_79 (dk_at dksX6_feed_2 11 rfl rfl)
theorem dX6_feed_59 : decode cX6_feed 59 = .ok (.aload_n 0, 1) := dk_42 (dk_at dksX6_feed_2 12 rfl rfl)
theorem dX6_feed_60 : decode cX6_feed 60 = .ok (.dup, 1) := dk_89 (dk_at dksX6_feed_2 13 rfl rfl)
theorem dX6_feed_61 : decode cX6_feed 61 = .ok (.getfield 275, 3) := dk_180 1 19 (dk_at dksX6_feed_2 14 rfl rfl)
theorem dX6_feed_64 : decode cX6_feed 64 = .ok (.iconst 1, 1) := dk_4 (dk_at dksX6_feed_2 17 rfl rfl)
theorem dX6_feed_65 : decode cX6_feed 65 = .ok (.iadd, 1) := dk_96 (dk_at dksX6_feed_2 18 rfl rfl)
theorem dX6_feed_66 : decode cX6_feed 66 = .ok (.putfield 275, 3) := dk_181 1 19 (dk_at dksX6_feed_2 19 rfl rfl)
theorem dX6_feed_69 : decode cX6_feed 69 = .ok (.iinc 4 1, 3) := dk_132 4 1 (dk_at dksX6_feed_3 0 rfl rfl)
theorem dX6_feed_72 : decode cX6_feed 72 = .ok (.goto (-40), 3) := dk_167 255 216 (dk_at dksX6_feed_3 3 rfl rfl)
theorem dX6_feed_75 : decode cX6_feed 75 = .ok (.aload_n 0, 1) := dk_42 (dk_at dksX6_feed_3 6 rfl rfl)
theorem dX6_feed_76 : decode cX6_feed 76 = .ok (.getfield 275, 3) := dk_180 1 19 (dk_at dksX6_feed_3 7 rfl rfl)
theorem dX6_feed_79 : decode cX6_feed 79 = .ok (.ireturn, 1) := dk_172 (dk_at dksX6_feed_3 10 rfl rfl)
abbrev cX6_rules : ByteArray := prog_26_method_106_code
def yX6_rules : MethodName := ⟨RX6, "rules", "()I"⟩
def dkwX6_rules_3 : List UInt8 := [153, 0, 15, 42, 182, 0, 160, 16, 156, 42, 180, 1, 35, 100, 172, 42, 180, 0, 7, 4, 46, 172]
abbrev dktX6_rules_3 : List UInt8 := dkwX6_rules_3 ++ []
def dkwX6_rules_2 : List UInt8 := [180, 1, 19, 162, 0, 10, 42, 182, 1, 138, 167, 255, 234, 42, 3, 181, 1, 19, 42, 180, 1, 47]
abbrev dktX6_rules_2 : List UInt8 := dkwX6_rules_2 ++ dktX6_rules_3
def dkwX6_rules_1 : List UInt8 := [181, 1, 32, 42, 3, 181, 1, 47, 42, 182, 1, 51, 42, 180, 1, 47, 154, 0, 21, 42, 180, 1, 35, 42]
abbrev dktX6_rules_1 : List UInt8 := dkwX6_rules_1 ++ dktX6_rules_2
def dkwX6_rules_0 : List UInt8 := [42, 182, 0, 154, 42, 180, 0, 7, 4, 3, 79, 42, 3, 181, 1, 91, 42, 3, 181, 1, 108, 42, 3]
abbrev dktX6_rules_0 : List UInt8 := dkwX6_rules_0 ++ dktX6_rules_1
theorem dksX6_rules_0 : cX6_rules.data.toList.drop 0 = dktX6_rules_0 := by decide +kernel
theorem dksX6_rules_1 : cX6_rules.data.toList.drop 23 = dktX6_rules_1 := dk_seg dksX6_rules_0 23 rfl rfl
theorem dksX6_rules_2 : cX6_rules.data.toList.drop 47 = dktX6_rules_2 := dk_seg dksX6_rules_1 24 rfl rfl
theorem dksX6_rules_3 : cX6_rules.data.toList.drop 69 = dktX6_rules_3 := dk_seg dksX6_rules_2 22 rfl rfl
theorem dX6_rules_0 : decode cX6_rules 0 = .ok (.aload_n 0, 1) := dk_42 (dk_at dksX6_rules_0 0 rfl rfl)
theorem dX6_rules_1 : decode cX6_rules 1 = .ok (.invokevirtual 154, 3) := dk_182 0 154 (dk_at dksX6_rules_0 1 rfl rfl)
theorem dX6_rules_4 : decode cX6_rules 4 = .ok (.aload_n 0, 1) := dk_42 (dk_at dksX6_rules_0 4 rfl rfl)
theorem dX6_rules_5 : decode cX6_rules 5 = .ok (.getfield 7, 3) := dk_180 0 7 (dk_at dksX6_rules_0 5 rfl rfl)
theorem dX6_rules_8 : decode cX6_rules 8 = .ok (.iconst 1, 1) := dk_4 (dk_at dksX6_rules_0 8 rfl rfl)
theorem dX6_rules_9 : decode cX6_rules 9 = .ok (.iconst 0, 1) := dk_3 (dk_at dksX6_rules_0 9 rfl rfl)
theorem dX6_rules_10 : decode cX6_rules 10 = .ok (.iastore, 1) := dk_79 (dk_at dksX6_rules_0 10 rfl rfl)
theorem dX6_rules_11 : decode cX6_rules 11 = .ok (.aload_n 0, 1) := dk_42 (dk_at dksX6_rules_0 11 rfl rfl)
theorem dX6_rules_12 : decode cX6_rules 12 = .ok (.iconst 0, 1) := dk_3 (dk_at dksX6_rules_0 12 rfl rfl)
theorem dX6_rules_13 : decode cX6_rules 13 = .ok (.putfield 347, 3) := dk_181 1 91 (dk_at dksX6_rules_0 13 rfl rfl)
theorem dX6_rules_16 : decode cX6_rules 16 = .ok (.aload_n 0, 1) := dk_42 (dk_at dksX6_rules_0 16 rfl rfl)
theorem dX6_rules_17 : decode cX6_rules 17 = .ok (.iconst 0, 1) := dk_3 (dk_at dksX6_rules_0 17 rfl rfl)
theorem dX6_rules_18 : decode cX6_rules 18 = .ok (.putfield 364, 3) := dk_181 1 108 (dk_at dksX6_rules_0 18 rfl rfl)
theorem dX6_rules_21 : decode cX6_rules 21 = .ok (.aload_n 0, 1) := dk_42 (dk_at dksX6_rules_0 21 rfl rfl)
theorem dX6_rules_22 : decode cX6_rules 22 = .ok (.iconst 0, 1) := dk_3 (dk_at dksX6_rules_0 22 rfl rfl)
theorem dX6_rules_23 : decode cX6_rules 23 = .ok (.putfield 288, 3) := dk_181 1 32 (dk_at dksX6_rules_1 0 rfl rfl)
theorem dX6_rules_26 : decode cX6_rules 26 = .ok (.aload_n 0, 1) := dk_42 (dk_at dksX6_rules_1 3 rfl rfl)
theorem dX6_rules_27 : decode cX6_rules 27 = .ok (.iconst 0, 1) := dk_3 (dk_at dksX6_rules_1 4 rfl rfl)
theorem dX6_rules_28 : decode cX6_rules 28 = .ok (.putfield 303, 3) := dk_181 1 47 (dk_at dksX6_rules_1 5 rfl rfl)
theorem dX6_rules_31 : decode cX6_rules 31 = .ok (.aload_n 0, 1) := dk_42 (dk_at dksX6_rules_1 8 rfl rfl)
theorem dX6_rules_32 : decode cX6_rules 32 = .ok (.invokevirtual 307, 3) := dk_182 1 51 (dk_at dksX6_rules_1 9 rfl rfl)
theorem dX6_rules_35 : decode cX6_rules 35 = .ok (.aload_n 0, 1) := dk_42 (dk_at dksX6_rules_1 12 rfl rfl)
theorem dX6_rules_36 : decode cX6_rules 36 = .ok (.getfield 303, 3) := dk_180 1 47 (dk_at dksX6_rules_1 13 rfl rfl)
theorem dX6_rules_39 : decode cX6_rules 39 = .ok (.ifCond .ne 21, 3) := dk_154 0 21 (dk_at dksX6_rules_1 16 rfl rfl)
theorem dX6_rules_42 : decode cX6_rules 42 = .ok (.aload_n 0, 1) := dk_42 (dk_at dksX6_rules_1 19 rfl rfl)
theorem dX6_rules_43 : decode cX6_rules 43 = .ok (.getfield 291, 3) := dk_180 1 35 (dk_at dksX6_rules_1 20 rfl rfl)
theorem dX6_rules_46 : decode cX6_rules 46 = .ok (.aload_n 0, 1) := dk_42 (dk_at dksX6_rules_1 23 rfl rfl)
theorem dX6_rules_47 : decode cX6_rules 47 = .ok (.getfield 275, 3) := dk_180 1 19 (dk_at dksX6_rules_2 0 rfl rfl)
theorem dX6_rules_50 : decode cX6_rules 50 = .ok (.if_icmp .ge 10, 3) := dk_162 0 10 (dk_at dksX6_rules_2 3 rfl rfl)
theorem dX6_rules_53 : decode cX6_rules 53 = .ok (.aload_n 0, 1) := dk_42 (dk_at dksX6_rules_2 6 rfl rfl)
theorem dX6_rules_54 : decode cX6_rules 54 = .ok (.invokevirtual 394, 3) := dk_182 1 138 (dk_at dksX6_rules_2 7 rfl rfl)
theorem dX6_rules_57 : decode cX6_rules 57 = .ok (.goto (-22), 3) := dk_167 255 234 (dk_at dksX6_rules_2 10 rfl rfl)
theorem dX6_rules_60 : decode cX6_rules 60 = .ok (.aload_n 0, 1) := dk_42 (dk_at dksX6_rules_2 13 rfl rfl)
theorem dX6_rules_61 : decode cX6_rules 61 = .ok (.iconst 0, 1) := dk_3 (dk_at dksX6_rules_2 14 rfl rfl)
theorem dX6_rules_62 : decode cX6_rules 62 = .ok (.putfield 275, 3) := dk_181 1 19 (dk_at dksX6_rules_2 15 rfl rfl)
theorem dX6_rules_65 : decode cX6_rules 65 = .ok (.aload_n 0, 1) := dk_42 (dk_at dksX6_rules_2 18 rfl rfl)
theorem dX6_rules_66 : decode cX6_rules 66 = .ok (.getfield 303, 3) := dk_180 1 47 (dk_at dksX6_rules_2 19 rfl rfl)
theorem dX6_rules_69 : decode cX6_rules 69 = .ok (.ifCond .eq 15, 3) := dk_153 0 15 (dk_at dksX6_rules_3 0 rfl rfl)
theorem dX6_rules_72 : decode cX6_rules 72 = .ok (.aload_n 0, 1) := dk_42 (dk_at dksX6_rules_3 3 rfl rfl)
theorem dX6_rules_73 : decode cX6_rules 73 = .ok (.invokevirtual 160, 3) := dk_182 0 160 (dk_at dksX6_rules_3 4 rfl rfl)
theorem dX6_rules_76 : decode cX6_rules 76 = .ok (.bipush (-100), 2) := dk_16 156 (dk_at dksX6_rules_3 7 rfl rfl)
theorem dX6_rules_78 : decode cX6_rules 78 = .ok (.aload_n 0, 1) := dk_42 (dk_at dksX6_rules_3 9 rfl rfl)
theorem dX6_rules_79 : decode cX6_rules 79 = .ok (.getfield 291, 3) := dk_180 1 35 (dk_at dksX6_rules_3 10 rfl rfl)
theorem dX6_rules_82 : decode cX6_rules 82 = .ok (.isub, 1) := dk_100 (dk_at dksX6_rules_3 13 rfl rfl)
theorem dX6_rules_83 : decode cX6_rules 83 = .ok (.ireturn, 1) := dk_172 (dk_at dksX6_rules_3 14 rfl rfl)
theorem dX6_rules_84 : decode cX6_rules 84 = .ok (.aload_n 0, 1) := dk_42 (dk_at dksX6_rules_3 15 rfl rfl)
theorem dX6_rules_85 : decode cX6_rules 85 = .ok (.getfield 7, 3) := dk_180 0 7 (dk_at dksX6_rules_3 16 rfl rfl)
theorem dX6_rules_88 : decode cX6_rules 88 = .ok (.iconst 1, 1) := dk_4 (dk_at dksX6_rules_3 19 rfl rfl)
theorem dX6_rules_89 : decode cX6_rules 89 = .ok (.iaload, 1) := dk_46 (dk_at dksX6_rules_3 20 rfl rfl)
theorem dX6_rules_90 : decode cX6_rules 90 = .ok (.ireturn, 1) := dk_172 (dk_at dksX6_rules_3 21 rfl rfl)
abbrev cX6_token : ByteArray := prog_26_method_93_code
def yX6_token : MethodName := ⟨RX6, "token", "()V"⟩
def dkwX6_token_5 : List UInt8 := [153, 0, 16, 42, 89, 180, 1, 32, 4, 96, 181, 1, 32, 167, 255, 210, 177]
abbrev dktX6_token_5 : List UInt8 := dkwX6_token_5 ++ []
def dkwX6_token_4 : List UInt8 := [182, 1, 38, 184, 1, 41, 154, 0, 21, 28, 153, 0, 30, 42, 42, 180, 1, 32, 182, 1, 38, 184, 1, 44]
abbrev dktX6_token_4 : List UInt8 := dkwX6_token_4 ++ dktX6_token_5
def dkwX6_token_3 : List UInt8 := [180, 1, 35, 4, 96, 167, 0, 7, 42, 180, 1, 35, 181, 1, 32, 27, 153, 0, 17, 42, 42, 180, 1, 32]
abbrev dktX6_token_3 : List UInt8 := dkwX6_token_3 ++ dktX6_token_4
def dkwX6_token_2 : List UInt8 := [42, 180, 1, 35, 182, 1, 38, 184, 1, 44, 61, 42, 42, 180, 1, 35, 42, 180, 1, 19, 162, 0, 12, 42]
abbrev dktX6_token_2 : List UInt8 := dkwX6_token_2 ++ dktX6_token_3
def dkwX6_token_1 : List UInt8 := [180, 1, 35, 4, 96, 181, 1, 35, 167, 255, 233, 42, 42, 180, 1, 35, 182, 1, 38, 184, 1, 41, 60, 42]
abbrev dktX6_token_1 : List UInt8 := dkwX6_token_1 ++ dktX6_token_2
def dkwX6_token_0 : List UInt8 := [42, 42, 180, 1, 32, 181, 1, 35, 42, 42, 180, 1, 35, 182, 1, 38, 16, 32, 160, 0, 16, 42, 89]
abbrev dktX6_token_0 : List UInt8 := dkwX6_token_0 ++ dktX6_token_1
theorem dksX6_token_0 : cX6_token.data.toList.drop 0 = dktX6_token_0 := by decide +kernel
theorem dksX6_token_1 : cX6_token.data.toList.drop 23 = dktX6_token_1 := dk_seg dksX6_token_0 23 rfl rfl
theorem dksX6_token_2 : cX6_token.data.toList.drop 47 = dktX6_token_2 := dk_seg dksX6_token_1 24 rfl rfl
theorem dksX6_token_3 : cX6_token.data.toList.drop 71 = dktX6_token_3 := dk_seg dksX6_token_2 24 rfl rfl
theorem dksX6_token_4 : cX6_token.data.toList.drop 95 = dktX6_token_4 := dk_seg dksX6_token_3 24 rfl rfl
theorem dksX6_token_5 : cX6_token.data.toList.drop 119 = dktX6_token_5 := dk_seg dksX6_token_4 24 rfl rfl
theorem dX6_token_0 : decode cX6_token 0 = .ok (.aload_n 0, 1) := dk_42 (dk_at dksX6_token_0 0 rfl rfl)
theorem dX6_token_1 : decode cX6_token 1 = .ok (.aload_n 0, 1) := dk_42 (dk_at dksX6_token_0 1 rfl rfl)
theorem dX6_token_2 : decode cX6_token 2 = .ok (.getfield 288, 3) := dk_180 1 32 (dk_at dksX6_token_0 2 rfl rfl)
theorem dX6_token_5 : decode cX6_token 5 = .ok (.putfield 291, 3) := dk_181 1 35 (dk_at dksX6_token_0 5 rfl rfl)
theorem dX6_token_8 : decode cX6_token 8 = .ok (.aload_n 0, 1) := dk_42 (dk_at dksX6_token_0 8 rfl rfl)
theorem dX6_token_9 : decode cX6_token 9 = .ok (.aload_n 0, 1) := dk_42 (dk_at dksX6_token_0 9 rfl rfl)
theorem dX6_token_10 : decode cX6_token 10 = .ok (.getfield 291, 3) := dk_180 1 35 (dk_at dksX6_token_0 10 rfl rfl)
theorem dX6_token_13 : decode cX6_token 13 = .ok (.invokevirtual 294, 3) := dk_182 1 38 (dk_at dksX6_token_0 13 rfl rfl)
theorem dX6_token_16 : decode cX6_token 16 = .ok (.bipush 32, 2) := dk_16 32 (dk_at dksX6_token_0 16 rfl rfl)
theorem dX6_token_18 : decode cX6_token 18 = .ok (.if_icmp .ne 16, 3) := dk_160 0 16 (dk_at dksX6_token_0 18 rfl rfl)
theorem dX6_token_21 : decode cX6_token 21 = .ok (.aload_n 0, 1) := dk_42 (dk_at dksX6_token_0 21 rfl rfl)
theorem dX6_token_22 : decode cX6_token 22 = .ok (.dup, 1) := dk_89 (dk_at dksX6_token_0 22 rfl rfl)
theorem dX6_token_23 : decode cX6_token 23 = .ok (.getfield 291, 3) := dk_180 1 35 (dk_at dksX6_token_1 0 rfl rfl)
theorem dX6_token_26 : decode cX6_token 26 = .ok (.iconst 1, 1) := dk_4 (dk_at dksX6_token_1 3 rfl rfl)
theorem dX6_token_27 : decode cX6_token 27 = .ok (.iadd, 1) := dk_96 (dk_at dksX6_token_1 4 rfl rfl)
theorem dX6_token_28 : decode cX6_token 28 = .ok (.putfield 291, 3) := dk_181 1 35 (dk_at dksX6_token_1 5 rfl rfl)
theorem dX6_token_31 : decode cX6_token 31 = .ok (.goto (-23), 3) := dk_167 255 233 (dk_at dksX6_token_1 8 rfl rfl)
theorem dX6_token_34 : decode cX6_token 34 = .ok (.aload_n 0, 1) := dk_42 (dk_at dksX6_token_1 11 rfl rfl)
theorem dX6_token_35 : decode cX6_token 35 = .ok (.aload_n 0, 1) := dk_42 (dk_at dksX6_token_1 12 rfl rfl)
theorem dX6_token_36 : decode cX6_token 36 = .ok (.getfield 291, 3) := dk_180 1 35 (dk_at dksX6_token_1 13 rfl rfl)
theorem dX6_token_39 : decode cX6_token 39 = .ok (.invokevirtual 294, 3) := dk_182 1 38 (dk_at dksX6_token_1 16 rfl rfl)
theorem dX6_token_42 : decode cX6_token 42 = .ok (.invokestatic 297, 3) := dk_184 1 41 (dk_at dksX6_token_1 19 rfl rfl)
theorem dX6_token_45 : decode cX6_token 45 = .ok (.istore_n 1, 1) := dk_60 (dk_at dksX6_token_1 22 rfl rfl)
theorem dX6_token_46 : decode cX6_token 46 = .ok (.aload_n 0, 1) := dk_42 (dk_at dksX6_token_1 23 rfl rfl)
theorem dX6_token_47 : decode cX6_token 47 = .ok (.aload_n 0, 1) := dk_42 (dk_at dksX6_token_2 0 rfl rfl)
theorem dX6_token_48 : decode cX6_token 48 = .ok (.getfield 291, 3) := dk_180 1 35 (dk_at dksX6_token_2 1 rfl rfl)
theorem dX6_token_51 : decode cX6_token 51 = .ok (.invokevirtual 294, 3) := dk_182 1 38 (dk_at dksX6_token_2 4 rfl rfl)
theorem dX6_token_54 : decode cX6_token 54 = .ok (.invokestatic 300, 3) := dk_184 1 44 (dk_at dksX6_token_2 7 rfl rfl)
theorem dX6_token_57 : decode cX6_token 57 = .ok (.istore_n 2, 1) := dk_61 (dk_at dksX6_token_2 10 rfl rfl)
theorem dX6_token_58 : decode cX6_token 58 = .ok (.aload_n 0, 1) := dk_42 (dk_at dksX6_token_2 11 rfl rfl)
theorem dX6_token_59 : decode cX6_token 59 = .ok (.aload_n 0, 1) := dk_42 (dk_at dksX6_token_2 12 rfl rfl)
theorem dX6_token_60 : decode cX6_token 60 = .ok (.getfield 291, 3) := dk_180 1 35 (dk_at dksX6_token_2 13 rfl rfl)
theorem dX6_token_63 : decode cX6_token 63 = .ok (.aload_n 0, 1) := dk_42 (dk_at dksX6_token_2 16 rfl rfl)
theorem dX6_token_64 : decode cX6_token 64 = .ok (.getfield 275, 3) := dk_180 1 19 (dk_at dksX6_token_2 17 rfl rfl)
theorem dX6_token_67 : decode cX6_token 67 = .ok (.if_icmp .ge 12, 3) := dk_162 0 12 (dk_at dksX6_token_2 20 rfl rfl)
theorem dX6_token_70 : decode cX6_token 70 = .ok (.aload_n 0, 1) := dk_42 (dk_at dksX6_token_2 23 rfl rfl)
theorem dX6_token_71 : decode cX6_token 71 = .ok (.getfield 291, 3) := dk_180 1 35 (dk_at dksX6_token_3 0 rfl rfl)
theorem dX6_token_74 : decode cX6_token 74 = .ok (.iconst 1, 1) := dk_4 (dk_at dksX6_token_3 3 rfl rfl)
theorem dX6_token_75 : decode cX6_token 75 = .ok (.iadd, 1) := dk_96 (dk_at dksX6_token_3 4 rfl rfl)
theorem dX6_token_76 : decode cX6_token 76 = .ok (.goto 7, 3) := dk_167 0 7 (dk_at dksX6_token_3 5 rfl rfl)
theorem dX6_token_79 : decode cX6_token 79 = .ok (.aload_n 0, 1) := dk_42 (dk_at dksX6_token_3 8 rfl rfl)
theorem dX6_token_80 : decode cX6_token 80 = .ok (.getfield 291, 3) := dk_180 1 35 (dk_at dksX6_token_3 9 rfl rfl)
theorem dX6_token_83 : decode cX6_token 83 = .ok (.putfield 288, 3) := dk_181 1 32 (dk_at dksX6_token_3 12 rfl rfl)
theorem dX6_token_86 : decode cX6_token 86 = .ok (.iload_n 1, 1) := dk_27 (dk_at dksX6_token_3 15 rfl rfl)
theorem dX6_token_87 : decode cX6_token 87 = .ok (.ifCond .eq 17, 3) := dk_153 0 17 (dk_at dksX6_token_3 16 rfl rfl)
theorem dX6_token_90 : decode cX6_token 90 = .ok (.aload_n 0, 1) := dk_42 (dk_at dksX6_token_3 19 rfl rfl)
theorem dX6_token_91 : decode cX6_token 91 = .ok (.aload_n 0, 1) := dk_42 (dk_at dksX6_token_3 20 rfl rfl)
theorem dX6_token_92 : decode cX6_token 92 = .ok (.getfield 288, 3) := dk_180 1 32 (dk_at dksX6_token_3 21 rfl rfl)
theorem dX6_token_95 : decode cX6_token 95 = .ok (.invokevirtual 294, 3) := dk_182 1 38 (dk_at dksX6_token_4 0 rfl rfl)
theorem dX6_token_98 : decode cX6_token 98 = .ok (.invokestatic 297, 3) := dk_184 1 41 (dk_at dksX6_token_4 3 rfl rfl)
theorem dX6_token_101 : decode cX6_token 101 = .ok (.ifCond .ne 21, 3) := dk_154 0 21 (dk_at dksX6_token_4 6 rfl rfl)
theorem dX6_token_104 : decode cX6_token 104 = .ok (.iload_n 2, 1) := dk_28 (dk_at dksX6_token_4 9 rfl rfl)
theorem dX6_token_105 : decode cX6_token 105 = .ok (.ifCond .eq 30, 3) := dk_153 0 30 (dk_at dksX6_token_4 10 rfl rfl)
theorem dX6_token_108 : decode cX6_token 108 = .ok (.aload_n 0, 1) := dk_42 (dk_at dksX6_token_4 13 rfl rfl)
theorem dX6_token_109 : decode cX6_token 109 = .ok (.aload_n 0, 1) := dk_42 (dk_at dksX6_token_4 14 rfl rfl)
theorem dX6_token_110 : decode cX6_token 110 = .ok (.getfield 288, 3) := dk_180 1 32 (dk_at dksX6_token_4 15 rfl rfl)
theorem dX6_token_113 : decode cX6_token 113 = .ok (.invokevirtual 294, 3) := dk_182 1 38 (dk_at dksX6_token_4 18 rfl rfl)
theorem dX6_token_116 : decode cX6_token 116 = .ok (.invokestatic 300, 3) := dk_184 1 44 (dk_at dksX6_token_4 21 rfl rfl)
theorem dX6_token_119 : decode cX6_token 119 = .ok (.ifCond .eq 16, 3) := dk_153 0 16 (dk_at dksX6_token_5 0 rfl rfl)
theorem dX6_token_122 : decode cX6_token 122 = .ok (.aload_n 0, 1) := dk_42 (dk_at dksX6_token_5 3 rfl rfl)
theorem dX6_token_123 : decode cX6_token 123 = .ok (.dup, 1) := dk_89 (dk_at dksX6_token_5 4 rfl rfl)
theorem dX6_token_124 : decode cX6_token 124 = .ok (.getfield 288, 3) := dk_180 1 32 (dk_at dksX6_token_5 5 rfl rfl)
theorem dX6_token_127 : decode cX6_token 127 = .ok (.iconst 1, 1) := dk_4 (dk_at dksX6_token_5 8 rfl rfl)
theorem dX6_token_128 : decode cX6_token 128 = .ok (.iadd, 1) := dk_96 (dk_at dksX6_token_5 9 rfl rfl)
theorem dX6_token_129 : decode cX6_token 129 = .ok (.putfield 288, 3) := dk_181 1 32 (dk_at dksX6_token_5 10 rfl rfl)
theorem dX6_token_132 : decode cX6_token 132 = .ok (.goto (-46), 3) := dk_167 255 210 (dk_at dksX6_token_5 13 rfl rfl)
theorem dX6_token_135 : decode cX6_token 135 = .ok (.return_, 1) := dk_177 (dk_at dksX6_token_5 16 rfl rfl)
abbrev cX6_byteAt : ByteArray := prog_26_method_90_code
def yX6_byteAt : MethodName := ⟨RX6, "byteAt", "(I)I"⟩
def dkwX6_byteAt_0 : List UInt8 := [27, 42, 180, 1, 19, 162, 0, 12, 42, 180, 0, 40, 27, 46, 167, 0, 4, 2, 172]
abbrev dktX6_byteAt_0 : List UInt8 := dkwX6_byteAt_0 ++ []
theorem dksX6_byteAt_0 : cX6_byteAt.data.toList.drop 0 = dktX6_byteAt_0 := by decide +kernel
theorem dX6_byteAt_0 : decode cX6_byteAt 0 = .ok (.iload_n 1, 1) := dk_27 (dk_at dksX6_byteAt_0 0 rfl rfl)
theorem dX6_byteAt_1 : decode cX6_byteAt 1 = .ok (.aload_n 0, 1) := dk_42 (dk_at dksX6_byteAt_0 1 rfl rfl)
theorem dX6_byteAt_2 : decode cX6_byteAt 2 = .ok (.getfield 275, 3) := dk_180 1 19 (dk_at dksX6_byteAt_0 2 rfl rfl)
theorem dX6_byteAt_5 : decode cX6_byteAt 5 = .ok (.if_icmp .ge 12, 3) := dk_162 0 12 (dk_at dksX6_byteAt_0 5 rfl rfl)
theorem dX6_byteAt_8 : decode cX6_byteAt 8 = .ok (.aload_n 0, 1) := dk_42 (dk_at dksX6_byteAt_0 8 rfl rfl)
theorem dX6_byteAt_9 : decode cX6_byteAt 9 = .ok (.getfield 40, 3) := dk_180 0 40 (dk_at dksX6_byteAt_0 9 rfl rfl)
theorem dX6_byteAt_12 : decode cX6_byteAt 12 = .ok (.iload_n 1, 1) := dk_27 (dk_at dksX6_byteAt_0 12 rfl rfl)
theorem dX6_byteAt_13 : decode cX6_byteAt 13 = .ok (.iaload, 1) := dk_46 (dk_at dksX6_byteAt_0 13 rfl rfl)
theorem dX6_byteAt_14 : decode cX6_byteAt 14 = .ok (.goto 4, 3) := dk_167 0 4 (dk_at dksX6_byteAt_0 14 rfl rfl)
theorem dX6_byteAt_17 : decode cX6_byteAt 17 = .ok (.iconst (-1), 1) := dk_2 (dk_at dksX6_byteAt_0 17 rfl rfl)
theorem dX6_byteAt_18 : decode cX6_byteAt 18 = .ok (.ireturn, 1) := dk_172 (dk_at dksX6_byteAt_0 18 rfl rfl)
abbrev cX6_isLetter : ByteArray := prog_26_method_91_code
def yX6_isLetter : MethodName := ⟨RX6, "isLetter", "(I)Z"⟩
def dkwX6_isLetter_0 : List UInt8 := [26, 133, 20, 1, 24, 20, 1, 26, 184, 0, 64, 172]
abbrev dktX6_isLetter_0 : List UInt8 := dkwX6_isLetter_0 ++ []
theorem dksX6_isLetter_0 : cX6_isLetter.data.toList.drop 0 = dktX6_isLetter_0 := by decide +kernel
theorem dX6_isLetter_0 : decode cX6_isLetter 0 = .ok (.iload_n 0, 1) := dk_26 (dk_at dksX6_isLetter_0 0 rfl rfl)
theorem dX6_isLetter_1 : decode cX6_isLetter 1 = .ok (.i2l, 1) := dk_133 (dk_at dksX6_isLetter_0 1 rfl rfl)
theorem dX6_isLetter_2 : decode cX6_isLetter 2 = .ok (.ldc2_w 280, 3) := dk_20 1 24 (dk_at dksX6_isLetter_0 2 rfl rfl)
theorem dX6_isLetter_5 : decode cX6_isLetter 5 = .ok (.ldc2_w 282, 3) := dk_20 1 26 (dk_at dksX6_isLetter_0 5 rfl rfl)
theorem dX6_isLetter_8 : decode cX6_isLetter 8 = .ok (.invokestatic 64, 3) := dk_184 0 64 (dk_at dksX6_isLetter_0 8 rfl rfl)
theorem dX6_isLetter_11 : decode cX6_isLetter 11 = .ok (.ireturn, 1) := dk_172 (dk_at dksX6_isLetter_0 11 rfl rfl)
abbrev cX6_isDigit : ByteArray := prog_26_method_92_code
def yX6_isDigit : MethodName := ⟨RX6, "isDigit", "(I)Z"⟩
def dkwX6_isDigit_0 : List UInt8 := [26, 133, 20, 1, 28, 20, 1, 30, 184, 0, 64, 172]
abbrev dktX6_isDigit_0 : List UInt8 := dkwX6_isDigit_0 ++ []
theorem dksX6_isDigit_0 : cX6_isDigit.data.toList.drop 0 = dktX6_isDigit_0 := by decide +kernel
theorem dX6_isDigit_0 : decode cX6_isDigit 0 = .ok (.iload_n 0, 1) := dk_26 (dk_at dksX6_isDigit_0 0 rfl rfl)
theorem dX6_isDigit_1 : decode cX6_isDigit 1 = .ok (.i2l, 1) := dk_133 (dk_at dksX6_isDigit_0 1 rfl rfl)
theorem dX6_isDigit_2 : decode cX6_isDigit 2 = .ok (.ldc2_w 284, 3) := dk_20 1 28 (dk_at dksX6_isDigit_0 2 rfl rfl)
theorem dX6_isDigit_5 : decode cX6_isDigit 5 = .ok (.ldc2_w 286, 3) := dk_20 1 30 (dk_at dksX6_isDigit_0 5 rfl rfl)
theorem dX6_isDigit_8 : decode cX6_isDigit 8 = .ok (.invokestatic 64, 3) := dk_184 0 64 (dk_at dksX6_isDigit_0 8 rfl rfl)
theorem dX6_isDigit_11 : decode cX6_isDigit 11 = .ok (.ireturn, 1) := dk_172 (dk_at dksX6_isDigit_0 11 rfl rfl)
abbrev cX6_rule : ByteArray := prog_26_method_105_code
def yX6_rule : MethodName := ⟨RX6, "rule", "()V"⟩
def dkwX6_rule_10 : List UInt8 := [79, 42, 180, 0, 7, 4, 92, 46, 4, 96, 79, 177]
abbrev dktX6_rule_10 : List UInt8 := dkwX6_rule_10 ++ []
def dkwX6_rule_9 : List UInt8 := [79, 42, 180, 0, 7, 21, 6, 5, 96, 21, 5, 79, 42, 180, 0, 7, 21, 6, 6, 96, 42, 180, 1, 91]
abbrev dktX6_rule_9 : List UInt8 := dkwX6_rule_9 ++ dktX6_rule_10
def dkwX6_rule_8 : List UInt8 := [104, 96, 54, 6, 42, 180, 0, 7, 21, 6, 3, 96, 27, 79, 42, 180, 0, 7, 21, 6, 4, 96, 21, 4]
abbrev dktX6_rule_8 : List UInt8 := dkwX6_rule_8 ++ dktX6_rule_9
def dkwX6_rule_7 : List UInt8 := [167, 0, 4, 3, 182, 1, 61, 42, 180, 1, 47, 154, 0, 72, 17, 0, 136, 7, 42, 180, 0, 7, 4, 46]
abbrev dktX6_rule_7 : List UInt8 := dkwX6_rule_7 ++ dktX6_rule_8
def dkwX6_rule_6 : List UInt8 := [54, 5, 42, 42, 180, 1, 47, 154, 0, 20, 42, 42, 180, 1, 35, 182, 1, 38, 16, 59, 160, 0, 7, 4]
abbrev dktX6_rule_6 : List UInt8 := dkwX6_rule_6 ++ dktX6_rule_7
def dkwX6_rule_5 : List UInt8 := [21, 4, 5, 159, 0, 16, 42, 180, 1, 47, 154, 0, 9, 42, 16, 99, 182, 1, 100, 42, 180, 1, 58]
abbrev dktX6_rule_5 : List UInt8 := dkwX6_rule_5 ++ dktX6_rule_6
def dkwX6_rule_4 : List UInt8 := [21, 4, 155, 0, 7, 4, 167, 0, 4, 3, 182, 1, 61, 42, 3, 181, 1, 58, 21, 4, 155, 0, 22]
abbrev dktX6_rule_4 : List UInt8 := dkwX6_rule_4 ++ dktX6_rule_5
def dkwX6_rule_3 : List UInt8 := [148, 154, 0, 7, 4, 167, 0, 16, 32, 20, 1, 136, 148, 154, 0, 7, 5, 167, 0, 4, 2, 54, 4, 42]
abbrev dktX6_rule_3 : List UInt8 := dkwX6_rule_3 ++ dktX6_rule_4
def dkwX6_rule_2 : List UInt8 := [182, 1, 111, 42, 182, 1, 65, 65, 32, 20, 1, 132, 148, 154, 0, 7, 3, 167, 0, 28, 32, 20, 1, 134]
abbrev dktX6_rule_2 : List UInt8 := dkwX6_rule_2 ++ dktX6_rule_3
def dkwX6_rule_1 : List UInt8 := [167, 0, 4, 3, 182, 1, 61, 42, 182, 1, 65, 20, 1, 130, 148, 154, 0, 12, 42, 4, 182, 1, 61, 42]
abbrev dktX6_rule_1 : List UInt8 := dkwX6_rule_1 ++ dktX6_rule_2
def dkwX6_rule_0 : List UInt8 := [42, 182, 1, 127, 60, 42, 27, 155, 0, 18, 42, 180, 0, 7, 4, 46, 16, 8, 162, 0, 7, 4]
abbrev dktX6_rule_0 : List UInt8 := dkwX6_rule_0 ++ dktX6_rule_1
theorem dksX6_rule_0 : cX6_rule.data.toList.drop 0 = dktX6_rule_0 := by decide +kernel
theorem dksX6_rule_1 : cX6_rule.data.toList.drop 22 = dktX6_rule_1 := dk_seg dksX6_rule_0 22 rfl rfl
theorem dksX6_rule_2 : cX6_rule.data.toList.drop 46 = dktX6_rule_2 := dk_seg dksX6_rule_1 24 rfl rfl
theorem dksX6_rule_3 : cX6_rule.data.toList.drop 70 = dktX6_rule_3 := dk_seg dksX6_rule_2 24 rfl rfl
theorem dksX6_rule_4 : cX6_rule.data.toList.drop 94 = dktX6_rule_4 := dk_seg dksX6_rule_3 24 rfl rfl
theorem dksX6_rule_5 : cX6_rule.data.toList.drop 117 = dktX6_rule_5 := dk_seg dksX6_rule_4 23 rfl rfl
theorem dksX6_rule_6 : cX6_rule.data.toList.drop 140 = dktX6_rule_6 := dk_seg dksX6_rule_5 23 rfl rfl
theorem dksX6_rule_7 : cX6_rule.data.toList.drop 164 = dktX6_rule_7 := dk_seg dksX6_rule_6 24 rfl rfl
theorem dksX6_rule_8 : cX6_rule.data.toList.drop 188 = dktX6_rule_8 := dk_seg dksX6_rule_7 24 rfl rfl
theorem dksX6_rule_9 : cX6_rule.data.toList.drop 212 = dktX6_rule_9 := dk_seg dksX6_rule_8 24 rfl rfl
theorem dksX6_rule_10 : cX6_rule.data.toList.drop 236 = dktX6_rule_10 := dk_seg dksX6_rule_9 24 rfl rfl
theorem dX6_rule_0 : decode cX6_rule 0 = .ok (.aload_n 0, 1) := dk_42 (dk_at dksX6_rule_0 0 rfl rfl)
theorem dX6_rule_1 : decode cX6_rule 1 = .ok (.invokevirtual 383, 3) := dk_182 1 127 (dk_at dksX6_rule_0 1 rfl rfl)
theorem dX6_rule_4 : decode cX6_rule 4 = .ok (.istore_n 1, 1) := dk_60 (dk_at dksX6_rule_0 4 rfl rfl)
theorem dX6_rule_5 : decode cX6_rule 5 = .ok (.aload_n 0, 1) := dk_42 (dk_at dksX6_rule_0 5 rfl rfl)
theorem dX6_rule_6 : decode cX6_rule 6 = .ok (.iload_n 1, 1) := dk_27 (dk_at dksX6_rule_0 6 rfl rfl)
theorem dX6_rule_7 : decode cX6_rule 7 = .ok (.ifCond .lt 18, 3) := dk_155 0 18 (dk_at dksX6_rule_0 7 rfl rfl)
theorem dX6_rule_10 : decode cX6_rule 10 = .ok (.aload_n 0, 1) := dk_42 (dk_at dksX6_rule_0 10 rfl rfl)
theorem dX6_rule_11 : decode cX6_rule 11 = .ok (.getfield 7, 3) := dk_180 0 7 (dk_at dksX6_rule_0 11 rfl rfl)
theorem dX6_rule_14 : decode cX6_rule 14 = .ok (.iconst 1, 1) := dk_4 (dk_at dksX6_rule_0 14 rfl rfl)
theorem dX6_rule_15 : decode cX6_rule 15 = .ok (.iaload, 1) := dk_46 (dk_at dksX6_rule_0 15 rfl rfl)
theorem dX6_rule_16 : decode cX6_rule 16 = .ok (.bipush 8, 2) := dk_16 8 (dk_at dksX6_rule_0 16 rfl rfl)
theorem dX6_rule_18 : decode cX6_rule 18 = .ok (.if_icmp .ge 7, 3) := dk_162 0 7 (dk_at dksX6_rule_0 18 rfl rfl)
theorem dX6_rule_21 : decode cX6_rule 21 = .ok (.iconst 1, 1) := dk_4 (dk_at dksX6_rule_0 21 rfl rfl)
theorem dX6_rule_22 : decode cX6_rule 22 = .ok (.goto 4, 3) := dk_167 0 4 (dk_at dksX6_rule_1 0 rfl rfl)
theorem dX6_rule_25 : decode cX6_rule 25 = .ok (.iconst 0, 1) := dk_3 (dk_at dksX6_rule_1 3 rfl rfl)
theorem dX6_rule_26 : decode cX6_rule 26 = .ok (.invokevirtual 317, 3) := dk_182 1 61 (dk_at dksX6_rule_1 4 rfl rfl)
theorem dX6_rule_29 : decode cX6_rule 29 = .ok (.aload_n 0, 1) := dk_42 (dk_at dksX6_rule_1 7 rfl rfl)
theorem dX6_rule_30 : decode cX6_rule 30 = .ok (.invokevirtual 321, 3) := dk_182 1 65 (dk_at dksX6_rule_1 8 rfl rfl)
theorem dX6_rule_33 : decode cX6_rule 33 = .ok (.ldc2_w 386, 3) := dk_20 1 130 (dk_at dksX6_rule_1 11 rfl rfl)
theorem dX6_rule_36 : decode cX6_rule 36 = .ok (.lcmp, 1) := dk_148 (dk_at dksX6_rule_1 14 rfl rfl)
theorem dX6_rule_37 : decode cX6_rule 37 = .ok (.ifCond .ne 12, 3) := dk_154 0 12 (dk_at dksX6_rule_1 15 rfl rfl)
theorem dX6_rule_40 : decode cX6_rule 40 = .ok (.aload_n 0, 1) := dk_42 (dk_at dksX6_rule_1 18 rfl rfl)
theorem dX6_rule_41 : decode cX6_rule 41 = .ok (.iconst 1, 1) := dk_4 (dk_at dksX6_rule_1 19 rfl rfl)
theorem dX6_rule_42 : decode cX6_rule 42 = .ok (.invokevirtual 317, 3) := dk_182 1 61 (dk_at dksX6_rule_1 20 rfl rfl)
theorem dX6_rule_45 : decode cX6_rule 45 = .ok (.aload_n 0, 1) := dk_42 (dk_at dksX6_rule_1 23 rfl rfl)
theorem dX6_rule_46 : decode cX6_rule 46 = .ok (.invokevirtual 367, 3) := dk_182 1 111 (dk_at dksX6_rule_2 0 rfl rfl)
theorem dX6_rule_49 : decode cX6_rule 49 = .ok (.aload_n 0, 1) := dk_42 (dk_at dksX6_rule_2 3 rfl rfl)
theorem dX6_rule_50 : decode cX6_rule 50 = .ok (.invokevirtual 321, 3) := dk_182 1 65 (dk_at dksX6_rule_2 4 rfl rfl)
theorem dX6_rule_53 : decode cX6_rule 53 = .ok (.lstore_n 2, 1) := dk_65 (dk_at dksX6_rule_2 7 rfl rfl)
theorem dX6_rule_54 : decode cX6_rule 54 = .ok (.lload_n 2, 1) := dk_32 (dk_at dksX6_rule_2 8 rfl rfl)
theorem dX6_rule_55 : decode cX6_rule 55 = .ok (.ldc2_w 388, 3) := dk_20 1 132 (dk_at dksX6_rule_2 9 rfl rfl)
theorem dX6_rule_58 : decode cX6_rule 58 = .ok (.lcmp, 1) := dk_148 (dk_at dksX6_rule_2 12 rfl rfl)
theorem dX6_rule_59 : decode cX6_rule 59 = .ok (.ifCond .ne 7, 3) := dk_154 0 7 (dk_at dksX6_rule_2 13 rfl rfl)
theorem dX6_rule_62 : decode cX6_rule 62 = .ok (.iconst 0, 1) := dk_3 (dk_at dksX6_rule_2 16 rfl rfl)
theorem dX6_rule_63 : decode cX6_rule 63 = .ok (.goto 28, 3) := dk_167 0 28 (dk_at dksX6_rule_2 17 rfl rfl)
theorem dX6_rule_66 : decode cX6_rule 66 = .ok (.lload_n 2, 1) := dk_32 (dk_at dksX6_rule_2 20 rfl rfl)
theorem dX6_rule_67 : decode cX6_rule 67 = .ok (.ldc2_w 390, 3) := dk_20 1 134 (dk_at dksX6_rule_2 21 rfl rfl)
theorem dX6_rule_70 : decode cX6_rule 70 = .ok (.lcmp, 1) := dk_148 (dk_at dksX6_rule_3 0 rfl rfl)
theorem dX6_rule_71 : decode cX6_rule 71 = .ok (.ifCond .ne 7, 3) := dk_154 0 7 (dk_at dksX6_rule_3 1 rfl rfl)
theorem dX6_rule_74 : decode cX6_rule 74 = .ok (.iconst 1, 1) := dk_4 (dk_at dksX6_rule_3 4 rfl rfl)
theorem dX6_rule_75 : decode cX6_rule 75 = .ok (.goto 16, 3) := dk_167 0 16 (dk_at dksX6_rule_3 5 rfl rfl)
theorem dX6_rule_78 : decode cX6_rule 78 = .ok (.lload_n 2, 1) := dk_32 (dk_at dksX6_rule_3 8 rfl rfl)
theorem dX6_rule_79 : decode cX6_rule 79 = .ok (.ldc2_w 392, 3) := dk_20 1 136 (dk_at dksX6_rule_3 9 rfl rfl)
theorem dX6_rule_82 : decode cX6_rule 82 = .ok (.lcmp, 1) := dk_148 (dk_at dksX6_rule_3 12 rfl rfl)
theorem dX6_rule_83 : decode cX6_rule 83 = .ok (.ifCond .ne 7, 3) := dk_154 0 7 (dk_at dksX6_rule_3 13 rfl rfl)
theorem dX6_rule_86 : decode cX6_rule 86 = .ok (.iconst 2, 1) := dk_5 (dk_at dksX6_rule_3 16 rfl rfl)
theorem dX6_rule_87 : decode cX6_rule 87 = .ok (.goto 4, 3) := dk_167 0 4 (dk_at dksX6_rule_3 17 rfl rfl)
theorem dX6_rule_90 : decode cX6_rule 90 = .ok (.iconst (-1), 1) := dk_2 (dk_at dksX6_rule_3 20 rfl rfl)
theorem dX6_rule_91 : decode cX6_rule 91 = .ok (.istore 4, 2) := dk_54 4 (dk_at dksX6_rule_3 21 rfl rfl)
theorem dX6_rule_93 : decode cX6_rule 93 = .ok (.aload_n 0, 1) := dk_42 (dk_at dksX6_rule_3 23 rfl rfl)
theorem dX6_rule_94 : decode cX6_rule 94 = .ok (.iload 4, 2) := dk_21 4 (dk_at dksX6_rule_4 0 rfl rfl)
theorem dX6_rule_96 : decode cX6_rule 96 = .ok (.ifCond .lt 7, 3) := dk_155 0 7 (dk_at dksX6_rule_4 2 rfl rfl)
theorem dX6_rule_99 : decode cX6_rule 99 = .ok (.iconst 1, 1) := dk_4 (dk_at dksX6_rule_4 5 rfl rfl)
theorem dX6_rule_100 : decode cX6_rule 100 = .ok (.goto 4, 3) := dk_167 0 4 (dk_at dksX6_rule_4 6 rfl rfl)
theorem dX6_rule_103 : decode cX6_rule 103 = .ok (.iconst 0, 1) := dk_3 (dk_at dksX6_rule_4 9 rfl rfl)
theorem dX6_rule_104 : decode cX6_rule 104 = .ok (.invokevirtual 317, 3) := dk_182 1 61 (dk_at dksX6_rule_4 10 rfl rfl)
theorem dX6_rule_107 : decode cX6_rule 107 = .ok (.aload_n 0, 1) := dk_42 (dk_at dksX6_rule_4 13 rfl rfl)
theorem dX6_rule_108 : decode cX6_rule 108 = .ok (.iconst 0, 1) := dk_3 (dk_at dksX6_rule_4 14 rfl rfl)
theorem dX6_rule_109 : decode cX6_rule 109 = .ok (.putfield 314, 3) := dk_181 1 58 (dk_at dksX6_rule_4 15 rfl rfl)
theorem dX6_rule_112 : decode cX6_rule 112 = .ok (.iload 4, 2) := dk_21 4 (dk_at dksX6_rule_4 18 rfl rfl)
theorem dX6_rule_114 : decode cX6_rule 114 = .ok (.ifCond .lt 22, 3) := dk_155 0 22 (dk_at dksX6_rule_4 20 rfl rfl)
theorem dX6_rule_117 : decode cX6_rule 117 = .ok (.iload 4, 2) := dk_21 4 (dk_at dksX6_rule_5 0 rfl rfl)
theorem dX6_rule_119 : decode cX6_rule 119 = .ok (.iconst 2, 1) := dk_5 (dk_at dksX6_rule_5 2 rfl rfl)
theorem dX6_rule_120 : decode cX6_rule 120 = .ok (.if_icmp .eq 16, 3) := dk_159 0 16 (dk_at dksX6_rule_5 3 rfl rfl)
theorem dX6_rule_123 : decode cX6_rule 123 = .ok (.aload_n 0, 1) := dk_42 (dk_at dksX6_rule_5 6 rfl rfl)
theorem dX6_rule_124 : decode cX6_rule 124 = .ok (.getfield 303, 3) := dk_180 1 47 (dk_at dksX6_rule_5 7 rfl rfl)
theorem dX6_rule_127 : decode cX6_rule 127 = .ok (.ifCond .ne 9, 3) := dk_154 0 9 (dk_at dksX6_rule_5 10 rfl rfl)
theorem dX6_rule_130 : decode cX6_rule 130 = .ok (.aload_n 0, 1) := dk_42 (dk_at dksX6_rule_5 13 rfl rfl)
theorem dX6_rule_131 : decode cX6_rule 131 = .ok (.bipush 99, 2) := dk_16 99 (dk_at dksX6_rule_5 14 rfl rfl)
theorem dX6_rule_133 : decode cX6_rule 133 = .ok (.invokevirtual 356, 3) := dk_182 1 100 (dk_at dksX6_rule_5 16 rfl rfl)
theorem dX6_rule_136 : decode cX6_rule 136 = .ok (.aload_n 0, 1) := dk_42 (dk_at dksX6_rule_5 19 rfl rfl)
theorem dX6_rule_137 : decode cX6_rule 137 = .ok (.getfield 314, 3) := dk_180 1 58 (dk_at dksX6_rule_5 20 rfl rfl)
theorem dX6_rule_140 : decode cX6_rule 140 = .ok (.istore 5, 2) := dk_54 5 (dk_at dksX6_rule_6 0 rfl rfl)
theorem dX6_rule_142 : decode cX6_rule 142 = .ok (.aload_n 0, 1) := dk_42 (dk_at dksX6_rule_6 2 rfl rfl)
theorem dX6_rule_143 : decode cX6_rule 143 = .ok (.aload_n 0, 1) := dk_42 (dk_at dksX6_rule_6 3 rfl rfl)
theorem dX6_rule_144 : decode cX6_rule 144 = .ok (.getfield 303, 3) := dk_180 1 47 (dk_at dksX6_rule_6 4 rfl rfl)
theorem dX6_rule_147 : decode cX6_rule 147 = .ok (.ifCond .ne 20, 3) := dk_154 0 20 (dk_at dksX6_rule_6 7 rfl rfl)
theorem dX6_rule_150 : decode cX6_rule 150 = .ok (.aload_n 0, 1) := dk_42 (dk_at dksX6_rule_6 10 rfl rfl)
theorem dX6_rule_151 : decode cX6_rule 151 = .ok (.aload_n 0, 1) := dk_42 (dk_at dksX6_rule_6 11 rfl rfl)
theorem dX6_rule_152 : decode cX6_rule 152 = .ok (.getfield 291, 3) := dk_180 1 35 (dk_at dksX6_rule_6 12 rfl rfl)
theorem dX6_rule_155 : decode cX6_rule 155 = .ok (.invokevirtual 294, 3) := dk_182 1 38 (dk_at dksX6_rule_6 15 rfl rfl)
theorem dX6_rule_158 : decode cX6_rule 158 = .ok (.bipush 59, 2) := dk_16 59 (dk_at dksX6_rule_6 18 rfl rfl)
theorem dX6_rule_160 : decode cX6_rule 160 = .ok (.if_icmp .ne 7, 3) := dk_160 0 7 (dk_at dksX6_rule_6 20 rfl rfl)
theorem dX6_rule_163 : decode cX6_rule 163 = .ok (.iconst 1, 1) := dk_4 (dk_at dksX6_rule_6 23 rfl rfl)
theorem dX6_rule_164 : decode cX6_rule 164 = .ok (.goto 4, 3) := dk_167 0 4 (dk_at dksX6_rule_7 0 rfl rfl)
theorem dX6_rule_167 : decode cX6_rule 167 = .ok (.iconst 0, 1) := dk_3 (dk_at dksX6_rule_7 3 rfl rfl)
theorem dX6_rule_168 : decode cX6_rule 168 = .ok (.invokevirtual 317, 3) := dk_182 1 61 (dk_at dksX6_rule_7 4 rfl rfl)
theorem dX6_rule_171 : decode cX6_rule 171 = .ok (.aload_n 0, 1) := dk_42 (dk_at dksX6_rule_7 7 rfl rfl)
theorem dX6_rule_172 : decode cX6_rule 172 = .ok (.getfield 303, 3) := dk_180 1 47 (dk_at dksX6_rule_7 8 rfl rfl)
theorem dX6_rule_175 : decode cX6_rule 175 = .ok (.ifCond .ne 72, 3) := dk_154 0 72 (dk_at dksX6_rule_7 11 rfl rfl)
theorem dX6_rule_178 : decode cX6_rule 178 = .ok (.sipush 136, 3) := dk_17 0 136 (dk_at dksX6_rule_7 14 rfl rfl)
theorem dX6_rule_181 : decode cX6_rule 181 = .ok (.iconst 4, 1) := dk_7 (dk_at dksX6_rule_7 17 rfl rfl)
theorem dX6_rule_182 : decode cX6_rule 182 = .ok (.aload_n 0, 1) := dk_42 (dk_at dksX6_rule_7 18 rfl rfl)
theorem dX6_rule_183 : decode cX6_rule 183 = .ok (.getfield 7, 3) := dk_180 0 7 (dk_at dksX6_rule_7 19 rfl rfl)
theorem dX6_rule_186 : decode cX6_rule 186 = .ok (.iconst 1, 1) := dk_4 (dk_at dksX6_rule_7 22 rfl rfl)
theorem dX6_rule_187 : decode cX6_rule 187 = .ok (.iaload, 1) := dk_46 (dk_at dksX6_rule_7 23 rfl rfl)
theorem dX6_rule_188 : decode cX6_rule 188 = .ok (.imul, 1) := dk_104 (dk_at dksX6_rule_8 0 rfl rfl)
theorem dX6_rule_189 : decode cX6_rule 189 = .ok (.iadd, 1) := dk_96 (dk_at dksX6_rule_8 1 rfl rfl)
theorem dX6_rule_190 : decode cX6_rule 190 = .ok (.istore 6, 2) := dk_54 6 (dk_at dksX6_rule_8 2 rfl rfl)
theorem dX6_rule_192 : decode cX6_rule 192 = .ok (.aload_n 0, 1) := dk_42 (dk_at dksX6_rule_8 4 rfl rfl)
theorem dX6_rule_193 : decode cX6_rule 193 = .ok (.getfield 7, 3) := dk_180 0 7 (dk_at dksX6_rule_8 5 rfl rfl)
theorem dX6_rule_196 : decode cX6_rule 196 = .ok (.iload 6, 2) := dk_21 6 (dk_at dksX6_rule_8 8 rfl rfl)
theorem dX6_rule_198 : decode cX6_rule 198 = .ok (.iconst 0, 1) := dk_3 (dk_at dksX6_rule_8 10 rfl rfl)
theorem dX6_rule_199 : decode cX6_rule 199 = .ok (.iadd, 1) := dk_96 (dk_at dksX6_rule_8 11 rfl rfl)
theorem dX6_rule_200 : decode cX6_rule 200 = .ok (.iload_n 1, 1) := dk_27 (dk_at dksX6_rule_8 12 rfl rfl)
theorem dX6_rule_201 : decode cX6_rule 201 = .ok (.iastore, 1) := dk_79 (dk_at dksX6_rule_8 13 rfl rfl)
theorem dX6_rule_202 : decode cX6_rule 202 = .ok (.aload_n 0, 1) := dk_42 (dk_at dksX6_rule_8 14 rfl rfl)
theorem dX6_rule_203 : decode cX6_rule 203 = .ok (.getfield 7, 3) := dk_180 0 7 (dk_at dksX6_rule_8 15 rfl rfl)
theorem dX6_rule_206 : decode cX6_rule 206 = .ok (.iload 6, 2) := dk_21 6 (dk_at dksX6_rule_8 18 rfl rfl)
theorem dX6_rule_208 : decode cX6_rule 208 = .ok (.iconst 1, 1) := dk_4 (dk_at dksX6_rule_8 20 rfl rfl)
theorem dX6_rule_209 : decode cX6_rule 209 = .ok (.iadd, 1) := dk_96 (dk_at dksX6_rule_8 21 rfl rfl)
theorem dX6_rule_210 : decode cX6_rule 210 = .ok (.iload 4, 2) := dk_21 4 (dk_at dksX6_rule_8 22 rfl rfl)
theorem dX6_rule_212 : decode cX6_rule 212 = .ok (.iastore, 1) := dk_79 (dk_at dksX6_rule_9 0 rfl rfl)
theorem dX6_rule_213 : decode cX6_rule 213 = .ok (.aload_n 0, 1) := dk_42 (dk_at dksX6_rule_9 1 rfl rfl)
theorem dX6_rule_214 : decode cX6_rule 214 = .ok (.getfield 7, 3) := dk_180 0 7 (dk_at dksX6_rule_9 2 rfl rfl)
theorem dX6_rule_217 : decode cX6_rule 217 = .ok (.iload 6, 2) := dk_21 6 (dk_at dksX6_rule_9 5 rfl rfl)
theorem dX6_rule_219 : decode cX6_rule 219 = .ok (.iconst 2, 1) := dk_5 (dk_at dksX6_rule_9 7 rfl rfl)
theorem dX6_rule_220 : decode cX6_rule 220 = .ok (.iadd, 1) := dk_96 (dk_at dksX6_rule_9 8 rfl rfl)
theorem dX6_rule_221 : decode cX6_rule 221 = .ok (.iload 5, 2) := dk_21 5 (dk_at dksX6_rule_9 9 rfl rfl)
theorem dX6_rule_223 : decode cX6_rule 223 = .ok (.iastore, 1) := dk_79 (dk_at dksX6_rule_9 11 rfl rfl)
theorem dX6_rule_224 : decode cX6_rule 224 = .ok (.aload_n 0, 1) := dk_42 (dk_at dksX6_rule_9 12 rfl rfl)
theorem dX6_rule_225 : decode cX6_rule 225 = .ok (.getfield 7, 3) := dk_180 0 7 (dk_at dksX6_rule_9 13 rfl rfl)
theorem dX6_rule_228 : decode cX6_rule 228 = .ok (.iload 6, 2) := dk_21 6 (dk_at dksX6_rule_9 16 rfl rfl)
theorem dX6_rule_230 : decode cX6_rule 230 = .ok (.iconst 3, 1) := dk_6 (dk_at dksX6_rule_9 18 rfl rfl)
theorem dX6_rule_231 : decode cX6_rule 231 = .ok (.iadd, 1) := dk_96 (dk_at dksX6_rule_9 19 rfl rfl)
theorem dX6_rule_232 : decode cX6_rule 232 = .ok (.aload_n 0, 1) := dk_42 (dk_at dksX6_rule_9 20 rfl rfl)
theorem dX6_rule_233 : decode cX6_rule 233 = .ok (.getfield 347, 3) := dk_180 1 91 (dk_at dksX6_rule_9 21 rfl rfl)
theorem dX6_rule_236 : decode cX6_rule 236 = .ok (.iastore, 1) := dk_79 (dk_at dksX6_rule_10 0 rfl rfl)
theorem dX6_rule_237 : decode cX6_rule 237 = .ok (.aload_n 0, 1) := dk_42 (dk_at dksX6_rule_10 1 rfl rfl)
theorem dX6_rule_238 : decode cX6_rule 238 = .ok (.getfield 7, 3) := dk_180 0 7 (dk_at dksX6_rule_10 2 rfl rfl)
theorem dX6_rule_241 : decode cX6_rule 241 = .ok (.iconst 1, 1) := dk_4 (dk_at dksX6_rule_10 5 rfl rfl)
theorem dX6_rule_242 : decode cX6_rule 242 = .ok (.dup2, 1) := dk_92 (dk_at dksX6_rule_10 6 rfl rfl)
theorem dX6_rule_243 : decode cX6_rule 243 = .ok (.iaload, 1) := dk_46 (dk_at dksX6_rule_10 7 rfl rfl)
theorem dX6_rule_244 : decode cX6_rule 244 = .ok (.iconst 1, 1) := dk_4 (dk_at dksX6_rule_10 8 rfl rfl)
theorem dX6_rule_245 : decode cX6_rule 245 = .ok (.iadd, 1) := dk_96 (dk_at dksX6_rule_10 9 rfl rfl)
theorem dX6_rule_246 : decode cX6_rule 246 = .ok (.iastore, 1) := dk_79 (dk_at dksX6_rule_10 10 rfl rfl)
theorem dX6_rule_247 : decode cX6_rule 247 = .ok (.return_, 1) := dk_177 (dk_at dksX6_rule_10 11 rfl rfl)
abbrev cX6_kindHere : ByteArray := prog_26_method_97_code
def yX6_kindHere : MethodName := ⟨RX6, "kindHere", "()I"⟩
def dkwX6_kindHere_3 : List UInt8 := [154, 0, 7, 8, 167, 0, 4, 2, 172]
abbrev dktX6_kindHere_3 : List UInt8 := dkwX6_kindHere_3 ++ []
def dkwX6_kindHere_2 : List UInt8 := [154, 0, 7, 6, 167, 0, 28, 31, 20, 1, 77, 148, 154, 0, 7, 7, 167, 0, 16, 31, 20, 1, 79, 148]
abbrev dktX6_kindHere_2 : List UInt8 := dkwX6_kindHere_2 ++ dktX6_kindHere_3
def dkwX6_kindHere_1 : List UInt8 := [154, 0, 7, 4, 167, 0, 52, 31, 20, 1, 73, 148, 154, 0, 7, 5, 167, 0, 40, 31, 20, 1, 75, 148]
abbrev dktX6_kindHere_1 : List UInt8 := dkwX6_kindHere_1 ++ dktX6_kindHere_2
def dkwX6_kindHere_0 : List UInt8 := [42, 182, 1, 65, 64, 31, 20, 1, 69, 148, 154, 0, 7, 3, 167, 0, 64, 31, 20, 1, 71, 148]
abbrev dktX6_kindHere_0 : List UInt8 := dkwX6_kindHere_0 ++ dktX6_kindHere_1
theorem dksX6_kindHere_0 : cX6_kindHere.data.toList.drop 0 = dktX6_kindHere_0 := by decide +kernel
theorem dksX6_kindHere_1 : cX6_kindHere.data.toList.drop 22 = dktX6_kindHere_1 := dk_seg dksX6_kindHere_0 22 rfl rfl
theorem dksX6_kindHere_2 : cX6_kindHere.data.toList.drop 46 = dktX6_kindHere_2 := dk_seg dksX6_kindHere_1 24 rfl rfl
theorem dksX6_kindHere_3 : cX6_kindHere.data.toList.drop 70 = dktX6_kindHere_3 := dk_seg dksX6_kindHere_2 24 rfl rfl
theorem dX6_kindHere_0 : decode cX6_kindHere 0 = .ok (.aload_n 0, 1) := dk_42 (dk_at dksX6_kindHere_0 0 rfl rfl)
theorem dX6_kindHere_1 : decode cX6_kindHere 1 = .ok (.invokevirtual 321, 3) := dk_182 1 65 (dk_at dksX6_kindHere_0 1 rfl rfl)
theorem dX6_kindHere_4 : decode cX6_kindHere 4 = .ok (.lstore_n 1, 1) := dk_64 (dk_at dksX6_kindHere_0 4 rfl rfl)
theorem dX6_kindHere_5 : decode cX6_kindHere 5 = .ok (.lload_n 1, 1) := dk_31 (dk_at dksX6_kindHere_0 5 rfl rfl)
theorem dX6_kindHere_6 : decode cX6_kindHere 6 = .ok (.ldc2_w 325, 3) := dk_20 1 69 (dk_at dksX6_kindHere_0 6 rfl rfl)
theorem dX6_kindHere_9 : decode cX6_kindHere 9 = .ok (.lcmp, 1) := dk_148 (dk_at dksX6_kindHere_0 9 rfl rfl)
theorem dX6_kindHere_10 : decode cX6_kindHere 10 = .ok (.ifCond .ne 7, 3) := dk_154 0 7 (dk_at dksX6_kindHere_0 10 rfl rfl)
theorem dX6_kindHere_13 : decode cX6_kindHere 13 = .ok (.iconst 0, 1) := dk_3 (dk_at dksX6_kindHere_0 13 rfl rfl)
theorem dX6_kindHere_14 : decode cX6_kindHere 14 = .ok (.goto 64, 3) := dk_167 0 64 (dk_at dksX6_kindHere_0 14 rfl rfl)
theorem dX6_kindHere_17 : decode cX6_kindHere 17 = .ok (.lload_n 1, 1) := dk_31 (dk_at dksX6_kindHere_0 17 rfl rfl)
theorem dX6_kindHere_18 : decode cX6_kindHere 18 = .ok (.ldc2_w 327, 3) := dk_20 1 71 (dk_at dksX6_kindHere_0 18 rfl rfl)
theorem dX6_kindHere_21 : decode cX6_kindHere 21 = .ok (.lcmp, 1) := dk_148 (dk_at dksX6_kindHere_0 21 rfl rfl)
theorem dX6_kindHere_22 : decode cX6_kindHere 22 = .ok (.ifCond .ne 7, 3) := dk_154 0 7 (dk_at dksX6_kindHere_1 0 rfl rfl)
theorem dX6_kindHere_25 : decode cX6_kindHere 25 = .ok (.iconst 1, 1) := dk_4 (dk_at dksX6_kindHere_1 3 rfl rfl)
theorem dX6_kindHere_26 : decode cX6_kindHere 26 = .ok (.goto 52, 3) := dk_167 0 52 (dk_at dksX6_kindHere_1 4 rfl rfl)
theorem dX6_kindHere_29 : decode cX6_kindHere 29 = .ok (.lload_n 1, 1) := dk_31 (dk_at dksX6_kindHere_1 7 rfl rfl)
theorem dX6_kindHere_30 : decode cX6_kindHere 30 = .ok (.ldc2_w 329, 3) := dk_20 1 73 (dk_at dksX6_kindHere_1 8 rfl rfl)
theorem dX6_kindHere_33 : decode cX6_kindHere 33 = .ok (.lcmp, 1) := dk_148 (dk_at dksX6_kindHere_1 11 rfl rfl)
theorem dX6_kindHere_34 : decode cX6_kindHere 34 = .ok (.ifCond .ne 7, 3) := dk_154 0 7 (dk_at dksX6_kindHere_1 12 rfl rfl)
theorem dX6_kindHere_37 : decode cX6_kindHere 37 = .ok (.iconst 2, 1) := dk_5 (dk_at dksX6_kindHere_1 15 rfl rfl)
theorem dX6_kindHere_38 : decode cX6_kindHere 38 = .ok (.goto 40, 3) := dk_167 0 40 (dk_at dksX6_kindHere_1 16 rfl rfl)
theorem dX6_kindHere_41 : decode cX6_kindHere 41 = .ok (.lload_n 1, 1) := dk_31 (dk_at dksX6_kindHere_1 19 rfl rfl)
theorem dX6_kindHere_42 : decode cX6_kindHere 42 = .ok (.ldc2_w 331, 3) := dk_20 1 75 (dk_at dksX6_kindHere_1 20 rfl rfl)
theorem dX6_kindHere_45 : decode cX6_kindHere 45 = .ok (.lcmp, 1) := dk_148 (dk_at dksX6_kindHere_1 23 rfl rfl)
theorem dX6_kindHere_46 : decode cX6_kindHere 46 = .ok (.ifCond .ne 7, 3) := dk_154 0 7 (dk_at dksX6_kindHere_2 0 rfl rfl)
theorem dX6_kindHere_49 : decode cX6_kindHere 49 = .ok (.iconst 3, 1) := dk_6 (dk_at dksX6_kindHere_2 3 rfl rfl)
theorem dX6_kindHere_50 : decode cX6_kindHere 50 = .ok (.goto 28, 3) := dk_167 0 28 (dk_at dksX6_kindHere_2 4 rfl rfl)
theorem dX6_kindHere_53 : decode cX6_kindHere 53 = .ok (.lload_n 1, 1) := dk_31 (dk_at dksX6_kindHere_2 7 rfl rfl)
theorem dX6_kindHere_54 : decode cX6_kindHere 54 = .ok (.ldc2_w 333, 3) := dk_20 1 77 (dk_at dksX6_kindHere_2 8 rfl rfl)
theorem dX6_kindHere_57 : decode cX6_kindHere 57 = .ok (.lcmp, 1) := dk_148 (dk_at dksX6_kindHere_2 11 rfl rfl)
theorem dX6_kindHere_58 : decode cX6_kindHere 58 = .ok (.ifCond .ne 7, 3) := dk_154 0 7 (dk_at dksX6_kindHere_2 12 rfl rfl)
theorem dX6_kindHere_61 : decode cX6_kindHere 61 = .ok (.iconst 4, 1) := dk_7 (dk_at dksX6_kindHere_2 15 rfl rfl)
theorem dX6_kindHere_62 : decode cX6_kindHere 62 = .ok (.goto 16, 3) := dk_167 0 16 (dk_at dksX6_kindHere_2 16 rfl rfl)
theorem dX6_kindHere_65 : decode cX6_kindHere 65 = .ok (.lload_n 1, 1) := dk_31 (dk_at dksX6_kindHere_2 19 rfl rfl)
theorem dX6_kindHere_66 : decode cX6_kindHere 66 = .ok (.ldc2_w 335, 3) := dk_20 1 79 (dk_at dksX6_kindHere_2 20 rfl rfl)
theorem dX6_kindHere_69 : decode cX6_kindHere 69 = .ok (.lcmp, 1) := dk_148 (dk_at dksX6_kindHere_2 23 rfl rfl)
theorem dX6_kindHere_70 : decode cX6_kindHere 70 = .ok (.ifCond .ne 7, 3) := dk_154 0 7 (dk_at dksX6_kindHere_3 0 rfl rfl)
theorem dX6_kindHere_73 : decode cX6_kindHere 73 = .ok (.iconst 5, 1) := dk_8 (dk_at dksX6_kindHere_3 3 rfl rfl)
theorem dX6_kindHere_74 : decode cX6_kindHere 74 = .ok (.goto 4, 3) := dk_167 0 4 (dk_at dksX6_kindHere_3 4 rfl rfl)
theorem dX6_kindHere_77 : decode cX6_kindHere 77 = .ok (.iconst (-1), 1) := dk_2 (dk_at dksX6_kindHere_3 7 rfl rfl)
theorem dX6_kindHere_78 : decode cX6_kindHere 78 = .ok (.ireturn, 1) := dk_172 (dk_at dksX6_kindHere_3 8 rfl rfl)
abbrev cX6_word : ByteArray := prog_26_method_95_code
def yX6_word : MethodName := ⟨RX6, "word", "()J"⟩
def dkwX6_word_3 : List UInt8 := [9, 167, 0, 4, 31, 173]
abbrev dktX6_word_3 : List UInt8 := dkwX6_word_3 ++ []
def dkwX6_word_2 : List UInt8 := [167, 255, 216, 42, 180, 1, 47, 154, 0, 17, 42, 42, 180, 1, 35, 182, 1, 38, 184, 1, 41, 154, 0, 7]
abbrev dktX6_word_2 : List UInt8 := dkwX6_word_2 ++ dktX6_word_3
def dkwX6_word_1 : List UInt8 := [167, 0, 19, 20, 1, 56, 31, 105, 42, 180, 0, 40, 29, 46, 16, 96, 100, 133, 97, 64, 132, 3, 1]
abbrev dktX6_word_1 : List UInt8 := dkwX6_word_1 ++ dktX6_word_2
def dkwX6_word_0 : List UInt8 := [9, 64, 42, 180, 1, 35, 62, 29, 42, 180, 1, 32, 162, 0, 38, 31, 20, 1, 54, 148, 158, 0, 7, 31]
abbrev dktX6_word_0 : List UInt8 := dkwX6_word_0 ++ dktX6_word_1
theorem dksX6_word_0 : cX6_word.data.toList.drop 0 = dktX6_word_0 := by decide +kernel
theorem dksX6_word_1 : cX6_word.data.toList.drop 24 = dktX6_word_1 := dk_seg dksX6_word_0 24 rfl rfl
theorem dksX6_word_2 : cX6_word.data.toList.drop 47 = dktX6_word_2 := dk_seg dksX6_word_1 23 rfl rfl
theorem dksX6_word_3 : cX6_word.data.toList.drop 71 = dktX6_word_3 := dk_seg dksX6_word_2 24 rfl rfl
theorem dX6_word_0 : decode cX6_word 0 = .ok (.lconst 0, 1) := dk_9 (dk_at dksX6_word_0 0 rfl rfl)
theorem dX6_word_1 : decode cX6_word 1 = .ok (.lstore_n 1, 1) := dk_64 (dk_at dksX6_word_0 1 rfl rfl)
theorem dX6_word_2 : decode cX6_word 2 = .ok (.aload_n 0, 1) := dk_42 (dk_at dksX6_word_0 2 rfl rfl)
theorem dX6_word_3 : decode cX6_word 3 = .ok (.getfield 291, 3) := dk_180 1 35 (dk_at dksX6_word_0 3 rfl rfl)
theorem dX6_word_6 : decode cX6_word 6 = .ok (.istore_n 3, 1) := dk_62 (dk_at dksX6_word_0 6 rfl rfl)
theorem dX6_word_7 : decode cX6_word 7 = .ok (.iload_n 3, 1) := dk_29 (dk_at dksX6_word_0 7 rfl rfl)
theorem dX6_word_8 : decode cX6_word 8 = .ok (.aload_n 0, 1) := dk_42 (dk_at dksX6_word_0 8 rfl rfl)
theorem dX6_word_9 : decode cX6_word 9 = .ok (.getfield 288, 3) := dk_180 1 32 (dk_at dksX6_word_0 9 rfl rfl)
theorem dX6_word_12 : decode cX6_word 12 = .ok (.if_icmp .ge 38, 3) := dk_162 0 38 (dk_at dksX6_word_0 12 rfl rfl)
theorem dX6_word_15 : decode cX6_word 15 = .ok (.lload_n 1, 1) := dk_31 (dk_at dksX6_word_0 15 rfl rfl)
theorem dX6_word_16 : decode cX6_word 16 = .ok (.ldc2_w 310, 3) := dk_20 1 54 (dk_at dksX6_word_0 16 rfl rfl)
theorem dX6_word_19 : decode cX6_word 19 = .ok (.lcmp, 1) := dk_148 (dk_at dksX6_word_0 19 rfl rfl)
theorem dX6_word_20 : decode cX6_word 20 = .ok (.ifCond .le 7, 3) := dk_158 0 7 (dk_at dksX6_word_0 20 rfl rfl)
theorem dX6_word_23 : decode cX6_word 23 = .ok (.lload_n 1, 1) := dk_31 (dk_at dksX6_word_0 23 rfl rfl)
theorem dX6_word_24 : decode cX6_word 24 = .ok (.goto 19, 3) := dk_167 0 19 (dk_at dksX6_word_1 0 rfl rfl)
theorem dX6_word_27 : decode cX6_word 27 = .ok (.ldc2_w 312, 3) := dk_20 1 56 (dk_at dksX6_word_1 3 rfl rfl)
theorem dX6_word_30 : decode cX6_word 30 = .ok (.lload_n 1, 1) := dk_31 (dk_at dksX6_word_1 6 rfl rfl)
theorem dX6_word_31 : decode cX6_word 31 = .ok (.lmul, 1) := dk_105 (dk_at dksX6_word_1 7 rfl rfl)
theorem dX6_word_32 : decode cX6_word 32 = .ok (.aload_n 0, 1) := dk_42 (dk_at dksX6_word_1 8 rfl rfl)
theorem dX6_word_33 : decode cX6_word 33 = .ok (.getfield 40, 3) := dk_180 0 40 (dk_at dksX6_word_1 9 rfl rfl)
theorem dX6_word_36 : decode cX6_word 36 = .ok (.iload_n 3, 1) := dk_29 (dk_at dksX6_word_1 12 rfl rfl)
theorem dX6_word_37 : decode cX6_word 37 = .ok (.iaload, 1) := dk_46 (dk_at dksX6_word_1 13 rfl rfl)
theorem dX6_word_38 : decode cX6_word 38 = .ok (.bipush 96, 2) := dk_16 96 (dk_at dksX6_word_1 14 rfl rfl)
theorem dX6_word_40 : decode cX6_word 40 = .ok (.isub, 1) := dk_100 (dk_at dksX6_word_1 16 rfl rfl)
theorem dX6_word_41 : decode cX6_word 41 = .ok (.i2l, 1) := dk_133 (dk_at dksX6_word_1 17 rfl rfl)
theorem dX6_word_42 : decode cX6_word 42 = .ok (.ladd, 1) := dk_97 (dk_at dksX6_word_1 18 rfl rfl)
theorem dX6_word_43 : decode cX6_word 43 = .ok (.lstore_n 1, 1) := dk_64 (dk_at dksX6_word_1 19 rfl rfl)
theorem dX6_word_44 : decode cX6_word 44 = .ok (.iinc 3 1, 3) := dk_132 3 1 (dk_at dksX6_word_1 20 rfl rfl)
theorem dX6_word_47 : decode cX6_word 47 = .ok (.goto (-40), 3) := dk_167 255 216 (dk_at dksX6_word_2 0 rfl rfl)
theorem dX6_word_50 : decode cX6_word 50 = .ok (.aload_n 0, 1) := dk_42 (dk_at dksX6_word_2 3 rfl rfl)
theorem dX6_word_51 : decode cX6_word 51 = .ok (.getfield 303, 3) := dk_180 1 47 (dk_at dksX6_word_2 4 rfl rfl)
theorem dX6_word_54 : decode cX6_word 54 = .ok (.ifCond .ne 17, 3) := dk_154 0 17 (dk_at dksX6_word_2 7 rfl rfl)
theorem dX6_word_57 : decode cX6_word 57 = .ok (.aload_n 0, 1) := dk_42 (dk_at dksX6_word_2 10 rfl rfl)
theorem dX6_word_58 : decode cX6_word 58 = .ok (.aload_n 0, 1) := dk_42 (dk_at dksX6_word_2 11 rfl rfl)
theorem dX6_word_59 : decode cX6_word 59 = .ok (.getfield 291, 3) := dk_180 1 35 (dk_at dksX6_word_2 12 rfl rfl)
theorem dX6_word_62 : decode cX6_word 62 = .ok (.invokevirtual 294, 3) := dk_182 1 38 (dk_at dksX6_word_2 15 rfl rfl)
theorem dX6_word_65 : decode cX6_word 65 = .ok (.invokestatic 297, 3) := dk_184 1 41 (dk_at dksX6_word_2 18 rfl rfl)
theorem dX6_word_68 : decode cX6_word 68 = .ok (.ifCond .ne 7, 3) := dk_154 0 7 (dk_at dksX6_word_2 21 rfl rfl)
theorem dX6_word_71 : decode cX6_word 71 = .ok (.lconst 0, 1) := dk_9 (dk_at dksX6_word_3 0 rfl rfl)
theorem dX6_word_72 : decode cX6_word 72 = .ok (.goto 4, 3) := dk_167 0 4 (dk_at dksX6_word_3 1 rfl rfl)
theorem dX6_word_75 : decode cX6_word 75 = .ok (.lload_n 1, 1) := dk_31 (dk_at dksX6_word_3 4 rfl rfl)
theorem dX6_word_76 : decode cX6_word 76 = .ok (.lreturn, 1) := dk_173 (dk_at dksX6_word_3 5 rfl rfl)
abbrev cX6_wants : ByteArray := prog_26_method_94_code
def yX6_wants : MethodName := ⟨RX6, "wants", "(Z)V"⟩
def dkwX6_wants_1 : List UInt8 := [154, 0, 7, 42, 182, 1, 51, 177]
abbrev dktX6_wants_1 : List UInt8 := dkwX6_wants_1 ++ []
def dkwX6_wants_0 : List UInt8 := [42, 42, 180, 1, 47, 154, 0, 7, 27, 154, 0, 7, 4, 167, 0, 4, 3, 181, 1, 47, 42, 180, 1, 47]
abbrev dktX6_wants_0 : List UInt8 := dkwX6_wants_0 ++ dktX6_wants_1
theorem dksX6_wants_0 : cX6_wants.data.toList.drop 0 = dktX6_wants_0 := by decide +kernel
theorem dksX6_wants_1 : cX6_wants.data.toList.drop 24 = dktX6_wants_1 := dk_seg dksX6_wants_0 24 rfl rfl
theorem dX6_wants_0 : decode cX6_wants 0 = .ok (.aload_n 0, 1) := dk_42 (dk_at dksX6_wants_0 0 rfl rfl)
theorem dX6_wants_1 : decode cX6_wants 1 = .ok (.aload_n 0, 1) := dk_42 (dk_at dksX6_wants_0 1 rfl rfl)
theorem dX6_wants_2 : decode cX6_wants 2 = .ok (.getfield 303, 3) := dk_180 1 47 (dk_at dksX6_wants_0 2 rfl rfl)
theorem dX6_wants_5 : decode cX6_wants 5 = .ok (.ifCond .ne 7, 3) := dk_154 0 7 (dk_at dksX6_wants_0 5 rfl rfl)
theorem dX6_wants_8 : decode cX6_wants 8 = .ok (.iload_n 1, 1) := dk_27 (dk_at dksX6_wants_0 8 rfl rfl)
theorem dX6_wants_9 : decode cX6_wants 9 = .ok (.ifCond .ne 7, 3) := dk_154 0 7 (dk_at dksX6_wants_0 9 rfl rfl)
theorem dX6_wants_12 : decode cX6_wants 12 = .ok (.iconst 1, 1) := dk_4 (dk_at dksX6_wants_0 12 rfl rfl)
theorem dX6_wants_13 : decode cX6_wants 13 = .ok (.goto 4, 3) := dk_167 0 4 (dk_at dksX6_wants_0 13 rfl rfl)
theorem dX6_wants_16 : decode cX6_wants 16 = .ok (.iconst 0, 1) := dk_3 (dk_at dksX6_wants_0 16 rfl rfl)
theorem dX6_wants_17 : decode cX6_wants 17 = .ok (.putfield 303, 3) := dk_181 1 47 (dk_at dksX6_wants_0 17 rfl rfl)
theorem dX6_wants_20 : decode cX6_wants 20 = .ok (.aload_n 0, 1) := dk_42 (dk_at dksX6_wants_0 20 rfl rfl)
theorem dX6_wants_21 : decode cX6_wants 21 = .ok (.getfield 303, 3) := dk_180 1 47 (dk_at dksX6_wants_0 21 rfl rfl)
theorem dX6_wants_24 : decode cX6_wants 24 = .ok (.ifCond .ne 7, 3) := dk_154 0 7 (dk_at dksX6_wants_1 0 rfl rfl)
theorem dX6_wants_27 : decode cX6_wants 27 = .ok (.aload_n 0, 1) := dk_42 (dk_at dksX6_wants_1 3 rfl rfl)
theorem dX6_wants_28 : decode cX6_wants 28 = .ok (.invokevirtual 307, 3) := dk_182 1 51 (dk_at dksX6_wants_1 4 rfl rfl)
theorem dX6_wants_31 : decode cX6_wants 31 = .ok (.return_, 1) := dk_177 (dk_at dksX6_wants_1 7 rfl rfl)
abbrev cX6_condition : ByteArray := prog_26_method_104_code
def yX6_condition : MethodName := ⟨RX6, "condition", "()V"⟩
def dkwX6_condition_1 : List UInt8 := [4, 182, 1, 61, 42, 182, 1, 122, 42, 16, 234, 182, 1, 97, 167, 255, 230, 177]
abbrev dktX6_condition_1 : List UInt8 := dkwX6_condition_1 ++ []
def dkwX6_condition_0 : List UInt8 := [42, 180, 1, 47, 153, 0, 4, 177, 42, 182, 1, 122, 42, 182, 1, 65, 20, 1, 125, 148, 154, 0, 21, 42]
abbrev dktX6_condition_0 : List UInt8 := dkwX6_condition_0 ++ dktX6_condition_1
theorem dksX6_condition_0 : cX6_condition.data.toList.drop 0 = dktX6_condition_0 := by decide +kernel
theorem dksX6_condition_1 : cX6_condition.data.toList.drop 24 = dktX6_condition_1 := dk_seg dksX6_condition_0 24 rfl rfl
theorem dX6_condition_0 : decode cX6_condition 0 = .ok (.aload_n 0, 1) := dk_42 (dk_at dksX6_condition_0 0 rfl rfl)
theorem dX6_condition_1 : decode cX6_condition 1 = .ok (.getfield 303, 3) := dk_180 1 47 (dk_at dksX6_condition_0 1 rfl rfl)
theorem dX6_condition_4 : decode cX6_condition 4 = .ok (.ifCond .eq 4, 3) := dk_153 0 4 (dk_at dksX6_condition_0 4 rfl rfl)
theorem dX6_condition_7 : decode cX6_condition 7 = .ok (.return_, 1) := dk_177 (dk_at dksX6_condition_0 7 rfl rfl)
theorem dX6_condition_8 : decode cX6_condition 8 = .ok (.aload_n 0, 1) := dk_42 (dk_at dksX6_condition_0 8 rfl rfl)
theorem dX6_condition_9 : decode cX6_condition 9 = .ok (.invokevirtual 378, 3) := dk_182 1 122 (dk_at dksX6_condition_0 9 rfl rfl)
theorem dX6_condition_12 : decode cX6_condition 12 = .ok (.aload_n 0, 1) := dk_42 (dk_at dksX6_condition_0 12 rfl rfl)
theorem dX6_condition_13 : decode cX6_condition 13 = .ok (.invokevirtual 321, 3) := dk_182 1 65 (dk_at dksX6_condition_0 13 rfl rfl)
theorem dX6_condition_16 : decode cX6_condition 16 = .ok (.ldc2_w 381, 3) := dk_20 1 125 (dk_at dksX6_condition_0 16 rfl rfl)
theorem dX6_condition_19 : decode cX6_condition 19 = .ok (.lcmp, 1) := dk_148 (dk_at dksX6_condition_0 19 rfl rfl)
theorem dX6_condition_20 : decode cX6_condition 20 = .ok (.ifCond .ne 21, 3) := dk_154 0 21 (dk_at dksX6_condition_0 20 rfl rfl)
theorem dX6_condition_23 : decode cX6_condition 23 = .ok (.aload_n 0, 1) := dk_42 (dk_at dksX6_condition_0 23 rfl rfl)
theorem dX6_condition_24 : decode cX6_condition 24 = .ok (.iconst 1, 1) := dk_4 (dk_at dksX6_condition_1 0 rfl rfl)
theorem dX6_condition_25 : decode cX6_condition 25 = .ok (.invokevirtual 317, 3) := dk_182 1 61 (dk_at dksX6_condition_1 1 rfl rfl)
theorem dX6_condition_28 : decode cX6_condition 28 = .ok (.aload_n 0, 1) := dk_42 (dk_at dksX6_condition_1 4 rfl rfl)
theorem dX6_condition_29 : decode cX6_condition 29 = .ok (.invokevirtual 378, 3) := dk_182 1 122 (dk_at dksX6_condition_1 5 rfl rfl)
theorem dX6_condition_32 : decode cX6_condition 32 = .ok (.aload_n 0, 1) := dk_42 (dk_at dksX6_condition_1 8 rfl rfl)
theorem dX6_condition_33 : decode cX6_condition 33 = .ok (.bipush (-22), 2) := dk_16 234 (dk_at dksX6_condition_1 9 rfl rfl)
theorem dX6_condition_35 : decode cX6_condition 35 = .ok (.invokevirtual 353, 3) := dk_182 1 97 (dk_at dksX6_condition_1 11 rfl rfl)
theorem dX6_condition_38 : decode cX6_condition 38 = .ok (.goto (-26), 3) := dk_167 255 230 (dk_at dksX6_condition_1 14 rfl rfl)
theorem dX6_condition_41 : decode cX6_condition 41 = .ok (.return_, 1) := dk_177 (dk_at dksX6_condition_1 17 rfl rfl)
abbrev cX6_all : ByteArray := prog_26_method_103_code
def yX6_all : MethodName := ⟨RX6, "all", "()V"⟩
def dkwX6_all_1 : List UInt8 := [42, 16, 235, 182, 1, 97, 167, 255, 230, 177]
abbrev dktX6_all_1 : List UInt8 := dkwX6_all_1 ++ []
def dkwX6_all_0 : List UInt8 := [42, 182, 1, 117, 42, 182, 1, 65, 20, 1, 120, 148, 154, 0, 21, 42, 4, 182, 1, 61, 42, 182, 1, 117]
abbrev dktX6_all_0 : List UInt8 := dkwX6_all_0 ++ dktX6_all_1
theorem dksX6_all_0 : cX6_all.data.toList.drop 0 = dktX6_all_0 := by decide +kernel
theorem dksX6_all_1 : cX6_all.data.toList.drop 24 = dktX6_all_1 := dk_seg dksX6_all_0 24 rfl rfl
theorem dX6_all_0 : decode cX6_all 0 = .ok (.aload_n 0, 1) := dk_42 (dk_at dksX6_all_0 0 rfl rfl)
theorem dX6_all_1 : decode cX6_all 1 = .ok (.invokevirtual 373, 3) := dk_182 1 117 (dk_at dksX6_all_0 1 rfl rfl)
theorem dX6_all_4 : decode cX6_all 4 = .ok (.aload_n 0, 1) := dk_42 (dk_at dksX6_all_0 4 rfl rfl)
theorem dX6_all_5 : decode cX6_all 5 = .ok (.invokevirtual 321, 3) := dk_182 1 65 (dk_at dksX6_all_0 5 rfl rfl)
theorem dX6_all_8 : decode cX6_all 8 = .ok (.ldc2_w 376, 3) := dk_20 1 120 (dk_at dksX6_all_0 8 rfl rfl)
theorem dX6_all_11 : decode cX6_all 11 = .ok (.lcmp, 1) := dk_148 (dk_at dksX6_all_0 11 rfl rfl)
theorem dX6_all_12 : decode cX6_all 12 = .ok (.ifCond .ne 21, 3) := dk_154 0 21 (dk_at dksX6_all_0 12 rfl rfl)
theorem dX6_all_15 : decode cX6_all 15 = .ok (.aload_n 0, 1) := dk_42 (dk_at dksX6_all_0 15 rfl rfl)
theorem dX6_all_16 : decode cX6_all 16 = .ok (.iconst 1, 1) := dk_4 (dk_at dksX6_all_0 16 rfl rfl)
theorem dX6_all_17 : decode cX6_all 17 = .ok (.invokevirtual 317, 3) := dk_182 1 61 (dk_at dksX6_all_0 17 rfl rfl)
theorem dX6_all_20 : decode cX6_all 20 = .ok (.aload_n 0, 1) := dk_42 (dk_at dksX6_all_0 20 rfl rfl)
theorem dX6_all_21 : decode cX6_all 21 = .ok (.invokevirtual 373, 3) := dk_182 1 117 (dk_at dksX6_all_0 21 rfl rfl)
theorem dX6_all_24 : decode cX6_all 24 = .ok (.aload_n 0, 1) := dk_42 (dk_at dksX6_all_1 0 rfl rfl)
theorem dX6_all_25 : decode cX6_all 25 = .ok (.bipush (-21), 2) := dk_16 235 (dk_at dksX6_all_1 1 rfl rfl)
theorem dX6_all_27 : decode cX6_all 27 = .ok (.invokevirtual 353, 3) := dk_182 1 97 (dk_at dksX6_all_1 3 rfl rfl)
theorem dX6_all_30 : decode cX6_all 30 = .ok (.goto (-26), 3) := dk_167 255 230 (dk_at dksX6_all_1 6 rfl rfl)
theorem dX6_all_33 : decode cX6_all 33 = .ok (.return_, 1) := dk_177 (dk_at dksX6_all_1 9 rfl rfl)
abbrev cX6_one : ByteArray := prog_26_method_102_code
def yX6_one : MethodName := ⟨RX6, "one", "()V"⟩
def dkwX6_one_5 : List UInt8 := [182, 1, 61, 167, 0, 7, 42, 182, 1, 114, 27, 153, 0, 9, 42, 16, 236, 182, 1, 97, 177]
abbrev dktX6_one_5 : List UInt8 := dkwX6_one_5 ++ []
def dkwX6_one_4 : List UInt8 := [180, 1, 47, 154, 0, 20, 42, 42, 180, 1, 35, 182, 1, 38, 16, 41, 160, 0, 7, 4, 167, 0, 4, 3]
abbrev dktX6_one_4 : List UInt8 := dkwX6_one_4 ++ dktX6_one_5
def dkwX6_one_3 : List UInt8 := [180, 1, 108, 4, 96, 181, 1, 108, 42, 182, 1, 111, 42, 89, 180, 1, 108, 4, 100, 181, 1, 108, 42, 42]
abbrev dktX6_one_3 : List UInt8 := dkwX6_one_3 ++ dktX6_one_4
def dkwX6_one_2 : List UInt8 := [160, 0, 76, 42, 42, 180, 1, 108, 6, 162, 0, 7, 4, 167, 0, 4, 3, 182, 1, 61, 42, 89]
abbrev dktX6_one_2 : List UInt8 := dkwX6_one_2 ++ dktX6_one_3
def dkwX6_one_1 : List UInt8 := [4, 182, 1, 61, 167, 255, 230, 42, 180, 1, 47, 154, 0, 89, 42, 42, 180, 1, 35, 182, 1, 38, 16, 40]
abbrev dktX6_one_1 : List UInt8 := dkwX6_one_1 ++ dktX6_one_2
def dkwX6_one_0 : List UInt8 := [3, 60, 42, 182, 1, 65, 20, 1, 106, 148, 154, 0, 21, 27, 154, 0, 7, 4, 167, 0, 4, 3, 60, 42]
abbrev dktX6_one_0 : List UInt8 := dkwX6_one_0 ++ dktX6_one_1
theorem dksX6_one_0 : cX6_one.data.toList.drop 0 = dktX6_one_0 := by decide +kernel
theorem dksX6_one_1 : cX6_one.data.toList.drop 24 = dktX6_one_1 := dk_seg dksX6_one_0 24 rfl rfl
theorem dksX6_one_2 : cX6_one.data.toList.drop 48 = dktX6_one_2 := dk_seg dksX6_one_1 24 rfl rfl
theorem dksX6_one_3 : cX6_one.data.toList.drop 70 = dktX6_one_3 := dk_seg dksX6_one_2 22 rfl rfl
theorem dksX6_one_4 : cX6_one.data.toList.drop 94 = dktX6_one_4 := dk_seg dksX6_one_3 24 rfl rfl
theorem dksX6_one_5 : cX6_one.data.toList.drop 118 = dktX6_one_5 := dk_seg dksX6_one_4 24 rfl rfl
theorem dX6_one_0 : decode cX6_one 0 = .ok (.iconst 0, 1) := dk_3 (dk_at dksX6_one_0 0 rfl rfl)
theorem dX6_one_1 : decode cX6_one 1 = .ok (.istore_n 1, 1) := dk_60 (dk_at dksX6_one_0 1 rfl rfl)
theorem dX6_one_2 : decode cX6_one 2 = .ok (.aload_n 0, 1) := dk_42 (dk_at dksX6_one_0 2 rfl rfl)
theorem dX6_one_3 : decode cX6_one 3 = .ok (.invokevirtual 321, 3) := dk_182 1 65 (dk_at dksX6_one_0 3 rfl rfl)
theorem dX6_one_6 : decode cX6_one 6 = .ok (.ldc2_w 362, 3) := dk_20 1 106 (dk_at dksX6_one_0 6 rfl rfl)
theorem dX6_one_9 : decode cX6_one 9 = .ok (.lcmp, 1) := dk_148 (dk_at dksX6_one_0 9 rfl rfl)
theorem dX6_one_10 : decode cX6_one 10 = .ok (.ifCond .ne 21, 3) := dk_154 0 21 (dk_at dksX6_one_0 10 rfl rfl)
theorem dX6_one_13 : decode cX6_one 13 = .ok (.iload_n 1, 1) := dk_27 (dk_at dksX6_one_0 13 rfl rfl)
theorem dX6_one_14 : decode cX6_one 14 = .ok (.ifCond .ne 7, 3) := dk_154 0 7 (dk_at dksX6_one_0 14 rfl rfl)
theorem dX6_one_17 : decode cX6_one 17 = .ok (.iconst 1, 1) := dk_4 (dk_at dksX6_one_0 17 rfl rfl)
theorem dX6_one_18 : decode cX6_one 18 = .ok (.goto 4, 3) := dk_167 0 4 (dk_at dksX6_one_0 18 rfl rfl)
theorem dX6_one_21 : decode cX6_one 21 = .ok (.iconst 0, 1) := dk_3 (dk_at dksX6_one_0 21 rfl rfl)
theorem dX6_one_22 : decode cX6_one 22 = .ok (.istore_n 1, 1) := dk_60 (dk_at dksX6_one_0 22 rfl rfl)
theorem dX6_one_23 : decode cX6_one 23 = .ok (.aload_n 0, 1) := dk_42 (dk_at dksX6_one_0 23 rfl rfl)
theorem dX6_one_24 : decode cX6_one 24 = .ok (.iconst 1, 1) := dk_4 (dk_at dksX6_one_1 0 rfl rfl)
theorem dX6_one_25 : decode cX6_one 25 = .ok (.invokevirtual 317, 3) := dk_182 1 61 (dk_at dksX6_one_1 1 rfl rfl)
theorem dX6_one_28 : decode cX6_one 28 = .ok (.goto (-26), 3) := dk_167 255 230 (dk_at dksX6_one_1 4 rfl rfl)
theorem dX6_one_31 : decode cX6_one 31 = .ok (.aload_n 0, 1) := dk_42 (dk_at dksX6_one_1 7 rfl rfl)
theorem dX6_one_32 : decode cX6_one 32 = .ok (.getfield 303, 3) := dk_180 1 47 (dk_at dksX6_one_1 8 rfl rfl)
theorem dX6_one_35 : decode cX6_one 35 = .ok (.ifCond .ne 89, 3) := dk_154 0 89 (dk_at dksX6_one_1 11 rfl rfl)
theorem dX6_one_38 : decode cX6_one 38 = .ok (.aload_n 0, 1) := dk_42 (dk_at dksX6_one_1 14 rfl rfl)
theorem dX6_one_39 : decode cX6_one 39 = .ok (.aload_n 0, 1) := dk_42 (dk_at dksX6_one_1 15 rfl rfl)
theorem dX6_one_40 : decode cX6_one 40 = .ok (.getfield 291, 3) := dk_180 1 35 (dk_at dksX6_one_1 16 rfl rfl)
theorem dX6_one_43 : decode cX6_one 43 = .ok (.invokevirtual 294, 3) := dk_182 1 38 (dk_at dksX6_one_1 19 rfl rfl)
theorem dX6_one_46 : decode cX6_one 46 = .ok (.bipush 40, 2) := dk_16 40 (dk_at dksX6_one_1 22 rfl rfl)
theorem dX6_one_48 : decode cX6_one 48 = .ok (.if_icmp .ne 76, 3) := dk_160 0 76 (dk_at dksX6_one_2 0 rfl rfl)
theorem dX6_one_51 : decode cX6_one 51 = .ok (.aload_n 0, 1) := dk_42 (dk_at dksX6_one_2 3 rfl rfl)
theorem dX6_one_52 : decode cX6_one 52 = .ok (.aload_n 0, 1) := dk_42 (dk_at dksX6_one_2 4 rfl rfl)
theorem dX6_one_53 : decode cX6_one 53 = .ok (.getfield 364, 3) := dk_180 1 108 (dk_at dksX6_one_2 5 rfl rfl)
theorem dX6_one_56 : decode cX6_one 56 = .ok (.iconst 3, 1) := dk_6 (dk_at dksX6_one_2 8 rfl rfl)
theorem dX6_one_57 : decode cX6_one 57 = .ok (.if_icmp .ge 7, 3) := dk_162 0 7 (dk_at dksX6_one_2 9 rfl rfl)
theorem dX6_one_60 : decode cX6_one 60 = .ok (.iconst 1, 1) := dk_4 (dk_at dksX6_one_2 12 rfl rfl)
theorem dX6_one_61 : decode cX6_one 61 = .ok (.goto 4, 3) := dk_167 0 4 (dk_at dksX6_one_2 13 rfl rfl)
theorem dX6_one_64 : decode cX6_one 64 = .ok (.iconst 0, 1) := dk_3 (dk_at dksX6_one_2 16 rfl rfl)
theorem dX6_one_65 : decode cX6_one 65 = .ok (.invokevirtual 317, 3) := dk_182 1 61 (dk_at dksX6_one_2 17 rfl rfl)
theorem dX6_one_68 : decode cX6_one 68 = .ok (.aload_n 0, 1) := dk_42 (dk_at dksX6_one_2 20 rfl rfl)
theorem dX6_one_69 : decode cX6_one 69 = .ok (.dup, 1) := dk_89 (dk_at dksX6_one_2 21 rfl rfl)
theorem dX6_one_70 : decode cX6_one 70 = .ok (.getfield 364, 3) := dk_180 1 108 (dk_at dksX6_one_3 0 rfl rfl)
theorem dX6_one_73 : decode cX6_one 73 = .ok (.iconst 1, 1) := dk_4 (dk_at dksX6_one_3 3 rfl rfl)
theorem dX6_one_74 : decode cX6_one 74 = .ok (.iadd, 1) := dk_96 (dk_at dksX6_one_3 4 rfl rfl)
theorem dX6_one_75 : decode cX6_one 75 = .ok (.putfield 364, 3) := dk_181 1 108 (dk_at dksX6_one_3 5 rfl rfl)
theorem dX6_one_78 : decode cX6_one 78 = .ok (.aload_n 0, 1) := dk_42 (dk_at dksX6_one_3 8 rfl rfl)
theorem dX6_one_79 : decode cX6_one 79 = .ok (.invokevirtual 367, 3) := dk_182 1 111 (dk_at dksX6_one_3 9 rfl rfl)
theorem dX6_one_82 : decode cX6_one 82 = .ok (.aload_n 0, 1) := dk_42 (dk_at dksX6_one_3 12 rfl rfl)
theorem dX6_one_83 : decode cX6_one 83 = .ok (.dup, 1) := dk_89 (dk_at dksX6_one_3 13 rfl rfl)
theorem dX6_one_84 : decode cX6_one 84 = .ok (.getfield 364, 3) := dk_180 1 108 (dk_at dksX6_one_3 14 rfl rfl)
theorem dX6_one_87 : decode cX6_one 87 = .ok (.iconst 1, 1) := dk_4 (dk_at dksX6_one_3 17 rfl rfl)
theorem dX6_one_88 : decode cX6_one 88 = .ok (.isub, 1) := dk_100 (dk_at dksX6_one_3 18 rfl rfl)
theorem dX6_one_89 : decode cX6_one 89 = .ok (.putfield 364, 3) := dk_181 1 108 (dk_at dksX6_one_3 19 rfl rfl)
theorem dX6_one_92 : decode cX6_one 92 = .ok (.aload_n 0, 1) := dk_42 (dk_at dksX6_one_3 22 rfl rfl)
theorem dX6_one_93 : decode cX6_one 93 = .ok (.aload_n 0, 1) := dk_42 (dk_at dksX6_one_3 23 rfl rfl)
theorem dX6_one_94 : decode cX6_one 94 = .ok (.getfield 303, 3) := dk_180 1 47 (dk_at dksX6_one_4 0 rfl rfl)
theorem dX6_one_97 : decode cX6_one 97 = .ok (.ifCond .ne 20, 3) := dk_154 0 20 (dk_at dksX6_one_4 3 rfl rfl)
theorem dX6_one_100 : decode cX6_one 100 = .ok (.aload_n 0, 1) := dk_42 (dk_at dksX6_one_4 6 rfl rfl)
theorem dX6_one_101 : decode cX6_one 101 = .ok (.aload_n 0, 1) := dk_42 (dk_at dksX6_one_4 7 rfl rfl)
theorem dX6_one_102 : decode cX6_one 102 = .ok (.getfield 291, 3) := dk_180 1 35 (dk_at dksX6_one_4 8 rfl rfl)
theorem dX6_one_105 : decode cX6_one 105 = .ok (.invokevirtual 294, 3) := dk_182 1 38 (dk_at dksX6_one_4 11 rfl rfl)
theorem dX6_one_108 : decode cX6_one 108 = .ok (.bipush 41, 2) := dk_16 41 (dk_at dksX6_one_4 14 rfl rfl)
theorem dX6_one_110 : decode cX6_one 110 = .ok (.if_icmp .ne 7, 3) := dk_160 0 7 (dk_at dksX6_one_4 16 rfl rfl)
theorem dX6_one_113 : decode cX6_one 113 = .ok (.iconst 1, 1) := dk_4 (dk_at dksX6_one_4 19 rfl rfl)
theorem dX6_one_114 : decode cX6_one 114 = .ok (.goto 4, 3) := dk_167 0 4 (dk_at dksX6_one_4 20 rfl rfl)
theorem dX6_one_117 : decode cX6_one 117 = .ok (.iconst 0, 1) := dk_3 (dk_at dksX6_one_4 23 rfl rfl)
theorem dX6_one_118 : decode cX6_one 118 = .ok (.invokevirtual 317, 3) := dk_182 1 61 (dk_at dksX6_one_5 0 rfl rfl)
theorem dX6_one_121 : decode cX6_one 121 = .ok (.goto 7, 3) := dk_167 0 7 (dk_at dksX6_one_5 3 rfl rfl)
theorem dX6_one_124 : decode cX6_one 124 = .ok (.aload_n 0, 1) := dk_42 (dk_at dksX6_one_5 6 rfl rfl)
theorem dX6_one_125 : decode cX6_one 125 = .ok (.invokevirtual 370, 3) := dk_182 1 114 (dk_at dksX6_one_5 7 rfl rfl)
theorem dX6_one_128 : decode cX6_one 128 = .ok (.iload_n 1, 1) := dk_27 (dk_at dksX6_one_5 10 rfl rfl)
theorem dX6_one_129 : decode cX6_one 129 = .ok (.ifCond .eq 9, 3) := dk_153 0 9 (dk_at dksX6_one_5 11 rfl rfl)
theorem dX6_one_132 : decode cX6_one 132 = .ok (.aload_n 0, 1) := dk_42 (dk_at dksX6_one_5 14 rfl rfl)
theorem dX6_one_133 : decode cX6_one 133 = .ok (.bipush (-20), 2) := dk_16 236 (dk_at dksX6_one_5 15 rfl rfl)
theorem dX6_one_135 : decode cX6_one 135 = .ok (.invokevirtual 353, 3) := dk_182 1 97 (dk_at dksX6_one_5 17 rfl rfl)
theorem dX6_one_138 : decode cX6_one 138 = .ok (.return_, 1) := dk_177 (dk_at dksX6_one_5 20 rfl rfl)
abbrev cX6_comparison : ByteArray := prog_26_method_101_code
def yX6_comparison : MethodName := ⟨RX6, "comparison", "()V"⟩
def dkwX6_comparison_3 : List UInt8 := [160, 0, 8, 16, 244, 167, 0, 5, 16, 243, 182, 1, 97, 177]
abbrev dktX6_comparison_3 : List UInt8 := dkwX6_comparison_3 ++ []
def dkwX6_comparison_2 : List UInt8 := [182, 1, 61, 42, 182, 1, 103, 42, 27, 16, 60, 160, 0, 8, 16, 245, 167, 0, 16, 27, 16, 61]
abbrev dktX6_comparison_2 : List UInt8 := dkwX6_comparison_2 ++ dktX6_comparison_3
def dkwX6_comparison_1 : List UInt8 := [42, 27, 16, 60, 159, 0, 15, 27, 16, 61, 159, 0, 9, 27, 16, 62, 160, 0, 7, 4, 167, 0, 4, 3]
abbrev dktX6_comparison_1 : List UInt8 := dkwX6_comparison_1 ++ dktX6_comparison_2
def dkwX6_comparison_0 : List UInt8 := [42, 182, 1, 103, 42, 180, 1, 47, 153, 0, 7, 2, 167, 0, 11, 42, 42, 180, 1, 35, 182, 1, 38, 60]
abbrev dktX6_comparison_0 : List UInt8 := dkwX6_comparison_0 ++ dktX6_comparison_1
theorem dksX6_comparison_0 : cX6_comparison.data.toList.drop 0 = dktX6_comparison_0 := by decide +kernel
theorem dksX6_comparison_1 : cX6_comparison.data.toList.drop 24 = dktX6_comparison_1 := dk_seg dksX6_comparison_0 24 rfl rfl
theorem dksX6_comparison_2 : cX6_comparison.data.toList.drop 48 = dktX6_comparison_2 := dk_seg dksX6_comparison_1 24 rfl rfl
theorem dksX6_comparison_3 : cX6_comparison.data.toList.drop 70 = dktX6_comparison_3 := dk_seg dksX6_comparison_2 22 rfl rfl
theorem dX6_comparison_0 : decode cX6_comparison 0 = .ok (.aload_n 0, 1) := dk_42 (dk_at dksX6_comparison_0 0 rfl rfl)
theorem dX6_comparison_1 : decode cX6_comparison 1 = .ok (.invokevirtual 359, 3) := dk_182 1 103 (dk_at dksX6_comparison_0 1 rfl rfl)
theorem dX6_comparison_4 : decode cX6_comparison 4 = .ok (.aload_n 0, 1) := dk_42 (dk_at dksX6_comparison_0 4 rfl rfl)
theorem dX6_comparison_5 : decode cX6_comparison 5 = .ok (.getfield 303, 3) := dk_180 1 47 (dk_at dksX6_comparison_0 5 rfl rfl)
theorem dX6_comparison_8 : decode cX6_comparison 8 = .ok (.ifCond .eq 7, 3) := dk_153 0 7 (dk_at dksX6_comparison_0 8 rfl rfl)
theorem dX6_comparison_11 : decode cX6_comparison 11 = .ok (.iconst (-1), 1) := dk_2 (dk_at dksX6_comparison_0 11 rfl rfl)
theorem dX6_comparison_12 : decode cX6_comparison 12 = .ok (.goto 11, 3) := dk_167 0 11 (dk_at dksX6_comparison_0 12 rfl rfl)
theorem dX6_comparison_15 : decode cX6_comparison 15 = .ok (.aload_n 0, 1) := dk_42 (dk_at dksX6_comparison_0 15 rfl rfl)
theorem dX6_comparison_16 : decode cX6_comparison 16 = .ok (.aload_n 0, 1) := dk_42 (dk_at dksX6_comparison_0 16 rfl rfl)
theorem dX6_comparison_17 : decode cX6_comparison 17 = .ok (.getfield 291, 3) := dk_180 1 35 (dk_at dksX6_comparison_0 17 rfl rfl)
theorem dX6_comparison_20 : decode cX6_comparison 20 = .ok (.invokevirtual 294, 3) := dk_182 1 38 (dk_at dksX6_comparison_0 20 rfl rfl)
theorem dX6_comparison_23 : decode cX6_comparison 23 = .ok (.istore_n 1, 1) := dk_60 (dk_at dksX6_comparison_0 23 rfl rfl)
theorem dX6_comparison_24 : decode cX6_comparison 24 = .ok (.aload_n 0, 1) := dk_42 (dk_at dksX6_comparison_1 0 rfl rfl)
theorem dX6_comparison_25 : decode cX6_comparison 25 = .ok (.iload_n 1, 1) := dk_27 (dk_at dksX6_comparison_1 1 rfl rfl)
theorem dX6_comparison_26 : decode cX6_comparison 26 = .ok (.bipush 60, 2) := dk_16 60 (dk_at dksX6_comparison_1 2 rfl rfl)
theorem dX6_comparison_28 : decode cX6_comparison 28 = .ok (.if_icmp .eq 15, 3) := dk_159 0 15 (dk_at dksX6_comparison_1 4 rfl rfl)
theorem dX6_comparison_31 : decode cX6_comparison 31 = .ok (.iload_n 1, 1) := dk_27 (dk_at dksX6_comparison_1 7 rfl rfl)
theorem dX6_comparison_32 : decode cX6_comparison 32 = .ok (.bipush 61, 2) := dk_16 61 (dk_at dksX6_comparison_1 8 rfl rfl)
theorem dX6_comparison_34 : decode cX6_comparison 34 = .ok (.if_icmp .eq 9, 3) := dk_159 0 9 (dk_at dksX6_comparison_1 10 rfl rfl)
theorem dX6_comparison_37 : decode cX6_comparison 37 = .ok (.iload_n 1, 1) := dk_27 (dk_at dksX6_comparison_1 13 rfl rfl)
theorem dX6_comparison_38 : decode cX6_comparison 38 = .ok (.bipush 62, 2) := dk_16 62 (dk_at dksX6_comparison_1 14 rfl rfl)
theorem dX6_comparison_40 : decode cX6_comparison 40 = .ok (.if_icmp .ne 7, 3) := dk_160 0 7 (dk_at dksX6_comparison_1 16 rfl rfl)
theorem dX6_comparison_43 : decode cX6_comparison 43 = .ok (.iconst 1, 1) := dk_4 (dk_at dksX6_comparison_1 19 rfl rfl)
theorem dX6_comparison_44 : decode cX6_comparison 44 = .ok (.goto 4, 3) := dk_167 0 4 (dk_at dksX6_comparison_1 20 rfl rfl)
theorem dX6_comparison_47 : decode cX6_comparison 47 = .ok (.iconst 0, 1) := dk_3 (dk_at dksX6_comparison_1 23 rfl rfl)
theorem dX6_comparison_48 : decode cX6_comparison 48 = .ok (.invokevirtual 317, 3) := dk_182 1 61 (dk_at dksX6_comparison_2 0 rfl rfl)
theorem dX6_comparison_51 : decode cX6_comparison 51 = .ok (.aload_n 0, 1) := dk_42 (dk_at dksX6_comparison_2 3 rfl rfl)
theorem dX6_comparison_52 : decode cX6_comparison 52 = .ok (.invokevirtual 359, 3) := dk_182 1 103 (dk_at dksX6_comparison_2 4 rfl rfl)
theorem dX6_comparison_55 : decode cX6_comparison 55 = .ok (.aload_n 0, 1) := dk_42 (dk_at dksX6_comparison_2 7 rfl rfl)
theorem dX6_comparison_56 : decode cX6_comparison 56 = .ok (.iload_n 1, 1) := dk_27 (dk_at dksX6_comparison_2 8 rfl rfl)
theorem dX6_comparison_57 : decode cX6_comparison 57 = .ok (.bipush 60, 2) := dk_16 60 (dk_at dksX6_comparison_2 9 rfl rfl)
theorem dX6_comparison_59 : decode cX6_comparison 59 = .ok (.if_icmp .ne 8, 3) := dk_160 0 8 (dk_at dksX6_comparison_2 11 rfl rfl)
theorem dX6_comparison_62 : decode cX6_comparison 62 = .ok (.bipush (-11), 2) := dk_16 245 (dk_at dksX6_comparison_2 14 rfl rfl)
theorem dX6_comparison_64 : decode cX6_comparison 64 = .ok (.goto 16, 3) := dk_167 0 16 (dk_at dksX6_comparison_2 16 rfl rfl)
theorem dX6_comparison_67 : decode cX6_comparison 67 = .ok (.iload_n 1, 1) := dk_27 (dk_at dksX6_comparison_2 19 rfl rfl)
theorem dX6_comparison_68 : decode cX6_comparison 68 = .ok (.bipush 61, 2) := dk_16 61 (dk_at dksX6_comparison_2 20 rfl rfl)
theorem dX6_comparison_70 : decode cX6_comparison 70 = .ok (.if_icmp .ne 8, 3) := dk_160 0 8 (dk_at dksX6_comparison_3 0 rfl rfl)
theorem dX6_comparison_73 : decode cX6_comparison 73 = .ok (.bipush (-12), 2) := dk_16 244 (dk_at dksX6_comparison_3 3 rfl rfl)
theorem dX6_comparison_75 : decode cX6_comparison 75 = .ok (.goto 5, 3) := dk_167 0 5 (dk_at dksX6_comparison_3 5 rfl rfl)
theorem dX6_comparison_78 : decode cX6_comparison 78 = .ok (.bipush (-13), 2) := dk_16 243 (dk_at dksX6_comparison_3 8 rfl rfl)
theorem dX6_comparison_80 : decode cX6_comparison 80 = .ok (.invokevirtual 353, 3) := dk_182 1 97 (dk_at dksX6_comparison_3 10 rfl rfl)
theorem dX6_comparison_83 : decode cX6_comparison 83 = .ok (.return_, 1) := dk_177 (dk_at dksX6_comparison_3 13 rfl rfl)
abbrev cX6_valueHere : ByteArray := prog_26_method_100_code
def yX6_valueHere : MethodName := ⟨RX6, "valueHere", "()V"⟩
def dkwX6_valueHere_1 : List UInt8 := [180, 1, 47, 154, 0, 18, 42, 17, 39, 15, 182, 1, 100, 42, 42, 180, 1, 58, 182, 1, 97, 177]
abbrev dktX6_valueHere_1 : List UInt8 := dkwX6_valueHere_1 ++ []
def dkwX6_valueHere_0 : List UInt8 := [42, 182, 1, 94, 60, 27, 156, 0, 16, 42, 4, 182, 1, 61, 42, 27, 182, 1, 97, 167, 0, 25, 42]
abbrev dktX6_valueHere_0 : List UInt8 := dkwX6_valueHere_0 ++ dktX6_valueHere_1
theorem dksX6_valueHere_0 : cX6_valueHere.data.toList.drop 0 = dktX6_valueHere_0 := by decide +kernel
theorem dksX6_valueHere_1 : cX6_valueHere.data.toList.drop 23 = dktX6_valueHere_1 := dk_seg dksX6_valueHere_0 23 rfl rfl
theorem dX6_valueHere_0 : decode cX6_valueHere 0 = .ok (.aload_n 0, 1) := dk_42 (dk_at dksX6_valueHere_0 0 rfl rfl)
theorem dX6_valueHere_1 : decode cX6_valueHere 1 = .ok (.invokevirtual 350, 3) := dk_182 1 94 (dk_at dksX6_valueHere_0 1 rfl rfl)
theorem dX6_valueHere_4 : decode cX6_valueHere 4 = .ok (.istore_n 1, 1) := dk_60 (dk_at dksX6_valueHere_0 4 rfl rfl)
theorem dX6_valueHere_5 : decode cX6_valueHere 5 = .ok (.iload_n 1, 1) := dk_27 (dk_at dksX6_valueHere_0 5 rfl rfl)
theorem dX6_valueHere_6 : decode cX6_valueHere 6 = .ok (.ifCond .ge 16, 3) := dk_156 0 16 (dk_at dksX6_valueHere_0 6 rfl rfl)
theorem dX6_valueHere_9 : decode cX6_valueHere 9 = .ok (.aload_n 0, 1) := dk_42 (dk_at dksX6_valueHere_0 9 rfl rfl)
theorem dX6_valueHere_10 : decode cX6_valueHere 10 = .ok (.iconst 1, 1) := dk_4 (dk_at dksX6_valueHere_0 10 rfl rfl)
theorem dX6_valueHere_11 : decode cX6_valueHere 11 = .ok (.invokevirtual 317, 3) := dk_182 1 61 (dk_at dksX6_valueHere_0 11 rfl rfl)
theorem dX6_valueHere_14 : decode cX6_valueHere 14 = .ok (.aload_n 0, 1) := dk_42 (dk_at dksX6_valueHere_0 14 rfl rfl)
theorem dX6_valueHere_15 : decode cX6_valueHere 15 = .ok (.iload_n 1, 1) := dk_27 (dk_at dksX6_valueHere_0 15 rfl rfl)
theorem dX6_valueHere_16 : decode cX6_valueHere 16 = .ok (.invokevirtual 353, 3) := dk_182 1 97 (dk_at dksX6_valueHere_0 16 rfl rfl)
theorem dX6_valueHere_19 : decode cX6_valueHere 19 = .ok (.goto 25, 3) := dk_167 0 25 (dk_at dksX6_valueHere_0 19 rfl rfl)
theorem dX6_valueHere_22 : decode cX6_valueHere 22 = .ok (.aload_n 0, 1) := dk_42 (dk_at dksX6_valueHere_0 22 rfl rfl)
theorem dX6_valueHere_23 : decode cX6_valueHere 23 = .ok (.getfield 303, 3) := dk_180 1 47 (dk_at dksX6_valueHere_1 0 rfl rfl)
theorem dX6_valueHere_26 : decode cX6_valueHere 26 = .ok (.ifCond .ne 18, 3) := dk_154 0 18 (dk_at dksX6_valueHere_1 3 rfl rfl)
theorem dX6_valueHere_29 : decode cX6_valueHere 29 = .ok (.aload_n 0, 1) := dk_42 (dk_at dksX6_valueHere_1 6 rfl rfl)
theorem dX6_valueHere_30 : decode cX6_valueHere 30 = .ok (.sipush 9999, 3) := dk_17 39 15 (dk_at dksX6_valueHere_1 7 rfl rfl)
theorem dX6_valueHere_33 : decode cX6_valueHere 33 = .ok (.invokevirtual 356, 3) := dk_182 1 100 (dk_at dksX6_valueHere_1 10 rfl rfl)
theorem dX6_valueHere_36 : decode cX6_valueHere 36 = .ok (.aload_n 0, 1) := dk_42 (dk_at dksX6_valueHere_1 13 rfl rfl)
theorem dX6_valueHere_37 : decode cX6_valueHere 37 = .ok (.aload_n 0, 1) := dk_42 (dk_at dksX6_valueHere_1 14 rfl rfl)
theorem dX6_valueHere_38 : decode cX6_valueHere 38 = .ok (.getfield 314, 3) := dk_180 1 58 (dk_at dksX6_valueHere_1 15 rfl rfl)
theorem dX6_valueHere_41 : decode cX6_valueHere 41 = .ok (.invokevirtual 353, 3) := dk_182 1 97 (dk_at dksX6_valueHere_1 18 rfl rfl)
theorem dX6_valueHere_44 : decode cX6_valueHere 44 = .ok (.return_, 1) := dk_177 (dk_at dksX6_valueHere_1 21 rfl rfl)
abbrev cX6_factHere : ByteArray := prog_26_method_98_code
def yX6_factHere : MethodName := ⟨RX6, "factHere", "()I"⟩
def dkwX6_factHere_3 : List UInt8 := [167, 0, 4, 3, 172]
abbrev dktX6_factHere_3 : List UInt8 := dkwX6_factHere_3 ++ []
def dkwX6_factHere_2 : List UInt8 := [20, 1, 87, 148, 154, 0, 8, 16, 252, 167, 0, 17, 31, 20, 1, 89, 148, 154, 0, 8, 16, 251]
abbrev dktX6_factHere_2 : List UInt8 := dkwX6_factHere_2 ++ dktX6_factHere_3
def dkwX6_factHere_1 : List UInt8 := [154, 0, 8, 16, 254, 167, 0, 43, 31, 20, 1, 85, 148, 154, 0, 8, 16, 253, 167, 0, 30, 31]
abbrev dktX6_factHere_1 : List UInt8 := dkwX6_factHere_1 ++ dktX6_factHere_2
def dkwX6_factHere_0 : List UInt8 := [42, 182, 1, 65, 64, 31, 20, 1, 81, 148, 154, 0, 7, 2, 167, 0, 56, 31, 20, 1, 83, 148]
abbrev dktX6_factHere_0 : List UInt8 := dkwX6_factHere_0 ++ dktX6_factHere_1
theorem dksX6_factHere_0 : cX6_factHere.data.toList.drop 0 = dktX6_factHere_0 := by decide +kernel
theorem dksX6_factHere_1 : cX6_factHere.data.toList.drop 22 = dktX6_factHere_1 := dk_seg dksX6_factHere_0 22 rfl rfl
theorem dksX6_factHere_2 : cX6_factHere.data.toList.drop 44 = dktX6_factHere_2 := dk_seg dksX6_factHere_1 22 rfl rfl
theorem dksX6_factHere_3 : cX6_factHere.data.toList.drop 66 = dktX6_factHere_3 := dk_seg dksX6_factHere_2 22 rfl rfl
theorem dX6_factHere_0 : decode cX6_factHere 0 = .ok (.aload_n 0, 1) := dk_42 (dk_at dksX6_factHere_0 0 rfl rfl)
theorem dX6_factHere_1 : decode cX6_factHere 1 = .ok (.invokevirtual 321, 3) := dk_182 1 65 (dk_at dksX6_factHere_0 1 rfl rfl)
theorem dX6_factHere_4 : decode cX6_factHere 4 = .ok (.lstore_n 1, 1) := dk_64 (dk_at dksX6_factHere_0 4 rfl rfl)
theorem dX6_factHere_5 : decode cX6_factHere 5 = .ok (.lload_n 1, 1) := dk_31 (dk_at dksX6_factHere_0 5 rfl rfl)
theorem dX6_factHere_6 : decode cX6_factHere 6 = .ok (.ldc2_w 337, 3) := dk_20 1 81 (dk_at dksX6_factHere_0 6 rfl rfl)
theorem dX6_factHere_9 : decode cX6_factHere 9 = .ok (.lcmp, 1) := dk_148 (dk_at dksX6_factHere_0 9 rfl rfl)
theorem dX6_factHere_10 : decode cX6_factHere 10 = .ok (.ifCond .ne 7, 3) := dk_154 0 7 (dk_at dksX6_factHere_0 10 rfl rfl)
theorem dX6_factHere_13 : decode cX6_factHere 13 = .ok (.iconst (-1), 1) := dk_2 (dk_at dksX6_factHere_0 13 rfl rfl)
theorem dX6_factHere_14 : decode cX6_factHere 14 = .ok (.goto 56, 3) := dk_167 0 56 (dk_at dksX6_factHere_0 14 rfl rfl)
theorem dX6_factHere_17 : decode cX6_factHere 17 = .ok (.lload_n 1, 1) := dk_31 (dk_at dksX6_factHere_0 17 rfl rfl)
theorem dX6_factHere_18 : decode cX6_factHere 18 = .ok (.ldc2_w 339, 3) := dk_20 1 83 (dk_at dksX6_factHere_0 18 rfl rfl)
theorem dX6_factHere_21 : decode cX6_factHere 21 = .ok (.lcmp, 1) := dk_148 (dk_at dksX6_factHere_0 21 rfl rfl)
theorem dX6_factHere_22 : decode cX6_factHere 22 = .ok (.ifCond .ne 8, 3) := dk_154 0 8 (dk_at dksX6_factHere_1 0 rfl rfl)
theorem dX6_factHere_25 : decode cX6_factHere 25 = .ok (.bipush (-2), 2) := dk_16 254 (dk_at dksX6_factHere_1 3 rfl rfl)
theorem dX6_factHere_27 : decode cX6_factHere 27 = .ok (.goto 43, 3) := dk_167 0 43 (dk_at dksX6_factHere_1 5 rfl rfl)
theorem dX6_factHere_30 : decode cX6_factHere 30 = .ok (.lload_n 1, 1) := dk_31 (dk_at dksX6_factHere_1 8 rfl rfl)
theorem dX6_factHere_31 : decode cX6_factHere 31 = .ok (.ldc2_w 341, 3) := dk_20 1 85 (dk_at dksX6_factHere_1 9 rfl rfl)
theorem dX6_factHere_34 : decode cX6_factHere 34 = .ok (.lcmp, 1) := dk_148 (dk_at dksX6_factHere_1 12 rfl rfl)
theorem dX6_factHere_35 : decode cX6_factHere 35 = .ok (.ifCond .ne 8, 3) := dk_154 0 8 (dk_at dksX6_factHere_1 13 rfl rfl)
theorem dX6_factHere_38 : decode cX6_factHere 38 = .ok (.bipush (-3), 2) := dk_16 253 (dk_at dksX6_factHere_1 16 rfl rfl)
theorem dX6_factHere_40 : decode cX6_factHere 40 = .ok (.goto 30, 3) := dk_167 0 30 (dk_at dksX6_factHere_1 18 rfl rfl)
theorem dX6_factHere_43 : decode cX6_factHere 43 = .ok (.lload_n 1, 1) := dk_31 (dk_at dksX6_factHere_1 21 rfl rfl)
theorem dX6_factHere_44 : decode cX6_factHere 44 = .ok (.ldc2_w 343, 3) := dk_20 1 87 (dk_at dksX6_factHere_2 0 rfl rfl)
theorem dX6_factHere_47 : decode cX6_factHere 47 = .ok (.lcmp, 1) := dk_148 (dk_at dksX6_factHere_2 3 rfl rfl)
theorem dX6_factHere_48 : decode cX6_factHere 48 = .ok (.ifCond .ne 8, 3) := dk_154 0 8 (dk_at dksX6_factHere_2 4 rfl rfl)
theorem dX6_factHere_51 : decode cX6_factHere 51 = .ok (.bipush (-4), 2) := dk_16 252 (dk_at dksX6_factHere_2 7 rfl rfl)
theorem dX6_factHere_53 : decode cX6_factHere 53 = .ok (.goto 17, 3) := dk_167 0 17 (dk_at dksX6_factHere_2 9 rfl rfl)
theorem dX6_factHere_56 : decode cX6_factHere 56 = .ok (.lload_n 1, 1) := dk_31 (dk_at dksX6_factHere_2 12 rfl rfl)
theorem dX6_factHere_57 : decode cX6_factHere 57 = .ok (.ldc2_w 345, 3) := dk_20 1 89 (dk_at dksX6_factHere_2 13 rfl rfl)
theorem dX6_factHere_60 : decode cX6_factHere 60 = .ok (.lcmp, 1) := dk_148 (dk_at dksX6_factHere_2 16 rfl rfl)
theorem dX6_factHere_61 : decode cX6_factHere 61 = .ok (.ifCond .ne 8, 3) := dk_154 0 8 (dk_at dksX6_factHere_2 17 rfl rfl)
theorem dX6_factHere_64 : decode cX6_factHere 64 = .ok (.bipush (-5), 2) := dk_16 251 (dk_at dksX6_factHere_2 20 rfl rfl)
theorem dX6_factHere_66 : decode cX6_factHere 66 = .ok (.goto 4, 3) := dk_167 0 4 (dk_at dksX6_factHere_3 0 rfl rfl)
theorem dX6_factHere_69 : decode cX6_factHere 69 = .ok (.iconst 0, 1) := dk_3 (dk_at dksX6_factHere_3 3 rfl rfl)
theorem dX6_factHere_70 : decode cX6_factHere 70 = .ok (.ireturn, 1) := dk_172 (dk_at dksX6_factHere_3 4 rfl rfl)
abbrev cX6_writes : ByteArray := prog_26_method_99_code
def yX6_writes : MethodName := ⟨RX6, "writes", "(I)V"⟩
def dkwX6_writes_1 : List UInt8 := [180, 1, 91, 4, 96, 181, 1, 91, 177]
abbrev dktX6_writes_1 : List UInt8 := dkwX6_writes_1 ++ []
def dkwX6_writes_0 : List UInt8 := [42, 180, 1, 47, 154, 0, 27, 42, 180, 0, 7, 17, 0, 168, 42, 180, 1, 91, 96, 27, 79, 42, 89]
abbrev dktX6_writes_0 : List UInt8 := dkwX6_writes_0 ++ dktX6_writes_1
theorem dksX6_writes_0 : cX6_writes.data.toList.drop 0 = dktX6_writes_0 := by decide +kernel
theorem dksX6_writes_1 : cX6_writes.data.toList.drop 23 = dktX6_writes_1 := dk_seg dksX6_writes_0 23 rfl rfl
theorem dX6_writes_0 : decode cX6_writes 0 = .ok (.aload_n 0, 1) := dk_42 (dk_at dksX6_writes_0 0 rfl rfl)
theorem dX6_writes_1 : decode cX6_writes 1 = .ok (.getfield 303, 3) := dk_180 1 47 (dk_at dksX6_writes_0 1 rfl rfl)
theorem dX6_writes_4 : decode cX6_writes 4 = .ok (.ifCond .ne 27, 3) := dk_154 0 27 (dk_at dksX6_writes_0 4 rfl rfl)
theorem dX6_writes_7 : decode cX6_writes 7 = .ok (.aload_n 0, 1) := dk_42 (dk_at dksX6_writes_0 7 rfl rfl)
theorem dX6_writes_8 : decode cX6_writes 8 = .ok (.getfield 7, 3) := dk_180 0 7 (dk_at dksX6_writes_0 8 rfl rfl)
theorem dX6_writes_11 : decode cX6_writes 11 = .ok (.sipush 168, 3) := dk_17 0 168 (dk_at dksX6_writes_0 11 rfl rfl)
theorem dX6_writes_14 : decode cX6_writes 14 = .ok (.aload_n 0, 1) := dk_42 (dk_at dksX6_writes_0 14 rfl rfl)
theorem dX6_writes_15 : decode cX6_writes 15 = .ok (.getfield 347, 3) := dk_180 1 91 (dk_at dksX6_writes_0 15 rfl rfl)
theorem dX6_writes_18 : decode cX6_writes 18 = .ok (.iadd, 1) := dk_96 (dk_at dksX6_writes_0 18 rfl rfl)
theorem dX6_writes_19 : decode cX6_writes 19 = .ok (.iload_n 1, 1) := dk_27 (dk_at dksX6_writes_0 19 rfl rfl)
theorem dX6_writes_20 : decode cX6_writes 20 = .ok (.iastore, 1) := dk_79 (dk_at dksX6_writes_0 20 rfl rfl)
theorem dX6_writes_21 : decode cX6_writes 21 = .ok (.aload_n 0, 1) := dk_42 (dk_at dksX6_writes_0 21 rfl rfl)
theorem dX6_writes_22 : decode cX6_writes 22 = .ok (.dup, 1) := dk_89 (dk_at dksX6_writes_0 22 rfl rfl)
theorem dX6_writes_23 : decode cX6_writes 23 = .ok (.getfield 347, 3) := dk_180 1 91 (dk_at dksX6_writes_1 0 rfl rfl)
theorem dX6_writes_26 : decode cX6_writes 26 = .ok (.iconst 1, 1) := dk_4 (dk_at dksX6_writes_1 3 rfl rfl)
theorem dX6_writes_27 : decode cX6_writes 27 = .ok (.iadd, 1) := dk_96 (dk_at dksX6_writes_1 4 rfl rfl)
theorem dX6_writes_28 : decode cX6_writes 28 = .ok (.putfield 347, 3) := dk_181 1 91 (dk_at dksX6_writes_1 5 rfl rfl)
theorem dX6_writes_31 : decode cX6_writes 31 = .ok (.return_, 1) := dk_177 (dk_at dksX6_writes_1 8 rfl rfl)
abbrev cX6_number : ByteArray := prog_26_method_96_code
def yX6_number : MethodName := ⟨RX6, "number", "(I)V"⟩
def dkwX6_number_4 : List UInt8 := [167, 0, 4, 3, 182, 1, 61, 177]
abbrev dktX6_number_4 : List UInt8 := dkwX6_number_4 ++ []
def dkwX6_number_3 : List UInt8 := [100, 181, 1, 58, 132, 3, 1, 167, 255, 220, 42, 28, 153, 0, 15, 42, 180, 1, 58, 27, 163, 0, 7, 4]
abbrev dktX6_number_3 : List UInt8 := dkwX6_number_3 ++ dktX6_number_4
def dkwX6_number_2 : List UInt8 := [162, 0, 34, 28, 153, 0, 30, 42, 16, 10, 42, 180, 1, 58, 104, 42, 180, 0, 40, 29, 46, 96, 16, 48]
abbrev dktX6_number_2 : List UInt8 := dkwX6_number_2 ++ dktX6_number_3
def dkwX6_number_1 : List UInt8 := [162, 0, 7, 4, 167, 0, 4, 3, 61, 42, 3, 181, 1, 58, 42, 180, 1, 35, 62, 29, 42, 180, 1, 32]
abbrev dktX6_number_1 : List UInt8 := dkwX6_number_1 ++ dktX6_number_2
def dkwX6_number_0 : List UInt8 := [42, 42, 180, 1, 35, 182, 1, 38, 184, 1, 44, 153, 0, 20, 42, 180, 1, 32, 42, 180, 1, 35, 100, 8]
abbrev dktX6_number_0 : List UInt8 := dkwX6_number_0 ++ dktX6_number_1
theorem dksX6_number_0 : cX6_number.data.toList.drop 0 = dktX6_number_0 := by decide +kernel
theorem dksX6_number_1 : cX6_number.data.toList.drop 24 = dktX6_number_1 := dk_seg dksX6_number_0 24 rfl rfl
theorem dksX6_number_2 : cX6_number.data.toList.drop 48 = dktX6_number_2 := dk_seg dksX6_number_1 24 rfl rfl
theorem dksX6_number_3 : cX6_number.data.toList.drop 72 = dktX6_number_3 := dk_seg dksX6_number_2 24 rfl rfl
theorem dksX6_number_4 : cX6_number.data.toList.drop 96 = dktX6_number_4 := dk_seg dksX6_number_3 24 rfl rfl
theorem dX6_number_0 : decode cX6_number 0 = .ok (.aload_n 0, 1) := dk_42 (dk_at dksX6_number_0 0 rfl rfl)
theorem dX6_number_1 : decode cX6_number 1 = .ok (.aload_n 0, 1) := dk_42 (dk_at dksX6_number_0 1 rfl rfl)
theorem dX6_number_2 : decode cX6_number 2 = .ok (.getfield 291, 3) := dk_180 1 35 (dk_at dksX6_number_0 2 rfl rfl)
theorem dX6_number_5 : decode cX6_number 5 = .ok (.invokevirtual 294, 3) := dk_182 1 38 (dk_at dksX6_number_0 5 rfl rfl)
theorem dX6_number_8 : decode cX6_number 8 = .ok (.invokestatic 300, 3) := dk_184 1 44 (dk_at dksX6_number_0 8 rfl rfl)
theorem dX6_number_11 : decode cX6_number 11 = .ok (.ifCond .eq 20, 3) := dk_153 0 20 (dk_at dksX6_number_0 11 rfl rfl)
theorem dX6_number_14 : decode cX6_number 14 = .ok (.aload_n 0, 1) := dk_42 (dk_at dksX6_number_0 14 rfl rfl)
theorem dX6_number_15 : decode cX6_number 15 = .ok (.getfield 288, 3) := dk_180 1 32 (dk_at dksX6_number_0 15 rfl rfl)
theorem dX6_number_18 : decode cX6_number 18 = .ok (.aload_n 0, 1) := dk_42 (dk_at dksX6_number_0 18 rfl rfl)
theorem dX6_number_19 : decode cX6_number 19 = .ok (.getfield 291, 3) := dk_180 1 35 (dk_at dksX6_number_0 19 rfl rfl)
theorem dX6_number_22 : decode cX6_number 22 = .ok (.isub, 1) := dk_100 (dk_at dksX6_number_0 22 rfl rfl)
theorem dX6_number_23 : decode cX6_number 23 = .ok (.iconst 5, 1) := dk_8 (dk_at dksX6_number_0 23 rfl rfl)
theorem dX6_number_24 : decode cX6_number 24 = .ok (.if_icmp .ge 7, 3) := dk_162 0 7 (dk_at dksX6_number_1 0 rfl rfl)
theorem dX6_number_27 : decode cX6_number 27 = .ok (.iconst 1, 1) := dk_4 (dk_at dksX6_number_1 3 rfl rfl)
theorem dX6_number_28 : decode cX6_number 28 = .ok (.goto 4, 3) := dk_167 0 4 (dk_at dksX6_number_1 4 rfl rfl)
theorem dX6_number_31 : decode cX6_number 31 = .ok (.iconst 0, 1) := dk_3 (dk_at dksX6_number_1 7 rfl rfl)
theorem dX6_number_32 : decode cX6_number 32 = .ok (.istore_n 2, 1) := dk_61 (dk_at dksX6_number_1 8 rfl rfl)
theorem dX6_number_33 : decode cX6_number 33 = .ok (.aload_n 0, 1) := dk_42 (dk_at dksX6_number_1 9 rfl rfl)
theorem dX6_number_34 : decode cX6_number 34 = .ok (.iconst 0, 1) := dk_3 (dk_at dksX6_number_1 10 rfl rfl)
theorem dX6_number_35 : decode cX6_number 35 = .ok (.putfield 314, 3) := dk_181 1 58 (dk_at dksX6_number_1 11 rfl rfl)
theorem dX6_number_38 : decode cX6_number 38 = .ok (.aload_n 0, 1) := dk_42 (dk_at dksX6_number_1 14 rfl rfl)
theorem dX6_number_39 : decode cX6_number 39 = .ok (.getfield 291, 3) := dk_180 1 35 (dk_at dksX6_number_1 15 rfl rfl)
theorem dX6_number_42 : decode cX6_number 42 = .ok (.istore_n 3, 1) := dk_62 (dk_at dksX6_number_1 18 rfl rfl)
theorem dX6_number_43 : decode cX6_number 43 = .ok (.iload_n 3, 1) := dk_29 (dk_at dksX6_number_1 19 rfl rfl)
theorem dX6_number_44 : decode cX6_number 44 = .ok (.aload_n 0, 1) := dk_42 (dk_at dksX6_number_1 20 rfl rfl)
theorem dX6_number_45 : decode cX6_number 45 = .ok (.getfield 288, 3) := dk_180 1 32 (dk_at dksX6_number_1 21 rfl rfl)
theorem dX6_number_48 : decode cX6_number 48 = .ok (.if_icmp .ge 34, 3) := dk_162 0 34 (dk_at dksX6_number_2 0 rfl rfl)
theorem dX6_number_51 : decode cX6_number 51 = .ok (.iload_n 2, 1) := dk_28 (dk_at dksX6_number_2 3 rfl rfl)
theorem dX6_number_52 : decode cX6_number 52 = .ok (.ifCond .eq 30, 3) := dk_153 0 30 (dk_at dksX6_number_2 4 rfl rfl)
theorem dX6_number_55 : decode cX6_number 55 = .ok (.aload_n 0, 1) := dk_42 (dk_at dksX6_number_2 7 rfl rfl)
theorem dX6_number_56 : decode cX6_number 56 = .ok (.bipush 10, 2) := dk_16 10 (dk_at dksX6_number_2 8 rfl rfl)
theorem dX6_number_58 : decode cX6_number 58 = .ok (.aload_n 0, 1) := dk_42 (dk_at dksX6_number_2 10 rfl rfl)
theorem dX6_number_59 : decode cX6_number 59 = .ok (.getfield 314, 3) := dk_180 1 58 (dk_at dksX6_number_2 11 rfl rfl)
theorem dX6_number_62 : decode cX6_number 62 = .ok (.imul, 1) := dk_104 (dk_at dksX6_number_2 14 rfl rfl)
theorem dX6_number_63 : decode cX6_number 63 = .ok (.aload_n 0, 1) := dk_42 (dk_at dksX6_number_2 15 rfl rfl)
theorem dX6_number_64 : decode cX6_number 64 = .ok (.getfield 40, 3) := dk_180 0 40 (dk_at dksX6_number_2 16 rfl rfl)
theorem dX6_number_67 : decode cX6_number 67 = .ok (.iload_n 3, 1) := dk_29 (dk_at dksX6_number_2 19 rfl rfl)
theorem dX6_number_68 : decode cX6_number 68 = .ok (.iaload, 1) := dk_46 (dk_at dksX6_number_2 20 rfl rfl)
theorem dX6_number_69 : decode cX6_number 69 = .ok (.iadd, 1) := dk_96 (dk_at dksX6_number_2 21 rfl rfl)
theorem dX6_number_70 : decode cX6_number 70 = .ok (.bipush 48, 2) := dk_16 48 (dk_at dksX6_number_2 22 rfl rfl)
theorem dX6_number_72 : decode cX6_number 72 = .ok (.isub, 1) := dk_100 (dk_at dksX6_number_3 0 rfl rfl)
theorem dX6_number_73 : decode cX6_number 73 = .ok (.putfield 314, 3) := dk_181 1 58 (dk_at dksX6_number_3 1 rfl rfl)
theorem dX6_number_76 : decode cX6_number 76 = .ok (.iinc 3 1, 3) := dk_132 3 1 (dk_at dksX6_number_3 4 rfl rfl)
theorem dX6_number_79 : decode cX6_number 79 = .ok (.goto (-36), 3) := dk_167 255 220 (dk_at dksX6_number_3 7 rfl rfl)
theorem dX6_number_82 : decode cX6_number 82 = .ok (.aload_n 0, 1) := dk_42 (dk_at dksX6_number_3 10 rfl rfl)
theorem dX6_number_83 : decode cX6_number 83 = .ok (.iload_n 2, 1) := dk_28 (dk_at dksX6_number_3 11 rfl rfl)
theorem dX6_number_84 : decode cX6_number 84 = .ok (.ifCond .eq 15, 3) := dk_153 0 15 (dk_at dksX6_number_3 12 rfl rfl)
theorem dX6_number_87 : decode cX6_number 87 = .ok (.aload_n 0, 1) := dk_42 (dk_at dksX6_number_3 15 rfl rfl)
theorem dX6_number_88 : decode cX6_number 88 = .ok (.getfield 314, 3) := dk_180 1 58 (dk_at dksX6_number_3 16 rfl rfl)
theorem dX6_number_91 : decode cX6_number 91 = .ok (.iload_n 1, 1) := dk_27 (dk_at dksX6_number_3 19 rfl rfl)
theorem dX6_number_92 : decode cX6_number 92 = .ok (.if_icmp .gt 7, 3) := dk_163 0 7 (dk_at dksX6_number_3 20 rfl rfl)
theorem dX6_number_95 : decode cX6_number 95 = .ok (.iconst 1, 1) := dk_4 (dk_at dksX6_number_3 23 rfl rfl)
theorem dX6_number_96 : decode cX6_number 96 = .ok (.goto 4, 3) := dk_167 0 4 (dk_at dksX6_number_4 0 rfl rfl)
theorem dX6_number_99 : decode cX6_number 99 = .ok (.iconst 0, 1) := dk_3 (dk_at dksX6_number_4 3 rfl rfl)
theorem dX6_number_100 : decode cX6_number 100 = .ok (.invokevirtual 317, 3) := dk_182 1 61 (dk_at dksX6_number_4 4 rfl rfl)
theorem dX6_number_103 : decode cX6_number 103 = .ok (.return_, 1) := dk_177 (dk_at dksX6_number_4 7 rfl rfl)
abbrev cX6_sheet : ByteArray := prog_26_method_108_code
def yX6_sheet : MethodName := ⟨RX6, "sheet", "(III)I"⟩
def dkwX6_sheet_4 : List UInt8 := [167, 255, 233, 4, 172]
abbrev dktX6_sheet_4 : List UInt8 := dkwX6_sheet_4 ++ []
def dkwX6_sheet_3 : List UInt8 := [21, 4, 16, 40, 162, 0, 22, 42, 180, 0, 49, 16, 40, 27, 104, 21, 4, 96, 3, 79, 132, 4, 1]
abbrev dktX6_sheet_3 : List UInt8 := dkwX6_sheet_3 ++ dktX6_sheet_4
def dkwX6_sheet_2 : List UInt8 := [180, 0, 43, 27, 28, 79, 42, 180, 0, 46, 27, 28, 156, 0, 7, 3, 167, 0, 4, 29, 79, 3, 54, 4]
abbrev dktX6_sheet_2 : List UInt8 := dkwX6_sheet_2 ++ dktX6_sheet_3
def dkwX6_sheet_1 : List UInt8 := [155, 0, 11, 29, 16, 40, 164, 0, 5, 2, 172, 28, 155, 0, 10, 29, 156, 0, 6, 16, 242, 172, 42]
abbrev dktX6_sheet_1 : List UInt8 := dkwX6_sheet_1 ++ dktX6_sheet_2
def dkwX6_sheet_0 : List UInt8 := [27, 184, 1, 141, 153, 0, 27, 28, 133, 20, 1, 144, 20, 0, 149, 184, 0, 64, 153, 0, 13, 28]
abbrev dktX6_sheet_0 : List UInt8 := dkwX6_sheet_0 ++ dktX6_sheet_1
theorem dksX6_sheet_0 : cX6_sheet.data.toList.drop 0 = dktX6_sheet_0 := by decide +kernel
theorem dksX6_sheet_1 : cX6_sheet.data.toList.drop 22 = dktX6_sheet_1 := dk_seg dksX6_sheet_0 22 rfl rfl
theorem dksX6_sheet_2 : cX6_sheet.data.toList.drop 45 = dktX6_sheet_2 := dk_seg dksX6_sheet_1 23 rfl rfl
theorem dksX6_sheet_3 : cX6_sheet.data.toList.drop 69 = dktX6_sheet_3 := dk_seg dksX6_sheet_2 24 rfl rfl
theorem dksX6_sheet_4 : cX6_sheet.data.toList.drop 92 = dktX6_sheet_4 := dk_seg dksX6_sheet_3 23 rfl rfl
theorem dX6_sheet_0 : decode cX6_sheet 0 = .ok (.iload_n 1, 1) := dk_27 (dk_at dksX6_sheet_0 0 rfl rfl)
theorem dX6_sheet_1 : decode cX6_sheet 1 = .ok (.invokestatic 397, 3) := dk_184 1 141 (dk_at dksX6_sheet_0 1 rfl rfl)
theorem dX6_sheet_4 : decode cX6_sheet 4 = .ok (.ifCond .eq 27, 3) := dk_153 0 27 (dk_at dksX6_sheet_0 4 rfl rfl)
theorem dX6_sheet_7 : decode cX6_sheet 7 = .ok (.iload_n 2, 1) := dk_28 (dk_at dksX6_sheet_0 7 rfl rfl)
theorem dX6_sheet_8 : decode cX6_sheet 8 = .ok (.i2l, 1) := dk_133 (dk_at dksX6_sheet_0 8 rfl rfl)
theorem dX6_sheet_9 : decode cX6_sheet 9 = .ok (.ldc2_w 400, 3) := dk_20 1 144 (dk_at dksX6_sheet_0 9 rfl rfl)
theorem dX6_sheet_12 : decode cX6_sheet 12 = .ok (.ldc2_w 149, 3) := dk_20 0 149 (dk_at dksX6_sheet_0 12 rfl rfl)
theorem dX6_sheet_15 : decode cX6_sheet 15 = .ok (.invokestatic 64, 3) := dk_184 0 64 (dk_at dksX6_sheet_0 15 rfl rfl)
theorem dX6_sheet_18 : decode cX6_sheet 18 = .ok (.ifCond .eq 13, 3) := dk_153 0 13 (dk_at dksX6_sheet_0 18 rfl rfl)
theorem dX6_sheet_21 : decode cX6_sheet 21 = .ok (.iload_n 2, 1) := dk_28 (dk_at dksX6_sheet_0 21 rfl rfl)
theorem dX6_sheet_22 : decode cX6_sheet 22 = .ok (.ifCond .lt 11, 3) := dk_155 0 11 (dk_at dksX6_sheet_1 0 rfl rfl)
theorem dX6_sheet_25 : decode cX6_sheet 25 = .ok (.iload_n 3, 1) := dk_29 (dk_at dksX6_sheet_1 3 rfl rfl)
theorem dX6_sheet_26 : decode cX6_sheet 26 = .ok (.bipush 40, 2) := dk_16 40 (dk_at dksX6_sheet_1 4 rfl rfl)
theorem dX6_sheet_28 : decode cX6_sheet 28 = .ok (.if_icmp .le 5, 3) := dk_164 0 5 (dk_at dksX6_sheet_1 6 rfl rfl)
theorem dX6_sheet_31 : decode cX6_sheet 31 = .ok (.iconst (-1), 1) := dk_2 (dk_at dksX6_sheet_1 9 rfl rfl)
theorem dX6_sheet_32 : decode cX6_sheet 32 = .ok (.ireturn, 1) := dk_172 (dk_at dksX6_sheet_1 10 rfl rfl)
theorem dX6_sheet_33 : decode cX6_sheet 33 = .ok (.iload_n 2, 1) := dk_28 (dk_at dksX6_sheet_1 11 rfl rfl)
theorem dX6_sheet_34 : decode cX6_sheet 34 = .ok (.ifCond .lt 10, 3) := dk_155 0 10 (dk_at dksX6_sheet_1 12 rfl rfl)
theorem dX6_sheet_37 : decode cX6_sheet 37 = .ok (.iload_n 3, 1) := dk_29 (dk_at dksX6_sheet_1 15 rfl rfl)
theorem dX6_sheet_38 : decode cX6_sheet 38 = .ok (.ifCond .ge 6, 3) := dk_156 0 6 (dk_at dksX6_sheet_1 16 rfl rfl)
theorem dX6_sheet_41 : decode cX6_sheet 41 = .ok (.bipush (-14), 2) := dk_16 242 (dk_at dksX6_sheet_1 19 rfl rfl)
theorem dX6_sheet_43 : decode cX6_sheet 43 = .ok (.ireturn, 1) := dk_172 (dk_at dksX6_sheet_1 21 rfl rfl)
theorem dX6_sheet_44 : decode cX6_sheet 44 = .ok (.aload_n 0, 1) := dk_42 (dk_at dksX6_sheet_1 22 rfl rfl)
theorem dX6_sheet_45 : decode cX6_sheet 45 = .ok (.getfield 43, 3) := dk_180 0 43 (dk_at dksX6_sheet_2 0 rfl rfl)
theorem dX6_sheet_48 : decode cX6_sheet 48 = .ok (.iload_n 1, 1) := dk_27 (dk_at dksX6_sheet_2 3 rfl rfl)
theorem dX6_sheet_49 : decode cX6_sheet 49 = .ok (.iload_n 2, 1) := dk_28 (dk_at dksX6_sheet_2 4 rfl rfl)
theorem dX6_sheet_50 : decode cX6_sheet 50 = .ok (.iastore, 1) := dk_79 (dk_at dksX6_sheet_2 5 rfl rfl)
theorem dX6_sheet_51 : decode cX6_sheet 51 = .ok (.aload_n 0, 1) := dk_42 (dk_at dksX6_sheet_2 6 rfl rfl)
theorem dX6_sheet_52 : decode cX6_sheet 52 = .ok (.getfield 46, 3) := dk_180 0 46 (dk_at dksX6_sheet_2 7 rfl rfl)
theorem dX6_sheet_55 : decode cX6_sheet 55 = .ok (.iload_n 1, 1) := dk_27 (dk_at dksX6_sheet_2 10 rfl rfl)
theorem dX6_sheet_56 : decode cX6_sheet 56 = .ok (.iload_n 2, 1) := dk_28 (dk_at dksX6_sheet_2 11 rfl rfl)
theorem dX6_sheet_57 : decode cX6_sheet 57 = .ok (.ifCond .ge 7, 3) := dk_156 0 7 (dk_at dksX6_sheet_2 12 rfl rfl)
theorem dX6_sheet_60 : decode cX6_sheet 60 = .ok (.iconst 0, 1) := dk_3 (dk_at dksX6_sheet_2 15 rfl rfl)
theorem dX6_sheet_61 : decode cX6_sheet 61 = .ok (.goto 4, 3) := dk_167 0 4 (dk_at dksX6_sheet_2 16 rfl rfl)
theorem dX6_sheet_64 : decode cX6_sheet 64 = .ok (.iload_n 3, 1) := dk_29 (dk_at dksX6_sheet_2 19 rfl rfl)
theorem dX6_sheet_65 : decode cX6_sheet 65 = .ok (.iastore, 1) := dk_79 (dk_at dksX6_sheet_2 20 rfl rfl)
theorem dX6_sheet_66 : decode cX6_sheet 66 = .ok (.iconst 0, 1) := dk_3 (dk_at dksX6_sheet_2 21 rfl rfl)
theorem dX6_sheet_67 : decode cX6_sheet 67 = .ok (.istore 4, 2) := dk_54 4 (dk_at dksX6_sheet_2 22 rfl rfl)
theorem dX6_sheet_69 : decode cX6_sheet 69 = .ok (.iload 4, 2) := dk_21 4 (dk_at dksX6_sheet_3 0 rfl rfl)
theorem dX6_sheet_71 : decode cX6_sheet 71 = .ok (.bipush 40, 2) := dk_16 40 (dk_at dksX6_sheet_3 2 rfl rfl)
theorem dX6_sheet_73 : decode cX6_sheet 73 = .ok (.if_icmp .ge 22, 3) := dk_162 0 22 (dk_at dksX6_sheet_3 4 rfl rfl)
theorem dX6_sheet_76 : decode cX6_sheet 76 = .ok (.aload_n 0, 1) := dk_42 (dk_at dksX6_sheet_3 7 rfl rfl)
theorem dX6_sheet_77 : decode cX6_sheet 77 = .ok (.getfield 49, 3) := dk_180 0 49 (dk_at dksX6_sheet_3 8 rfl rfl)
theorem dX6_sheet_80 : decode cX6_sheet 80 = .ok (.bipush 40, 2) := dk_16 40 (dk_at dksX6_sheet_3 11 rfl rfl)
theorem dX6_sheet_82 : decode cX6_sheet 82 = .ok (.iload_n 1, 1) := dk_27 (dk_at dksX6_sheet_3 13 rfl rfl)
theorem dX6_sheet_83 : decode cX6_sheet 83 = .ok (.imul, 1) := dk_104 (dk_at dksX6_sheet_3 14 rfl rfl)
theorem dX6_sheet_84 : decode cX6_sheet 84 = .ok (.iload 4, 2) := dk_21 4 (dk_at dksX6_sheet_3 15 rfl rfl)
theorem dX6_sheet_86 : decode cX6_sheet 86 = .ok (.iadd, 1) := dk_96 (dk_at dksX6_sheet_3 17 rfl rfl)
theorem dX6_sheet_87 : decode cX6_sheet 87 = .ok (.iconst 0, 1) := dk_3 (dk_at dksX6_sheet_3 18 rfl rfl)
theorem dX6_sheet_88 : decode cX6_sheet 88 = .ok (.iastore, 1) := dk_79 (dk_at dksX6_sheet_3 19 rfl rfl)
theorem dX6_sheet_89 : decode cX6_sheet 89 = .ok (.iinc 4 1, 3) := dk_132 4 1 (dk_at dksX6_sheet_3 20 rfl rfl)
theorem dX6_sheet_92 : decode cX6_sheet 92 = .ok (.goto (-23), 3) := dk_167 255 233 (dk_at dksX6_sheet_4 0 rfl rfl)
theorem dX6_sheet_95 : decode cX6_sheet 95 = .ok (.iconst 1, 1) := dk_4 (dk_at dksX6_sheet_4 3 rfl rfl)
theorem dX6_sheet_96 : decode cX6_sheet 96 = .ok (.ireturn, 1) := dk_172 (dk_at dksX6_sheet_4 4 rfl rfl)
abbrev cX6_isOne : ByteArray := prog_26_method_107_code
def yX6_isOne : MethodName := ⟨RX6, "isOne", "(I)Z"⟩
def dkwX6_isOne_0 : List UInt8 := [26, 133, 9, 20, 0, 220, 184, 0, 64, 172]
abbrev dktX6_isOne_0 : List UInt8 := dkwX6_isOne_0 ++ []
theorem dksX6_isOne_0 : cX6_isOne.data.toList.drop 0 = dktX6_isOne_0 := by decide +kernel
theorem dX6_isOne_0 : decode cX6_isOne 0 = .ok (.iload_n 0, 1) := dk_26 (dk_at dksX6_isOne_0 0 rfl rfl)
theorem dX6_isOne_1 : decode cX6_isOne 1 = .ok (.i2l, 1) := dk_133 (dk_at dksX6_isOne_0 1 rfl rfl)
theorem dX6_isOne_2 : decode cX6_isOne 2 = .ok (.lconst 0, 1) := dk_9 (dk_at dksX6_isOne_0 2 rfl rfl)
theorem dX6_isOne_3 : decode cX6_isOne 3 = .ok (.ldc2_w 220, 3) := dk_20 0 220 (dk_at dksX6_isOne_0 3 rfl rfl)
theorem dX6_isOne_6 : decode cX6_isOne 6 = .ok (.invokestatic 64, 3) := dk_184 0 64 (dk_at dksX6_isOne_0 6 rfl rfl)
theorem dX6_isOne_9 : decode cX6_isOne 9 = .ok (.ireturn, 1) := dk_172 (dk_at dksX6_isOne_0 9 rfl rfl)
abbrev cX6_write : ByteArray := prog_26_method_110_code
def yX6_write : MethodName := ⟨RX6, "write", "(III)I"⟩
def dkwX6_write_2 : List UInt8 := [27, 104, 28, 96, 42, 180, 0, 43, 27, 46, 29, 184, 1, 146, 79, 4, 172]
abbrev dktX6_write_2 : List UInt8 := dkwX6_write_2 ++ []
def dkwX6_write_1 : List UInt8 := [42, 180, 0, 46, 27, 46, 4, 100, 133, 184, 0, 64, 154, 0, 6, 16, 244, 172, 42, 180, 0, 49, 16, 40]
abbrev dktX6_write_1 : List UInt8 := dkwX6_write_1 ++ dktX6_write_2
def dkwX6_write_0 : List UInt8 := [27, 184, 1, 141, 154, 0, 5, 2, 172, 42, 180, 0, 43, 27, 46, 156, 0, 6, 16, 245, 172, 28, 133, 9]
abbrev dktX6_write_0 : List UInt8 := dkwX6_write_0 ++ dktX6_write_1
theorem dksX6_write_0 : cX6_write.data.toList.drop 0 = dktX6_write_0 := by decide +kernel
theorem dksX6_write_1 : cX6_write.data.toList.drop 24 = dktX6_write_1 := dk_seg dksX6_write_0 24 rfl rfl
theorem dksX6_write_2 : cX6_write.data.toList.drop 48 = dktX6_write_2 := dk_seg dksX6_write_1 24 rfl rfl
theorem dX6_write_0 : decode cX6_write 0 = .ok (.iload_n 1, 1) := dk_27 (dk_at dksX6_write_0 0 rfl rfl)
theorem dX6_write_1 : decode cX6_write 1 = .ok (.invokestatic 397, 3) := dk_184 1 141 (dk_at dksX6_write_0 1 rfl rfl)
theorem dX6_write_4 : decode cX6_write 4 = .ok (.ifCond .ne 5, 3) := dk_154 0 5 (dk_at dksX6_write_0 4 rfl rfl)
theorem dX6_write_7 : decode cX6_write 7 = .ok (.iconst (-1), 1) := dk_2 (dk_at dksX6_write_0 7 rfl rfl)
theorem dX6_write_8 : decode cX6_write 8 = .ok (.ireturn, 1) := dk_172 (dk_at dksX6_write_0 8 rfl rfl)
theorem dX6_write_9 : decode cX6_write 9 = .ok (.aload_n 0, 1) := dk_42 (dk_at dksX6_write_0 9 rfl rfl)
theorem dX6_write_10 : decode cX6_write 10 = .ok (.getfield 43, 3) := dk_180 0 43 (dk_at dksX6_write_0 10 rfl rfl)
theorem dX6_write_13 : decode cX6_write 13 = .ok (.iload_n 1, 1) := dk_27 (dk_at dksX6_write_0 13 rfl rfl)
theorem dX6_write_14 : decode cX6_write 14 = .ok (.iaload, 1) := dk_46 (dk_at dksX6_write_0 14 rfl rfl)
theorem dX6_write_15 : decode cX6_write 15 = .ok (.ifCond .ge 6, 3) := dk_156 0 6 (dk_at dksX6_write_0 15 rfl rfl)
theorem dX6_write_18 : decode cX6_write 18 = .ok (.bipush (-11), 2) := dk_16 245 (dk_at dksX6_write_0 18 rfl rfl)
theorem dX6_write_20 : decode cX6_write 20 = .ok (.ireturn, 1) := dk_172 (dk_at dksX6_write_0 20 rfl rfl)
theorem dX6_write_21 : decode cX6_write 21 = .ok (.iload_n 2, 1) := dk_28 (dk_at dksX6_write_0 21 rfl rfl)
theorem dX6_write_22 : decode cX6_write 22 = .ok (.i2l, 1) := dk_133 (dk_at dksX6_write_0 22 rfl rfl)
theorem dX6_write_23 : decode cX6_write 23 = .ok (.lconst 0, 1) := dk_9 (dk_at dksX6_write_0 23 rfl rfl)
theorem dX6_write_24 : decode cX6_write 24 = .ok (.aload_n 0, 1) := dk_42 (dk_at dksX6_write_1 0 rfl rfl)
theorem dX6_write_25 : decode cX6_write 25 = .ok (.getfield 46, 3) := dk_180 0 46 (dk_at dksX6_write_1 1 rfl rfl)
theorem dX6_write_28 : decode cX6_write 28 = .ok (.iload_n 1, 1) := dk_27 (dk_at dksX6_write_1 4 rfl rfl)
theorem dX6_write_29 : decode cX6_write 29 = .ok (.iaload, 1) := dk_46 (dk_at dksX6_write_1 5 rfl rfl)
theorem dX6_write_30 : decode cX6_write 30 = .ok (.iconst 1, 1) := dk_4 (dk_at dksX6_write_1 6 rfl rfl)
theorem dX6_write_31 : decode cX6_write 31 = .ok (.isub, 1) := dk_100 (dk_at dksX6_write_1 7 rfl rfl)
theorem dX6_write_32 : decode cX6_write 32 = .ok (.i2l, 1) := dk_133 (dk_at dksX6_write_1 8 rfl rfl)
theorem dX6_write_33 : decode cX6_write 33 = .ok (.invokestatic 64, 3) := dk_184 0 64 (dk_at dksX6_write_1 9 rfl rfl)
theorem dX6_write_36 : decode cX6_write 36 = .ok (.ifCond .ne 6, 3) := dk_154 0 6 (dk_at dksX6_write_1 12 rfl rfl)
theorem dX6_write_39 : decode cX6_write 39 = .ok (.bipush (-12), 2) := dk_16 244 (dk_at dksX6_write_1 15 rfl rfl)
theorem dX6_write_41 : decode cX6_write 41 = .ok (.ireturn, 1) := dk_172 (dk_at dksX6_write_1 17 rfl rfl)
theorem dX6_write_42 : decode cX6_write 42 = .ok (.aload_n 0, 1) := dk_42 (dk_at dksX6_write_1 18 rfl rfl)
theorem dX6_write_43 : decode cX6_write 43 = .ok (.getfield 49, 3) := dk_180 0 49 (dk_at dksX6_write_1 19 rfl rfl)
theorem dX6_write_46 : decode cX6_write 46 = .ok (.bipush 40, 2) := dk_16 40 (dk_at dksX6_write_1 22 rfl rfl)
theorem dX6_write_48 : decode cX6_write 48 = .ok (.iload_n 1, 1) := dk_27 (dk_at dksX6_write_2 0 rfl rfl)
theorem dX6_write_49 : decode cX6_write 49 = .ok (.imul, 1) := dk_104 (dk_at dksX6_write_2 1 rfl rfl)
theorem dX6_write_50 : decode cX6_write 50 = .ok (.iload_n 2, 1) := dk_28 (dk_at dksX6_write_2 2 rfl rfl)
theorem dX6_write_51 : decode cX6_write 51 = .ok (.iadd, 1) := dk_96 (dk_at dksX6_write_2 3 rfl rfl)
theorem dX6_write_52 : decode cX6_write 52 = .ok (.aload_n 0, 1) := dk_42 (dk_at dksX6_write_2 4 rfl rfl)
theorem dX6_write_53 : decode cX6_write 53 = .ok (.getfield 43, 3) := dk_180 0 43 (dk_at dksX6_write_2 5 rfl rfl)
theorem dX6_write_56 : decode cX6_write 56 = .ok (.iload_n 1, 1) := dk_27 (dk_at dksX6_write_2 8 rfl rfl)
theorem dX6_write_57 : decode cX6_write 57 = .ok (.iaload, 1) := dk_46 (dk_at dksX6_write_2 9 rfl rfl)
theorem dX6_write_58 : decode cX6_write 58 = .ok (.iload_n 3, 1) := dk_29 (dk_at dksX6_write_2 10 rfl rfl)
theorem dX6_write_59 : decode cX6_write 59 = .ok (.invokestatic 402, 3) := dk_184 1 146 (dk_at dksX6_write_2 11 rfl rfl)
theorem dX6_write_62 : decode cX6_write 62 = .ok (.iastore, 1) := dk_79 (dk_at dksX6_write_2 14 rfl rfl)
theorem dX6_write_63 : decode cX6_write 63 = .ok (.iconst 1, 1) := dk_4 (dk_at dksX6_write_2 15 rfl rfl)
theorem dX6_write_64 : decode cX6_write 64 = .ok (.ireturn, 1) := dk_172 (dk_at dksX6_write_2 16 rfl rfl)
abbrev cX6_narrowed : ByteArray := prog_26_method_109_code
def yX6_narrowed : MethodName := ⟨RX6, "narrowed", "(II)I"⟩
def dkwX6_narrowed_1 : List UInt8 := [27, 154, 0, 7, 3, 167, 0, 8, 4, 167, 0, 4, 27, 172]
abbrev dktX6_narrowed_1 : List UInt8 := dkwX6_narrowed_1 ++ []
def dkwX6_narrowed_0 : List UInt8 := [26, 154, 0, 8, 27, 145, 167, 0, 31, 26, 4, 160, 0, 8, 27, 147, 167, 0, 21, 26, 7, 160, 0, 15]
abbrev dktX6_narrowed_0 : List UInt8 := dkwX6_narrowed_0 ++ dktX6_narrowed_1
theorem dksX6_narrowed_0 : cX6_narrowed.data.toList.drop 0 = dktX6_narrowed_0 := by decide +kernel
theorem dksX6_narrowed_1 : cX6_narrowed.data.toList.drop 24 = dktX6_narrowed_1 := dk_seg dksX6_narrowed_0 24 rfl rfl
theorem dX6_narrowed_0 : decode cX6_narrowed 0 = .ok (.iload_n 0, 1) := dk_26 (dk_at dksX6_narrowed_0 0 rfl rfl)
theorem dX6_narrowed_1 : decode cX6_narrowed 1 = .ok (.ifCond .ne 8, 3) := dk_154 0 8 (dk_at dksX6_narrowed_0 1 rfl rfl)
theorem dX6_narrowed_4 : decode cX6_narrowed 4 = .ok (.iload_n 1, 1) := dk_27 (dk_at dksX6_narrowed_0 4 rfl rfl)
theorem dX6_narrowed_5 : decode cX6_narrowed 5 = .ok (.i2b, 1) := dk_145 (dk_at dksX6_narrowed_0 5 rfl rfl)
theorem dX6_narrowed_6 : decode cX6_narrowed 6 = .ok (.goto 31, 3) := dk_167 0 31 (dk_at dksX6_narrowed_0 6 rfl rfl)
theorem dX6_narrowed_9 : decode cX6_narrowed 9 = .ok (.iload_n 0, 1) := dk_26 (dk_at dksX6_narrowed_0 9 rfl rfl)
theorem dX6_narrowed_10 : decode cX6_narrowed 10 = .ok (.iconst 1, 1) := dk_4 (dk_at dksX6_narrowed_0 10 rfl rfl)
theorem dX6_narrowed_11 : decode cX6_narrowed 11 = .ok (.if_icmp .ne 8, 3) := dk_160 0 8 (dk_at dksX6_narrowed_0 11 rfl rfl)
theorem dX6_narrowed_14 : decode cX6_narrowed 14 = .ok (.iload_n 1, 1) := dk_27 (dk_at dksX6_narrowed_0 14 rfl rfl)
theorem dX6_narrowed_15 : decode cX6_narrowed 15 = .ok (.i2s, 1) := dk_147 (dk_at dksX6_narrowed_0 15 rfl rfl)
theorem dX6_narrowed_16 : decode cX6_narrowed 16 = .ok (.goto 21, 3) := dk_167 0 21 (dk_at dksX6_narrowed_0 16 rfl rfl)
theorem dX6_narrowed_19 : decode cX6_narrowed 19 = .ok (.iload_n 0, 1) := dk_26 (dk_at dksX6_narrowed_0 19 rfl rfl)
theorem dX6_narrowed_20 : decode cX6_narrowed 20 = .ok (.iconst 4, 1) := dk_7 (dk_at dksX6_narrowed_0 20 rfl rfl)
theorem dX6_narrowed_21 : decode cX6_narrowed 21 = .ok (.if_icmp .ne 15, 3) := dk_160 0 15 (dk_at dksX6_narrowed_0 21 rfl rfl)
theorem dX6_narrowed_24 : decode cX6_narrowed 24 = .ok (.iload_n 1, 1) := dk_27 (dk_at dksX6_narrowed_1 0 rfl rfl)
theorem dX6_narrowed_25 : decode cX6_narrowed 25 = .ok (.ifCond .ne 7, 3) := dk_154 0 7 (dk_at dksX6_narrowed_1 1 rfl rfl)
theorem dX6_narrowed_28 : decode cX6_narrowed 28 = .ok (.iconst 0, 1) := dk_3 (dk_at dksX6_narrowed_1 4 rfl rfl)
theorem dX6_narrowed_29 : decode cX6_narrowed 29 = .ok (.goto 8, 3) := dk_167 0 8 (dk_at dksX6_narrowed_1 5 rfl rfl)
theorem dX6_narrowed_32 : decode cX6_narrowed 32 = .ok (.iconst 1, 1) := dk_4 (dk_at dksX6_narrowed_1 8 rfl rfl)
theorem dX6_narrowed_33 : decode cX6_narrowed 33 = .ok (.goto 4, 3) := dk_167 0 4 (dk_at dksX6_narrowed_1 9 rfl rfl)
theorem dX6_narrowed_36 : decode cX6_narrowed 36 = .ok (.iload_n 1, 1) := dk_27 (dk_at dksX6_narrowed_1 12 rfl rfl)
theorem dX6_narrowed_37 : decode cX6_narrowed 37 = .ok (.ireturn, 1) := dk_172 (dk_at dksX6_narrowed_1 13 rfl rfl)
abbrev cX6_item : ByteArray := prog_26_method_112_code
def yX6_item : MethodName := ⟨RX6, "item", "(III)I"⟩
def dkwX6_item_3 : List UInt8 := [16, 244, 172]
abbrev dktX6_item_3 : List UInt8 := dkwX6_item_3 ++ []
def dkwX6_item_2 : List UInt8 := [4, 100, 133, 184, 0, 64, 153, 0, 17, 42, 180, 0, 49, 16, 40, 27, 104, 29, 96, 46, 167, 0, 5]
abbrev dktX6_item_2 : List UInt8 := dkwX6_item_2 ++ dktX6_item_3
def dkwX6_item_1 : List UInt8 := [182, 1, 149, 54, 4, 21, 4, 153, 0, 8, 21, 4, 167, 0, 37, 29, 133, 9, 42, 180, 0, 46, 27, 46]
abbrev dktX6_item_1 : List UInt8 := dkwX6_item_1 ++ dktX6_item_2
def dkwX6_item_0 : List UInt8 := [27, 184, 1, 141, 153, 0, 15, 28, 133, 9, 20, 0, 149, 184, 0, 64, 154, 0, 5, 2, 172, 42, 27, 28]
abbrev dktX6_item_0 : List UInt8 := dkwX6_item_0 ++ dktX6_item_1
theorem dksX6_item_0 : cX6_item.data.toList.drop 0 = dktX6_item_0 := by decide +kernel
theorem dksX6_item_1 : cX6_item.data.toList.drop 24 = dktX6_item_1 := dk_seg dksX6_item_0 24 rfl rfl
theorem dksX6_item_2 : cX6_item.data.toList.drop 48 = dktX6_item_2 := dk_seg dksX6_item_1 24 rfl rfl
theorem dksX6_item_3 : cX6_item.data.toList.drop 71 = dktX6_item_3 := dk_seg dksX6_item_2 23 rfl rfl
theorem dX6_item_0 : decode cX6_item 0 = .ok (.iload_n 1, 1) := dk_27 (dk_at dksX6_item_0 0 rfl rfl)
theorem dX6_item_1 : decode cX6_item 1 = .ok (.invokestatic 397, 3) := dk_184 1 141 (dk_at dksX6_item_0 1 rfl rfl)
theorem dX6_item_4 : decode cX6_item 4 = .ok (.ifCond .eq 15, 3) := dk_153 0 15 (dk_at dksX6_item_0 4 rfl rfl)
theorem dX6_item_7 : decode cX6_item 7 = .ok (.iload_n 2, 1) := dk_28 (dk_at dksX6_item_0 7 rfl rfl)
theorem dX6_item_8 : decode cX6_item 8 = .ok (.i2l, 1) := dk_133 (dk_at dksX6_item_0 8 rfl rfl)
theorem dX6_item_9 : decode cX6_item 9 = .ok (.lconst 0, 1) := dk_9 (dk_at dksX6_item_0 9 rfl rfl)
theorem dX6_item_10 : decode cX6_item 10 = .ok (.ldc2_w 149, 3) := dk_20 0 149 (dk_at dksX6_item_0 10 rfl rfl)
theorem dX6_item_13 : decode cX6_item 13 = .ok (.invokestatic 64, 3) := dk_184 0 64 (dk_at dksX6_item_0 13 rfl rfl)
theorem dX6_item_16 : decode cX6_item 16 = .ok (.ifCond .ne 5, 3) := dk_154 0 5 (dk_at dksX6_item_0 16 rfl rfl)
theorem dX6_item_19 : decode cX6_item 19 = .ok (.iconst (-1), 1) := dk_2 (dk_at dksX6_item_0 19 rfl rfl)
theorem dX6_item_20 : decode cX6_item 20 = .ok (.ireturn, 1) := dk_172 (dk_at dksX6_item_0 20 rfl rfl)
theorem dX6_item_21 : decode cX6_item 21 = .ok (.aload_n 0, 1) := dk_42 (dk_at dksX6_item_0 21 rfl rfl)
theorem dX6_item_22 : decode cX6_item 22 = .ok (.iload_n 1, 1) := dk_27 (dk_at dksX6_item_0 22 rfl rfl)
theorem dX6_item_23 : decode cX6_item 23 = .ok (.iload_n 2, 1) := dk_28 (dk_at dksX6_item_0 23 rfl rfl)
theorem dX6_item_24 : decode cX6_item 24 = .ok (.invokevirtual 405, 3) := dk_182 1 149 (dk_at dksX6_item_1 0 rfl rfl)
theorem dX6_item_27 : decode cX6_item 27 = .ok (.istore 4, 2) := dk_54 4 (dk_at dksX6_item_1 3 rfl rfl)
theorem dX6_item_29 : decode cX6_item 29 = .ok (.iload 4, 2) := dk_21 4 (dk_at dksX6_item_1 5 rfl rfl)
theorem dX6_item_31 : decode cX6_item 31 = .ok (.ifCond .eq 8, 3) := dk_153 0 8 (dk_at dksX6_item_1 7 rfl rfl)
theorem dX6_item_34 : decode cX6_item 34 = .ok (.iload 4, 2) := dk_21 4 (dk_at dksX6_item_1 10 rfl rfl)
theorem dX6_item_36 : decode cX6_item 36 = .ok (.goto 37, 3) := dk_167 0 37 (dk_at dksX6_item_1 12 rfl rfl)
theorem dX6_item_39 : decode cX6_item 39 = .ok (.iload_n 3, 1) := dk_29 (dk_at dksX6_item_1 15 rfl rfl)
theorem dX6_item_40 : decode cX6_item 40 = .ok (.i2l, 1) := dk_133 (dk_at dksX6_item_1 16 rfl rfl)
theorem dX6_item_41 : decode cX6_item 41 = .ok (.lconst 0, 1) := dk_9 (dk_at dksX6_item_1 17 rfl rfl)
theorem dX6_item_42 : decode cX6_item 42 = .ok (.aload_n 0, 1) := dk_42 (dk_at dksX6_item_1 18 rfl rfl)
theorem dX6_item_43 : decode cX6_item 43 = .ok (.getfield 46, 3) := dk_180 0 46 (dk_at dksX6_item_1 19 rfl rfl)
theorem dX6_item_46 : decode cX6_item 46 = .ok (.iload_n 1, 1) := dk_27 (dk_at dksX6_item_1 22 rfl rfl)
theorem dX6_item_47 : decode cX6_item 47 = .ok (.iaload, 1) := dk_46 (dk_at dksX6_item_1 23 rfl rfl)
theorem dX6_item_48 : decode cX6_item 48 = .ok (.iconst 1, 1) := dk_4 (dk_at dksX6_item_2 0 rfl rfl)
theorem dX6_item_49 : decode cX6_item 49 = .ok (.isub, 1) := dk_100 (dk_at dksX6_item_2 1 rfl rfl)
theorem dX6_item_50 : decode cX6_item 50 = .ok (.i2l, 1) := dk_133 (dk_at dksX6_item_2 2 rfl rfl)
theorem dX6_item_51 : decode cX6_item 51 = .ok (.invokestatic 64, 3) := dk_184 0 64 (dk_at dksX6_item_2 3 rfl rfl)
theorem dX6_item_54 : decode cX6_item 54 = .ok (.ifCond .eq 17, 3) := dk_153 0 17 (dk_at dksX6_item_2 6 rfl rfl)
theorem dX6_item_57 : decode cX6_item 57 = .ok (.aload_n 0, 1) := dk_42 (dk_at dksX6_item_2 9 rfl rfl)
theorem dX6_item_58 : decode cX6_item 58 = .ok (.getfield 49, 3) := dk_180 0 49 (dk_at dksX6_item_2 10 rfl rfl)
theorem dX6_item_61 : decode cX6_item 61 = .ok (.bipush 40, 2) := dk_16 40 (dk_at dksX6_item_2 13 rfl rfl)
theorem dX6_item_63 : decode cX6_item 63 = .ok (.iload_n 1, 1) := dk_27 (dk_at dksX6_item_2 15 rfl rfl)
theorem dX6_item_64 : decode cX6_item 64 = .ok (.imul, 1) := dk_104 (dk_at dksX6_item_2 16 rfl rfl)
theorem dX6_item_65 : decode cX6_item 65 = .ok (.iload_n 3, 1) := dk_29 (dk_at dksX6_item_2 17 rfl rfl)
theorem dX6_item_66 : decode cX6_item 66 = .ok (.iadd, 1) := dk_96 (dk_at dksX6_item_2 18 rfl rfl)
theorem dX6_item_67 : decode cX6_item 67 = .ok (.iaload, 1) := dk_46 (dk_at dksX6_item_2 19 rfl rfl)
theorem dX6_item_68 : decode cX6_item 68 = .ok (.goto 5, 3) := dk_167 0 5 (dk_at dksX6_item_2 20 rfl rfl)
theorem dX6_item_71 : decode cX6_item 71 = .ok (.bipush (-12), 2) := dk_16 244 (dk_at dksX6_item_3 0 rfl rfl)
theorem dX6_item_73 : decode cX6_item 73 = .ok (.ireturn, 1) := dk_172 (dk_at dksX6_item_3 2 rfl rfl)
abbrev cX6_whyNot : ByteArray := prog_26_method_111_code
def yX6_whyNot : MethodName := ⟨RX6, "whyNot", "(II)I"⟩
def dkwX6_whyNot_1 : List UInt8 := [16, 243, 167, 0, 4, 3, 172]
abbrev dktX6_whyNot_1 : List UInt8 := dkwX6_whyNot_1 ++ []
def dkwX6_whyNot_0 : List UInt8 := [42, 180, 0, 43, 27, 46, 156, 0, 8, 16, 245, 167, 0, 19, 42, 180, 0, 43, 27, 46, 28, 159, 0, 8]
abbrev dktX6_whyNot_0 : List UInt8 := dkwX6_whyNot_0 ++ dktX6_whyNot_1
theorem dksX6_whyNot_0 : cX6_whyNot.data.toList.drop 0 = dktX6_whyNot_0 := by decide +kernel
theorem dksX6_whyNot_1 : cX6_whyNot.data.toList.drop 24 = dktX6_whyNot_1 := dk_seg dksX6_whyNot_0 24 rfl rfl
theorem dX6_whyNot_0 : decode cX6_whyNot 0 = .ok (.aload_n 0, 1) := dk_42 (dk_at dksX6_whyNot_0 0 rfl rfl)
theorem dX6_whyNot_1 : decode cX6_whyNot 1 = .ok (.getfield 43, 3) := dk_180 0 43 (dk_at dksX6_whyNot_0 1 rfl rfl)
theorem dX6_whyNot_4 : decode cX6_whyNot 4 = .ok (.iload_n 1, 1) := dk_27 (dk_at dksX6_whyNot_0 4 rfl rfl)
theorem dX6_whyNot_5 : decode cX6_whyNot 5 = .ok (.iaload, 1) := dk_46 (dk_at dksX6_whyNot_0 5 rfl rfl)
theorem dX6_whyNot_6 : decode cX6_whyNot 6 = .ok (.ifCond .ge 8, 3) := dk_156 0 8 (dk_at dksX6_whyNot_0 6 rfl rfl)
theorem dX6_whyNot_9 : decode cX6_whyNot 9 = .ok (.bipush (-11), 2) := dk_16 245 (dk_at dksX6_whyNot_0 9 rfl rfl)
theorem dX6_whyNot_11 : decode cX6_whyNot 11 = .ok (.goto 19, 3) := dk_167 0 19 (dk_at dksX6_whyNot_0 11 rfl rfl)
theorem dX6_whyNot_14 : decode cX6_whyNot 14 = .ok (.aload_n 0, 1) := dk_42 (dk_at dksX6_whyNot_0 14 rfl rfl)
theorem dX6_whyNot_15 : decode cX6_whyNot 15 = .ok (.getfield 43, 3) := dk_180 0 43 (dk_at dksX6_whyNot_0 15 rfl rfl)
theorem dX6_whyNot_18 : decode cX6_whyNot 18 = .ok (.iload_n 1, 1) := dk_27 (dk_at dksX6_whyNot_0 18 rfl rfl)
theorem dX6_whyNot_19 : decode cX6_whyNot 19 = .ok (.iaload, 1) := dk_46 (dk_at dksX6_whyNot_0 19 rfl rfl)
theorem dX6_whyNot_20 : decode cX6_whyNot 20 = .ok (.iload_n 2, 1) := dk_28 (dk_at dksX6_whyNot_0 20 rfl rfl)
theorem dX6_whyNot_21 : decode cX6_whyNot 21 = .ok (.if_icmp .eq 8, 3) := dk_159 0 8 (dk_at dksX6_whyNot_0 21 rfl rfl)
theorem dX6_whyNot_24 : decode cX6_whyNot 24 = .ok (.bipush (-13), 2) := dk_16 243 (dk_at dksX6_whyNot_1 0 rfl rfl)
theorem dX6_whyNot_26 : decode cX6_whyNot 26 = .ok (.goto 4, 3) := dk_167 0 4 (dk_at dksX6_whyNot_1 2 rfl rfl)
theorem dX6_whyNot_29 : decode cX6_whyNot 29 = .ok (.iconst 0, 1) := dk_3 (dk_at dksX6_whyNot_1 5 rfl rfl)
theorem dX6_whyNot_30 : decode cX6_whyNot 30 = .ok (.ireturn, 1) := dk_172 (dk_at dksX6_whyNot_1 6 rfl rfl)
abbrev cX6_goAll : ByteArray := prog_26_method_115_code
def yX6_goAll : MethodName := ⟨RX6, "goAll", "(III)I"⟩
def dkwX6_goAll_4 : List UInt8 := [54, 5, 132, 6, 1, 167, 255, 190, 21, 5, 172]
abbrev dktX6_goAll_4 : List UInt8 := dkwX6_goAll_4 ++ []
def dkwX6_goAll_3 : List UInt8 := [54, 7, 21, 5, 42, 21, 7, 182, 1, 14, 153, 0, 12, 42, 21, 7, 182, 0, 146, 167, 0, 4, 3, 96]
abbrev dktX6_goAll_3 : List UInt8 := dkwX6_goAll_3 ++ dktX6_goAll_4
def dkwX6_goAll_2 : List UInt8 := [182, 1, 157, 154, 0, 6, 16, 244, 172, 42, 180, 0, 49, 16, 40, 27, 104, 28, 96, 21, 6, 96, 46]
abbrev dktX6_goAll_2 : List UInt8 := dkwX6_goAll_2 ++ dktX6_goAll_3
def dkwX6_goAll_1 : List UInt8 := [21, 4, 172, 3, 54, 5, 3, 54, 6, 21, 6, 29, 162, 0, 66, 42, 27, 28, 133, 21, 6, 133, 97]
abbrev dktX6_goAll_1 : List UInt8 := dkwX6_goAll_1 ++ dktX6_goAll_2
def dkwX6_goAll_0 : List UInt8 := [42, 27, 29, 182, 1, 154, 154, 0, 5, 2, 172, 42, 27, 3, 182, 1, 149, 54, 4, 21, 4, 153, 0, 6]
abbrev dktX6_goAll_0 : List UInt8 := dkwX6_goAll_0 ++ dktX6_goAll_1
theorem dksX6_goAll_0 : cX6_goAll.data.toList.drop 0 = dktX6_goAll_0 := by decide +kernel
theorem dksX6_goAll_1 : cX6_goAll.data.toList.drop 24 = dktX6_goAll_1 := dk_seg dksX6_goAll_0 24 rfl rfl
theorem dksX6_goAll_2 : cX6_goAll.data.toList.drop 47 = dktX6_goAll_2 := dk_seg dksX6_goAll_1 23 rfl rfl
theorem dksX6_goAll_3 : cX6_goAll.data.toList.drop 70 = dktX6_goAll_3 := dk_seg dksX6_goAll_2 23 rfl rfl
theorem dksX6_goAll_4 : cX6_goAll.data.toList.drop 94 = dktX6_goAll_4 := dk_seg dksX6_goAll_3 24 rfl rfl
theorem dX6_goAll_0 : decode cX6_goAll 0 = .ok (.aload_n 0, 1) := dk_42 (dk_at dksX6_goAll_0 0 rfl rfl)
theorem dX6_goAll_1 : decode cX6_goAll 1 = .ok (.iload_n 1, 1) := dk_27 (dk_at dksX6_goAll_0 1 rfl rfl)
theorem dX6_goAll_2 : decode cX6_goAll 2 = .ok (.iload_n 3, 1) := dk_29 (dk_at dksX6_goAll_0 2 rfl rfl)
theorem dX6_goAll_3 : decode cX6_goAll 3 = .ok (.invokevirtual 410, 3) := dk_182 1 154 (dk_at dksX6_goAll_0 3 rfl rfl)
theorem dX6_goAll_6 : decode cX6_goAll 6 = .ok (.ifCond .ne 5, 3) := dk_154 0 5 (dk_at dksX6_goAll_0 6 rfl rfl)
theorem dX6_goAll_9 : decode cX6_goAll 9 = .ok (.iconst (-1), 1) := dk_2 (dk_at dksX6_goAll_0 9 rfl rfl)
theorem dX6_goAll_10 : decode cX6_goAll 10 = .ok (.ireturn, 1) := dk_172 (dk_at dksX6_goAll_0 10 rfl rfl)
theorem dX6_goAll_11 : decode cX6_goAll 11 = .ok (.aload_n 0, 1) := dk_42 (dk_at dksX6_goAll_0 11 rfl rfl)
theorem dX6_goAll_12 : decode cX6_goAll 12 = .ok (.iload_n 1, 1) := dk_27 (dk_at dksX6_goAll_0 12 rfl rfl)
theorem dX6_goAll_13 : decode cX6_goAll 13 = .ok (.iconst 0, 1) := dk_3 (dk_at dksX6_goAll_0 13 rfl rfl)
theorem dX6_goAll_14 : decode cX6_goAll 14 = .ok (.invokevirtual 405, 3) := dk_182 1 149 (dk_at dksX6_goAll_0 14 rfl rfl)
theorem dX6_goAll_17 : decode cX6_goAll 17 = .ok (.istore 4, 2) := dk_54 4 (dk_at dksX6_goAll_0 17 rfl rfl)
theorem dX6_goAll_19 : decode cX6_goAll 19 = .ok (.iload 4, 2) := dk_21 4 (dk_at dksX6_goAll_0 19 rfl rfl)
theorem dX6_goAll_21 : decode cX6_goAll 21 = .ok (.ifCond .eq 6, 3) := dk_153 0 6 (dk_at dksX6_goAll_0 21 rfl rfl)
theorem dX6_goAll_24 : decode cX6_goAll 24 = .ok (.iload 4, 2) := dk_21 4 (dk_at dksX6_goAll_1 0 rfl rfl)
theorem dX6_goAll_26 : decode cX6_goAll 26 = .ok (.ireturn, 1) := dk_172 (dk_at dksX6_goAll_1 2 rfl rfl)
theorem dX6_goAll_27 : decode cX6_goAll 27 = .ok (.iconst 0, 1) := dk_3 (dk_at dksX6_goAll_1 3 rfl rfl)
theorem dX6_goAll_28 : decode cX6_goAll 28 = .ok (.istore 5, 2) := dk_54 5 (dk_at dksX6_goAll_1 4 rfl rfl)
theorem dX6_goAll_30 : decode cX6_goAll 30 = .ok (.iconst 0, 1) := dk_3 (dk_at dksX6_goAll_1 6 rfl rfl)
theorem dX6_goAll_31 : decode cX6_goAll 31 = .ok (.istore 6, 2) := dk_54 6 (dk_at dksX6_goAll_1 7 rfl rfl)
theorem dX6_goAll_33 : decode cX6_goAll 33 = .ok (.iload 6, 2) := dk_21 6 (dk_at dksX6_goAll_1 9 rfl rfl)
theorem dX6_goAll_35 : decode cX6_goAll 35 = .ok (.iload_n 3, 1) := dk_29 (dk_at dksX6_goAll_1 11 rfl rfl)
theorem dX6_goAll_36 : decode cX6_goAll 36 = .ok (.if_icmp .ge 66, 3) := dk_162 0 66 (dk_at dksX6_goAll_1 12 rfl rfl)
theorem dX6_goAll_39 : decode cX6_goAll 39 = .ok (.aload_n 0, 1) := dk_42 (dk_at dksX6_goAll_1 15 rfl rfl)
theorem dX6_goAll_40 : decode cX6_goAll 40 = .ok (.iload_n 1, 1) := dk_27 (dk_at dksX6_goAll_1 16 rfl rfl)
theorem dX6_goAll_41 : decode cX6_goAll 41 = .ok (.iload_n 2, 1) := dk_28 (dk_at dksX6_goAll_1 17 rfl rfl)
theorem dX6_goAll_42 : decode cX6_goAll 42 = .ok (.i2l, 1) := dk_133 (dk_at dksX6_goAll_1 18 rfl rfl)
theorem dX6_goAll_43 : decode cX6_goAll 43 = .ok (.iload 6, 2) := dk_21 6 (dk_at dksX6_goAll_1 19 rfl rfl)
theorem dX6_goAll_45 : decode cX6_goAll 45 = .ok (.i2l, 1) := dk_133 (dk_at dksX6_goAll_1 21 rfl rfl)
theorem dX6_goAll_46 : decode cX6_goAll 46 = .ok (.ladd, 1) := dk_97 (dk_at dksX6_goAll_1 22 rfl rfl)
theorem dX6_goAll_47 : decode cX6_goAll 47 = .ok (.invokevirtual 413, 3) := dk_182 1 157 (dk_at dksX6_goAll_2 0 rfl rfl)
theorem dX6_goAll_50 : decode cX6_goAll 50 = .ok (.ifCond .ne 6, 3) := dk_154 0 6 (dk_at dksX6_goAll_2 3 rfl rfl)
theorem dX6_goAll_53 : decode cX6_goAll 53 = .ok (.bipush (-12), 2) := dk_16 244 (dk_at dksX6_goAll_2 6 rfl rfl)
theorem dX6_goAll_55 : decode cX6_goAll 55 = .ok (.ireturn, 1) := dk_172 (dk_at dksX6_goAll_2 8 rfl rfl)
theorem dX6_goAll_56 : decode cX6_goAll 56 = .ok (.aload_n 0, 1) := dk_42 (dk_at dksX6_goAll_2 9 rfl rfl)
theorem dX6_goAll_57 : decode cX6_goAll 57 = .ok (.getfield 49, 3) := dk_180 0 49 (dk_at dksX6_goAll_2 10 rfl rfl)
theorem dX6_goAll_60 : decode cX6_goAll 60 = .ok (.bipush 40, 2) := dk_16 40 (dk_at dksX6_goAll_2 13 rfl rfl)
theorem dX6_goAll_62 : decode cX6_goAll 62 = .ok (.iload_n 1, 1) := dk_27 (dk_at dksX6_goAll_2 15 rfl rfl)
theorem dX6_goAll_63 : decode cX6_goAll 63 = .ok (.imul, 1) := dk_104 (dk_at dksX6_goAll_2 16 rfl rfl)
theorem dX6_goAll_64 : decode cX6_goAll 64 = .ok (.iload_n 2, 1) := dk_28 (dk_at dksX6_goAll_2 17 rfl rfl)
theorem dX6_goAll_65 : decode cX6_goAll 65 = .ok (.iadd, 1) := dk_96 (dk_at dksX6_goAll_2 18 rfl rfl)
theorem dX6_goAll_66 : decode cX6_goAll 66 = .ok (.iload 6, 2) := dk_21 6 (dk_at dksX6_goAll_2 19 rfl rfl)
theorem dX6_goAll_68 : decode cX6_goAll 68 = .ok (.iadd, 1) := dk_96 (dk_at dksX6_goAll_2 21 rfl rfl)
theorem dX6_goAll_69 : decode cX6_goAll 69 = .ok (.iaload, 1) := dk_46 (dk_at dksX6_goAll_2 22 rfl rfl)
theorem dX6_goAll_70 : decode cX6_goAll 70 = .ok (.istore 7, 2) := dk_54 7 (dk_at dksX6_goAll_3 0 rfl rfl)
theorem dX6_goAll_72 : decode cX6_goAll 72 = .ok (.iload 5, 2) := dk_21 5 (dk_at dksX6_goAll_3 2 rfl rfl)
theorem dX6_goAll_74 : decode cX6_goAll 74 = .ok (.aload_n 0, 1) := dk_42 (dk_at dksX6_goAll_3 4 rfl rfl)
theorem dX6_goAll_75 : decode cX6_goAll 75 = .ok (.iload 7, 2) := dk_21 7 (dk_at dksX6_goAll_3 5 rfl rfl)
theorem dX6_goAll_77 : decode cX6_goAll 77 = .ok (.invokevirtual 270, 3) := dk_182 1 14 (dk_at dksX6_goAll_3 7 rfl rfl)
theorem dX6_goAll_80 : decode cX6_goAll 80 = .ok (.ifCond .eq 12, 3) := dk_153 0 12 (dk_at dksX6_goAll_3 10 rfl rfl)
theorem dX6_goAll_83 : decode cX6_goAll 83 = .ok (.aload_n 0, 1) := dk_42 (dk_at dksX6_goAll_3 13 rfl rfl)
theorem dX6_goAll_84 : decode cX6_goAll 84 = .ok (.iload 7, 2) := dk_21 7 (dk_at dksX6_goAll_3 14 rfl rfl)
theorem dX6_goAll_86 : decode cX6_goAll 86 = .ok (.invokevirtual 146, 3) := dk_182 0 146 (dk_at dksX6_goAll_3 16 rfl rfl)
theorem dX6_goAll_89 : decode cX6_goAll 89 = .ok (.goto 4, 3) := dk_167 0 4 (dk_at dksX6_goAll_3 19 rfl rfl)
theorem dX6_goAll_92 : decode cX6_goAll 92 = .ok (.iconst 0, 1) := dk_3 (dk_at dksX6_goAll_3 22 rfl rfl)
theorem dX6_goAll_93 : decode cX6_goAll 93 = .ok (.iadd, 1) := dk_96 (dk_at dksX6_goAll_3 23 rfl rfl)
theorem dX6_goAll_94 : decode cX6_goAll 94 = .ok (.istore 5, 2) := dk_54 5 (dk_at dksX6_goAll_4 0 rfl rfl)
theorem dX6_goAll_96 : decode cX6_goAll 96 = .ok (.iinc 6 1, 3) := dk_132 6 1 (dk_at dksX6_goAll_4 2 rfl rfl)
theorem dX6_goAll_99 : decode cX6_goAll 99 = .ok (.goto (-66), 3) := dk_167 255 190 (dk_at dksX6_goAll_4 5 rfl rfl)
theorem dX6_goAll_102 : decode cX6_goAll 102 = .ok (.iload 5, 2) := dk_21 5 (dk_at dksX6_goAll_4 8 rfl rfl)
theorem dX6_goAll_104 : decode cX6_goAll 104 = .ok (.ireturn, 1) := dk_172 (dk_at dksX6_goAll_4 10 rfl rfl)
abbrev cX6_isSpan : ByteArray := prog_26_method_114_code
def yX6_isSpan : MethodName := ⟨RX6, "isSpan", "(II)Z"⟩
def dkwX6_isSpan_1 : List UInt8 := [172]
abbrev dktX6_isSpan_1 : List UInt8 := dkwX6_isSpan_1 ++ []
def dkwX6_isSpan_0 : List UInt8 := [27, 184, 1, 141, 153, 0, 19, 28, 133, 9, 20, 1, 152, 184, 0, 64, 153, 0, 7, 4, 167, 0, 4, 3]
abbrev dktX6_isSpan_0 : List UInt8 := dkwX6_isSpan_0 ++ dktX6_isSpan_1
theorem dksX6_isSpan_0 : cX6_isSpan.data.toList.drop 0 = dktX6_isSpan_0 := by decide +kernel
theorem dksX6_isSpan_1 : cX6_isSpan.data.toList.drop 24 = dktX6_isSpan_1 := dk_seg dksX6_isSpan_0 24 rfl rfl
theorem dX6_isSpan_0 : decode cX6_isSpan 0 = .ok (.iload_n 1, 1) := dk_27 (dk_at dksX6_isSpan_0 0 rfl rfl)
theorem dX6_isSpan_1 : decode cX6_isSpan 1 = .ok (.invokestatic 397, 3) := dk_184 1 141 (dk_at dksX6_isSpan_0 1 rfl rfl)
theorem dX6_isSpan_4 : decode cX6_isSpan 4 = .ok (.ifCond .eq 19, 3) := dk_153 0 19 (dk_at dksX6_isSpan_0 4 rfl rfl)
theorem dX6_isSpan_7 : decode cX6_isSpan 7 = .ok (.iload_n 2, 1) := dk_28 (dk_at dksX6_isSpan_0 7 rfl rfl)
theorem dX6_isSpan_8 : decode cX6_isSpan 8 = .ok (.i2l, 1) := dk_133 (dk_at dksX6_isSpan_0 8 rfl rfl)
theorem dX6_isSpan_9 : decode cX6_isSpan 9 = .ok (.lconst 0, 1) := dk_9 (dk_at dksX6_isSpan_0 9 rfl rfl)
theorem dX6_isSpan_10 : decode cX6_isSpan 10 = .ok (.ldc2_w 408, 3) := dk_20 1 152 (dk_at dksX6_isSpan_0 10 rfl rfl)
theorem dX6_isSpan_13 : decode cX6_isSpan 13 = .ok (.invokestatic 64, 3) := dk_184 0 64 (dk_at dksX6_isSpan_0 13 rfl rfl)
theorem dX6_isSpan_16 : decode cX6_isSpan 16 = .ok (.ifCond .eq 7, 3) := dk_153 0 7 (dk_at dksX6_isSpan_0 16 rfl rfl)
theorem dX6_isSpan_19 : decode cX6_isSpan 19 = .ok (.iconst 1, 1) := dk_4 (dk_at dksX6_isSpan_0 19 rfl rfl)
theorem dX6_isSpan_20 : decode cX6_isSpan 20 = .ok (.goto 4, 3) := dk_167 0 4 (dk_at dksX6_isSpan_0 20 rfl rfl)
theorem dX6_isSpan_23 : decode cX6_isSpan 23 = .ok (.iconst 0, 1) := dk_3 (dk_at dksX6_isSpan_0 23 rfl rfl)
theorem dX6_isSpan_24 : decode cX6_isSpan 24 = .ok (.ireturn, 1) := dk_172 (dk_at dksX6_isSpan_1 0 rfl rfl)
abbrev cX6_isItem : ByteArray := prog_26_method_113_code
def yX6_isItem : MethodName := ⟨RX6, "isItem", "(IJ)Z"⟩
def dkwX6_isItem_0 : List UInt8 := [32, 9, 42, 180, 0, 46, 27, 46, 4, 100, 133, 184, 0, 64, 172]
abbrev dktX6_isItem_0 : List UInt8 := dkwX6_isItem_0 ++ []
theorem dksX6_isItem_0 : cX6_isItem.data.toList.drop 0 = dktX6_isItem_0 := by decide +kernel
theorem dX6_isItem_0 : decode cX6_isItem 0 = .ok (.lload_n 2, 1) := dk_32 (dk_at dksX6_isItem_0 0 rfl rfl)
theorem dX6_isItem_1 : decode cX6_isItem 1 = .ok (.lconst 0, 1) := dk_9 (dk_at dksX6_isItem_0 1 rfl rfl)
theorem dX6_isItem_2 : decode cX6_isItem 2 = .ok (.aload_n 0, 1) := dk_42 (dk_at dksX6_isItem_0 2 rfl rfl)
theorem dX6_isItem_3 : decode cX6_isItem 3 = .ok (.getfield 46, 3) := dk_180 0 46 (dk_at dksX6_isItem_0 3 rfl rfl)
theorem dX6_isItem_6 : decode cX6_isItem 6 = .ok (.iload_n 1, 1) := dk_27 (dk_at dksX6_isItem_0 6 rfl rfl)
theorem dX6_isItem_7 : decode cX6_isItem 7 = .ok (.iaload, 1) := dk_46 (dk_at dksX6_isItem_0 7 rfl rfl)
theorem dX6_isItem_8 : decode cX6_isItem 8 = .ok (.iconst 1, 1) := dk_4 (dk_at dksX6_isItem_0 8 rfl rfl)
theorem dX6_isItem_9 : decode cX6_isItem 9 = .ok (.isub, 1) := dk_100 (dk_at dksX6_isItem_0 9 rfl rfl)
theorem dX6_isItem_10 : decode cX6_isItem 10 = .ok (.i2l, 1) := dk_133 (dk_at dksX6_isItem_0 10 rfl rfl)
theorem dX6_isItem_11 : decode cX6_isItem 11 = .ok (.invokestatic 64, 3) := dk_184 0 64 (dk_at dksX6_isItem_0 11 rfl rfl)
theorem dX6_isItem_14 : decode cX6_isItem 14 = .ok (.ireturn, 1) := dk_172 (dk_at dksX6_isItem_0 14 rfl rfl)
abbrev cX6_wouldBe : ByteArray := prog_26_method_116_code
def yX6_wouldBe : MethodName := ⟨RX6, "wouldBe", "(III)I"⟩
def dkwX6_wouldBe_6 : List UInt8 := [21, 4, 153, 0, 8, 21, 4, 167, 0, 5, 21, 5, 172]
abbrev dktX6_wouldBe_6 : List UInt8 := dkwX6_wouldBe_6 ++ []
def dkwX6_wouldBe_5 : List UInt8 := [21, 6, 96, 46, 182, 0, 146, 167, 0, 4, 3, 96, 54, 5, 132, 6, 1, 167, 255, 158, 42, 182, 0, 160]
abbrev dktX6_wouldBe_5 : List UInt8 := dkwX6_wouldBe_5 ++ dktX6_wouldBe_6
def dkwX6_wouldBe_4 : List UInt8 := [167, 0, 4, 3, 54, 4, 21, 5, 21, 4, 154, 0, 24, 42, 42, 180, 0, 49, 16, 40, 27, 104, 28, 96]
abbrev dktX6_wouldBe_4 : List UInt8 := dkwX6_wouldBe_4 ++ dktX6_wouldBe_5
def dkwX6_wouldBe_3 : List UInt8 := [42, 180, 0, 49, 16, 40, 27, 104, 28, 96, 21, 6, 96, 46, 182, 1, 14, 154, 0, 8, 16, 252]
abbrev dktX6_wouldBe_3 : List UInt8 := dkwX6_wouldBe_3 ++ dktX6_wouldBe_4
def dkwX6_wouldBe_2 : List UInt8 := [42, 27, 28, 133, 21, 6, 133, 97, 182, 1, 157, 54, 7, 21, 7, 154, 0, 8, 16, 244, 167, 0, 30, 42]
abbrev dktX6_wouldBe_2 : List UInt8 := dkwX6_wouldBe_2 ++ dktX6_wouldBe_3
def dkwX6_wouldBe_1 : List UInt8 := [21, 4, 172, 42, 182, 0, 154, 3, 54, 5, 3, 54, 6, 21, 6, 29, 162, 0, 98, 21, 4, 154, 0, 93]
abbrev dktX6_wouldBe_1 : List UInt8 := dkwX6_wouldBe_1 ++ dktX6_wouldBe_2
def dkwX6_wouldBe_0 : List UInt8 := [42, 27, 29, 182, 1, 154, 154, 0, 5, 2, 172, 42, 27, 3, 182, 1, 149, 54, 4, 21, 4, 153, 0, 6]
abbrev dktX6_wouldBe_0 : List UInt8 := dkwX6_wouldBe_0 ++ dktX6_wouldBe_1
theorem dksX6_wouldBe_0 : cX6_wouldBe.data.toList.drop 0 = dktX6_wouldBe_0 := by decide +kernel
theorem dksX6_wouldBe_1 : cX6_wouldBe.data.toList.drop 24 = dktX6_wouldBe_1 := dk_seg dksX6_wouldBe_0 24 rfl rfl
theorem dksX6_wouldBe_2 : cX6_wouldBe.data.toList.drop 48 = dktX6_wouldBe_2 := dk_seg dksX6_wouldBe_1 24 rfl rfl
theorem dksX6_wouldBe_3 : cX6_wouldBe.data.toList.drop 72 = dktX6_wouldBe_3 := dk_seg dksX6_wouldBe_2 24 rfl rfl
theorem dksX6_wouldBe_4 : cX6_wouldBe.data.toList.drop 94 = dktX6_wouldBe_4 := dk_seg dksX6_wouldBe_3 22 rfl rfl
theorem dksX6_wouldBe_5 : cX6_wouldBe.data.toList.drop 118 = dktX6_wouldBe_5 := dk_seg dksX6_wouldBe_4 24 rfl rfl
theorem dksX6_wouldBe_6 : cX6_wouldBe.data.toList.drop 142 = dktX6_wouldBe_6 := dk_seg dksX6_wouldBe_5 24 rfl rfl
theorem dX6_wouldBe_0 : decode cX6_wouldBe 0 = .ok (.aload_n 0, 1) := dk_42 (dk_at dksX6_wouldBe_0 0 rfl rfl)
theorem dX6_wouldBe_1 : decode cX6_wouldBe 1 = .ok (.iload_n 1, 1) := dk_27 (dk_at dksX6_wouldBe_0 1 rfl rfl)
theorem dX6_wouldBe_2 : decode cX6_wouldBe 2 = .ok (.iload_n 3, 1) := dk_29 (dk_at dksX6_wouldBe_0 2 rfl rfl)
theorem dX6_wouldBe_3 : decode cX6_wouldBe 3 = .ok (.invokevirtual 410, 3) := dk_182 1 154 (dk_at dksX6_wouldBe_0 3 rfl rfl)
theorem dX6_wouldBe_6 : decode cX6_wouldBe 6 = .ok (.ifCond .ne 5, 3) := dk_154 0 5 (dk_at dksX6_wouldBe_0 6 rfl rfl)
theorem dX6_wouldBe_9 : decode cX6_wouldBe 9 = .ok (.iconst (-1), 1) := dk_2 (dk_at dksX6_wouldBe_0 9 rfl rfl)
theorem dX6_wouldBe_10 : decode cX6_wouldBe 10 = .ok (.ireturn, 1) := dk_172 (dk_at dksX6_wouldBe_0 10 rfl rfl)
theorem dX6_wouldBe_11 : decode cX6_wouldBe 11 = .ok (.aload_n 0, 1) := dk_42 (dk_at dksX6_wouldBe_0 11 rfl rfl)
theorem dX6_wouldBe_12 : decode cX6_wouldBe 12 = .ok (.iload_n 1, 1) := dk_27 (dk_at dksX6_wouldBe_0 12 rfl rfl)
theorem dX6_wouldBe_13 : decode cX6_wouldBe 13 = .ok (.iconst 0, 1) := dk_3 (dk_at dksX6_wouldBe_0 13 rfl rfl)
theorem dX6_wouldBe_14 : decode cX6_wouldBe 14 = .ok (.invokevirtual 405, 3) := dk_182 1 149 (dk_at dksX6_wouldBe_0 14 rfl rfl)
theorem dX6_wouldBe_17 : decode cX6_wouldBe 17 = .ok (.istore 4, 2) := dk_54 4 (dk_at dksX6_wouldBe_0 17 rfl rfl)
theorem dX6_wouldBe_19 : decode cX6_wouldBe 19 = .ok (.iload 4, 2) := dk_21 4 (dk_at dksX6_wouldBe_0 19 rfl rfl)
theorem dX6_wouldBe_21 : decode cX6_wouldBe 21 = .ok (.ifCond .eq 6, 3) := dk_153 0 6 (dk_at dksX6_wouldBe_0 21 rfl rfl)
theorem dX6_wouldBe_24 : decode cX6_wouldBe 24 = .ok (.iload 4, 2) := dk_21 4 (dk_at dksX6_wouldBe_1 0 rfl rfl)
theorem dX6_wouldBe_26 : decode cX6_wouldBe 26 = .ok (.ireturn, 1) := dk_172 (dk_at dksX6_wouldBe_1 2 rfl rfl)
theorem dX6_wouldBe_27 : decode cX6_wouldBe 27 = .ok (.aload_n 0, 1) := dk_42 (dk_at dksX6_wouldBe_1 3 rfl rfl)
theorem dX6_wouldBe_28 : decode cX6_wouldBe 28 = .ok (.invokevirtual 154, 3) := dk_182 0 154 (dk_at dksX6_wouldBe_1 4 rfl rfl)
theorem dX6_wouldBe_31 : decode cX6_wouldBe 31 = .ok (.iconst 0, 1) := dk_3 (dk_at dksX6_wouldBe_1 7 rfl rfl)
theorem dX6_wouldBe_32 : decode cX6_wouldBe 32 = .ok (.istore 5, 2) := dk_54 5 (dk_at dksX6_wouldBe_1 8 rfl rfl)
theorem dX6_wouldBe_34 : decode cX6_wouldBe 34 = .ok (.iconst 0, 1) := dk_3 (dk_at dksX6_wouldBe_1 10 rfl rfl)
theorem dX6_wouldBe_35 : decode cX6_wouldBe 35 = .ok (.istore 6, 2) := dk_54 6 (dk_at dksX6_wouldBe_1 11 rfl rfl)
theorem dX6_wouldBe_37 : decode cX6_wouldBe 37 = .ok (.iload 6, 2) := dk_21 6 (dk_at dksX6_wouldBe_1 13 rfl rfl)
theorem dX6_wouldBe_39 : decode cX6_wouldBe 39 = .ok (.iload_n 3, 1) := dk_29 (dk_at dksX6_wouldBe_1 15 rfl rfl)
theorem dX6_wouldBe_40 : decode cX6_wouldBe 40 = .ok (.if_icmp .ge 98, 3) := dk_162 0 98 (dk_at dksX6_wouldBe_1 16 rfl rfl)
theorem dX6_wouldBe_43 : decode cX6_wouldBe 43 = .ok (.iload 4, 2) := dk_21 4 (dk_at dksX6_wouldBe_1 19 rfl rfl)
theorem dX6_wouldBe_45 : decode cX6_wouldBe 45 = .ok (.ifCond .ne 93, 3) := dk_154 0 93 (dk_at dksX6_wouldBe_1 21 rfl rfl)
theorem dX6_wouldBe_48 : decode cX6_wouldBe 48 = .ok (.aload_n 0, 1) := dk_42 (dk_at dksX6_wouldBe_2 0 rfl rfl)
theorem dX6_wouldBe_49 : decode cX6_wouldBe 49 = .ok (.iload_n 1, 1) := dk_27 (dk_at dksX6_wouldBe_2 1 rfl rfl)
theorem dX6_wouldBe_50 : decode cX6_wouldBe 50 = .ok (.iload_n 2, 1) := dk_28 (dk_at dksX6_wouldBe_2 2 rfl rfl)
theorem dX6_wouldBe_51 : decode cX6_wouldBe 51 = .ok (.i2l, 1) := dk_133 (dk_at dksX6_wouldBe_2 3 rfl rfl)
theorem dX6_wouldBe_52 : decode cX6_wouldBe 52 = .ok (.iload 6, 2) := dk_21 6 (dk_at dksX6_wouldBe_2 4 rfl rfl)
theorem dX6_wouldBe_54 : decode cX6_wouldBe 54 = .ok (.i2l, 1) := dk_133 (dk_at dksX6_wouldBe_2 6 rfl rfl)
theorem dX6_wouldBe_55 : decode cX6_wouldBe 55 = .ok (.ladd, 1) := dk_97 (dk_at dksX6_wouldBe_2 7 rfl rfl)
theorem dX6_wouldBe_56 : decode cX6_wouldBe 56 = .ok (.invokevirtual 413, 3) := dk_182 1 157 (dk_at dksX6_wouldBe_2 8 rfl rfl)
theorem dX6_wouldBe_59 : decode cX6_wouldBe 59 = .ok (.istore 7, 2) := dk_54 7 (dk_at dksX6_wouldBe_2 11 rfl rfl)
theorem dX6_wouldBe_61 : decode cX6_wouldBe 61 = .ok (.iload 7, 2) := dk_21 7 (dk_at dksX6_wouldBe_2 13 rfl rfl)
theorem dX6_wouldBe_63 : decode cX6_wouldBe 63 = .ok (.ifCond .ne 8, 3) := dk_154 0 8 (dk_at dksX6_wouldBe_2 15 rfl rfl)
theorem dX6_wouldBe_66 : decode cX6_wouldBe 66 = .ok (.bipush (-12), 2) := dk_16 244 (dk_at dksX6_wouldBe_2 18 rfl rfl)
theorem dX6_wouldBe_68 : decode cX6_wouldBe 68 = .ok (.goto 30, 3) := dk_167 0 30 (dk_at dksX6_wouldBe_2 20 rfl rfl)
theorem dX6_wouldBe_71 : decode cX6_wouldBe 71 = .ok (.aload_n 0, 1) := dk_42 (dk_at dksX6_wouldBe_2 23 rfl rfl)
theorem dX6_wouldBe_72 : decode cX6_wouldBe 72 = .ok (.aload_n 0, 1) := dk_42 (dk_at dksX6_wouldBe_3 0 rfl rfl)
theorem dX6_wouldBe_73 : decode cX6_wouldBe 73 = .ok (.getfield 49, 3) := dk_180 0 49 (dk_at dksX6_wouldBe_3 1 rfl rfl)
theorem dX6_wouldBe_76 : decode cX6_wouldBe 76 = .ok (.bipush 40, 2) := dk_16 40 (dk_at dksX6_wouldBe_3 4 rfl rfl)
theorem dX6_wouldBe_78 : decode cX6_wouldBe 78 = .ok (.iload_n 1, 1) := dk_27 (dk_at dksX6_wouldBe_3 6 rfl rfl)
theorem dX6_wouldBe_79 : decode cX6_wouldBe 79 = .ok (.imul, 1) := dk_104 (dk_at dksX6_wouldBe_3 7 rfl rfl)
theorem dX6_wouldBe_80 : decode cX6_wouldBe 80 = .ok (.iload_n 2, 1) := dk_28 (dk_at dksX6_wouldBe_3 8 rfl rfl)
theorem dX6_wouldBe_81 : decode cX6_wouldBe 81 = .ok (.iadd, 1) := dk_96 (dk_at dksX6_wouldBe_3 9 rfl rfl)
theorem dX6_wouldBe_82 : decode cX6_wouldBe 82 = .ok (.iload 6, 2) := dk_21 6 (dk_at dksX6_wouldBe_3 10 rfl rfl)
theorem dX6_wouldBe_84 : decode cX6_wouldBe 84 = .ok (.iadd, 1) := dk_96 (dk_at dksX6_wouldBe_3 12 rfl rfl)
theorem dX6_wouldBe_85 : decode cX6_wouldBe 85 = .ok (.iaload, 1) := dk_46 (dk_at dksX6_wouldBe_3 13 rfl rfl)
theorem dX6_wouldBe_86 : decode cX6_wouldBe 86 = .ok (.invokevirtual 270, 3) := dk_182 1 14 (dk_at dksX6_wouldBe_3 14 rfl rfl)
theorem dX6_wouldBe_89 : decode cX6_wouldBe 89 = .ok (.ifCond .ne 8, 3) := dk_154 0 8 (dk_at dksX6_wouldBe_3 17 rfl rfl)
theorem dX6_wouldBe_92 : decode cX6_wouldBe 92 = .ok (.bipush (-4), 2) := dk_16 252 (dk_at dksX6_wouldBe_3 20 rfl rfl)
theorem dX6_wouldBe_94 : decode cX6_wouldBe 94 = .ok (.goto 4, 3) := dk_167 0 4 (dk_at dksX6_wouldBe_4 0 rfl rfl)
theorem dX6_wouldBe_97 : decode cX6_wouldBe 97 = .ok (.iconst 0, 1) := dk_3 (dk_at dksX6_wouldBe_4 3 rfl rfl)
theorem dX6_wouldBe_98 : decode cX6_wouldBe 98 = .ok (.istore 4, 2) := dk_54 4 (dk_at dksX6_wouldBe_4 4 rfl rfl)
theorem dX6_wouldBe_100 : decode cX6_wouldBe 100 = .ok (.iload 5, 2) := dk_21 5 (dk_at dksX6_wouldBe_4 6 rfl rfl)
theorem dX6_wouldBe_102 : decode cX6_wouldBe 102 = .ok (.iload 4, 2) := dk_21 4 (dk_at dksX6_wouldBe_4 8 rfl rfl)
theorem dX6_wouldBe_104 : decode cX6_wouldBe 104 = .ok (.ifCond .ne 24, 3) := dk_154 0 24 (dk_at dksX6_wouldBe_4 10 rfl rfl)
theorem dX6_wouldBe_107 : decode cX6_wouldBe 107 = .ok (.aload_n 0, 1) := dk_42 (dk_at dksX6_wouldBe_4 13 rfl rfl)
theorem dX6_wouldBe_108 : decode cX6_wouldBe 108 = .ok (.aload_n 0, 1) := dk_42 (dk_at dksX6_wouldBe_4 14 rfl rfl)
theorem dX6_wouldBe_109 : decode cX6_wouldBe 109 = .ok (.getfield 49, 3) := dk_180 0 49 (dk_at dksX6_wouldBe_4 15 rfl rfl)
theorem dX6_wouldBe_112 : decode cX6_wouldBe 112 = .ok (.bipush 40, 2) := dk_16 40 (dk_at dksX6_wouldBe_4 18 rfl rfl)
theorem dX6_wouldBe_114 : decode cX6_wouldBe 114 = .ok (.iload_n 1, 1) := dk_27 (dk_at dksX6_wouldBe_4 20 rfl rfl)
theorem dX6_wouldBe_115 : decode cX6_wouldBe 115 = .ok (.imul, 1) := dk_104 (dk_at dksX6_wouldBe_4 21 rfl rfl)
theorem dX6_wouldBe_116 : decode cX6_wouldBe 116 = .ok (.iload_n 2, 1) := dk_28 (dk_at dksX6_wouldBe_4 22 rfl rfl)
theorem dX6_wouldBe_117 : decode cX6_wouldBe 117 = .ok (.iadd, 1) := dk_96 (dk_at dksX6_wouldBe_4 23 rfl rfl)
theorem dX6_wouldBe_118 : decode cX6_wouldBe 118 = .ok (.iload 6, 2) := dk_21 6 (dk_at dksX6_wouldBe_5 0 rfl rfl)
theorem dX6_wouldBe_120 : decode cX6_wouldBe 120 = .ok (.iadd, 1) := dk_96 (dk_at dksX6_wouldBe_5 2 rfl rfl)
theorem dX6_wouldBe_121 : decode cX6_wouldBe 121 = .ok (.iaload, 1) := dk_46 (dk_at dksX6_wouldBe_5 3 rfl rfl)
theorem dX6_wouldBe_122 : decode cX6_wouldBe 122 = .ok (.invokevirtual 146, 3) := dk_182 0 146 (dk_at dksX6_wouldBe_5 4 rfl rfl)
theorem dX6_wouldBe_125 : decode cX6_wouldBe 125 = .ok (.goto 4, 3) := dk_167 0 4 (dk_at dksX6_wouldBe_5 7 rfl rfl)
theorem dX6_wouldBe_128 : decode cX6_wouldBe 128 = .ok (.iconst 0, 1) := dk_3 (dk_at dksX6_wouldBe_5 10 rfl rfl)
theorem dX6_wouldBe_129 : decode cX6_wouldBe 129 = .ok (.iadd, 1) := dk_96 (dk_at dksX6_wouldBe_5 11 rfl rfl)
theorem dX6_wouldBe_130 : decode cX6_wouldBe 130 = .ok (.istore 5, 2) := dk_54 5 (dk_at dksX6_wouldBe_5 12 rfl rfl)
theorem dX6_wouldBe_132 : decode cX6_wouldBe 132 = .ok (.iinc 6 1, 3) := dk_132 6 1 (dk_at dksX6_wouldBe_5 14 rfl rfl)
theorem dX6_wouldBe_135 : decode cX6_wouldBe 135 = .ok (.goto (-98), 3) := dk_167 255 158 (dk_at dksX6_wouldBe_5 17 rfl rfl)
theorem dX6_wouldBe_138 : decode cX6_wouldBe 138 = .ok (.aload_n 0, 1) := dk_42 (dk_at dksX6_wouldBe_5 20 rfl rfl)
theorem dX6_wouldBe_139 : decode cX6_wouldBe 139 = .ok (.invokevirtual 160, 3) := dk_182 0 160 (dk_at dksX6_wouldBe_5 21 rfl rfl)
theorem dX6_wouldBe_142 : decode cX6_wouldBe 142 = .ok (.iload 4, 2) := dk_21 4 (dk_at dksX6_wouldBe_6 0 rfl rfl)
theorem dX6_wouldBe_144 : decode cX6_wouldBe 144 = .ok (.ifCond .eq 8, 3) := dk_153 0 8 (dk_at dksX6_wouldBe_6 2 rfl rfl)
theorem dX6_wouldBe_147 : decode cX6_wouldBe 147 = .ok (.iload 4, 2) := dk_21 4 (dk_at dksX6_wouldBe_6 5 rfl rfl)
theorem dX6_wouldBe_149 : decode cX6_wouldBe 149 = .ok (.goto 5, 3) := dk_167 0 5 (dk_at dksX6_wouldBe_6 7 rfl rfl)
theorem dX6_wouldBe_152 : decode cX6_wouldBe 152 = .ok (.iload 5, 2) := dk_21 5 (dk_at dksX6_wouldBe_6 10 rfl rfl)
theorem dX6_wouldBe_154 : decode cX6_wouldBe 154 = .ok (.ireturn, 1) := dk_172 (dk_at dksX6_wouldBe_6 12 rfl rfl)
abbrev cX6_shelf : ByteArray := prog_26_method_117_code
def yX6_shelf : MethodName := ⟨RX6, "shelf", "(III)I"⟩
def dkwX6_shelf_5 : List UInt8 := [42, 180, 0, 43, 29, 46, 167, 0, 4, 3, 79, 4, 172]
abbrev dktX6_shelf_5 : List UInt8 := dkwX6_shelf_5 ++ []
def dkwX6_shelf_4 : List UInt8 := [160, 0, 12, 42, 180, 0, 46, 29, 46, 167, 0, 4, 3, 79, 42, 180, 0, 58, 27, 28, 4, 160, 0, 12]
abbrev dktX6_shelf_4 : List UInt8 := dkwX6_shelf_4 ++ dktX6_shelf_5
def dkwX6_shelf_3 : List UInt8 := [155, 0, 7, 5, 167, 0, 4, 3, 79, 42, 180, 0, 55, 27, 28, 154, 0, 7, 29, 167, 0, 18, 28, 4]
abbrev dktX6_shelf_3 : List UInt8 := dkwX6_shelf_3 ++ dktX6_shelf_4
def dkwX6_shelf_2 : List UInt8 := [180, 0, 52, 27, 28, 154, 0, 7, 4, 167, 0, 22, 28, 4, 160, 0, 16, 42, 180, 0, 43, 29, 46]
abbrev dktX6_shelf_2 : List UInt8 := dkwX6_shelf_2 ++ dktX6_shelf_3
def dkwX6_shelf_1 : List UInt8 := [29, 182, 0, 96, 153, 0, 15, 28, 4, 160, 0, 12, 29, 184, 1, 141, 154, 0, 5, 2, 172, 42]
abbrev dktX6_shelf_1 : List UInt8 := dkwX6_shelf_1 ++ dktX6_shelf_2
def dkwX6_shelf_0 : List UInt8 := [27, 184, 1, 141, 153, 0, 39, 28, 133, 9, 20, 0, 109, 184, 0, 64, 153, 0, 27, 28, 154, 0, 11, 42]
abbrev dktX6_shelf_0 : List UInt8 := dkwX6_shelf_0 ++ dktX6_shelf_1
theorem dksX6_shelf_0 : cX6_shelf.data.toList.drop 0 = dktX6_shelf_0 := by decide +kernel
theorem dksX6_shelf_1 : cX6_shelf.data.toList.drop 24 = dktX6_shelf_1 := dk_seg dksX6_shelf_0 24 rfl rfl
theorem dksX6_shelf_2 : cX6_shelf.data.toList.drop 46 = dktX6_shelf_2 := dk_seg dksX6_shelf_1 22 rfl rfl
theorem dksX6_shelf_3 : cX6_shelf.data.toList.drop 69 = dktX6_shelf_3 := dk_seg dksX6_shelf_2 23 rfl rfl
theorem dksX6_shelf_4 : cX6_shelf.data.toList.drop 93 = dktX6_shelf_4 := dk_seg dksX6_shelf_3 24 rfl rfl
theorem dksX6_shelf_5 : cX6_shelf.data.toList.drop 117 = dktX6_shelf_5 := dk_seg dksX6_shelf_4 24 rfl rfl
theorem dX6_shelf_0 : decode cX6_shelf 0 = .ok (.iload_n 1, 1) := dk_27 (dk_at dksX6_shelf_0 0 rfl rfl)
theorem dX6_shelf_1 : decode cX6_shelf 1 = .ok (.invokestatic 397, 3) := dk_184 1 141 (dk_at dksX6_shelf_0 1 rfl rfl)
theorem dX6_shelf_4 : decode cX6_shelf 4 = .ok (.ifCond .eq 39, 3) := dk_153 0 39 (dk_at dksX6_shelf_0 4 rfl rfl)
theorem dX6_shelf_7 : decode cX6_shelf 7 = .ok (.iload_n 2, 1) := dk_28 (dk_at dksX6_shelf_0 7 rfl rfl)
theorem dX6_shelf_8 : decode cX6_shelf 8 = .ok (.i2l, 1) := dk_133 (dk_at dksX6_shelf_0 8 rfl rfl)
theorem dX6_shelf_9 : decode cX6_shelf 9 = .ok (.lconst 0, 1) := dk_9 (dk_at dksX6_shelf_0 9 rfl rfl)
theorem dX6_shelf_10 : decode cX6_shelf 10 = .ok (.ldc2_w 109, 3) := dk_20 0 109 (dk_at dksX6_shelf_0 10 rfl rfl)
theorem dX6_shelf_13 : decode cX6_shelf 13 = .ok (.invokestatic 64, 3) := dk_184 0 64 (dk_at dksX6_shelf_0 13 rfl rfl)
theorem dX6_shelf_16 : decode cX6_shelf 16 = .ok (.ifCond .eq 27, 3) := dk_153 0 27 (dk_at dksX6_shelf_0 16 rfl rfl)
theorem dX6_shelf_19 : decode cX6_shelf 19 = .ok (.iload_n 2, 1) := dk_28 (dk_at dksX6_shelf_0 19 rfl rfl)
theorem dX6_shelf_20 : decode cX6_shelf 20 = .ok (.ifCond .ne 11, 3) := dk_154 0 11 (dk_at dksX6_shelf_0 20 rfl rfl)
theorem dX6_shelf_23 : decode cX6_shelf 23 = .ok (.aload_n 0, 1) := dk_42 (dk_at dksX6_shelf_0 23 rfl rfl)
theorem dX6_shelf_24 : decode cX6_shelf 24 = .ok (.iload_n 3, 1) := dk_29 (dk_at dksX6_shelf_1 0 rfl rfl)
theorem dX6_shelf_25 : decode cX6_shelf 25 = .ok (.invokevirtual 96, 3) := dk_182 0 96 (dk_at dksX6_shelf_1 1 rfl rfl)
theorem dX6_shelf_28 : decode cX6_shelf 28 = .ok (.ifCond .eq 15, 3) := dk_153 0 15 (dk_at dksX6_shelf_1 4 rfl rfl)
theorem dX6_shelf_31 : decode cX6_shelf 31 = .ok (.iload_n 2, 1) := dk_28 (dk_at dksX6_shelf_1 7 rfl rfl)
theorem dX6_shelf_32 : decode cX6_shelf 32 = .ok (.iconst 1, 1) := dk_4 (dk_at dksX6_shelf_1 8 rfl rfl)
theorem dX6_shelf_33 : decode cX6_shelf 33 = .ok (.if_icmp .ne 12, 3) := dk_160 0 12 (dk_at dksX6_shelf_1 9 rfl rfl)
theorem dX6_shelf_36 : decode cX6_shelf 36 = .ok (.iload_n 3, 1) := dk_29 (dk_at dksX6_shelf_1 12 rfl rfl)
theorem dX6_shelf_37 : decode cX6_shelf 37 = .ok (.invokestatic 397, 3) := dk_184 1 141 (dk_at dksX6_shelf_1 13 rfl rfl)
theorem dX6_shelf_40 : decode cX6_shelf 40 = .ok (.ifCond .ne 5, 3) := dk_154 0 5 (dk_at dksX6_shelf_1 16 rfl rfl)
theorem dX6_shelf_43 : decode cX6_shelf 43 = .ok (.iconst (-1), 1) := dk_2 (dk_at dksX6_shelf_1 19 rfl rfl)
theorem dX6_shelf_44 : decode cX6_shelf 44 = .ok (.ireturn, 1) := dk_172 (dk_at dksX6_shelf_1 20 rfl rfl)
theorem dX6_shelf_45 : decode cX6_shelf 45 = .ok (.aload_n 0, 1) := dk_42 (dk_at dksX6_shelf_1 21 rfl rfl)
theorem dX6_shelf_46 : decode cX6_shelf 46 = .ok (.getfield 52, 3) := dk_180 0 52 (dk_at dksX6_shelf_2 0 rfl rfl)
theorem dX6_shelf_49 : decode cX6_shelf 49 = .ok (.iload_n 1, 1) := dk_27 (dk_at dksX6_shelf_2 3 rfl rfl)
theorem dX6_shelf_50 : decode cX6_shelf 50 = .ok (.iload_n 2, 1) := dk_28 (dk_at dksX6_shelf_2 4 rfl rfl)
theorem dX6_shelf_51 : decode cX6_shelf 51 = .ok (.ifCond .ne 7, 3) := dk_154 0 7 (dk_at dksX6_shelf_2 5 rfl rfl)
theorem dX6_shelf_54 : decode cX6_shelf 54 = .ok (.iconst 1, 1) := dk_4 (dk_at dksX6_shelf_2 8 rfl rfl)
theorem dX6_shelf_55 : decode cX6_shelf 55 = .ok (.goto 22, 3) := dk_167 0 22 (dk_at dksX6_shelf_2 9 rfl rfl)
theorem dX6_shelf_58 : decode cX6_shelf 58 = .ok (.iload_n 2, 1) := dk_28 (dk_at dksX6_shelf_2 12 rfl rfl)
theorem dX6_shelf_59 : decode cX6_shelf 59 = .ok (.iconst 1, 1) := dk_4 (dk_at dksX6_shelf_2 13 rfl rfl)
theorem dX6_shelf_60 : decode cX6_shelf 60 = .ok (.if_icmp .ne 16, 3) := dk_160 0 16 (dk_at dksX6_shelf_2 14 rfl rfl)
theorem dX6_shelf_63 : decode cX6_shelf 63 = .ok (.aload_n 0, 1) := dk_42 (dk_at dksX6_shelf_2 17 rfl rfl)
theorem dX6_shelf_64 : decode cX6_shelf 64 = .ok (.getfield 43, 3) := dk_180 0 43 (dk_at dksX6_shelf_2 18 rfl rfl)
theorem dX6_shelf_67 : decode cX6_shelf 67 = .ok (.iload_n 3, 1) := dk_29 (dk_at dksX6_shelf_2 21 rfl rfl)
theorem dX6_shelf_68 : decode cX6_shelf 68 = .ok (.iaload, 1) := dk_46 (dk_at dksX6_shelf_2 22 rfl rfl)
theorem dX6_shelf_69 : decode cX6_shelf 69 = .ok (.ifCond .lt 7, 3) := dk_155 0 7 (dk_at dksX6_shelf_3 0 rfl rfl)
theorem dX6_shelf_72 : decode cX6_shelf 72 = .ok (.iconst 2, 1) := dk_5 (dk_at dksX6_shelf_3 3 rfl rfl)
theorem dX6_shelf_73 : decode cX6_shelf 73 = .ok (.goto 4, 3) := dk_167 0 4 (dk_at dksX6_shelf_3 4 rfl rfl)
theorem dX6_shelf_76 : decode cX6_shelf 76 = .ok (.iconst 0, 1) := dk_3 (dk_at dksX6_shelf_3 7 rfl rfl)
theorem dX6_shelf_77 : decode cX6_shelf 77 = .ok (.iastore, 1) := dk_79 (dk_at dksX6_shelf_3 8 rfl rfl)
theorem dX6_shelf_78 : decode cX6_shelf 78 = .ok (.aload_n 0, 1) := dk_42 (dk_at dksX6_shelf_3 9 rfl rfl)
theorem dX6_shelf_79 : decode cX6_shelf 79 = .ok (.getfield 55, 3) := dk_180 0 55 (dk_at dksX6_shelf_3 10 rfl rfl)
theorem dX6_shelf_82 : decode cX6_shelf 82 = .ok (.iload_n 1, 1) := dk_27 (dk_at dksX6_shelf_3 13 rfl rfl)
theorem dX6_shelf_83 : decode cX6_shelf 83 = .ok (.iload_n 2, 1) := dk_28 (dk_at dksX6_shelf_3 14 rfl rfl)
theorem dX6_shelf_84 : decode cX6_shelf 84 = .ok (.ifCond .ne 7, 3) := dk_154 0 7 (dk_at dksX6_shelf_3 15 rfl rfl)
theorem dX6_shelf_87 : decode cX6_shelf 87 = .ok (.iload_n 3, 1) := dk_29 (dk_at dksX6_shelf_3 18 rfl rfl)
theorem dX6_shelf_88 : decode cX6_shelf 88 = .ok (.goto 18, 3) := dk_167 0 18 (dk_at dksX6_shelf_3 19 rfl rfl)
theorem dX6_shelf_91 : decode cX6_shelf 91 = .ok (.iload_n 2, 1) := dk_28 (dk_at dksX6_shelf_3 22 rfl rfl)
theorem dX6_shelf_92 : decode cX6_shelf 92 = .ok (.iconst 1, 1) := dk_4 (dk_at dksX6_shelf_3 23 rfl rfl)
theorem dX6_shelf_93 : decode cX6_shelf 93 = .ok (.if_icmp .ne 12, 3) := dk_160 0 12 (dk_at dksX6_shelf_4 0 rfl rfl)
theorem dX6_shelf_96 : decode cX6_shelf 96 = .ok (.aload_n 0, 1) := dk_42 (dk_at dksX6_shelf_4 3 rfl rfl)
theorem dX6_shelf_97 : decode cX6_shelf 97 = .ok (.getfield 46, 3) := dk_180 0 46 (dk_at dksX6_shelf_4 4 rfl rfl)
theorem dX6_shelf_100 : decode cX6_shelf 100 = .ok (.iload_n 3, 1) := dk_29 (dk_at dksX6_shelf_4 7 rfl rfl)
theorem dX6_shelf_101 : decode cX6_shelf 101 = .ok (.iaload, 1) := dk_46 (dk_at dksX6_shelf_4 8 rfl rfl)
theorem dX6_shelf_102 : decode cX6_shelf 102 = .ok (.goto 4, 3) := dk_167 0 4 (dk_at dksX6_shelf_4 9 rfl rfl)
theorem dX6_shelf_105 : decode cX6_shelf 105 = .ok (.iconst 0, 1) := dk_3 (dk_at dksX6_shelf_4 12 rfl rfl)
theorem dX6_shelf_106 : decode cX6_shelf 106 = .ok (.iastore, 1) := dk_79 (dk_at dksX6_shelf_4 13 rfl rfl)
theorem dX6_shelf_107 : decode cX6_shelf 107 = .ok (.aload_n 0, 1) := dk_42 (dk_at dksX6_shelf_4 14 rfl rfl)
theorem dX6_shelf_108 : decode cX6_shelf 108 = .ok (.getfield 58, 3) := dk_180 0 58 (dk_at dksX6_shelf_4 15 rfl rfl)
theorem dX6_shelf_111 : decode cX6_shelf 111 = .ok (.iload_n 1, 1) := dk_27 (dk_at dksX6_shelf_4 18 rfl rfl)
theorem dX6_shelf_112 : decode cX6_shelf 112 = .ok (.iload_n 2, 1) := dk_28 (dk_at dksX6_shelf_4 19 rfl rfl)
theorem dX6_shelf_113 : decode cX6_shelf 113 = .ok (.iconst 1, 1) := dk_4 (dk_at dksX6_shelf_4 20 rfl rfl)
theorem dX6_shelf_114 : decode cX6_shelf 114 = .ok (.if_icmp .ne 12, 3) := dk_160 0 12 (dk_at dksX6_shelf_4 21 rfl rfl)
theorem dX6_shelf_117 : decode cX6_shelf 117 = .ok (.aload_n 0, 1) := dk_42 (dk_at dksX6_shelf_5 0 rfl rfl)
theorem dX6_shelf_118 : decode cX6_shelf 118 = .ok (.getfield 43, 3) := dk_180 0 43 (dk_at dksX6_shelf_5 1 rfl rfl)
theorem dX6_shelf_121 : decode cX6_shelf 121 = .ok (.iload_n 3, 1) := dk_29 (dk_at dksX6_shelf_5 4 rfl rfl)
theorem dX6_shelf_122 : decode cX6_shelf 122 = .ok (.iaload, 1) := dk_46 (dk_at dksX6_shelf_5 5 rfl rfl)
theorem dX6_shelf_123 : decode cX6_shelf 123 = .ok (.goto 4, 3) := dk_167 0 4 (dk_at dksX6_shelf_5 6 rfl rfl)
theorem dX6_shelf_126 : decode cX6_shelf 126 = .ok (.iconst 0, 1) := dk_3 (dk_at dksX6_shelf_5 9 rfl rfl)
theorem dX6_shelf_127 : decode cX6_shelf 127 = .ok (.iastore, 1) := dk_79 (dk_at dksX6_shelf_5 10 rfl rfl)
theorem dX6_shelf_128 : decode cX6_shelf 128 = .ok (.iconst 1, 1) := dk_4 (dk_at dksX6_shelf_5 11 rfl rfl)
theorem dX6_shelf_129 : decode cX6_shelf 129 = .ok (.ireturn, 1) := dk_172 (dk_at dksX6_shelf_5 12 rfl rfl)
abbrev cX6_taken : ByteArray := prog_26_method_119_code
def yX6_taken : MethodName := ⟨RX6, "taken", "(II)I"⟩
def dkwX6_taken_5 : List UInt8 := [27, 46, 167, 0, 5, 16, 243, 172]
abbrev dktX6_taken_5 : List UInt8 := dkwX6_taken_5 ++ []
def dkwX6_taken_4 : List UInt8 := [180, 0, 58, 27, 46, 160, 0, 7, 4, 167, 0, 4, 3, 54, 4, 21, 4, 153, 0, 12, 42, 180, 0, 55]
abbrev dktX6_taken_4 : List UInt8 := dkwX6_taken_4 ++ dktX6_taken_5
def dkwX6_taken_3 : List UInt8 := [3, 182, 0, 83, 28, 184, 0, 135, 153, 0, 7, 4, 167, 0, 25, 3, 167, 0, 21, 28, 16, 10, 100, 42]
abbrev dktX6_taken_3 : List UInt8 := dkwX6_taken_3 ++ dktX6_taken_4
def dkwX6_taken_2 : List UInt8 := [180, 0, 52, 27, 46, 5, 162, 0, 6, 16, 245, 172, 29, 155, 0, 30, 28, 16, 6, 162, 0, 20, 42, 29]
abbrev dktX6_taken_2 : List UInt8 := dkwX6_taken_2 ++ dktX6_taken_3
def dkwX6_taken_1 : List UInt8 := [20, 1, 163, 184, 0, 64, 154, 0, 5, 2, 172, 42, 27, 182, 1, 165, 62, 29, 156, 0, 16, 42]
abbrev dktX6_taken_1 : List UInt8 := dkwX6_taken_1 ++ dktX6_taken_2
def dkwX6_taken_0 : List UInt8 := [27, 184, 1, 141, 153, 0, 29, 28, 133, 9, 20, 0, 75, 184, 0, 64, 154, 0, 19, 28, 133, 20, 1, 161]
abbrev dktX6_taken_0 : List UInt8 := dkwX6_taken_0 ++ dktX6_taken_1
theorem dksX6_taken_0 : cX6_taken.data.toList.drop 0 = dktX6_taken_0 := by decide +kernel
theorem dksX6_taken_1 : cX6_taken.data.toList.drop 24 = dktX6_taken_1 := dk_seg dksX6_taken_0 24 rfl rfl
theorem dksX6_taken_2 : cX6_taken.data.toList.drop 46 = dktX6_taken_2 := dk_seg dksX6_taken_1 22 rfl rfl
theorem dksX6_taken_3 : cX6_taken.data.toList.drop 70 = dktX6_taken_3 := dk_seg dksX6_taken_2 24 rfl rfl
theorem dksX6_taken_4 : cX6_taken.data.toList.drop 94 = dktX6_taken_4 := dk_seg dksX6_taken_3 24 rfl rfl
theorem dksX6_taken_5 : cX6_taken.data.toList.drop 118 = dktX6_taken_5 := dk_seg dksX6_taken_4 24 rfl rfl
theorem dX6_taken_0 : decode cX6_taken 0 = .ok (.iload_n 1, 1) := dk_27 (dk_at dksX6_taken_0 0 rfl rfl)
theorem dX6_taken_1 : decode cX6_taken 1 = .ok (.invokestatic 397, 3) := dk_184 1 141 (dk_at dksX6_taken_0 1 rfl rfl)
theorem dX6_taken_4 : decode cX6_taken 4 = .ok (.ifCond .eq 29, 3) := dk_153 0 29 (dk_at dksX6_taken_0 4 rfl rfl)
theorem dX6_taken_7 : decode cX6_taken 7 = .ok (.iload_n 2, 1) := dk_28 (dk_at dksX6_taken_0 7 rfl rfl)
theorem dX6_taken_8 : decode cX6_taken 8 = .ok (.i2l, 1) := dk_133 (dk_at dksX6_taken_0 8 rfl rfl)
theorem dX6_taken_9 : decode cX6_taken 9 = .ok (.lconst 0, 1) := dk_9 (dk_at dksX6_taken_0 9 rfl rfl)
theorem dX6_taken_10 : decode cX6_taken 10 = .ok (.ldc2_w 75, 3) := dk_20 0 75 (dk_at dksX6_taken_0 10 rfl rfl)
theorem dX6_taken_13 : decode cX6_taken 13 = .ok (.invokestatic 64, 3) := dk_184 0 64 (dk_at dksX6_taken_0 13 rfl rfl)
theorem dX6_taken_16 : decode cX6_taken 16 = .ok (.ifCond .ne 19, 3) := dk_154 0 19 (dk_at dksX6_taken_0 16 rfl rfl)
theorem dX6_taken_19 : decode cX6_taken 19 = .ok (.iload_n 2, 1) := dk_28 (dk_at dksX6_taken_0 19 rfl rfl)
theorem dX6_taken_20 : decode cX6_taken 20 = .ok (.i2l, 1) := dk_133 (dk_at dksX6_taken_0 20 rfl rfl)
theorem dX6_taken_21 : decode cX6_taken 21 = .ok (.ldc2_w 417, 3) := dk_20 1 161 (dk_at dksX6_taken_0 21 rfl rfl)
theorem dX6_taken_24 : decode cX6_taken 24 = .ok (.ldc2_w 419, 3) := dk_20 1 163 (dk_at dksX6_taken_1 0 rfl rfl)
theorem dX6_taken_27 : decode cX6_taken 27 = .ok (.invokestatic 64, 3) := dk_184 0 64 (dk_at dksX6_taken_1 3 rfl rfl)
theorem dX6_taken_30 : decode cX6_taken 30 = .ok (.ifCond .ne 5, 3) := dk_154 0 5 (dk_at dksX6_taken_1 6 rfl rfl)
theorem dX6_taken_33 : decode cX6_taken 33 = .ok (.iconst (-1), 1) := dk_2 (dk_at dksX6_taken_1 9 rfl rfl)
theorem dX6_taken_34 : decode cX6_taken 34 = .ok (.ireturn, 1) := dk_172 (dk_at dksX6_taken_1 10 rfl rfl)
theorem dX6_taken_35 : decode cX6_taken 35 = .ok (.aload_n 0, 1) := dk_42 (dk_at dksX6_taken_1 11 rfl rfl)
theorem dX6_taken_36 : decode cX6_taken 36 = .ok (.iload_n 1, 1) := dk_27 (dk_at dksX6_taken_1 12 rfl rfl)
theorem dX6_taken_37 : decode cX6_taken 37 = .ok (.invokevirtual 421, 3) := dk_182 1 165 (dk_at dksX6_taken_1 13 rfl rfl)
theorem dX6_taken_40 : decode cX6_taken 40 = .ok (.istore_n 3, 1) := dk_62 (dk_at dksX6_taken_1 16 rfl rfl)
theorem dX6_taken_41 : decode cX6_taken 41 = .ok (.iload_n 3, 1) := dk_29 (dk_at dksX6_taken_1 17 rfl rfl)
theorem dX6_taken_42 : decode cX6_taken 42 = .ok (.ifCond .ge 16, 3) := dk_156 0 16 (dk_at dksX6_taken_1 18 rfl rfl)
theorem dX6_taken_45 : decode cX6_taken 45 = .ok (.aload_n 0, 1) := dk_42 (dk_at dksX6_taken_1 21 rfl rfl)
theorem dX6_taken_46 : decode cX6_taken 46 = .ok (.getfield 52, 3) := dk_180 0 52 (dk_at dksX6_taken_2 0 rfl rfl)
theorem dX6_taken_49 : decode cX6_taken 49 = .ok (.iload_n 1, 1) := dk_27 (dk_at dksX6_taken_2 3 rfl rfl)
theorem dX6_taken_50 : decode cX6_taken 50 = .ok (.iaload, 1) := dk_46 (dk_at dksX6_taken_2 4 rfl rfl)
theorem dX6_taken_51 : decode cX6_taken 51 = .ok (.iconst 2, 1) := dk_5 (dk_at dksX6_taken_2 5 rfl rfl)
theorem dX6_taken_52 : decode cX6_taken 52 = .ok (.if_icmp .ge 6, 3) := dk_162 0 6 (dk_at dksX6_taken_2 6 rfl rfl)
theorem dX6_taken_55 : decode cX6_taken 55 = .ok (.bipush (-11), 2) := dk_16 245 (dk_at dksX6_taken_2 9 rfl rfl)
theorem dX6_taken_57 : decode cX6_taken 57 = .ok (.ireturn, 1) := dk_172 (dk_at dksX6_taken_2 11 rfl rfl)
theorem dX6_taken_58 : decode cX6_taken 58 = .ok (.iload_n 3, 1) := dk_29 (dk_at dksX6_taken_2 12 rfl rfl)
theorem dX6_taken_59 : decode cX6_taken 59 = .ok (.ifCond .lt 30, 3) := dk_155 0 30 (dk_at dksX6_taken_2 13 rfl rfl)
theorem dX6_taken_62 : decode cX6_taken 62 = .ok (.iload_n 2, 1) := dk_28 (dk_at dksX6_taken_2 16 rfl rfl)
theorem dX6_taken_63 : decode cX6_taken 63 = .ok (.bipush 6, 2) := dk_16 6 (dk_at dksX6_taken_2 17 rfl rfl)
theorem dX6_taken_65 : decode cX6_taken 65 = .ok (.if_icmp .ge 20, 3) := dk_162 0 20 (dk_at dksX6_taken_2 19 rfl rfl)
theorem dX6_taken_68 : decode cX6_taken 68 = .ok (.aload_n 0, 1) := dk_42 (dk_at dksX6_taken_2 22 rfl rfl)
theorem dX6_taken_69 : decode cX6_taken 69 = .ok (.iload_n 3, 1) := dk_29 (dk_at dksX6_taken_2 23 rfl rfl)
theorem dX6_taken_70 : decode cX6_taken 70 = .ok (.iconst 0, 1) := dk_3 (dk_at dksX6_taken_3 0 rfl rfl)
theorem dX6_taken_71 : decode cX6_taken 71 = .ok (.invokevirtual 83, 3) := dk_182 0 83 (dk_at dksX6_taken_3 1 rfl rfl)
theorem dX6_taken_74 : decode cX6_taken 74 = .ok (.iload_n 2, 1) := dk_28 (dk_at dksX6_taken_3 4 rfl rfl)
theorem dX6_taken_75 : decode cX6_taken 75 = .ok (.invokestatic 135, 3) := dk_184 0 135 (dk_at dksX6_taken_3 5 rfl rfl)
theorem dX6_taken_78 : decode cX6_taken 78 = .ok (.ifCond .eq 7, 3) := dk_153 0 7 (dk_at dksX6_taken_3 8 rfl rfl)
theorem dX6_taken_81 : decode cX6_taken 81 = .ok (.iconst 1, 1) := dk_4 (dk_at dksX6_taken_3 11 rfl rfl)
theorem dX6_taken_82 : decode cX6_taken 82 = .ok (.goto 25, 3) := dk_167 0 25 (dk_at dksX6_taken_3 12 rfl rfl)
theorem dX6_taken_85 : decode cX6_taken 85 = .ok (.iconst 0, 1) := dk_3 (dk_at dksX6_taken_3 15 rfl rfl)
theorem dX6_taken_86 : decode cX6_taken 86 = .ok (.goto 21, 3) := dk_167 0 21 (dk_at dksX6_taken_3 16 rfl rfl)
theorem dX6_taken_89 : decode cX6_taken 89 = .ok (.iload_n 2, 1) := dk_28 (dk_at dksX6_taken_3 19 rfl rfl)
theorem dX6_taken_90 : decode cX6_taken 90 = .ok (.bipush 10, 2) := dk_16 10 (dk_at dksX6_taken_3 20 rfl rfl)
theorem dX6_taken_92 : decode cX6_taken 92 = .ok (.isub, 1) := dk_100 (dk_at dksX6_taken_3 22 rfl rfl)
theorem dX6_taken_93 : decode cX6_taken 93 = .ok (.aload_n 0, 1) := dk_42 (dk_at dksX6_taken_3 23 rfl rfl)
theorem dX6_taken_94 : decode cX6_taken 94 = .ok (.getfield 58, 3) := dk_180 0 58 (dk_at dksX6_taken_4 0 rfl rfl)
theorem dX6_taken_97 : decode cX6_taken 97 = .ok (.iload_n 1, 1) := dk_27 (dk_at dksX6_taken_4 3 rfl rfl)
theorem dX6_taken_98 : decode cX6_taken 98 = .ok (.iaload, 1) := dk_46 (dk_at dksX6_taken_4 4 rfl rfl)
theorem dX6_taken_99 : decode cX6_taken 99 = .ok (.if_icmp .ne 7, 3) := dk_160 0 7 (dk_at dksX6_taken_4 5 rfl rfl)
theorem dX6_taken_102 : decode cX6_taken 102 = .ok (.iconst 1, 1) := dk_4 (dk_at dksX6_taken_4 8 rfl rfl)
theorem dX6_taken_103 : decode cX6_taken 103 = .ok (.goto 4, 3) := dk_167 0 4 (dk_at dksX6_taken_4 9 rfl rfl)
theorem dX6_taken_106 : decode cX6_taken 106 = .ok (.iconst 0, 1) := dk_3 (dk_at dksX6_taken_4 12 rfl rfl)
theorem dX6_taken_107 : decode cX6_taken 107 = .ok (.istore 4, 2) := dk_54 4 (dk_at dksX6_taken_4 13 rfl rfl)
theorem dX6_taken_109 : decode cX6_taken 109 = .ok (.iload 4, 2) := dk_21 4 (dk_at dksX6_taken_4 15 rfl rfl)
theorem dX6_taken_111 : decode cX6_taken 111 = .ok (.ifCond .eq 12, 3) := dk_153 0 12 (dk_at dksX6_taken_4 17 rfl rfl)
theorem dX6_taken_114 : decode cX6_taken 114 = .ok (.aload_n 0, 1) := dk_42 (dk_at dksX6_taken_4 20 rfl rfl)
theorem dX6_taken_115 : decode cX6_taken 115 = .ok (.getfield 55, 3) := dk_180 0 55 (dk_at dksX6_taken_4 21 rfl rfl)
theorem dX6_taken_118 : decode cX6_taken 118 = .ok (.iload_n 1, 1) := dk_27 (dk_at dksX6_taken_5 0 rfl rfl)
theorem dX6_taken_119 : decode cX6_taken 119 = .ok (.iaload, 1) := dk_46 (dk_at dksX6_taken_5 1 rfl rfl)
theorem dX6_taken_120 : decode cX6_taken 120 = .ok (.goto 5, 3) := dk_167 0 5 (dk_at dksX6_taken_5 2 rfl rfl)
theorem dX6_taken_123 : decode cX6_taken 123 = .ok (.bipush (-13), 2) := dk_16 243 (dk_at dksX6_taken_5 5 rfl rfl)
theorem dX6_taken_125 : decode cX6_taken 125 = .ok (.ireturn, 1) := dk_172 (dk_at dksX6_taken_5 7 rfl rfl)
abbrev cX6_onShelf : ByteArray := prog_26_method_118_code
def yX6_onShelf : MethodName := ⟨RX6, "onShelf", "(I)I"⟩
def dkwX6_onShelf_1 : List UInt8 := [182, 0, 96, 153, 0, 12, 42, 180, 0, 55, 27, 46, 167, 0, 4, 2, 172]
abbrev dktX6_onShelf_1 : List UInt8 := dkwX6_onShelf_1 ++ []
def dkwX6_onShelf_0 : List UInt8 := [27, 184, 1, 141, 153, 0, 35, 42, 180, 0, 52, 27, 46, 4, 160, 0, 25, 42, 42, 180, 0, 55, 27, 46]
abbrev dktX6_onShelf_0 : List UInt8 := dkwX6_onShelf_0 ++ dktX6_onShelf_1
theorem dksX6_onShelf_0 : cX6_onShelf.data.toList.drop 0 = dktX6_onShelf_0 := by decide +kernel
theorem dksX6_onShelf_1 : cX6_onShelf.data.toList.drop 24 = dktX6_onShelf_1 := dk_seg dksX6_onShelf_0 24 rfl rfl
theorem dX6_onShelf_0 : decode cX6_onShelf 0 = .ok (.iload_n 1, 1) := dk_27 (dk_at dksX6_onShelf_0 0 rfl rfl)
theorem dX6_onShelf_1 : decode cX6_onShelf 1 = .ok (.invokestatic 397, 3) := dk_184 1 141 (dk_at dksX6_onShelf_0 1 rfl rfl)
theorem dX6_onShelf_4 : decode cX6_onShelf 4 = .ok (.ifCond .eq 35, 3) := dk_153 0 35 (dk_at dksX6_onShelf_0 4 rfl rfl)
theorem dX6_onShelf_7 : decode cX6_onShelf 7 = .ok (.aload_n 0, 1) := dk_42 (dk_at dksX6_onShelf_0 7 rfl rfl)
theorem dX6_onShelf_8 : decode cX6_onShelf 8 = .ok (.getfield 52, 3) := dk_180 0 52 (dk_at dksX6_onShelf_0 8 rfl rfl)
theorem dX6_onShelf_11 : decode cX6_onShelf 11 = .ok (.iload_n 1, 1) := dk_27 (dk_at dksX6_onShelf_0 11 rfl rfl)
theorem dX6_onShelf_12 : decode cX6_onShelf 12 = .ok (.iaload, 1) := dk_46 (dk_at dksX6_onShelf_0 12 rfl rfl)
theorem dX6_onShelf_13 : decode cX6_onShelf 13 = .ok (.iconst 1, 1) := dk_4 (dk_at dksX6_onShelf_0 13 rfl rfl)
theorem dX6_onShelf_14 : decode cX6_onShelf 14 = .ok (.if_icmp .ne 25, 3) := dk_160 0 25 (dk_at dksX6_onShelf_0 14 rfl rfl)
theorem dX6_onShelf_17 : decode cX6_onShelf 17 = .ok (.aload_n 0, 1) := dk_42 (dk_at dksX6_onShelf_0 17 rfl rfl)
theorem dX6_onShelf_18 : decode cX6_onShelf 18 = .ok (.aload_n 0, 1) := dk_42 (dk_at dksX6_onShelf_0 18 rfl rfl)
theorem dX6_onShelf_19 : decode cX6_onShelf 19 = .ok (.getfield 55, 3) := dk_180 0 55 (dk_at dksX6_onShelf_0 19 rfl rfl)
theorem dX6_onShelf_22 : decode cX6_onShelf 22 = .ok (.iload_n 1, 1) := dk_27 (dk_at dksX6_onShelf_0 22 rfl rfl)
theorem dX6_onShelf_23 : decode cX6_onShelf 23 = .ok (.iaload, 1) := dk_46 (dk_at dksX6_onShelf_0 23 rfl rfl)
theorem dX6_onShelf_24 : decode cX6_onShelf 24 = .ok (.invokevirtual 96, 3) := dk_182 0 96 (dk_at dksX6_onShelf_1 0 rfl rfl)
theorem dX6_onShelf_27 : decode cX6_onShelf 27 = .ok (.ifCond .eq 12, 3) := dk_153 0 12 (dk_at dksX6_onShelf_1 3 rfl rfl)
theorem dX6_onShelf_30 : decode cX6_onShelf 30 = .ok (.aload_n 0, 1) := dk_42 (dk_at dksX6_onShelf_1 6 rfl rfl)
theorem dX6_onShelf_31 : decode cX6_onShelf 31 = .ok (.getfield 55, 3) := dk_180 0 55 (dk_at dksX6_onShelf_1 7 rfl rfl)
theorem dX6_onShelf_34 : decode cX6_onShelf 34 = .ok (.iload_n 1, 1) := dk_27 (dk_at dksX6_onShelf_1 10 rfl rfl)
theorem dX6_onShelf_35 : decode cX6_onShelf 35 = .ok (.iaload, 1) := dk_46 (dk_at dksX6_onShelf_1 11 rfl rfl)
theorem dX6_onShelf_36 : decode cX6_onShelf 36 = .ok (.goto 4, 3) := dk_167 0 4 (dk_at dksX6_onShelf_1 12 rfl rfl)
theorem dX6_onShelf_39 : decode cX6_onShelf 39 = .ok (.iconst (-1), 1) := dk_2 (dk_at dksX6_onShelf_1 15 rfl rfl)
theorem dX6_onShelf_40 : decode cX6_onShelf 40 = .ok (.ireturn, 1) := dk_172 (dk_at dksX6_onShelf_1 16 rfl rfl)
abbrev cX6_act : ByteArray := prog_26_method_126_code
def yX6_act : MethodName := ⟨RX6, "act", "(III)I"⟩
def dkwX6_act_5 : List UInt8 := [153, 0, 8, 16, 241, 167, 0, 5, 21, 4, 172]
abbrev dktX6_act_5 : List UInt8 := dkwX6_act_5 ++ []
def dkwX6_act_4 : List UInt8 := [160, 0, 11, 42, 29, 182, 1, 195, 167, 0, 8, 42, 29, 182, 1, 198, 54, 4, 42, 180, 1, 168]
abbrev dktX6_act_4 : List UInt8 := dkwX6_act_4 ++ dktX6_act_5
def dkwX6_act_3 : List UInt8 := [29, 182, 1, 186, 167, 0, 34, 28, 4, 160, 0, 11, 42, 29, 182, 1, 192, 167, 0, 21, 28, 5]
abbrev dktX6_act_3 : List UInt8 := dkwX6_act_3 ++ dktX6_act_4
def dkwX6_act_2 : List UInt8 := [182, 0, 83, 181, 1, 180, 42, 42, 42, 180, 1, 183, 3, 182, 0, 83, 181, 1, 174, 28, 154, 0, 11, 42]
abbrev dktX6_act_2 : List UInt8 := dkwX6_act_2 ++ dktX6_act_3
def dkwX6_act_1 : List UInt8 := [155, 0, 15, 28, 133, 9, 20, 0, 220, 184, 0, 64, 154, 0, 5, 3, 172, 42, 42, 42, 180, 1, 183, 4]
abbrev dktX6_act_1 : List UInt8 := dkwX6_act_1 ++ dktX6_act_2
def dkwX6_act_0 : List UInt8 := [42, 3, 181, 1, 171, 42, 3, 181, 1, 168, 42, 42, 27, 182, 1, 165, 181, 1, 183, 42, 180, 1, 183]
abbrev dktX6_act_0 : List UInt8 := dkwX6_act_0 ++ dktX6_act_1
theorem dksX6_act_0 : cX6_act.data.toList.drop 0 = dktX6_act_0 := by decide +kernel
theorem dksX6_act_1 : cX6_act.data.toList.drop 23 = dktX6_act_1 := dk_seg dksX6_act_0 23 rfl rfl
theorem dksX6_act_2 : cX6_act.data.toList.drop 47 = dktX6_act_2 := dk_seg dksX6_act_1 24 rfl rfl
theorem dksX6_act_3 : cX6_act.data.toList.drop 71 = dktX6_act_3 := dk_seg dksX6_act_2 24 rfl rfl
theorem dksX6_act_4 : cX6_act.data.toList.drop 93 = dktX6_act_4 := dk_seg dksX6_act_3 22 rfl rfl
theorem dksX6_act_5 : cX6_act.data.toList.drop 115 = dktX6_act_5 := dk_seg dksX6_act_4 22 rfl rfl
theorem dX6_act_0 : decode cX6_act 0 = .ok (.aload_n 0, 1) := dk_42 (dk_at dksX6_act_0 0 rfl rfl)
theorem dX6_act_1 : decode cX6_act 1 = .ok (.iconst 0, 1) := dk_3 (dk_at dksX6_act_0 1 rfl rfl)
theorem dX6_act_2 : decode cX6_act 2 = .ok (.putfield 427, 3) := dk_181 1 171 (dk_at dksX6_act_0 2 rfl rfl)
theorem dX6_act_5 : decode cX6_act 5 = .ok (.aload_n 0, 1) := dk_42 (dk_at dksX6_act_0 5 rfl rfl)
theorem dX6_act_6 : decode cX6_act 6 = .ok (.iconst 0, 1) := dk_3 (dk_at dksX6_act_0 6 rfl rfl)
theorem dX6_act_7 : decode cX6_act 7 = .ok (.putfield 424, 3) := dk_181 1 168 (dk_at dksX6_act_0 7 rfl rfl)
theorem dX6_act_10 : decode cX6_act 10 = .ok (.aload_n 0, 1) := dk_42 (dk_at dksX6_act_0 10 rfl rfl)
theorem dX6_act_11 : decode cX6_act 11 = .ok (.aload_n 0, 1) := dk_42 (dk_at dksX6_act_0 11 rfl rfl)
theorem dX6_act_12 : decode cX6_act 12 = .ok (.iload_n 1, 1) := dk_27 (dk_at dksX6_act_0 12 rfl rfl)
theorem dX6_act_13 : decode cX6_act 13 = .ok (.invokevirtual 421, 3) := dk_182 1 165 (dk_at dksX6_act_0 13 rfl rfl)
theorem dX6_act_16 : decode cX6_act 16 = .ok (.putfield 439, 3) := dk_181 1 183 (dk_at dksX6_act_0 16 rfl rfl)
theorem dX6_act_19 : decode cX6_act 19 = .ok (.aload_n 0, 1) := dk_42 (dk_at dksX6_act_0 19 rfl rfl)
theorem dX6_act_20 : decode cX6_act 20 = .ok (.getfield 439, 3) := dk_180 1 183 (dk_at dksX6_act_0 20 rfl rfl)
theorem dX6_act_23 : decode cX6_act 23 = .ok (.ifCond .lt 15, 3) := dk_155 0 15 (dk_at dksX6_act_1 0 rfl rfl)
theorem dX6_act_26 : decode cX6_act 26 = .ok (.iload_n 2, 1) := dk_28 (dk_at dksX6_act_1 3 rfl rfl)
theorem dX6_act_27 : decode cX6_act 27 = .ok (.i2l, 1) := dk_133 (dk_at dksX6_act_1 4 rfl rfl)
theorem dX6_act_28 : decode cX6_act 28 = .ok (.lconst 0, 1) := dk_9 (dk_at dksX6_act_1 5 rfl rfl)
theorem dX6_act_29 : decode cX6_act 29 = .ok (.ldc2_w 220, 3) := dk_20 0 220 (dk_at dksX6_act_1 6 rfl rfl)
theorem dX6_act_32 : decode cX6_act 32 = .ok (.invokestatic 64, 3) := dk_184 0 64 (dk_at dksX6_act_1 9 rfl rfl)
theorem dX6_act_35 : decode cX6_act 35 = .ok (.ifCond .ne 5, 3) := dk_154 0 5 (dk_at dksX6_act_1 12 rfl rfl)
theorem dX6_act_38 : decode cX6_act 38 = .ok (.iconst 0, 1) := dk_3 (dk_at dksX6_act_1 15 rfl rfl)
theorem dX6_act_39 : decode cX6_act 39 = .ok (.ireturn, 1) := dk_172 (dk_at dksX6_act_1 16 rfl rfl)
theorem dX6_act_40 : decode cX6_act 40 = .ok (.aload_n 0, 1) := dk_42 (dk_at dksX6_act_1 17 rfl rfl)
theorem dX6_act_41 : decode cX6_act 41 = .ok (.aload_n 0, 1) := dk_42 (dk_at dksX6_act_1 18 rfl rfl)
theorem dX6_act_42 : decode cX6_act 42 = .ok (.aload_n 0, 1) := dk_42 (dk_at dksX6_act_1 19 rfl rfl)
theorem dX6_act_43 : decode cX6_act 43 = .ok (.getfield 439, 3) := dk_180 1 183 (dk_at dksX6_act_1 20 rfl rfl)
theorem dX6_act_46 : decode cX6_act 46 = .ok (.iconst 1, 1) := dk_4 (dk_at dksX6_act_1 23 rfl rfl)
theorem dX6_act_47 : decode cX6_act 47 = .ok (.invokevirtual 83, 3) := dk_182 0 83 (dk_at dksX6_act_2 0 rfl rfl)
theorem dX6_act_50 : decode cX6_act 50 = .ok (.putfield 436, 3) := dk_181 1 180 (dk_at dksX6_act_2 3 rfl rfl)
theorem dX6_act_53 : decode cX6_act 53 = .ok (.aload_n 0, 1) := dk_42 (dk_at dksX6_act_2 6 rfl rfl)
theorem dX6_act_54 : decode cX6_act 54 = .ok (.aload_n 0, 1) := dk_42 (dk_at dksX6_act_2 7 rfl rfl)
theorem dX6_act_55 : decode cX6_act 55 = .ok (.aload_n 0, 1) := dk_42 (dk_at dksX6_act_2 8 rfl rfl)
theorem dX6_act_56 : decode cX6_act 56 = .ok (.getfield 439, 3) := dk_180 1 183 (dk_at dksX6_act_2 9 rfl rfl)
theorem dX6_act_59 : decode cX6_act 59 = .ok (.iconst 0, 1) := dk_3 (dk_at dksX6_act_2 12 rfl rfl)
theorem dX6_act_60 : decode cX6_act 60 = .ok (.invokevirtual 83, 3) := dk_182 0 83 (dk_at dksX6_act_2 13 rfl rfl)
theorem dX6_act_63 : decode cX6_act 63 = .ok (.putfield 430, 3) := dk_181 1 174 (dk_at dksX6_act_2 16 rfl rfl)
theorem dX6_act_66 : decode cX6_act 66 = .ok (.iload_n 2, 1) := dk_28 (dk_at dksX6_act_2 19 rfl rfl)
theorem dX6_act_67 : decode cX6_act 67 = .ok (.ifCond .ne 11, 3) := dk_154 0 11 (dk_at dksX6_act_2 20 rfl rfl)
theorem dX6_act_70 : decode cX6_act 70 = .ok (.aload_n 0, 1) := dk_42 (dk_at dksX6_act_2 23 rfl rfl)
theorem dX6_act_71 : decode cX6_act 71 = .ok (.iload_n 3, 1) := dk_29 (dk_at dksX6_act_3 0 rfl rfl)
theorem dX6_act_72 : decode cX6_act 72 = .ok (.invokevirtual 442, 3) := dk_182 1 186 (dk_at dksX6_act_3 1 rfl rfl)
theorem dX6_act_75 : decode cX6_act 75 = .ok (.goto 34, 3) := dk_167 0 34 (dk_at dksX6_act_3 4 rfl rfl)
theorem dX6_act_78 : decode cX6_act 78 = .ok (.iload_n 2, 1) := dk_28 (dk_at dksX6_act_3 7 rfl rfl)
theorem dX6_act_79 : decode cX6_act 79 = .ok (.iconst 1, 1) := dk_4 (dk_at dksX6_act_3 8 rfl rfl)
theorem dX6_act_80 : decode cX6_act 80 = .ok (.if_icmp .ne 11, 3) := dk_160 0 11 (dk_at dksX6_act_3 9 rfl rfl)
theorem dX6_act_83 : decode cX6_act 83 = .ok (.aload_n 0, 1) := dk_42 (dk_at dksX6_act_3 12 rfl rfl)
theorem dX6_act_84 : decode cX6_act 84 = .ok (.iload_n 3, 1) := dk_29 (dk_at dksX6_act_3 13 rfl rfl)
theorem dX6_act_85 : decode cX6_act 85 = .ok (.invokevirtual 448, 3) := dk_182 1 192 (dk_at dksX6_act_3 14 rfl rfl)
theorem dX6_act_88 : decode cX6_act 88 = .ok (.goto 21, 3) := dk_167 0 21 (dk_at dksX6_act_3 17 rfl rfl)
theorem dX6_act_91 : decode cX6_act 91 = .ok (.iload_n 2, 1) := dk_28 (dk_at dksX6_act_3 20 rfl rfl)
theorem dX6_act_92 : decode cX6_act 92 = .ok (.iconst 2, 1) := dk_5 (dk_at dksX6_act_3 21 rfl rfl)
theorem dX6_act_93 : decode cX6_act 93 = .ok (.if_icmp .ne 11, 3) := dk_160 0 11 (dk_at dksX6_act_4 0 rfl rfl)
theorem dX6_act_96 : decode cX6_act 96 = .ok (.aload_n 0, 1) := dk_42 (dk_at dksX6_act_4 3 rfl rfl)
theorem dX6_act_97 : decode cX6_act 97 = .ok (.iload_n 3, 1) := dk_29 (dk_at dksX6_act_4 4 rfl rfl)
theorem dX6_act_98 : decode cX6_act 98 = .ok (.invokevirtual 451, 3) := dk_182 1 195 (dk_at dksX6_act_4 5 rfl rfl)
theorem dX6_act_101 : decode cX6_act 101 = .ok (.goto 8, 3) := dk_167 0 8 (dk_at dksX6_act_4 8 rfl rfl)
theorem dX6_act_104 : decode cX6_act 104 = .ok (.aload_n 0, 1) := dk_42 (dk_at dksX6_act_4 11 rfl rfl)
theorem dX6_act_105 : decode cX6_act 105 = .ok (.iload_n 3, 1) := dk_29 (dk_at dksX6_act_4 12 rfl rfl)
theorem dX6_act_106 : decode cX6_act 106 = .ok (.invokevirtual 454, 3) := dk_182 1 198 (dk_at dksX6_act_4 13 rfl rfl)
theorem dX6_act_109 : decode cX6_act 109 = .ok (.istore 4, 2) := dk_54 4 (dk_at dksX6_act_4 16 rfl rfl)
theorem dX6_act_111 : decode cX6_act 111 = .ok (.aload_n 0, 1) := dk_42 (dk_at dksX6_act_4 18 rfl rfl)
theorem dX6_act_112 : decode cX6_act 112 = .ok (.getfield 424, 3) := dk_180 1 168 (dk_at dksX6_act_4 19 rfl rfl)
theorem dX6_act_115 : decode cX6_act 115 = .ok (.ifCond .eq 8, 3) := dk_153 0 8 (dk_at dksX6_act_5 0 rfl rfl)
theorem dX6_act_118 : decode cX6_act 118 = .ok (.bipush (-15), 2) := dk_16 241 (dk_at dksX6_act_5 3 rfl rfl)
theorem dX6_act_120 : decode cX6_act 120 = .ok (.goto 5, 3) := dk_167 0 5 (dk_at dksX6_act_5 5 rfl rfl)
theorem dX6_act_123 : decode cX6_act 123 = .ok (.iload 4, 2) := dk_21 4 (dk_at dksX6_act_5 8 rfl rfl)
theorem dX6_act_125 : decode cX6_act 125 = .ok (.ireturn, 1) := dk_172 (dk_at dksX6_act_5 10 rfl rfl)
abbrev cX6_gives : ByteArray := prog_26_method_121_code
def yX6_gives : MethodName := ⟨RX6, "gives", "(I)I"⟩
def dkwX6_gives_3 : List UInt8 := [167, 0, 4, 28, 172]
abbrev dktX6_gives_3 : List UInt8 := dkwX6_gives_3 ++ []
def dkwX6_gives_2 : List UInt8 := [160, 0, 12, 28, 42, 180, 1, 183, 96, 167, 0, 18, 42, 180, 1, 174, 6, 160, 0, 9, 28, 6, 104]
abbrev dktX6_gives_2 : List UInt8 := dkwX6_gives_2 ++ dktX6_gives_3
def dkwX6_gives_1 : List UInt8 := [16, 50, 182, 1, 177, 42, 16, 10, 182, 1, 177, 27, 42, 180, 1, 180, 100, 61, 42, 180, 1, 174, 4]
abbrev dktX6_gives_1 : List UInt8 := dkwX6_gives_1 ++ dktX6_gives_2
def dkwX6_gives_0 : List UInt8 := [42, 180, 1, 174, 4, 160, 0, 9, 42, 16, 20, 182, 1, 177, 42, 180, 1, 174, 6, 160, 0, 9, 42]
abbrev dktX6_gives_0 : List UInt8 := dkwX6_gives_0 ++ dktX6_gives_1
theorem dksX6_gives_0 : cX6_gives.data.toList.drop 0 = dktX6_gives_0 := by decide +kernel
theorem dksX6_gives_1 : cX6_gives.data.toList.drop 23 = dktX6_gives_1 := dk_seg dksX6_gives_0 23 rfl rfl
theorem dksX6_gives_2 : cX6_gives.data.toList.drop 46 = dktX6_gives_2 := dk_seg dksX6_gives_1 23 rfl rfl
theorem dksX6_gives_3 : cX6_gives.data.toList.drop 69 = dktX6_gives_3 := dk_seg dksX6_gives_2 23 rfl rfl
theorem dX6_gives_0 : decode cX6_gives 0 = .ok (.aload_n 0, 1) := dk_42 (dk_at dksX6_gives_0 0 rfl rfl)
theorem dX6_gives_1 : decode cX6_gives 1 = .ok (.getfield 430, 3) := dk_180 1 174 (dk_at dksX6_gives_0 1 rfl rfl)
theorem dX6_gives_4 : decode cX6_gives 4 = .ok (.iconst 1, 1) := dk_4 (dk_at dksX6_gives_0 4 rfl rfl)
theorem dX6_gives_5 : decode cX6_gives 5 = .ok (.if_icmp .ne 9, 3) := dk_160 0 9 (dk_at dksX6_gives_0 5 rfl rfl)
theorem dX6_gives_8 : decode cX6_gives 8 = .ok (.aload_n 0, 1) := dk_42 (dk_at dksX6_gives_0 8 rfl rfl)
theorem dX6_gives_9 : decode cX6_gives 9 = .ok (.bipush 20, 2) := dk_16 20 (dk_at dksX6_gives_0 9 rfl rfl)
theorem dX6_gives_11 : decode cX6_gives 11 = .ok (.invokevirtual 433, 3) := dk_182 1 177 (dk_at dksX6_gives_0 11 rfl rfl)
theorem dX6_gives_14 : decode cX6_gives 14 = .ok (.aload_n 0, 1) := dk_42 (dk_at dksX6_gives_0 14 rfl rfl)
theorem dX6_gives_15 : decode cX6_gives 15 = .ok (.getfield 430, 3) := dk_180 1 174 (dk_at dksX6_gives_0 15 rfl rfl)
theorem dX6_gives_18 : decode cX6_gives 18 = .ok (.iconst 3, 1) := dk_6 (dk_at dksX6_gives_0 18 rfl rfl)
theorem dX6_gives_19 : decode cX6_gives 19 = .ok (.if_icmp .ne 9, 3) := dk_160 0 9 (dk_at dksX6_gives_0 19 rfl rfl)
theorem dX6_gives_22 : decode cX6_gives 22 = .ok (.aload_n 0, 1) := dk_42 (dk_at dksX6_gives_0 22 rfl rfl)
theorem dX6_gives_23 : decode cX6_gives 23 = .ok (.bipush 50, 2) := dk_16 50 (dk_at dksX6_gives_1 0 rfl rfl)
theorem dX6_gives_25 : decode cX6_gives 25 = .ok (.invokevirtual 433, 3) := dk_182 1 177 (dk_at dksX6_gives_1 2 rfl rfl)
theorem dX6_gives_28 : decode cX6_gives 28 = .ok (.aload_n 0, 1) := dk_42 (dk_at dksX6_gives_1 5 rfl rfl)
theorem dX6_gives_29 : decode cX6_gives 29 = .ok (.bipush 10, 2) := dk_16 10 (dk_at dksX6_gives_1 6 rfl rfl)
theorem dX6_gives_31 : decode cX6_gives 31 = .ok (.invokevirtual 433, 3) := dk_182 1 177 (dk_at dksX6_gives_1 8 rfl rfl)
theorem dX6_gives_34 : decode cX6_gives 34 = .ok (.iload_n 1, 1) := dk_27 (dk_at dksX6_gives_1 11 rfl rfl)
theorem dX6_gives_35 : decode cX6_gives 35 = .ok (.aload_n 0, 1) := dk_42 (dk_at dksX6_gives_1 12 rfl rfl)
theorem dX6_gives_36 : decode cX6_gives 36 = .ok (.getfield 436, 3) := dk_180 1 180 (dk_at dksX6_gives_1 13 rfl rfl)
theorem dX6_gives_39 : decode cX6_gives 39 = .ok (.isub, 1) := dk_100 (dk_at dksX6_gives_1 16 rfl rfl)
theorem dX6_gives_40 : decode cX6_gives 40 = .ok (.istore_n 2, 1) := dk_61 (dk_at dksX6_gives_1 17 rfl rfl)
theorem dX6_gives_41 : decode cX6_gives 41 = .ok (.aload_n 0, 1) := dk_42 (dk_at dksX6_gives_1 18 rfl rfl)
theorem dX6_gives_42 : decode cX6_gives 42 = .ok (.getfield 430, 3) := dk_180 1 174 (dk_at dksX6_gives_1 19 rfl rfl)
theorem dX6_gives_45 : decode cX6_gives 45 = .ok (.iconst 1, 1) := dk_4 (dk_at dksX6_gives_1 22 rfl rfl)
theorem dX6_gives_46 : decode cX6_gives 46 = .ok (.if_icmp .ne 12, 3) := dk_160 0 12 (dk_at dksX6_gives_2 0 rfl rfl)
theorem dX6_gives_49 : decode cX6_gives 49 = .ok (.iload_n 2, 1) := dk_28 (dk_at dksX6_gives_2 3 rfl rfl)
theorem dX6_gives_50 : decode cX6_gives 50 = .ok (.aload_n 0, 1) := dk_42 (dk_at dksX6_gives_2 4 rfl rfl)
theorem dX6_gives_51 : decode cX6_gives 51 = .ok (.getfield 439, 3) := dk_180 1 183 (dk_at dksX6_gives_2 5 rfl rfl)
theorem dX6_gives_54 : decode cX6_gives 54 = .ok (.iadd, 1) := dk_96 (dk_at dksX6_gives_2 8 rfl rfl)
theorem dX6_gives_55 : decode cX6_gives 55 = .ok (.goto 18, 3) := dk_167 0 18 (dk_at dksX6_gives_2 9 rfl rfl)
theorem dX6_gives_58 : decode cX6_gives 58 = .ok (.aload_n 0, 1) := dk_42 (dk_at dksX6_gives_2 12 rfl rfl)
theorem dX6_gives_59 : decode cX6_gives 59 = .ok (.getfield 430, 3) := dk_180 1 174 (dk_at dksX6_gives_2 13 rfl rfl)
theorem dX6_gives_62 : decode cX6_gives 62 = .ok (.iconst 3, 1) := dk_6 (dk_at dksX6_gives_2 16 rfl rfl)
theorem dX6_gives_63 : decode cX6_gives 63 = .ok (.if_icmp .ne 9, 3) := dk_160 0 9 (dk_at dksX6_gives_2 17 rfl rfl)
theorem dX6_gives_66 : decode cX6_gives 66 = .ok (.iload_n 2, 1) := dk_28 (dk_at dksX6_gives_2 20 rfl rfl)
theorem dX6_gives_67 : decode cX6_gives 67 = .ok (.iconst 3, 1) := dk_6 (dk_at dksX6_gives_2 21 rfl rfl)
theorem dX6_gives_68 : decode cX6_gives 68 = .ok (.imul, 1) := dk_104 (dk_at dksX6_gives_2 22 rfl rfl)
theorem dX6_gives_69 : decode cX6_gives 69 = .ok (.goto 4, 3) := dk_167 0 4 (dk_at dksX6_gives_3 0 rfl rfl)
theorem dX6_gives_72 : decode cX6_gives 72 = .ok (.iload_n 2, 1) := dk_28 (dk_at dksX6_gives_3 3 rfl rfl)
theorem dX6_gives_73 : decode cX6_gives 73 = .ok (.ireturn, 1) := dk_172 (dk_at dksX6_gives_3 4 rfl rfl)
abbrev cX6_runs : ByteArray := prog_26_method_120_code
def yX6_runs : MethodName := ⟨RX6, "runs", "(I)V"⟩
def dkwX6_runs_1 : List UInt8 := [27, 79, 42, 89, 180, 1, 171, 4, 96, 181, 1, 171, 177]
abbrev dktX6_runs_1 : List UInt8 := dkwX6_runs_1 ++ []
def dkwX6_runs_0 : List UInt8 := [42, 180, 1, 168, 154, 0, 32, 42, 180, 1, 171, 16, 30, 162, 0, 13, 42, 180, 0, 61, 42, 180, 1, 171]
abbrev dktX6_runs_0 : List UInt8 := dkwX6_runs_0 ++ dktX6_runs_1
theorem dksX6_runs_0 : cX6_runs.data.toList.drop 0 = dktX6_runs_0 := by decide +kernel
theorem dksX6_runs_1 : cX6_runs.data.toList.drop 24 = dktX6_runs_1 := dk_seg dksX6_runs_0 24 rfl rfl
theorem dX6_runs_0 : decode cX6_runs 0 = .ok (.aload_n 0, 1) := dk_42 (dk_at dksX6_runs_0 0 rfl rfl)
theorem dX6_runs_1 : decode cX6_runs 1 = .ok (.getfield 424, 3) := dk_180 1 168 (dk_at dksX6_runs_0 1 rfl rfl)
theorem dX6_runs_4 : decode cX6_runs 4 = .ok (.ifCond .ne 32, 3) := dk_154 0 32 (dk_at dksX6_runs_0 4 rfl rfl)
theorem dX6_runs_7 : decode cX6_runs 7 = .ok (.aload_n 0, 1) := dk_42 (dk_at dksX6_runs_0 7 rfl rfl)
theorem dX6_runs_8 : decode cX6_runs 8 = .ok (.getfield 427, 3) := dk_180 1 171 (dk_at dksX6_runs_0 8 rfl rfl)
theorem dX6_runs_11 : decode cX6_runs 11 = .ok (.bipush 30, 2) := dk_16 30 (dk_at dksX6_runs_0 11 rfl rfl)
theorem dX6_runs_13 : decode cX6_runs 13 = .ok (.if_icmp .ge 13, 3) := dk_162 0 13 (dk_at dksX6_runs_0 13 rfl rfl)
theorem dX6_runs_16 : decode cX6_runs 16 = .ok (.aload_n 0, 1) := dk_42 (dk_at dksX6_runs_0 16 rfl rfl)
theorem dX6_runs_17 : decode cX6_runs 17 = .ok (.getfield 61, 3) := dk_180 0 61 (dk_at dksX6_runs_0 17 rfl rfl)
theorem dX6_runs_20 : decode cX6_runs 20 = .ok (.aload_n 0, 1) := dk_42 (dk_at dksX6_runs_0 20 rfl rfl)
theorem dX6_runs_21 : decode cX6_runs 21 = .ok (.getfield 427, 3) := dk_180 1 171 (dk_at dksX6_runs_0 21 rfl rfl)
theorem dX6_runs_24 : decode cX6_runs 24 = .ok (.iload_n 1, 1) := dk_27 (dk_at dksX6_runs_1 0 rfl rfl)
theorem dX6_runs_25 : decode cX6_runs 25 = .ok (.iastore, 1) := dk_79 (dk_at dksX6_runs_1 1 rfl rfl)
theorem dX6_runs_26 : decode cX6_runs 26 = .ok (.aload_n 0, 1) := dk_42 (dk_at dksX6_runs_1 2 rfl rfl)
theorem dX6_runs_27 : decode cX6_runs 27 = .ok (.dup, 1) := dk_89 (dk_at dksX6_runs_1 3 rfl rfl)
theorem dX6_runs_28 : decode cX6_runs 28 = .ok (.getfield 427, 3) := dk_180 1 171 (dk_at dksX6_runs_1 4 rfl rfl)
theorem dX6_runs_31 : decode cX6_runs 31 = .ok (.iconst 1, 1) := dk_4 (dk_at dksX6_runs_1 7 rfl rfl)
theorem dX6_runs_32 : decode cX6_runs 32 = .ok (.iadd, 1) := dk_96 (dk_at dksX6_runs_1 8 rfl rfl)
theorem dX6_runs_33 : decode cX6_runs 33 = .ok (.putfield 427, 3) := dk_181 1 171 (dk_at dksX6_runs_1 9 rfl rfl)
theorem dX6_runs_36 : decode cX6_runs 36 = .ok (.return_, 1) := dk_177 (dk_at dksX6_runs_1 12 rfl rfl)
abbrev cX6_takes : ByteArray := prog_26_method_122_code
def yX6_takes : MethodName := ⟨RX6, "takes", "(I)I"⟩
def dkwX6_takes_3 : List UInt8 := [180, 1, 174, 8, 160, 0, 12, 29, 42, 180, 1, 180, 130, 167, 0, 4, 29, 172]
abbrev dktX6_takes_3 : List UInt8 := dkwX6_takes_3 ++ []
def dkwX6_takes_2 : List UInt8 := [16, 11, 182, 1, 177, 42, 27, 182, 1, 186, 5, 104, 62, 28, 153, 0, 9, 3, 29, 100, 167, 0, 21, 42]
abbrev dktX6_takes_2 : List UInt8 := dkwX6_takes_2 ++ dktX6_takes_3
def dkwX6_takes_1 : List UInt8 := [153, 0, 9, 42, 16, 30, 182, 1, 177, 42, 180, 1, 174, 8, 160, 0, 9, 42, 16, 60, 182, 1, 177, 42]
abbrev dktX6_takes_1 : List UInt8 := dkwX6_takes_1 ++ dktX6_takes_2
def dkwX6_takes_0 : List UInt8 := [42, 180, 1, 174, 5, 159, 0, 11, 42, 180, 1, 174, 6, 160, 0, 7, 4, 167, 0, 4, 3, 61, 28]
abbrev dktX6_takes_0 : List UInt8 := dkwX6_takes_0 ++ dktX6_takes_1
theorem dksX6_takes_0 : cX6_takes.data.toList.drop 0 = dktX6_takes_0 := by decide +kernel
theorem dksX6_takes_1 : cX6_takes.data.toList.drop 23 = dktX6_takes_1 := dk_seg dksX6_takes_0 23 rfl rfl
theorem dksX6_takes_2 : cX6_takes.data.toList.drop 47 = dktX6_takes_2 := dk_seg dksX6_takes_1 24 rfl rfl
theorem dksX6_takes_3 : cX6_takes.data.toList.drop 71 = dktX6_takes_3 := dk_seg dksX6_takes_2 24 rfl rfl
theorem dX6_takes_0 : decode cX6_takes 0 = .ok (.aload_n 0, 1) := dk_42 (dk_at dksX6_takes_0 0 rfl rfl)
theorem dX6_takes_1 : decode cX6_takes 1 = .ok (.getfield 430, 3) := dk_180 1 174 (dk_at dksX6_takes_0 1 rfl rfl)
theorem dX6_takes_4 : decode cX6_takes 4 = .ok (.iconst 2, 1) := dk_5 (dk_at dksX6_takes_0 4 rfl rfl)
theorem dX6_takes_5 : decode cX6_takes 5 = .ok (.if_icmp .eq 11, 3) := dk_159 0 11 (dk_at dksX6_takes_0 5 rfl rfl)
theorem dX6_takes_8 : decode cX6_takes 8 = .ok (.aload_n 0, 1) := dk_42 (dk_at dksX6_takes_0 8 rfl rfl)
theorem dX6_takes_9 : decode cX6_takes 9 = .ok (.getfield 430, 3) := dk_180 1 174 (dk_at dksX6_takes_0 9 rfl rfl)
theorem dX6_takes_12 : decode cX6_takes 12 = .ok (.iconst 3, 1) := dk_6 (dk_at dksX6_takes_0 12 rfl rfl)
theorem dX6_takes_13 : decode cX6_takes 13 = .ok (.if_icmp .ne 7, 3) := dk_160 0 7 (dk_at dksX6_takes_0 13 rfl rfl)
theorem dX6_takes_16 : decode cX6_takes 16 = .ok (.iconst 1, 1) := dk_4 (dk_at dksX6_takes_0 16 rfl rfl)
theorem dX6_takes_17 : decode cX6_takes 17 = .ok (.goto 4, 3) := dk_167 0 4 (dk_at dksX6_takes_0 17 rfl rfl)
theorem dX6_takes_20 : decode cX6_takes 20 = .ok (.iconst 0, 1) := dk_3 (dk_at dksX6_takes_0 20 rfl rfl)
theorem dX6_takes_21 : decode cX6_takes 21 = .ok (.istore_n 2, 1) := dk_61 (dk_at dksX6_takes_0 21 rfl rfl)
theorem dX6_takes_22 : decode cX6_takes 22 = .ok (.iload_n 2, 1) := dk_28 (dk_at dksX6_takes_0 22 rfl rfl)
theorem dX6_takes_23 : decode cX6_takes 23 = .ok (.ifCond .eq 9, 3) := dk_153 0 9 (dk_at dksX6_takes_1 0 rfl rfl)
theorem dX6_takes_26 : decode cX6_takes 26 = .ok (.aload_n 0, 1) := dk_42 (dk_at dksX6_takes_1 3 rfl rfl)
theorem dX6_takes_27 : decode cX6_takes 27 = .ok (.bipush 30, 2) := dk_16 30 (dk_at dksX6_takes_1 4 rfl rfl)
theorem dX6_takes_29 : decode cX6_takes 29 = .ok (.invokevirtual 433, 3) := dk_182 1 177 (dk_at dksX6_takes_1 6 rfl rfl)
theorem dX6_takes_32 : decode cX6_takes 32 = .ok (.aload_n 0, 1) := dk_42 (dk_at dksX6_takes_1 9 rfl rfl)
theorem dX6_takes_33 : decode cX6_takes 33 = .ok (.getfield 430, 3) := dk_180 1 174 (dk_at dksX6_takes_1 10 rfl rfl)
theorem dX6_takes_36 : decode cX6_takes 36 = .ok (.iconst 5, 1) := dk_8 (dk_at dksX6_takes_1 13 rfl rfl)
theorem dX6_takes_37 : decode cX6_takes 37 = .ok (.if_icmp .ne 9, 3) := dk_160 0 9 (dk_at dksX6_takes_1 14 rfl rfl)
theorem dX6_takes_40 : decode cX6_takes 40 = .ok (.aload_n 0, 1) := dk_42 (dk_at dksX6_takes_1 17 rfl rfl)
theorem dX6_takes_41 : decode cX6_takes 41 = .ok (.bipush 60, 2) := dk_16 60 (dk_at dksX6_takes_1 18 rfl rfl)
theorem dX6_takes_43 : decode cX6_takes 43 = .ok (.invokevirtual 433, 3) := dk_182 1 177 (dk_at dksX6_takes_1 20 rfl rfl)
theorem dX6_takes_46 : decode cX6_takes 46 = .ok (.aload_n 0, 1) := dk_42 (dk_at dksX6_takes_1 23 rfl rfl)
theorem dX6_takes_47 : decode cX6_takes 47 = .ok (.bipush 11, 2) := dk_16 11 (dk_at dksX6_takes_2 0 rfl rfl)
theorem dX6_takes_49 : decode cX6_takes 49 = .ok (.invokevirtual 433, 3) := dk_182 1 177 (dk_at dksX6_takes_2 2 rfl rfl)
theorem dX6_takes_52 : decode cX6_takes 52 = .ok (.aload_n 0, 1) := dk_42 (dk_at dksX6_takes_2 5 rfl rfl)
theorem dX6_takes_53 : decode cX6_takes 53 = .ok (.iload_n 1, 1) := dk_27 (dk_at dksX6_takes_2 6 rfl rfl)
theorem dX6_takes_54 : decode cX6_takes 54 = .ok (.invokevirtual 442, 3) := dk_182 1 186 (dk_at dksX6_takes_2 7 rfl rfl)
theorem dX6_takes_57 : decode cX6_takes 57 = .ok (.iconst 2, 1) := dk_5 (dk_at dksX6_takes_2 10 rfl rfl)
theorem dX6_takes_58 : decode cX6_takes 58 = .ok (.imul, 1) := dk_104 (dk_at dksX6_takes_2 11 rfl rfl)
theorem dX6_takes_59 : decode cX6_takes 59 = .ok (.istore_n 3, 1) := dk_62 (dk_at dksX6_takes_2 12 rfl rfl)
theorem dX6_takes_60 : decode cX6_takes 60 = .ok (.iload_n 2, 1) := dk_28 (dk_at dksX6_takes_2 13 rfl rfl)
theorem dX6_takes_61 : decode cX6_takes 61 = .ok (.ifCond .eq 9, 3) := dk_153 0 9 (dk_at dksX6_takes_2 14 rfl rfl)
theorem dX6_takes_64 : decode cX6_takes 64 = .ok (.iconst 0, 1) := dk_3 (dk_at dksX6_takes_2 17 rfl rfl)
theorem dX6_takes_65 : decode cX6_takes 65 = .ok (.iload_n 3, 1) := dk_29 (dk_at dksX6_takes_2 18 rfl rfl)
theorem dX6_takes_66 : decode cX6_takes 66 = .ok (.isub, 1) := dk_100 (dk_at dksX6_takes_2 19 rfl rfl)
theorem dX6_takes_67 : decode cX6_takes 67 = .ok (.goto 21, 3) := dk_167 0 21 (dk_at dksX6_takes_2 20 rfl rfl)
theorem dX6_takes_70 : decode cX6_takes 70 = .ok (.aload_n 0, 1) := dk_42 (dk_at dksX6_takes_2 23 rfl rfl)
theorem dX6_takes_71 : decode cX6_takes 71 = .ok (.getfield 430, 3) := dk_180 1 174 (dk_at dksX6_takes_3 0 rfl rfl)
theorem dX6_takes_74 : decode cX6_takes 74 = .ok (.iconst 5, 1) := dk_8 (dk_at dksX6_takes_3 3 rfl rfl)
theorem dX6_takes_75 : decode cX6_takes 75 = .ok (.if_icmp .ne 12, 3) := dk_160 0 12 (dk_at dksX6_takes_3 4 rfl rfl)
theorem dX6_takes_78 : decode cX6_takes 78 = .ok (.iload_n 3, 1) := dk_29 (dk_at dksX6_takes_3 7 rfl rfl)
theorem dX6_takes_79 : decode cX6_takes 79 = .ok (.aload_n 0, 1) := dk_42 (dk_at dksX6_takes_3 8 rfl rfl)
theorem dX6_takes_80 : decode cX6_takes 80 = .ok (.getfield 436, 3) := dk_180 1 180 (dk_at dksX6_takes_3 9 rfl rfl)
theorem dX6_takes_83 : decode cX6_takes 83 = .ok (.ixor, 1) := dk_130 (dk_at dksX6_takes_3 12 rfl rfl)
theorem dX6_takes_84 : decode cX6_takes 84 = .ok (.goto 4, 3) := dk_167 0 4 (dk_at dksX6_takes_3 13 rfl rfl)
theorem dX6_takes_87 : decode cX6_takes 87 = .ok (.iload_n 3, 1) := dk_29 (dk_at dksX6_takes_3 16 rfl rfl)
theorem dX6_takes_88 : decode cX6_takes 88 = .ok (.ireturn, 1) := dk_172 (dk_at dksX6_takes_3 17 rfl rfl)
abbrev cX6_splits : ByteArray := prog_26_method_124_code
def yX6_splits : MethodName := ⟨RX6, "splits", "(I)I"⟩
def dkwX6_splits_3 : List UInt8 := [96, 172, 42, 27, 182, 1, 189, 172]
abbrev dktX6_splits_3 : List UInt8 := dkwX6_splits_3 ++ []
def dkwX6_splits_2 : List UInt8 := [182, 1, 189, 61, 42, 180, 1, 168, 153, 0, 7, 3, 167, 0, 13, 28, 42, 42, 180, 1, 183, 182, 1, 186]
abbrev dktX6_splits_2 : List UInt8 := dkwX6_splits_2 ++ dktX6_splits_3
def dkwX6_splits_1 : List UInt8 := [180, 1, 174, 8, 160, 0, 45, 42, 16, 61, 182, 1, 177, 42, 16, 40, 182, 1, 177, 42, 27, 8, 96]
abbrev dktX6_splits_1 : List UInt8 := dkwX6_splits_1 ++ dktX6_splits_2
def dkwX6_splits_0 : List UInt8 := [42, 180, 1, 174, 7, 160, 0, 17, 42, 16, 40, 182, 1, 177, 42, 27, 8, 96, 182, 1, 189, 172, 42]
abbrev dktX6_splits_0 : List UInt8 := dkwX6_splits_0 ++ dktX6_splits_1
theorem dksX6_splits_0 : cX6_splits.data.toList.drop 0 = dktX6_splits_0 := by decide +kernel
theorem dksX6_splits_1 : cX6_splits.data.toList.drop 23 = dktX6_splits_1 := dk_seg dksX6_splits_0 23 rfl rfl
theorem dksX6_splits_2 : cX6_splits.data.toList.drop 46 = dktX6_splits_2 := dk_seg dksX6_splits_1 23 rfl rfl
theorem dksX6_splits_3 : cX6_splits.data.toList.drop 70 = dktX6_splits_3 := dk_seg dksX6_splits_2 24 rfl rfl
theorem dX6_splits_0 : decode cX6_splits 0 = .ok (.aload_n 0, 1) := dk_42 (dk_at dksX6_splits_0 0 rfl rfl)
theorem dX6_splits_1 : decode cX6_splits 1 = .ok (.getfield 430, 3) := dk_180 1 174 (dk_at dksX6_splits_0 1 rfl rfl)
theorem dX6_splits_4 : decode cX6_splits 4 = .ok (.iconst 4, 1) := dk_7 (dk_at dksX6_splits_0 4 rfl rfl)
theorem dX6_splits_5 : decode cX6_splits 5 = .ok (.if_icmp .ne 17, 3) := dk_160 0 17 (dk_at dksX6_splits_0 5 rfl rfl)
theorem dX6_splits_8 : decode cX6_splits 8 = .ok (.aload_n 0, 1) := dk_42 (dk_at dksX6_splits_0 8 rfl rfl)
theorem dX6_splits_9 : decode cX6_splits 9 = .ok (.bipush 40, 2) := dk_16 40 (dk_at dksX6_splits_0 9 rfl rfl)
theorem dX6_splits_11 : decode cX6_splits 11 = .ok (.invokevirtual 433, 3) := dk_182 1 177 (dk_at dksX6_splits_0 11 rfl rfl)
theorem dX6_splits_14 : decode cX6_splits 14 = .ok (.aload_n 0, 1) := dk_42 (dk_at dksX6_splits_0 14 rfl rfl)
theorem dX6_splits_15 : decode cX6_splits 15 = .ok (.iload_n 1, 1) := dk_27 (dk_at dksX6_splits_0 15 rfl rfl)
theorem dX6_splits_16 : decode cX6_splits 16 = .ok (.iconst 5, 1) := dk_8 (dk_at dksX6_splits_0 16 rfl rfl)
theorem dX6_splits_17 : decode cX6_splits 17 = .ok (.iadd, 1) := dk_96 (dk_at dksX6_splits_0 17 rfl rfl)
theorem dX6_splits_18 : decode cX6_splits 18 = .ok (.invokevirtual 445, 3) := dk_182 1 189 (dk_at dksX6_splits_0 18 rfl rfl)
theorem dX6_splits_21 : decode cX6_splits 21 = .ok (.ireturn, 1) := dk_172 (dk_at dksX6_splits_0 21 rfl rfl)
theorem dX6_splits_22 : decode cX6_splits 22 = .ok (.aload_n 0, 1) := dk_42 (dk_at dksX6_splits_0 22 rfl rfl)
theorem dX6_splits_23 : decode cX6_splits 23 = .ok (.getfield 430, 3) := dk_180 1 174 (dk_at dksX6_splits_1 0 rfl rfl)
theorem dX6_splits_26 : decode cX6_splits 26 = .ok (.iconst 5, 1) := dk_8 (dk_at dksX6_splits_1 3 rfl rfl)
theorem dX6_splits_27 : decode cX6_splits 27 = .ok (.if_icmp .ne 45, 3) := dk_160 0 45 (dk_at dksX6_splits_1 4 rfl rfl)
theorem dX6_splits_30 : decode cX6_splits 30 = .ok (.aload_n 0, 1) := dk_42 (dk_at dksX6_splits_1 7 rfl rfl)
theorem dX6_splits_31 : decode cX6_splits 31 = .ok (.bipush 61, 2) := dk_16 61 (dk_at dksX6_splits_1 8 rfl rfl)
theorem dX6_splits_33 : decode cX6_splits 33 = .ok (.invokevirtual 433, 3) := dk_182 1 177 (dk_at dksX6_splits_1 10 rfl rfl)
theorem dX6_splits_36 : decode cX6_splits 36 = .ok (.aload_n 0, 1) := dk_42 (dk_at dksX6_splits_1 13 rfl rfl)
theorem dX6_splits_37 : decode cX6_splits 37 = .ok (.bipush 40, 2) := dk_16 40 (dk_at dksX6_splits_1 14 rfl rfl)
theorem dX6_splits_39 : decode cX6_splits 39 = .ok (.invokevirtual 433, 3) := dk_182 1 177 (dk_at dksX6_splits_1 16 rfl rfl)
theorem dX6_splits_42 : decode cX6_splits 42 = .ok (.aload_n 0, 1) := dk_42 (dk_at dksX6_splits_1 19 rfl rfl)
theorem dX6_splits_43 : decode cX6_splits 43 = .ok (.iload_n 1, 1) := dk_27 (dk_at dksX6_splits_1 20 rfl rfl)
theorem dX6_splits_44 : decode cX6_splits 44 = .ok (.iconst 5, 1) := dk_8 (dk_at dksX6_splits_1 21 rfl rfl)
theorem dX6_splits_45 : decode cX6_splits 45 = .ok (.iadd, 1) := dk_96 (dk_at dksX6_splits_1 22 rfl rfl)
theorem dX6_splits_46 : decode cX6_splits 46 = .ok (.invokevirtual 445, 3) := dk_182 1 189 (dk_at dksX6_splits_2 0 rfl rfl)
theorem dX6_splits_49 : decode cX6_splits 49 = .ok (.istore_n 2, 1) := dk_61 (dk_at dksX6_splits_2 3 rfl rfl)
theorem dX6_splits_50 : decode cX6_splits 50 = .ok (.aload_n 0, 1) := dk_42 (dk_at dksX6_splits_2 4 rfl rfl)
theorem dX6_splits_51 : decode cX6_splits 51 = .ok (.getfield 424, 3) := dk_180 1 168 (dk_at dksX6_splits_2 5 rfl rfl)
theorem dX6_splits_54 : decode cX6_splits 54 = .ok (.ifCond .eq 7, 3) := dk_153 0 7 (dk_at dksX6_splits_2 8 rfl rfl)
theorem dX6_splits_57 : decode cX6_splits 57 = .ok (.iconst 0, 1) := dk_3 (dk_at dksX6_splits_2 11 rfl rfl)
theorem dX6_splits_58 : decode cX6_splits 58 = .ok (.goto 13, 3) := dk_167 0 13 (dk_at dksX6_splits_2 12 rfl rfl)
theorem dX6_splits_61 : decode cX6_splits 61 = .ok (.iload_n 2, 1) := dk_28 (dk_at dksX6_splits_2 15 rfl rfl)
theorem dX6_splits_62 : decode cX6_splits 62 = .ok (.aload_n 0, 1) := dk_42 (dk_at dksX6_splits_2 16 rfl rfl)
theorem dX6_splits_63 : decode cX6_splits 63 = .ok (.aload_n 0, 1) := dk_42 (dk_at dksX6_splits_2 17 rfl rfl)
theorem dX6_splits_64 : decode cX6_splits 64 = .ok (.getfield 439, 3) := dk_180 1 183 (dk_at dksX6_splits_2 18 rfl rfl)
theorem dX6_splits_67 : decode cX6_splits 67 = .ok (.invokevirtual 442, 3) := dk_182 1 186 (dk_at dksX6_splits_2 21 rfl rfl)
theorem dX6_splits_70 : decode cX6_splits 70 = .ok (.iadd, 1) := dk_96 (dk_at dksX6_splits_3 0 rfl rfl)
theorem dX6_splits_71 : decode cX6_splits 71 = .ok (.ireturn, 1) := dk_172 (dk_at dksX6_splits_3 1 rfl rfl)
theorem dX6_splits_72 : decode cX6_splits 72 = .ok (.aload_n 0, 1) := dk_42 (dk_at dksX6_splits_3 2 rfl rfl)
theorem dX6_splits_73 : decode cX6_splits 73 = .ok (.iload_n 1, 1) := dk_27 (dk_at dksX6_splits_3 3 rfl rfl)
theorem dX6_splits_74 : decode cX6_splits 74 = .ok (.invokevirtual 445, 3) := dk_182 1 189 (dk_at dksX6_splits_3 4 rfl rfl)
theorem dX6_splits_77 : decode cX6_splits 77 = .ok (.ireturn, 1) := dk_172 (dk_at dksX6_splits_3 7 rfl rfl)
abbrev cX6_plainSplits : ByteArray := prog_26_method_123_code
def yX6_plainSplits : MethodName := ⟨RX6, "plainSplits", "(I)I"⟩
def dkwX6_plainSplits_1 : List UInt8 := [27, 42, 180, 1, 180, 42, 180, 1, 183, 100, 112, 172]
abbrev dktX6_plainSplits_1 : List UInt8 := dkwX6_plainSplits_1 ++ []
def dkwX6_plainSplits_0 : List UInt8 := [42, 16, 12, 182, 1, 177, 42, 180, 1, 180, 42, 180, 1, 183, 160, 0, 10, 42, 4, 181, 1, 168, 3, 172]
abbrev dktX6_plainSplits_0 : List UInt8 := dkwX6_plainSplits_0 ++ dktX6_plainSplits_1
theorem dksX6_plainSplits_0 : cX6_plainSplits.data.toList.drop 0 = dktX6_plainSplits_0 := by decide +kernel
theorem dksX6_plainSplits_1 : cX6_plainSplits.data.toList.drop 24 = dktX6_plainSplits_1 := dk_seg dksX6_plainSplits_0 24 rfl rfl
theorem dX6_plainSplits_0 : decode cX6_plainSplits 0 = .ok (.aload_n 0, 1) := dk_42 (dk_at dksX6_plainSplits_0 0 rfl rfl)
theorem dX6_plainSplits_1 : decode cX6_plainSplits 1 = .ok (.bipush 12, 2) := dk_16 12 (dk_at dksX6_plainSplits_0 1 rfl rfl)
theorem dX6_plainSplits_3 : decode cX6_plainSplits 3 = .ok (.invokevirtual 433, 3) := dk_182 1 177 (dk_at dksX6_plainSplits_0 3 rfl rfl)
theorem dX6_plainSplits_6 : decode cX6_plainSplits 6 = .ok (.aload_n 0, 1) := dk_42 (dk_at dksX6_plainSplits_0 6 rfl rfl)
theorem dX6_plainSplits_7 : decode cX6_plainSplits 7 = .ok (.getfield 436, 3) := dk_180 1 180 (dk_at dksX6_plainSplits_0 7 rfl rfl)
theorem dX6_plainSplits_10 : decode cX6_plainSplits 10 = .ok (.aload_n 0, 1) := dk_42 (dk_at dksX6_plainSplits_0 10 rfl rfl)
theorem dX6_plainSplits_11 : decode cX6_plainSplits 11 = .ok (.getfield 439, 3) := dk_180 1 183 (dk_at dksX6_plainSplits_0 11 rfl rfl)
theorem dX6_plainSplits_14 : decode cX6_plainSplits 14 = .ok (.if_icmp .ne 10, 3) := dk_160 0 10 (dk_at dksX6_plainSplits_0 14 rfl rfl)
theorem dX6_plainSplits_17 : decode cX6_plainSplits 17 = .ok (.aload_n 0, 1) := dk_42 (dk_at dksX6_plainSplits_0 17 rfl rfl)
theorem dX6_plainSplits_18 : decode cX6_plainSplits 18 = .ok (.iconst 1, 1) := dk_4 (dk_at dksX6_plainSplits_0 18 rfl rfl)
theorem dX6_plainSplits_19 : decode cX6_plainSplits 19 = .ok (.putfield 424, 3) := dk_181 1 168 (dk_at dksX6_plainSplits_0 19 rfl rfl)
theorem dX6_plainSplits_22 : decode cX6_plainSplits 22 = .ok (.iconst 0, 1) := dk_3 (dk_at dksX6_plainSplits_0 22 rfl rfl)
theorem dX6_plainSplits_23 : decode cX6_plainSplits 23 = .ok (.ireturn, 1) := dk_172 (dk_at dksX6_plainSplits_0 23 rfl rfl)
theorem dX6_plainSplits_24 : decode cX6_plainSplits 24 = .ok (.iload_n 1, 1) := dk_27 (dk_at dksX6_plainSplits_1 0 rfl rfl)
theorem dX6_plainSplits_25 : decode cX6_plainSplits 25 = .ok (.aload_n 0, 1) := dk_42 (dk_at dksX6_plainSplits_1 1 rfl rfl)
theorem dX6_plainSplits_26 : decode cX6_plainSplits 26 = .ok (.getfield 436, 3) := dk_180 1 180 (dk_at dksX6_plainSplits_1 2 rfl rfl)
theorem dX6_plainSplits_29 : decode cX6_plainSplits 29 = .ok (.aload_n 0, 1) := dk_42 (dk_at dksX6_plainSplits_1 5 rfl rfl)
theorem dX6_plainSplits_30 : decode cX6_plainSplits 30 = .ok (.getfield 439, 3) := dk_180 1 183 (dk_at dksX6_plainSplits_1 6 rfl rfl)
theorem dX6_plainSplits_33 : decode cX6_plainSplits 33 = .ok (.isub, 1) := dk_100 (dk_at dksX6_plainSplits_1 9 rfl rfl)
theorem dX6_plainSplits_34 : decode cX6_plainSplits 34 = .ok (.irem, 1) := dk_112 (dk_at dksX6_plainSplits_1 10 rfl rfl)
theorem dX6_plainSplits_35 : decode cX6_plainSplits 35 = .ok (.ireturn, 1) := dk_172 (dk_at dksX6_plainSplits_1 11 rfl rfl)
abbrev cX6_swears : ByteArray := prog_26_method_125_code
def yX6_swears : MethodName := ⟨RX6, "swears", "(I)I"⟩
def dkwX6_swears_2 : List UInt8 := [182, 1, 195, 100, 167, 0, 4, 28, 172]
abbrev dktX6_swears_2 : List UInt8 := dkwX6_swears_2 ++ []
def dkwX6_swears_1 : List UInt8 := [182, 1, 192, 42, 180, 1, 183, 130, 61, 42, 180, 1, 174, 6, 160, 0, 16, 28, 42, 42, 180, 1, 180]
abbrev dktX6_swears_1 : List UInt8 := dkwX6_swears_1 ++ dktX6_swears_2
def dkwX6_swears_0 : List UInt8 := [42, 180, 1, 174, 6, 160, 0, 9, 42, 16, 51, 182, 1, 177, 42, 16, 13, 182, 1, 177, 42, 27]
abbrev dktX6_swears_0 : List UInt8 := dkwX6_swears_0 ++ dktX6_swears_1
theorem dksX6_swears_0 : cX6_swears.data.toList.drop 0 = dktX6_swears_0 := by decide +kernel
theorem dksX6_swears_1 : cX6_swears.data.toList.drop 22 = dktX6_swears_1 := dk_seg dksX6_swears_0 22 rfl rfl
theorem dksX6_swears_2 : cX6_swears.data.toList.drop 45 = dktX6_swears_2 := dk_seg dksX6_swears_1 23 rfl rfl
theorem dX6_swears_0 : decode cX6_swears 0 = .ok (.aload_n 0, 1) := dk_42 (dk_at dksX6_swears_0 0 rfl rfl)
theorem dX6_swears_1 : decode cX6_swears 1 = .ok (.getfield 430, 3) := dk_180 1 174 (dk_at dksX6_swears_0 1 rfl rfl)
theorem dX6_swears_4 : decode cX6_swears 4 = .ok (.iconst 3, 1) := dk_6 (dk_at dksX6_swears_0 4 rfl rfl)
theorem dX6_swears_5 : decode cX6_swears 5 = .ok (.if_icmp .ne 9, 3) := dk_160 0 9 (dk_at dksX6_swears_0 5 rfl rfl)
theorem dX6_swears_8 : decode cX6_swears 8 = .ok (.aload_n 0, 1) := dk_42 (dk_at dksX6_swears_0 8 rfl rfl)
theorem dX6_swears_9 : decode cX6_swears 9 = .ok (.bipush 51, 2) := dk_16 51 (dk_at dksX6_swears_0 9 rfl rfl)
theorem dX6_swears_11 : decode cX6_swears 11 = .ok (.invokevirtual 433, 3) := dk_182 1 177 (dk_at dksX6_swears_0 11 rfl rfl)
theorem dX6_swears_14 : decode cX6_swears 14 = .ok (.aload_n 0, 1) := dk_42 (dk_at dksX6_swears_0 14 rfl rfl)
theorem dX6_swears_15 : decode cX6_swears 15 = .ok (.bipush 13, 2) := dk_16 13 (dk_at dksX6_swears_0 15 rfl rfl)
theorem dX6_swears_17 : decode cX6_swears 17 = .ok (.invokevirtual 433, 3) := dk_182 1 177 (dk_at dksX6_swears_0 17 rfl rfl)
theorem dX6_swears_20 : decode cX6_swears 20 = .ok (.aload_n 0, 1) := dk_42 (dk_at dksX6_swears_0 20 rfl rfl)
theorem dX6_swears_21 : decode cX6_swears 21 = .ok (.iload_n 1, 1) := dk_27 (dk_at dksX6_swears_0 21 rfl rfl)
theorem dX6_swears_22 : decode cX6_swears 22 = .ok (.invokevirtual 448, 3) := dk_182 1 192 (dk_at dksX6_swears_1 0 rfl rfl)
theorem dX6_swears_25 : decode cX6_swears 25 = .ok (.aload_n 0, 1) := dk_42 (dk_at dksX6_swears_1 3 rfl rfl)
theorem dX6_swears_26 : decode cX6_swears 26 = .ok (.getfield 439, 3) := dk_180 1 183 (dk_at dksX6_swears_1 4 rfl rfl)
theorem dX6_swears_29 : decode cX6_swears 29 = .ok (.ixor, 1) := dk_130 (dk_at dksX6_swears_1 7 rfl rfl)
theorem dX6_swears_30 : decode cX6_swears 30 = .ok (.istore_n 2, 1) := dk_61 (dk_at dksX6_swears_1 8 rfl rfl)
theorem dX6_swears_31 : decode cX6_swears 31 = .ok (.aload_n 0, 1) := dk_42 (dk_at dksX6_swears_1 9 rfl rfl)
theorem dX6_swears_32 : decode cX6_swears 32 = .ok (.getfield 430, 3) := dk_180 1 174 (dk_at dksX6_swears_1 10 rfl rfl)
theorem dX6_swears_35 : decode cX6_swears 35 = .ok (.iconst 3, 1) := dk_6 (dk_at dksX6_swears_1 13 rfl rfl)
theorem dX6_swears_36 : decode cX6_swears 36 = .ok (.if_icmp .ne 16, 3) := dk_160 0 16 (dk_at dksX6_swears_1 14 rfl rfl)
theorem dX6_swears_39 : decode cX6_swears 39 = .ok (.iload_n 2, 1) := dk_28 (dk_at dksX6_swears_1 17 rfl rfl)
theorem dX6_swears_40 : decode cX6_swears 40 = .ok (.aload_n 0, 1) := dk_42 (dk_at dksX6_swears_1 18 rfl rfl)
theorem dX6_swears_41 : decode cX6_swears 41 = .ok (.aload_n 0, 1) := dk_42 (dk_at dksX6_swears_1 19 rfl rfl)
theorem dX6_swears_42 : decode cX6_swears 42 = .ok (.getfield 436, 3) := dk_180 1 180 (dk_at dksX6_swears_1 20 rfl rfl)
theorem dX6_swears_45 : decode cX6_swears 45 = .ok (.invokevirtual 451, 3) := dk_182 1 195 (dk_at dksX6_swears_2 0 rfl rfl)
theorem dX6_swears_48 : decode cX6_swears 48 = .ok (.isub, 1) := dk_100 (dk_at dksX6_swears_2 3 rfl rfl)
theorem dX6_swears_49 : decode cX6_swears 49 = .ok (.goto 4, 3) := dk_167 0 4 (dk_at dksX6_swears_2 4 rfl rfl)
theorem dX6_swears_52 : decode cX6_swears 52 = .ok (.iload_n 2, 1) := dk_28 (dk_at dksX6_swears_2 7 rfl rfl)
theorem dX6_swears_53 : decode cX6_swears 53 = .ok (.ireturn, 1) := dk_172 (dk_at dksX6_swears_2 8 rfl rfl)
abbrev cX6_trace : ByteArray := prog_26_method_128_code
def yX6_trace : MethodName := ⟨RX6, "trace", "(I)I"⟩
def dkwX6_trace_1 : List UInt8 := [167, 0, 5, 16, 253, 172]
abbrev dktX6_trace_1 : List UInt8 := dkwX6_trace_1 ++ []
def dkwX6_trace_0 : List UInt8 := [27, 133, 9, 42, 182, 1, 201, 4, 100, 133, 184, 0, 64, 153, 0, 12, 42, 180, 0, 61, 27, 46]
abbrev dktX6_trace_0 : List UInt8 := dkwX6_trace_0 ++ dktX6_trace_1
theorem dksX6_trace_0 : cX6_trace.data.toList.drop 0 = dktX6_trace_0 := by decide +kernel
theorem dksX6_trace_1 : cX6_trace.data.toList.drop 22 = dktX6_trace_1 := dk_seg dksX6_trace_0 22 rfl rfl
theorem dX6_trace_0 : decode cX6_trace 0 = .ok (.iload_n 1, 1) := dk_27 (dk_at dksX6_trace_0 0 rfl rfl)
theorem dX6_trace_1 : decode cX6_trace 1 = .ok (.i2l, 1) := dk_133 (dk_at dksX6_trace_0 1 rfl rfl)
theorem dX6_trace_2 : decode cX6_trace 2 = .ok (.lconst 0, 1) := dk_9 (dk_at dksX6_trace_0 2 rfl rfl)
theorem dX6_trace_3 : decode cX6_trace 3 = .ok (.aload_n 0, 1) := dk_42 (dk_at dksX6_trace_0 3 rfl rfl)
theorem dX6_trace_4 : decode cX6_trace 4 = .ok (.invokevirtual 457, 3) := dk_182 1 201 (dk_at dksX6_trace_0 4 rfl rfl)
theorem dX6_trace_7 : decode cX6_trace 7 = .ok (.iconst 1, 1) := dk_4 (dk_at dksX6_trace_0 7 rfl rfl)
theorem dX6_trace_8 : decode cX6_trace 8 = .ok (.isub, 1) := dk_100 (dk_at dksX6_trace_0 8 rfl rfl)
theorem dX6_trace_9 : decode cX6_trace 9 = .ok (.i2l, 1) := dk_133 (dk_at dksX6_trace_0 9 rfl rfl)
theorem dX6_trace_10 : decode cX6_trace 10 = .ok (.invokestatic 64, 3) := dk_184 0 64 (dk_at dksX6_trace_0 10 rfl rfl)
theorem dX6_trace_13 : decode cX6_trace 13 = .ok (.ifCond .eq 12, 3) := dk_153 0 12 (dk_at dksX6_trace_0 13 rfl rfl)
theorem dX6_trace_16 : decode cX6_trace 16 = .ok (.aload_n 0, 1) := dk_42 (dk_at dksX6_trace_0 16 rfl rfl)
theorem dX6_trace_17 : decode cX6_trace 17 = .ok (.getfield 61, 3) := dk_180 0 61 (dk_at dksX6_trace_0 17 rfl rfl)
theorem dX6_trace_20 : decode cX6_trace 20 = .ok (.iload_n 1, 1) := dk_27 (dk_at dksX6_trace_0 20 rfl rfl)
theorem dX6_trace_21 : decode cX6_trace 21 = .ok (.iaload, 1) := dk_46 (dk_at dksX6_trace_0 21 rfl rfl)
theorem dX6_trace_22 : decode cX6_trace 22 = .ok (.goto 5, 3) := dk_167 0 5 (dk_at dksX6_trace_1 0 rfl rfl)
theorem dX6_trace_25 : decode cX6_trace 25 = .ok (.bipush (-3), 2) := dk_16 253 (dk_at dksX6_trace_1 3 rfl rfl)
theorem dX6_trace_27 : decode cX6_trace 27 = .ok (.ireturn, 1) := dk_172 (dk_at dksX6_trace_1 5 rfl rfl)
abbrev cX6_traced : ByteArray := prog_26_method_127_code
def yX6_traced : MethodName := ⟨RX6, "traced", "()I"⟩
def dkwX6_traced_0 : List UInt8 := [42, 180, 1, 171, 16, 30, 162, 0, 10, 42, 180, 1, 171, 167, 0, 5, 16, 30, 172]
abbrev dktX6_traced_0 : List UInt8 := dkwX6_traced_0 ++ []
theorem dksX6_traced_0 : cX6_traced.data.toList.drop 0 = dktX6_traced_0 := by decide +kernel
theorem dX6_traced_0 : decode cX6_traced 0 = .ok (.aload_n 0, 1) := dk_42 (dk_at dksX6_traced_0 0 rfl rfl)
theorem dX6_traced_1 : decode cX6_traced 1 = .ok (.getfield 427, 3) := dk_180 1 171 (dk_at dksX6_traced_0 1 rfl rfl)
theorem dX6_traced_4 : decode cX6_traced 4 = .ok (.bipush 30, 2) := dk_16 30 (dk_at dksX6_traced_0 4 rfl rfl)
theorem dX6_traced_6 : decode cX6_traced 6 = .ok (.if_icmp .ge 10, 3) := dk_162 0 10 (dk_at dksX6_traced_0 6 rfl rfl)
theorem dX6_traced_9 : decode cX6_traced 9 = .ok (.aload_n 0, 1) := dk_42 (dk_at dksX6_traced_0 9 rfl rfl)
theorem dX6_traced_10 : decode cX6_traced 10 = .ok (.getfield 427, 3) := dk_180 1 171 (dk_at dksX6_traced_0 10 rfl rfl)
theorem dX6_traced_13 : decode cX6_traced 13 = .ok (.goto 5, 3) := dk_167 0 5 (dk_at dksX6_traced_0 13 rfl rfl)
theorem dX6_traced_16 : decode cX6_traced 16 = .ok (.bipush 30, 2) := dk_16 30 (dk_at dksX6_traced_0 16 rfl rfl)
theorem dX6_traced_18 : decode cX6_traced 18 = .ok (.ireturn, 1) := dk_172 (dk_at dksX6_traced_0 18 rfl rfl)
abbrev cX6_many : ByteArray := prog_26_method_130_code
def yX6_many : MethodName := ⟨RX6, "many", "(I)I"⟩
def dkwX6_many_4 : List UInt8 := [182, 1, 204, 172, 2, 172]
abbrev dktX6_many_4 : List UInt8 := dkwX6_many_4 ++ []
def dkwX6_many_3 : List UInt8 := [180, 0, 7, 16, 6, 46, 172, 42, 180, 1, 8, 172, 42, 180, 1, 19, 172, 42, 182, 1, 201, 172, 42]
abbrev dktX6_many_3 : List UInt8 := dkwX6_many_3 ++ dktX6_many_4
def dkwX6_many_2 : List UInt8 := [42, 180, 0, 7, 3, 46, 172, 42, 180, 0, 7, 4, 46, 172, 42, 180, 0, 7, 8, 46, 172, 42]
abbrev dktX6_many_2 : List UInt8 := dkwX6_many_2 ++ dktX6_many_3
def dkwX6_many_1 : List UInt8 := [170, 0, 0, 0, 0, 0, 96, 0, 0, 0, 0, 0, 0, 0, 7, 0, 0, 0, 47, 0, 0, 0, 54, 0, 0, 0, 61, 0, 0, 0, 68, 0, 0, 0, 76, 0, 0, 0, 81, 0, 0, 0, 86, 0, 0, 0, 91]
abbrev dktX6_many_1 : List UInt8 := dkwX6_many_1 ++ dktX6_many_2
def dkwX6_many_0 : List UInt8 := [27]
abbrev dktX6_many_0 : List UInt8 := dkwX6_many_0 ++ dktX6_many_1
theorem dksX6_many_0 : cX6_many.data.toList.drop 0 = dktX6_many_0 := by decide +kernel
theorem dksX6_many_1 : cX6_many.data.toList.drop 1 = dktX6_many_1 := dk_seg dksX6_many_0 1 rfl rfl
theorem dksX6_many_2 : cX6_many.data.toList.drop 48 = dktX6_many_2 := dk_seg dksX6_many_1 47 rfl rfl
theorem dksX6_many_3 : cX6_many.data.toList.drop 70 = dktX6_many_3 := dk_seg dksX6_many_2 22 rfl rfl
theorem dksX6_many_4 : cX6_many.data.toList.drop 93 = dktX6_many_4 := dk_seg dksX6_many_3 23 rfl rfl
theorem dX6_many_0 : decode cX6_many 0 = .ok (.iload_n 1, 1) := dk_27 (dk_at dksX6_many_0 0 rfl rfl)
theorem dX6_many_1 : decode cX6_many 1 = .ok (.tableswitch 96 0 7 #[47, 54, 61, 68, 76, 81, 86, 91], 47) := by decide +kernel
theorem dX6_many_48 : decode cX6_many 48 = .ok (.aload_n 0, 1) := dk_42 (dk_at dksX6_many_2 0 rfl rfl)
theorem dX6_many_49 : decode cX6_many 49 = .ok (.getfield 7, 3) := dk_180 0 7 (dk_at dksX6_many_2 1 rfl rfl)
theorem dX6_many_52 : decode cX6_many 52 = .ok (.iconst 0, 1) := dk_3 (dk_at dksX6_many_2 4 rfl rfl)
theorem dX6_many_53 : decode cX6_many 53 = .ok (.iaload, 1) := dk_46 (dk_at dksX6_many_2 5 rfl rfl)
theorem dX6_many_54 : decode cX6_many 54 = .ok (.ireturn, 1) := dk_172 (dk_at dksX6_many_2 6 rfl rfl)
theorem dX6_many_55 : decode cX6_many 55 = .ok (.aload_n 0, 1) := dk_42 (dk_at dksX6_many_2 7 rfl rfl)
theorem dX6_many_56 : decode cX6_many 56 = .ok (.getfield 7, 3) := dk_180 0 7 (dk_at dksX6_many_2 8 rfl rfl)
theorem dX6_many_59 : decode cX6_many 59 = .ok (.iconst 1, 1) := dk_4 (dk_at dksX6_many_2 11 rfl rfl)
theorem dX6_many_60 : decode cX6_many 60 = .ok (.iaload, 1) := dk_46 (dk_at dksX6_many_2 12 rfl rfl)
theorem dX6_many_61 : decode cX6_many 61 = .ok (.ireturn, 1) := dk_172 (dk_at dksX6_many_2 13 rfl rfl)
theorem dX6_many_62 : decode cX6_many 62 = .ok (.aload_n 0, 1) := dk_42 (dk_at dksX6_many_2 14 rfl rfl)
theorem dX6_many_63 : decode cX6_many 63 = .ok (.getfield 7, 3) := dk_180 0 7 (dk_at dksX6_many_2 15 rfl rfl)
theorem dX6_many_66 : decode cX6_many 66 = .ok (.iconst 5, 1) := dk_8 (dk_at dksX6_many_2 18 rfl rfl)
theorem dX6_many_67 : decode cX6_many 67 = .ok (.iaload, 1) := dk_46 (dk_at dksX6_many_2 19 rfl rfl)
theorem dX6_many_68 : decode cX6_many 68 = .ok (.ireturn, 1) := dk_172 (dk_at dksX6_many_2 20 rfl rfl)
theorem dX6_many_69 : decode cX6_many 69 = .ok (.aload_n 0, 1) := dk_42 (dk_at dksX6_many_2 21 rfl rfl)
theorem dX6_many_70 : decode cX6_many 70 = .ok (.getfield 7, 3) := dk_180 0 7 (dk_at dksX6_many_3 0 rfl rfl)
theorem dX6_many_73 : decode cX6_many 73 = .ok (.bipush 6, 2) := dk_16 6 (dk_at dksX6_many_3 3 rfl rfl)
theorem dX6_many_75 : decode cX6_many 75 = .ok (.iaload, 1) := dk_46 (dk_at dksX6_many_3 5 rfl rfl)
theorem dX6_many_76 : decode cX6_many 76 = .ok (.ireturn, 1) := dk_172 (dk_at dksX6_many_3 6 rfl rfl)
theorem dX6_many_77 : decode cX6_many 77 = .ok (.aload_n 0, 1) := dk_42 (dk_at dksX6_many_3 7 rfl rfl)
theorem dX6_many_78 : decode cX6_many 78 = .ok (.getfield 264, 3) := dk_180 1 8 (dk_at dksX6_many_3 8 rfl rfl)
theorem dX6_many_81 : decode cX6_many 81 = .ok (.ireturn, 1) := dk_172 (dk_at dksX6_many_3 11 rfl rfl)
theorem dX6_many_82 : decode cX6_many 82 = .ok (.aload_n 0, 1) := dk_42 (dk_at dksX6_many_3 12 rfl rfl)
theorem dX6_many_83 : decode cX6_many 83 = .ok (.getfield 275, 3) := dk_180 1 19 (dk_at dksX6_many_3 13 rfl rfl)
theorem dX6_many_86 : decode cX6_many 86 = .ok (.ireturn, 1) := dk_172 (dk_at dksX6_many_3 16 rfl rfl)
theorem dX6_many_87 : decode cX6_many 87 = .ok (.aload_n 0, 1) := dk_42 (dk_at dksX6_many_3 17 rfl rfl)
theorem dX6_many_88 : decode cX6_many 88 = .ok (.invokevirtual 457, 3) := dk_182 1 201 (dk_at dksX6_many_3 18 rfl rfl)
theorem dX6_many_91 : decode cX6_many 91 = .ok (.ireturn, 1) := dk_172 (dk_at dksX6_many_3 21 rfl rfl)
theorem dX6_many_92 : decode cX6_many 92 = .ok (.aload_n 0, 1) := dk_42 (dk_at dksX6_many_3 22 rfl rfl)
theorem dX6_many_93 : decode cX6_many 93 = .ok (.invokevirtual 460, 3) := dk_182 1 204 (dk_at dksX6_many_4 0 rfl rfl)
theorem dX6_many_96 : decode cX6_many 96 = .ok (.ireturn, 1) := dk_172 (dk_at dksX6_many_4 3 rfl rfl)
theorem dX6_many_97 : decode cX6_many 97 = .ok (.iconst (-1), 1) := dk_2 (dk_at dksX6_many_4 4 rfl rfl)
theorem dX6_many_98 : decode cX6_many 98 = .ok (.ireturn, 1) := dk_172 (dk_at dksX6_many_4 5 rfl rfl)
abbrev cX6_loans : ByteArray := prog_26_method_129_code
def yX6_loans : MethodName := ⟨RX6, "loans", "()I"⟩
def dkwX6_loans_1 : List UInt8 := [167, 0, 4, 3, 96, 60, 132, 2, 1, 167, 255, 227, 27, 172]
abbrev dktX6_loans_1 : List UInt8 := dkwX6_loans_1 ++ []
def dkwX6_loans_0 : List UInt8 := [3, 60, 3, 61, 28, 16, 36, 162, 0, 29, 27, 42, 180, 0, 7, 16, 76, 28, 96, 46, 158, 0, 7, 4]
abbrev dktX6_loans_0 : List UInt8 := dkwX6_loans_0 ++ dktX6_loans_1
theorem dksX6_loans_0 : cX6_loans.data.toList.drop 0 = dktX6_loans_0 := by decide +kernel
theorem dksX6_loans_1 : cX6_loans.data.toList.drop 24 = dktX6_loans_1 := dk_seg dksX6_loans_0 24 rfl rfl
theorem dX6_loans_0 : decode cX6_loans 0 = .ok (.iconst 0, 1) := dk_3 (dk_at dksX6_loans_0 0 rfl rfl)
theorem dX6_loans_1 : decode cX6_loans 1 = .ok (.istore_n 1, 1) := dk_60 (dk_at dksX6_loans_0 1 rfl rfl)
theorem dX6_loans_2 : decode cX6_loans 2 = .ok (.iconst 0, 1) := dk_3 (dk_at dksX6_loans_0 2 rfl rfl)
theorem dX6_loans_3 : decode cX6_loans 3 = .ok (.istore_n 2, 1) := dk_61 (dk_at dksX6_loans_0 3 rfl rfl)
theorem dX6_loans_4 : decode cX6_loans 4 = .ok (.iload_n 2, 1) := dk_28 (dk_at dksX6_loans_0 4 rfl rfl)
theorem dX6_loans_5 : decode cX6_loans 5 = .ok (.bipush 36, 2) := dk_16 36 (dk_at dksX6_loans_0 5 rfl rfl)
theorem dX6_loans_7 : decode cX6_loans 7 = .ok (.if_icmp .ge 29, 3) := dk_162 0 29 (dk_at dksX6_loans_0 7 rfl rfl)
theorem dX6_loans_10 : decode cX6_loans 10 = .ok (.iload_n 1, 1) := dk_27 (dk_at dksX6_loans_0 10 rfl rfl)
theorem dX6_loans_11 : decode cX6_loans 11 = .ok (.aload_n 0, 1) := dk_42 (dk_at dksX6_loans_0 11 rfl rfl)
theorem dX6_loans_12 : decode cX6_loans 12 = .ok (.getfield 7, 3) := dk_180 0 7 (dk_at dksX6_loans_0 12 rfl rfl)
theorem dX6_loans_15 : decode cX6_loans 15 = .ok (.bipush 76, 2) := dk_16 76 (dk_at dksX6_loans_0 15 rfl rfl)
theorem dX6_loans_17 : decode cX6_loans 17 = .ok (.iload_n 2, 1) := dk_28 (dk_at dksX6_loans_0 17 rfl rfl)
theorem dX6_loans_18 : decode cX6_loans 18 = .ok (.iadd, 1) := dk_96 (dk_at dksX6_loans_0 18 rfl rfl)
theorem dX6_loans_19 : decode cX6_loans 19 = .ok (.iaload, 1) := dk_46 (dk_at dksX6_loans_0 19 rfl rfl)
theorem dX6_loans_20 : decode cX6_loans 20 = .ok (.ifCond .le 7, 3) := dk_158 0 7 (dk_at dksX6_loans_0 20 rfl rfl)
theorem dX6_loans_23 : decode cX6_loans 23 = .ok (.iconst 1, 1) := dk_4 (dk_at dksX6_loans_0 23 rfl rfl)
theorem dX6_loans_24 : decode cX6_loans 24 = .ok (.goto 4, 3) := dk_167 0 4 (dk_at dksX6_loans_1 0 rfl rfl)
theorem dX6_loans_27 : decode cX6_loans 27 = .ok (.iconst 0, 1) := dk_3 (dk_at dksX6_loans_1 3 rfl rfl)
theorem dX6_loans_28 : decode cX6_loans 28 = .ok (.iadd, 1) := dk_96 (dk_at dksX6_loans_1 4 rfl rfl)
theorem dX6_loans_29 : decode cX6_loans 29 = .ok (.istore_n 1, 1) := dk_60 (dk_at dksX6_loans_1 5 rfl rfl)
theorem dX6_loans_30 : decode cX6_loans 30 = .ok (.iinc 2 1, 3) := dk_132 2 1 (dk_at dksX6_loans_1 6 rfl rfl)
theorem dX6_loans_33 : decode cX6_loans 33 = .ok (.goto (-29), 3) := dk_167 255 227 (dk_at dksX6_loans_1 9 rfl rfl)
theorem dX6_loans_36 : decode cX6_loans 36 = .ok (.iload_n 1, 1) := dk_27 (dk_at dksX6_loans_1 12 rfl rfl)
theorem dX6_loans_37 : decode cX6_loans 37 = .ok (.ireturn, 1) := dk_172 (dk_at dksX6_loans_1 13 rfl rfl)
abbrev cX6_keep : ByteArray := prog_26_method_131_code
def yX6_keep : MethodName := ⟨RX6, "keep", "()I"⟩
def dkwX6_keep_1 : List UInt8 := [167, 255, 234, 42, 4, 181, 1, 207, 4, 172]
abbrev dktX6_keep_1 : List UInt8 := dkwX6_keep_1 ++ []
def dkwX6_keep_0 : List UInt8 := [3, 60, 27, 17, 1, 112, 162, 0, 21, 42, 180, 0, 13, 27, 42, 180, 0, 7, 27, 46, 79, 132, 1, 1]
abbrev dktX6_keep_0 : List UInt8 := dkwX6_keep_0 ++ dktX6_keep_1
theorem dksX6_keep_0 : cX6_keep.data.toList.drop 0 = dktX6_keep_0 := by decide +kernel
theorem dksX6_keep_1 : cX6_keep.data.toList.drop 24 = dktX6_keep_1 := dk_seg dksX6_keep_0 24 rfl rfl
theorem dX6_keep_0 : decode cX6_keep 0 = .ok (.iconst 0, 1) := dk_3 (dk_at dksX6_keep_0 0 rfl rfl)
theorem dX6_keep_1 : decode cX6_keep 1 = .ok (.istore_n 1, 1) := dk_60 (dk_at dksX6_keep_0 1 rfl rfl)
theorem dX6_keep_2 : decode cX6_keep 2 = .ok (.iload_n 1, 1) := dk_27 (dk_at dksX6_keep_0 2 rfl rfl)
theorem dX6_keep_3 : decode cX6_keep 3 = .ok (.sipush 368, 3) := dk_17 1 112 (dk_at dksX6_keep_0 3 rfl rfl)
theorem dX6_keep_6 : decode cX6_keep 6 = .ok (.if_icmp .ge 21, 3) := dk_162 0 21 (dk_at dksX6_keep_0 6 rfl rfl)
theorem dX6_keep_9 : decode cX6_keep 9 = .ok (.aload_n 0, 1) := dk_42 (dk_at dksX6_keep_0 9 rfl rfl)
theorem dX6_keep_10 : decode cX6_keep 10 = .ok (.getfield 13, 3) := dk_180 0 13 (dk_at dksX6_keep_0 10 rfl rfl)
theorem dX6_keep_13 : decode cX6_keep 13 = .ok (.iload_n 1, 1) := dk_27 (dk_at dksX6_keep_0 13 rfl rfl)
theorem dX6_keep_14 : decode cX6_keep 14 = .ok (.aload_n 0, 1) := dk_42 (dk_at dksX6_keep_0 14 rfl rfl)
theorem dX6_keep_15 : decode cX6_keep 15 = .ok (.getfield 7, 3) := dk_180 0 7 (dk_at dksX6_keep_0 15 rfl rfl)
theorem dX6_keep_18 : decode cX6_keep 18 = .ok (.iload_n 1, 1) := dk_27 (dk_at dksX6_keep_0 18 rfl rfl)
theorem dX6_keep_19 : decode cX6_keep 19 = .ok (.iaload, 1) := dk_46 (dk_at dksX6_keep_0 19 rfl rfl)
theorem dX6_keep_20 : decode cX6_keep 20 = .ok (.iastore, 1) := dk_79 (dk_at dksX6_keep_0 20 rfl rfl)
theorem dX6_keep_21 : decode cX6_keep 21 = .ok (.iinc 1 1, 3) := dk_132 1 1 (dk_at dksX6_keep_0 21 rfl rfl)
theorem dX6_keep_24 : decode cX6_keep 24 = .ok (.goto (-22), 3) := dk_167 255 234 (dk_at dksX6_keep_1 0 rfl rfl)
theorem dX6_keep_27 : decode cX6_keep 27 = .ok (.aload_n 0, 1) := dk_42 (dk_at dksX6_keep_1 3 rfl rfl)
theorem dX6_keep_28 : decode cX6_keep 28 = .ok (.iconst 1, 1) := dk_4 (dk_at dksX6_keep_1 4 rfl rfl)
theorem dX6_keep_29 : decode cX6_keep 29 = .ok (.putfield 463, 3) := dk_181 1 207 (dk_at dksX6_keep_1 5 rfl rfl)
theorem dX6_keep_32 : decode cX6_keep 32 = .ok (.iconst 1, 1) := dk_4 (dk_at dksX6_keep_1 8 rfl rfl)
theorem dX6_keep_33 : decode cX6_keep 33 = .ok (.ireturn, 1) := dk_172 (dk_at dksX6_keep_1 9 rfl rfl)
abbrev cX6_again : ByteArray := prog_26_method_132_code
def yX6_again : MethodName := ⟨RX6, "again", "()I"⟩
def dkwX6_again_1 : List UInt8 := [42, 180, 0, 13, 27, 46, 79, 132, 1, 1, 167, 255, 234, 42, 180, 0, 7, 3, 46, 172]
abbrev dktX6_again_1 : List UInt8 := dkwX6_again_1 ++ []
def dkwX6_again_0 : List UInt8 := [42, 180, 1, 207, 154, 0, 6, 16, 253, 172, 3, 60, 27, 17, 1, 112, 162, 0, 21, 42, 180, 0, 7, 27]
abbrev dktX6_again_0 : List UInt8 := dkwX6_again_0 ++ dktX6_again_1
theorem dksX6_again_0 : cX6_again.data.toList.drop 0 = dktX6_again_0 := by decide +kernel
theorem dksX6_again_1 : cX6_again.data.toList.drop 24 = dktX6_again_1 := dk_seg dksX6_again_0 24 rfl rfl
theorem dX6_again_0 : decode cX6_again 0 = .ok (.aload_n 0, 1) := dk_42 (dk_at dksX6_again_0 0 rfl rfl)
theorem dX6_again_1 : decode cX6_again 1 = .ok (.getfield 463, 3) := dk_180 1 207 (dk_at dksX6_again_0 1 rfl rfl)
theorem dX6_again_4 : decode cX6_again 4 = .ok (.ifCond .ne 6, 3) := dk_154 0 6 (dk_at dksX6_again_0 4 rfl rfl)
theorem dX6_again_7 : decode cX6_again 7 = .ok (.bipush (-3), 2) := dk_16 253 (dk_at dksX6_again_0 7 rfl rfl)
theorem dX6_again_9 : decode cX6_again 9 = .ok (.ireturn, 1) := dk_172 (dk_at dksX6_again_0 9 rfl rfl)
theorem dX6_again_10 : decode cX6_again 10 = .ok (.iconst 0, 1) := dk_3 (dk_at dksX6_again_0 10 rfl rfl)
theorem dX6_again_11 : decode cX6_again 11 = .ok (.istore_n 1, 1) := dk_60 (dk_at dksX6_again_0 11 rfl rfl)
theorem dX6_again_12 : decode cX6_again 12 = .ok (.iload_n 1, 1) := dk_27 (dk_at dksX6_again_0 12 rfl rfl)
theorem dX6_again_13 : decode cX6_again 13 = .ok (.sipush 368, 3) := dk_17 1 112 (dk_at dksX6_again_0 13 rfl rfl)
theorem dX6_again_16 : decode cX6_again 16 = .ok (.if_icmp .ge 21, 3) := dk_162 0 21 (dk_at dksX6_again_0 16 rfl rfl)
theorem dX6_again_19 : decode cX6_again 19 = .ok (.aload_n 0, 1) := dk_42 (dk_at dksX6_again_0 19 rfl rfl)
theorem dX6_again_20 : decode cX6_again 20 = .ok (.getfield 7, 3) := dk_180 0 7 (dk_at dksX6_again_0 20 rfl rfl)
theorem dX6_again_23 : decode cX6_again 23 = .ok (.iload_n 1, 1) := dk_27 (dk_at dksX6_again_0 23 rfl rfl)
theorem dX6_again_24 : decode cX6_again 24 = .ok (.aload_n 0, 1) := dk_42 (dk_at dksX6_again_1 0 rfl rfl)
theorem dX6_again_25 : decode cX6_again 25 = .ok (.getfield 13, 3) := dk_180 0 13 (dk_at dksX6_again_1 1 rfl rfl)
theorem dX6_again_28 : decode cX6_again 28 = .ok (.iload_n 1, 1) := dk_27 (dk_at dksX6_again_1 4 rfl rfl)
theorem dX6_again_29 : decode cX6_again 29 = .ok (.iaload, 1) := dk_46 (dk_at dksX6_again_1 5 rfl rfl)
theorem dX6_again_30 : decode cX6_again 30 = .ok (.iastore, 1) := dk_79 (dk_at dksX6_again_1 6 rfl rfl)
theorem dX6_again_31 : decode cX6_again 31 = .ok (.iinc 1 1, 3) := dk_132 1 1 (dk_at dksX6_again_1 7 rfl rfl)
theorem dX6_again_34 : decode cX6_again 34 = .ok (.goto (-22), 3) := dk_167 255 234 (dk_at dksX6_again_1 10 rfl rfl)
theorem dX6_again_37 : decode cX6_again 37 = .ok (.aload_n 0, 1) := dk_42 (dk_at dksX6_again_1 13 rfl rfl)
theorem dX6_again_38 : decode cX6_again 38 = .ok (.getfield 7, 3) := dk_180 0 7 (dk_at dksX6_again_1 14 rfl rfl)
theorem dX6_again_41 : decode cX6_again 41 = .ok (.iconst 0, 1) := dk_3 (dk_at dksX6_again_1 17 rfl rfl)
theorem dX6_again_42 : decode cX6_again 42 = .ok (.iaload, 1) := dk_46 (dk_at dksX6_again_1 18 rfl rfl)
theorem dX6_again_43 : decode cX6_again 43 = .ok (.ireturn, 1) := dk_172 (dk_at dksX6_again_1 19 rfl rfl)
theorem q127 : (Jvm.Cond.initialized "LeftUndoesModel") ∈ lw_all := lw_g (lw_at lw_m1 10 rfl) rfl
theorem q1542 : (Jvm.Cond.instantiable "LeftUndoesModel" (42 : Nat)) ∈ lw_all := lw_g (lw_at lw_m6 225 rfl) rfl
theorem q1544 : (Jvm.Cond.instanceMethod ({ cls := "LeftUndoesModel", name := "<init>", desc := "()V" } : Jvm.MethodName)) ∈ lw_all := lw_g (lw_at lw_m6 227 rfl) rfl
theorem q1545 : (Jvm.Cond.code ({ cls := "LeftUndoesModel", name := "<init>", desc := "()V" } : Jvm.MethodName) prog_26_method_1_code (1 : Nat) (Option.none : Option Jvm.ClassFile.FieldType)) ∈ lw_all := lw_g (lw_at lw_m6 228 rfl) rfl
theorem q1546 : (Jvm.Cond.methodLink "LeftUndoesModel" (1 : Nat) ({ cls := "java/lang/Object", name := "<init>", desc := "()V" } : Jvm.MethodName)) ∈ lw_all := lw_g (lw_at lw_m6 229 rfl) rfl
theorem q1547 : (Jvm.Cond.fieldLink "LeftUndoesModel" (7 : Nat) "LeftUndoesModel" "s" "[I") ∈ lw_all := lw_g (lw_at lw_m6 230 rfl) rfl
theorem q1548 : (Jvm.Cond.fieldLink "LeftUndoesModel" (13 : Nat) "LeftUndoesModel" "kept" "[I") ∈ lw_all := lw_g (lw_at lw_m6 231 rfl) rfl
theorem q1549 : (Jvm.Cond.fieldLink "LeftUndoesModel" (16 : Nat) "LeftUndoesModel" "other" "[I") ∈ lw_all := lw_g (lw_at lw_m6 232 rfl) rfl
theorem q1550 : (Jvm.Cond.fieldLink "LeftUndoesModel" (463 : Nat) "LeftUndoesModel" "isKept" "Z") ∈ lw_all := lw_g (lw_at lw_m6 233 rfl) rfl
theorem q1551 : (Jvm.Cond.fieldLink "LeftUndoesModel" (19 : Nat) "LeftUndoesModel" "stack" "[I") ∈ lw_all := lw_g (lw_at lw_m6 234 rfl) rfl
theorem q1552 : (Jvm.Cond.fieldLink "LeftUndoesModel" (22 : Nat) "LeftUndoesModel" "nets" "[I") ∈ lw_all := lw_g (lw_at lw_m6 235 rfl) rfl
theorem q1553 : (Jvm.Cond.fieldLink "LeftUndoesModel" (25 : Nat) "LeftUndoesModel" "partsOf" "[I") ∈ lw_all := lw_g (lw_at lw_m6 236 rfl) rfl
theorem q1554 : (Jvm.Cond.fieldLink "LeftUndoesModel" (28 : Nat) "LeftUndoesModel" "saved" "[I") ∈ lw_all := lw_g (lw_at lw_m6 237 rfl) rfl
theorem q1555 : (Jvm.Cond.fieldLink "LeftUndoesModel" (31 : Nat) "LeftUndoesModel" "line" "[I") ∈ lw_all := lw_g (lw_at lw_m6 238 rfl) rfl
theorem q1556 : (Jvm.Cond.fieldLink "LeftUndoesModel" (34 : Nat) "LeftUndoesModel" "first" "[I") ∈ lw_all := lw_g (lw_at lw_m6 239 rfl) rfl
theorem q1557 : (Jvm.Cond.fieldLink "LeftUndoesModel" (181 : Nat) "LeftUndoesModel" "most" "I") ∈ lw_all := lw_g (lw_at lw_m7 0 rfl) rfl
theorem q1558 : (Jvm.Cond.fieldLink "LeftUndoesModel" (185 : Nat) "LeftUndoesModel" "ways" "I") ∈ lw_all := lw_g (lw_at lw_m7 1 rfl) rfl
theorem q1559 : (Jvm.Cond.fieldLink "LeftUndoesModel" (194 : Nat) "LeftUndoesModel" "fewest" "I") ∈ lw_all := lw_g (lw_at lw_m7 2 rfl) rfl
theorem q1560 : (Jvm.Cond.fieldLink "LeftUndoesModel" (188 : Nat) "LeftUndoesModel" "stood" "I") ∈ lw_all := lw_g (lw_at lw_m7 3 rfl) rfl
theorem q1561 : (Jvm.Cond.fieldLink "LeftUndoesModel" (191 : Nat) "LeftUndoesModel" "told" "I") ∈ lw_all := lw_g (lw_at lw_m7 4 rfl) rfl
theorem q1562 : (Jvm.Cond.fieldLink "LeftUndoesModel" (229 : Nat) "LeftUndoesModel" "bestAct" "I") ∈ lw_all := lw_g (lw_at lw_m7 5 rfl) rfl
theorem q1563 : (Jvm.Cond.fieldLink "LeftUndoesModel" (238 : Nat) "LeftUndoesModel" "fitMany" "I") ∈ lw_all := lw_g (lw_at lw_m7 6 rfl) rfl
theorem q1564 : (Jvm.Cond.fieldLink "LeftUndoesModel" (244 : Nat) "LeftUndoesModel" "fitKind" "I") ∈ lw_all := lw_g (lw_at lw_m7 7 rfl) rfl
theorem q1565 : (Jvm.Cond.fieldLink "LeftUndoesModel" (247 : Nat) "LeftUndoesModel" "fitGrace" "I") ∈ lw_all := lw_g (lw_at lw_m7 8 rfl) rfl
theorem q1566 : (Jvm.Cond.fieldLink "LeftUndoesModel" (250 : Nat) "LeftUndoesModel" "fitStrength" "I") ∈ lw_all := lw_g (lw_at lw_m7 9 rfl) rfl
theorem q1567 : (Jvm.Cond.fieldLink "LeftUndoesModel" (37 : Nat) "LeftUndoesModel" "rows" "[I") ∈ lw_all := lw_g (lw_at lw_m7 10 rfl) rfl
theorem q1568 : (Jvm.Cond.fieldLink "LeftUndoesModel" (264 : Nat) "LeftUndoesModel" "rowMany" "I") ∈ lw_all := lw_g (lw_at lw_m7 11 rfl) rfl
theorem q1569 : (Jvm.Cond.fieldLink "LeftUndoesModel" (40 : Nat) "LeftUndoesModel" "tape" "[I") ∈ lw_all := lw_g (lw_at lw_m7 12 rfl) rfl
theorem q1570 : (Jvm.Cond.fieldLink "LeftUndoesModel" (275 : Nat) "LeftUndoesModel" "taped" "I") ∈ lw_all := lw_g (lw_at lw_m7 13 rfl) rfl
theorem q1571 : (Jvm.Cond.fieldLink "LeftUndoesModel" (291 : Nat) "LeftUndoesModel" "from" "I") ∈ lw_all := lw_g (lw_at lw_m7 14 rfl) rfl
theorem q1572 : (Jvm.Cond.fieldLink "LeftUndoesModel" (288 : Nat) "LeftUndoesModel" "to" "I") ∈ lw_all := lw_g (lw_at lw_m7 15 rfl) rfl
theorem q1573 : (Jvm.Cond.fieldLink "LeftUndoesModel" (314 : Nat) "LeftUndoesModel" "value" "I") ∈ lw_all := lw_g (lw_at lw_m7 16 rfl) rfl
theorem q1574 : (Jvm.Cond.fieldLink "LeftUndoesModel" (364 : Nat) "LeftUndoesModel" "open" "I") ∈ lw_all := lw_g (lw_at lw_m7 17 rfl) rfl
theorem q1575 : (Jvm.Cond.fieldLink "LeftUndoesModel" (347 : Nat) "LeftUndoesModel" "coded" "I") ∈ lw_all := lw_g (lw_at lw_m7 18 rfl) rfl
theorem q1576 : (Jvm.Cond.fieldLink "LeftUndoesModel" (303 : Nat) "LeftUndoesModel" "isWrong" "Z") ∈ lw_all := lw_g (lw_at lw_m7 19 rfl) rfl
theorem q1577 : (Jvm.Cond.fieldLink "LeftUndoesModel" (43 : Nat) "LeftUndoesModel" "sortOf" "[I") ∈ lw_all := lw_g (lw_at lw_m7 20 rfl) rfl
theorem q1578 : (Jvm.Cond.fieldLink "LeftUndoesModel" (46 : Nat) "LeftUndoesModel" "sizes" "[I") ∈ lw_all := lw_g (lw_at lw_m7 21 rfl) rfl
theorem q1579 : (Jvm.Cond.fieldLink "LeftUndoesModel" (49 : Nat) "LeftUndoesModel" "items" "[I") ∈ lw_all := lw_g (lw_at lw_m7 22 rfl) rfl
theorem q1580 : (Jvm.Cond.fieldLink "LeftUndoesModel" (52 : Nat) "LeftUndoesModel" "lies" "[I") ∈ lw_all := lw_g (lw_at lw_m7 23 rfl) rfl
theorem q1581 : (Jvm.Cond.fieldLink "LeftUndoesModel" (55 : Nat) "LeftUndoesModel" "liesNumber" "[I") ∈ lw_all := lw_g (lw_at lw_m7 24 rfl) rfl
theorem q1582 : (Jvm.Cond.fieldLink "LeftUndoesModel" (58 : Nat) "LeftUndoesModel" "liesSort" "[I") ∈ lw_all := lw_g (lw_at lw_m7 25 rfl) rfl
theorem q1583 : (Jvm.Cond.fieldLink "LeftUndoesModel" (61 : Nat) "LeftUndoesModel" "ran" "[I") ∈ lw_all := lw_g (lw_at lw_m7 26 rfl) rfl
theorem q1584 : (Jvm.Cond.fieldLink "LeftUndoesModel" (427 : Nat) "LeftUndoesModel" "bodies" "I") ∈ lw_all := lw_g (lw_at lw_m7 27 rfl) rfl
theorem q1585 : (Jvm.Cond.fieldLink "LeftUndoesModel" (439 : Nat) "LeftUndoesModel" "acting" "I") ∈ lw_all := lw_g (lw_at lw_m7 28 rfl) rfl
theorem q1586 : (Jvm.Cond.fieldLink "LeftUndoesModel" (436 : Nat) "LeftUndoesModel" "about" "I") ∈ lw_all := lw_g (lw_at lw_m7 29 rfl) rfl
theorem q1587 : (Jvm.Cond.fieldLink "LeftUndoesModel" (430 : Nat) "LeftUndoesModel" "kindActing" "I") ∈ lw_all := lw_g (lw_at lw_m7 30 rfl) rfl
theorem q1588 : (Jvm.Cond.fieldLink "LeftUndoesModel" (424 : Nat) "LeftUndoesModel" "isParted" "Z") ∈ lw_all := lw_g (lw_at lw_m7 31 rfl) rfl
theorem q1589 : (Jvm.Cond.laysFinal "LeftUndoesModel" "LeftUndoesModel" "s" "[I") ∈ lw_all := lw_g (lw_at lw_m7 32 rfl) rfl
theorem q1590 : (Jvm.Cond.soleField "LeftUndoesModel" "s") ∈ lw_all := lw_g (lw_at lw_m7 33 rfl) rfl
theorem q1591 : (Jvm.Cond.laysFinal "LeftUndoesModel" "LeftUndoesModel" "kept" "[I") ∈ lw_all := lw_g (lw_at lw_m7 34 rfl) rfl
theorem q1592 : (Jvm.Cond.soleField "LeftUndoesModel" "kept") ∈ lw_all := lw_g (lw_at lw_m7 35 rfl) rfl
theorem q1593 : (Jvm.Cond.laysFinal "LeftUndoesModel" "LeftUndoesModel" "other" "[I") ∈ lw_all := lw_g (lw_at lw_m7 36 rfl) rfl
theorem q1594 : (Jvm.Cond.soleField "LeftUndoesModel" "other") ∈ lw_all := lw_g (lw_at lw_m7 37 rfl) rfl
theorem q1595 : (Jvm.Cond.lays "LeftUndoesModel" "LeftUndoesModel" "isKept" "Z") ∈ lw_all := lw_g (lw_at lw_m7 38 rfl) rfl
theorem q1596 : (Jvm.Cond.soleField "LeftUndoesModel" "isKept") ∈ lw_all := lw_g (lw_at lw_m7 39 rfl) rfl
theorem q1597 : (Jvm.Cond.laysFinal "LeftUndoesModel" "LeftUndoesModel" "stack" "[I") ∈ lw_all := lw_g (lw_at lw_m7 40 rfl) rfl
theorem q1598 : (Jvm.Cond.soleField "LeftUndoesModel" "stack") ∈ lw_all := lw_g (lw_at lw_m7 41 rfl) rfl
theorem q1599 : (Jvm.Cond.laysFinal "LeftUndoesModel" "LeftUndoesModel" "nets" "[I") ∈ lw_all := lw_g (lw_at lw_m7 42 rfl) rfl
theorem q1600 : (Jvm.Cond.soleField "LeftUndoesModel" "nets") ∈ lw_all := lw_g (lw_at lw_m7 43 rfl) rfl
theorem q1601 : (Jvm.Cond.laysFinal "LeftUndoesModel" "LeftUndoesModel" "partsOf" "[I") ∈ lw_all := lw_g (lw_at lw_m7 44 rfl) rfl
theorem q1602 : (Jvm.Cond.soleField "LeftUndoesModel" "partsOf") ∈ lw_all := lw_g (lw_at lw_m7 45 rfl) rfl
theorem q1603 : (Jvm.Cond.laysFinal "LeftUndoesModel" "LeftUndoesModel" "saved" "[I") ∈ lw_all := lw_g (lw_at lw_m7 46 rfl) rfl
theorem q1604 : (Jvm.Cond.soleField "LeftUndoesModel" "saved") ∈ lw_all := lw_g (lw_at lw_m7 47 rfl) rfl
theorem q1605 : (Jvm.Cond.laysFinal "LeftUndoesModel" "LeftUndoesModel" "line" "[I") ∈ lw_all := lw_g (lw_at lw_m7 48 rfl) rfl
theorem q1606 : (Jvm.Cond.soleField "LeftUndoesModel" "line") ∈ lw_all := lw_g (lw_at lw_m7 49 rfl) rfl
theorem q1607 : (Jvm.Cond.laysFinal "LeftUndoesModel" "LeftUndoesModel" "first" "[I") ∈ lw_all := lw_g (lw_at lw_m7 50 rfl) rfl
theorem q1608 : (Jvm.Cond.soleField "LeftUndoesModel" "first") ∈ lw_all := lw_g (lw_at lw_m7 51 rfl) rfl
theorem q1609 : (Jvm.Cond.lays "LeftUndoesModel" "LeftUndoesModel" "most" "I") ∈ lw_all := lw_g (lw_at lw_m7 52 rfl) rfl
theorem q1610 : (Jvm.Cond.soleField "LeftUndoesModel" "most") ∈ lw_all := lw_g (lw_at lw_m7 53 rfl) rfl
theorem q1611 : (Jvm.Cond.lays "LeftUndoesModel" "LeftUndoesModel" "ways" "I") ∈ lw_all := lw_g (lw_at lw_m7 54 rfl) rfl
theorem q1612 : (Jvm.Cond.soleField "LeftUndoesModel" "ways") ∈ lw_all := lw_g (lw_at lw_m7 55 rfl) rfl
theorem q1613 : (Jvm.Cond.lays "LeftUndoesModel" "LeftUndoesModel" "fewest" "I") ∈ lw_all := lw_g (lw_at lw_m7 56 rfl) rfl
theorem q1614 : (Jvm.Cond.soleField "LeftUndoesModel" "fewest") ∈ lw_all := lw_g (lw_at lw_m7 57 rfl) rfl
theorem q1615 : (Jvm.Cond.lays "LeftUndoesModel" "LeftUndoesModel" "stood" "I") ∈ lw_all := lw_g (lw_at lw_m7 58 rfl) rfl
theorem q1616 : (Jvm.Cond.soleField "LeftUndoesModel" "stood") ∈ lw_all := lw_g (lw_at lw_m7 59 rfl) rfl
theorem q1617 : (Jvm.Cond.lays "LeftUndoesModel" "LeftUndoesModel" "told" "I") ∈ lw_all := lw_g (lw_at lw_m7 60 rfl) rfl
theorem q1618 : (Jvm.Cond.soleField "LeftUndoesModel" "told") ∈ lw_all := lw_g (lw_at lw_m7 61 rfl) rfl
theorem q1619 : (Jvm.Cond.lays "LeftUndoesModel" "LeftUndoesModel" "bestAct" "I") ∈ lw_all := lw_g (lw_at lw_m7 62 rfl) rfl
theorem q1620 : (Jvm.Cond.soleField "LeftUndoesModel" "bestAct") ∈ lw_all := lw_g (lw_at lw_m7 63 rfl) rfl
theorem q1621 : (Jvm.Cond.lays "LeftUndoesModel" "LeftUndoesModel" "fitMany" "I") ∈ lw_all := lw_g (lw_at lw_m7 64 rfl) rfl
theorem q1622 : (Jvm.Cond.soleField "LeftUndoesModel" "fitMany") ∈ lw_all := lw_g (lw_at lw_m7 65 rfl) rfl
theorem q1623 : (Jvm.Cond.lays "LeftUndoesModel" "LeftUndoesModel" "fitKind" "I") ∈ lw_all := lw_g (lw_at lw_m7 66 rfl) rfl
theorem q1624 : (Jvm.Cond.soleField "LeftUndoesModel" "fitKind") ∈ lw_all := lw_g (lw_at lw_m7 67 rfl) rfl
theorem q1625 : (Jvm.Cond.lays "LeftUndoesModel" "LeftUndoesModel" "fitGrace" "I") ∈ lw_all := lw_g (lw_at lw_m7 68 rfl) rfl
theorem q1626 : (Jvm.Cond.soleField "LeftUndoesModel" "fitGrace") ∈ lw_all := lw_g (lw_at lw_m7 69 rfl) rfl
theorem q1627 : (Jvm.Cond.lays "LeftUndoesModel" "LeftUndoesModel" "fitStrength" "I") ∈ lw_all := lw_g (lw_at lw_m7 70 rfl) rfl
theorem q1628 : (Jvm.Cond.soleField "LeftUndoesModel" "fitStrength") ∈ lw_all := lw_g (lw_at lw_m7 71 rfl) rfl
theorem q1629 : (Jvm.Cond.laysFinal "LeftUndoesModel" "LeftUndoesModel" "rows" "[I") ∈ lw_all := lw_g (lw_at lw_m7 72 rfl) rfl
theorem q1630 : (Jvm.Cond.soleField "LeftUndoesModel" "rows") ∈ lw_all := lw_g (lw_at lw_m7 73 rfl) rfl
theorem q1631 : (Jvm.Cond.lays "LeftUndoesModel" "LeftUndoesModel" "rowMany" "I") ∈ lw_all := lw_g (lw_at lw_m7 74 rfl) rfl
theorem q1632 : (Jvm.Cond.soleField "LeftUndoesModel" "rowMany") ∈ lw_all := lw_g (lw_at lw_m7 75 rfl) rfl
theorem q1633 : (Jvm.Cond.laysFinal "LeftUndoesModel" "LeftUndoesModel" "tape" "[I") ∈ lw_all := lw_g (lw_at lw_m7 76 rfl) rfl
theorem q1634 : (Jvm.Cond.soleField "LeftUndoesModel" "tape") ∈ lw_all := lw_g (lw_at lw_m7 77 rfl) rfl
theorem q1635 : (Jvm.Cond.lays "LeftUndoesModel" "LeftUndoesModel" "taped" "I") ∈ lw_all := lw_g (lw_at lw_m7 78 rfl) rfl
theorem q1636 : (Jvm.Cond.soleField "LeftUndoesModel" "taped") ∈ lw_all := lw_g (lw_at lw_m7 79 rfl) rfl
theorem q1637 : (Jvm.Cond.lays "LeftUndoesModel" "LeftUndoesModel" "from" "I") ∈ lw_all := lw_g (lw_at lw_m7 80 rfl) rfl
theorem q1638 : (Jvm.Cond.soleField "LeftUndoesModel" "from") ∈ lw_all := lw_g (lw_at lw_m7 81 rfl) rfl
theorem q1639 : (Jvm.Cond.lays "LeftUndoesModel" "LeftUndoesModel" "to" "I") ∈ lw_all := lw_g (lw_at lw_m7 82 rfl) rfl
theorem q1640 : (Jvm.Cond.soleField "LeftUndoesModel" "to") ∈ lw_all := lw_g (lw_at lw_m7 83 rfl) rfl
theorem q1641 : (Jvm.Cond.lays "LeftUndoesModel" "LeftUndoesModel" "value" "I") ∈ lw_all := lw_g (lw_at lw_m7 84 rfl) rfl
theorem q1642 : (Jvm.Cond.soleField "LeftUndoesModel" "value") ∈ lw_all := lw_g (lw_at lw_m7 85 rfl) rfl
theorem q1643 : (Jvm.Cond.lays "LeftUndoesModel" "LeftUndoesModel" "open" "I") ∈ lw_all := lw_g (lw_at lw_m7 86 rfl) rfl
theorem q1644 : (Jvm.Cond.soleField "LeftUndoesModel" "open") ∈ lw_all := lw_g (lw_at lw_m7 87 rfl) rfl
theorem q1645 : (Jvm.Cond.lays "LeftUndoesModel" "LeftUndoesModel" "coded" "I") ∈ lw_all := lw_g (lw_at lw_m7 88 rfl) rfl
theorem q1646 : (Jvm.Cond.soleField "LeftUndoesModel" "coded") ∈ lw_all := lw_g (lw_at lw_m7 89 rfl) rfl
theorem q1647 : (Jvm.Cond.lays "LeftUndoesModel" "LeftUndoesModel" "isWrong" "Z") ∈ lw_all := lw_g (lw_at lw_m7 90 rfl) rfl
theorem q1648 : (Jvm.Cond.soleField "LeftUndoesModel" "isWrong") ∈ lw_all := lw_g (lw_at lw_m7 91 rfl) rfl
theorem q1649 : (Jvm.Cond.laysFinal "LeftUndoesModel" "LeftUndoesModel" "sortOf" "[I") ∈ lw_all := lw_g (lw_at lw_m7 92 rfl) rfl
theorem q1650 : (Jvm.Cond.soleField "LeftUndoesModel" "sortOf") ∈ lw_all := lw_g (lw_at lw_m7 93 rfl) rfl
theorem q1651 : (Jvm.Cond.laysFinal "LeftUndoesModel" "LeftUndoesModel" "sizes" "[I") ∈ lw_all := lw_g (lw_at lw_m7 94 rfl) rfl
theorem q1652 : (Jvm.Cond.soleField "LeftUndoesModel" "sizes") ∈ lw_all := lw_g (lw_at lw_m7 95 rfl) rfl
theorem q1653 : (Jvm.Cond.laysFinal "LeftUndoesModel" "LeftUndoesModel" "items" "[I") ∈ lw_all := lw_g (lw_at lw_m7 96 rfl) rfl
theorem q1654 : (Jvm.Cond.soleField "LeftUndoesModel" "items") ∈ lw_all := lw_g (lw_at lw_m7 97 rfl) rfl
theorem q1655 : (Jvm.Cond.laysFinal "LeftUndoesModel" "LeftUndoesModel" "lies" "[I") ∈ lw_all := lw_g (lw_at lw_m7 98 rfl) rfl
theorem q1656 : (Jvm.Cond.soleField "LeftUndoesModel" "lies") ∈ lw_all := lw_g (lw_at lw_m7 99 rfl) rfl
theorem q1657 : (Jvm.Cond.laysFinal "LeftUndoesModel" "LeftUndoesModel" "liesNumber" "[I") ∈ lw_all := lw_g (lw_at lw_m7 100 rfl) rfl
theorem q1658 : (Jvm.Cond.soleField "LeftUndoesModel" "liesNumber") ∈ lw_all := lw_g (lw_at lw_m7 101 rfl) rfl
theorem q1659 : (Jvm.Cond.laysFinal "LeftUndoesModel" "LeftUndoesModel" "liesSort" "[I") ∈ lw_all := lw_g (lw_at lw_m7 102 rfl) rfl
theorem q1660 : (Jvm.Cond.soleField "LeftUndoesModel" "liesSort") ∈ lw_all := lw_g (lw_at lw_m7 103 rfl) rfl
theorem q1661 : (Jvm.Cond.laysFinal "LeftUndoesModel" "LeftUndoesModel" "ran" "[I") ∈ lw_all := lw_g (lw_at lw_m7 104 rfl) rfl
theorem q1662 : (Jvm.Cond.soleField "LeftUndoesModel" "ran") ∈ lw_all := lw_g (lw_at lw_m7 105 rfl) rfl
theorem q1663 : (Jvm.Cond.lays "LeftUndoesModel" "LeftUndoesModel" "bodies" "I") ∈ lw_all := lw_g (lw_at lw_m7 106 rfl) rfl
theorem q1664 : (Jvm.Cond.soleField "LeftUndoesModel" "bodies") ∈ lw_all := lw_g (lw_at lw_m7 107 rfl) rfl
theorem q1665 : (Jvm.Cond.lays "LeftUndoesModel" "LeftUndoesModel" "acting" "I") ∈ lw_all := lw_g (lw_at lw_m7 108 rfl) rfl
theorem q1666 : (Jvm.Cond.soleField "LeftUndoesModel" "acting") ∈ lw_all := lw_g (lw_at lw_m7 109 rfl) rfl
theorem q1667 : (Jvm.Cond.lays "LeftUndoesModel" "LeftUndoesModel" "about" "I") ∈ lw_all := lw_g (lw_at lw_m7 110 rfl) rfl
theorem q1668 : (Jvm.Cond.soleField "LeftUndoesModel" "about") ∈ lw_all := lw_g (lw_at lw_m7 111 rfl) rfl
theorem q1669 : (Jvm.Cond.lays "LeftUndoesModel" "LeftUndoesModel" "kindActing" "I") ∈ lw_all := lw_g (lw_at lw_m7 112 rfl) rfl
theorem q1670 : (Jvm.Cond.soleField "LeftUndoesModel" "kindActing") ∈ lw_all := lw_g (lw_at lw_m7 113 rfl) rfl
theorem q1671 : (Jvm.Cond.lays "LeftUndoesModel" "LeftUndoesModel" "isParted" "Z") ∈ lw_all := lw_g (lw_at lw_m7 114 rfl) rfl
theorem q1672 : (Jvm.Cond.soleField "LeftUndoesModel" "isParted") ∈ lw_all := lw_g (lw_at lw_m7 115 rfl) rfl
theorem q1673 : (Jvm.Cond.superclass "LeftUndoesModel" "java/lang/Object") ∈ lw_all := lw_g (lw_at lw_m7 116 rfl) rfl
theorem q1675 : (Jvm.Cond.instanceMethod ({ cls := "LeftUndoesModel", name := "person", desc := "(III)I" } : Jvm.MethodName)) ∈ lw_all := lw_g (lw_at lw_m7 118 rfl) rfl
theorem q1676 : (Jvm.Cond.selects "LeftUndoesModel" ({ cls := "LeftUndoesModel", name := "person", desc := "(III)I" } : Jvm.MethodName) ({ cls := "LeftUndoesModel", name := "person", desc := "(III)I" } : Jvm.MethodName)) ∈ lw_all := lw_g (lw_at lw_m7 119 rfl) rfl
theorem q1677 : (Jvm.Cond.code ({ cls := "LeftUndoesModel", name := "person", desc := "(III)I" } : Jvm.MethodName) prog_26_method_14_code (5 : Nat) (Option.some Jvm.ClassFile.FieldType.int)) ∈ lw_all := lw_g (lw_at lw_m7 120 rfl) rfl
theorem q1678 : (Jvm.Cond.methodLink "LeftUndoesModel" (77 : Nat) ({ cls := "LeftUndoesModel", name := "isKind", desc := "(I)Z" } : Jvm.MethodName)) ∈ lw_all := lw_g (lw_at lw_m7 121 rfl) rfl
theorem q1679 : (Jvm.Cond.static ({ cls := "LeftUndoesModel", name := "isKind", desc := "(I)Z" } : Jvm.MethodName)) ∈ lw_all := lw_g (lw_at lw_m7 122 rfl) rfl
theorem q1680 : (Jvm.Cond.code ({ cls := "LeftUndoesModel", name := "isKind", desc := "(I)Z" } : Jvm.MethodName) prog_26_method_13_code (1 : Nat) (Option.some Jvm.ClassFile.FieldType.boolean)) ∈ lw_all := lw_g (lw_at lw_m7 123 rfl) rfl
theorem q1681 : (Jvm.Cond.constantLong "LeftUndoesModel" (75 : Nat) (5 : Int64)) ∈ lw_all := lw_g (lw_at lw_m7 124 rfl) rfl
theorem q1682 : (Jvm.Cond.methodLink "LeftUndoesModel" (64 : Nat) ({ cls := "LeftUndoesModel", name := "in", desc := "(JJJ)Z" } : Jvm.MethodName)) ∈ lw_all := lw_g (lw_at lw_m7 125 rfl) rfl
theorem q1683 : (Jvm.Cond.static ({ cls := "LeftUndoesModel", name := "in", desc := "(JJJ)Z" } : Jvm.MethodName)) ∈ lw_all := lw_g (lw_at lw_m7 126 rfl) rfl
theorem q1684 : (Jvm.Cond.code ({ cls := "LeftUndoesModel", name := "in", desc := "(JJJ)Z" } : Jvm.MethodName) prog_26_method_2_code (6 : Nat) (Option.some Jvm.ClassFile.FieldType.boolean)) ∈ lw_all := lw_g (lw_at lw_m7 127 rfl) rfl
theorem q1685 : (Jvm.Cond.constantLong "LeftUndoesModel" (81 : Nat) (9 : Int64)) ∈ lw_all := lw_g (lw_at lw_m7 128 rfl) rfl
theorem q1686 : (Jvm.Cond.methodLink "LeftUndoesModel" (68 : Nat) ({ cls := "LeftUndoesModel", name := "at", desc := "(II)I" } : Jvm.MethodName)) ∈ lw_all := lw_g (lw_at lw_m7 129 rfl) rfl
theorem q1687 : (Jvm.Cond.static ({ cls := "LeftUndoesModel", name := "at", desc := "(II)I" } : Jvm.MethodName)) ∈ lw_all := lw_g (lw_at lw_m7 130 rfl) rfl
theorem q1688 : (Jvm.Cond.code ({ cls := "LeftUndoesModel", name := "at", desc := "(II)I" } : Jvm.MethodName) prog_26_method_9_code (2 : Nat) (Option.some Jvm.ClassFile.FieldType.int)) ∈ lw_all := lw_g (lw_at lw_m7 131 rfl) rfl
theorem q1690 : (Jvm.Cond.instanceMethod ({ cls := "LeftUndoesModel", name := "personOf", desc := "(II)I" } : Jvm.MethodName)) ∈ lw_all := lw_g (lw_at lw_m7 133 rfl) rfl
theorem q1691 : (Jvm.Cond.selects "LeftUndoesModel" ({ cls := "LeftUndoesModel", name := "personOf", desc := "(II)I" } : Jvm.MethodName) ({ cls := "LeftUndoesModel", name := "personOf", desc := "(II)I" } : Jvm.MethodName)) ∈ lw_all := lw_g (lw_at lw_m7 134 rfl) rfl
theorem q1692 : (Jvm.Cond.code ({ cls := "LeftUndoesModel", name := "personOf", desc := "(II)I" } : Jvm.MethodName) prog_26_method_20_code (3 : Nat) (Option.some Jvm.ClassFile.FieldType.int)) ∈ lw_all := lw_g (lw_at lw_m7 135 rfl) rfl
theorem q1693 : (Jvm.Cond.methodLink "LeftUndoesModel" (96 : Nat) ({ cls := "LeftUndoesModel", name := "isPerson", desc := "(I)Z" } : Jvm.MethodName)) ∈ lw_all := lw_g (lw_at lw_m7 136 rfl) rfl
theorem q1694 : (Jvm.Cond.privateMethod ({ cls := "LeftUndoesModel", name := "isPerson", desc := "(I)Z" } : Jvm.MethodName)) ∈ lw_tbl := lw_at lw_m7 137 rfl
theorem q1695 : (Jvm.Cond.instanceMethod ({ cls := "LeftUndoesModel", name := "isPerson", desc := "(I)Z" } : Jvm.MethodName)) ∈ lw_all := lw_g (lw_at lw_m7 138 rfl) rfl
theorem q1696 : (Jvm.Cond.code ({ cls := "LeftUndoesModel", name := "isPerson", desc := "(I)Z" } : Jvm.MethodName) prog_26_method_3_code (2 : Nat) (Option.some Jvm.ClassFile.FieldType.boolean)) ∈ lw_all := lw_g (lw_at lw_m7 139 rfl) rfl
theorem q1697 : (Jvm.Cond.methodLink "LeftUndoesModel" (83 : Nat) ({ cls := "LeftUndoesModel", name := "its", desc := "(II)I" } : Jvm.MethodName)) ∈ lw_all := lw_g (lw_at lw_m7 140 rfl) rfl
theorem q1698 : (Jvm.Cond.privateMethod ({ cls := "LeftUndoesModel", name := "its", desc := "(II)I" } : Jvm.MethodName)) ∈ lw_tbl := lw_at lw_m7 141 rfl
theorem q1699 : (Jvm.Cond.instanceMethod ({ cls := "LeftUndoesModel", name := "its", desc := "(II)I" } : Jvm.MethodName)) ∈ lw_all := lw_g (lw_at lw_m7 142 rfl) rfl
theorem q1700 : (Jvm.Cond.code ({ cls := "LeftUndoesModel", name := "its", desc := "(II)I" } : Jvm.MethodName) prog_26_method_10_code (3 : Nat) (Option.some Jvm.ClassFile.FieldType.int)) ∈ lw_all := lw_g (lw_at lw_m7 143 rfl) rfl
theorem q1701 : (Jvm.Cond.methodLink "LeftUndoesModel" (99 : Nat) ({ cls := "LeftUndoesModel", name := "standWeight", desc := "(I)I" } : Jvm.MethodName)) ∈ lw_all := lw_g (lw_at lw_m7 144 rfl) rfl
theorem q1702 : (Jvm.Cond.privateMethod ({ cls := "LeftUndoesModel", name := "standWeight", desc := "(I)I" } : Jvm.MethodName)) ∈ lw_tbl := lw_at lw_m7 145 rfl
theorem q1703 : (Jvm.Cond.instanceMethod ({ cls := "LeftUndoesModel", name := "standWeight", desc := "(I)I" } : Jvm.MethodName)) ∈ lw_all := lw_g (lw_at lw_m7 146 rfl) rfl
theorem q1704 : (Jvm.Cond.code ({ cls := "LeftUndoesModel", name := "standWeight", desc := "(I)I" } : Jvm.MethodName) prog_26_method_19_code (4 : Nat) (Option.some Jvm.ClassFile.FieldType.int)) ∈ lw_all := lw_g (lw_at lw_m7 147 rfl) rfl
theorem q1705 : (Jvm.Cond.methodLink "LeftUndoesModel" (90 : Nat) ({ cls := "LeftUndoesModel", name := "deedIs", desc := "(II)I" } : Jvm.MethodName)) ∈ lw_all := lw_g (lw_at lw_m7 148 rfl) rfl
theorem q1706 : (Jvm.Cond.privateMethod ({ cls := "LeftUndoesModel", name := "deedIs", desc := "(II)I" } : Jvm.MethodName)) ∈ lw_tbl := lw_at lw_m7 149 rfl
theorem q1707 : (Jvm.Cond.instanceMethod ({ cls := "LeftUndoesModel", name := "deedIs", desc := "(II)I" } : Jvm.MethodName)) ∈ lw_all := lw_g (lw_at lw_m7 150 rfl) rfl
theorem q1708 : (Jvm.Cond.code ({ cls := "LeftUndoesModel", name := "deedIs", desc := "(II)I" } : Jvm.MethodName) prog_26_method_12_code (3 : Nat) (Option.some Jvm.ClassFile.FieldType.int)) ∈ lw_all := lw_g (lw_at lw_m7 151 rfl) rfl
theorem q1709 : (Jvm.Cond.methodLink "LeftUndoesModel" (72 : Nat) ({ cls := "LeftUndoesModel", name := "spot", desc := "(II)I" } : Jvm.MethodName)) ∈ lw_all := lw_g (lw_at lw_m7 152 rfl) rfl
theorem q1710 : (Jvm.Cond.static ({ cls := "LeftUndoesModel", name := "spot", desc := "(II)I" } : Jvm.MethodName)) ∈ lw_all := lw_g (lw_at lw_m7 153 rfl) rfl
theorem q1711 : (Jvm.Cond.code ({ cls := "LeftUndoesModel", name := "spot", desc := "(II)I" } : Jvm.MethodName) prog_26_method_11_code (2 : Nat) (Option.some Jvm.ClassFile.FieldType.int)) ∈ lw_all := lw_g (lw_at lw_m7 154 rfl) rfl
theorem q1712 : (Jvm.Cond.methodLink "LeftUndoesModel" (103 : Nat) ({ cls := "LeftUndoesModel", name := "pulls", desc := "(I)I" } : Jvm.MethodName)) ∈ lw_all := lw_g (lw_at lw_m7 155 rfl) rfl
theorem q1713 : (Jvm.Cond.privateMethod ({ cls := "LeftUndoesModel", name := "pulls", desc := "(I)I" } : Jvm.MethodName)) ∈ lw_tbl := lw_at lw_m7 156 rfl
theorem q1714 : (Jvm.Cond.instanceMethod ({ cls := "LeftUndoesModel", name := "pulls", desc := "(I)I" } : Jvm.MethodName)) ∈ lw_all := lw_g (lw_at lw_m7 157 rfl) rfl
theorem q1715 : (Jvm.Cond.code ({ cls := "LeftUndoesModel", name := "pulls", desc := "(I)I" } : Jvm.MethodName) prog_26_method_17_code (2 : Nat) (Option.some Jvm.ClassFile.FieldType.int)) ∈ lw_all := lw_g (lw_at lw_m7 158 rfl) rfl
theorem q1716 : (Jvm.Cond.methodLink "LeftUndoesModel" (86 : Nat) ({ cls := "LeftUndoesModel", name := "pullOf", desc := "(III)I" } : Jvm.MethodName)) ∈ lw_all := lw_g (lw_at lw_m7 159 rfl) rfl
theorem q1717 : (Jvm.Cond.static ({ cls := "LeftUndoesModel", name := "pullOf", desc := "(III)I" } : Jvm.MethodName)) ∈ lw_all := lw_g (lw_at lw_m7 160 rfl) rfl
theorem q1718 : (Jvm.Cond.code ({ cls := "LeftUndoesModel", name := "pullOf", desc := "(III)I" } : Jvm.MethodName) prog_26_method_16_code (3 : Nat) (Option.some Jvm.ClassFile.FieldType.int)) ∈ lw_all := lw_g (lw_at lw_m7 161 rfl) rfl
theorem q1719 : (Jvm.Cond.methodLink "LeftUndoesModel" (106 : Nat) ({ cls := "LeftUndoesModel", name := "choice", desc := "(I)I" } : Jvm.MethodName)) ∈ lw_all := lw_g (lw_at lw_m7 162 rfl) rfl
theorem q1720 : (Jvm.Cond.privateMethod ({ cls := "LeftUndoesModel", name := "choice", desc := "(I)I" } : Jvm.MethodName)) ∈ lw_tbl := lw_at lw_m7 163 rfl
theorem q1721 : (Jvm.Cond.instanceMethod ({ cls := "LeftUndoesModel", name := "choice", desc := "(I)I" } : Jvm.MethodName)) ∈ lw_all := lw_g (lw_at lw_m7 164 rfl) rfl
theorem q1722 : (Jvm.Cond.code ({ cls := "LeftUndoesModel", name := "choice", desc := "(I)I" } : Jvm.MethodName) prog_26_method_33_code (11 : Nat) (Option.some Jvm.ClassFile.FieldType.int)) ∈ lw_all := lw_g (lw_at lw_m7 165 rfl) rfl
theorem q1723 : (Jvm.Cond.methodLink "LeftUndoesModel" (135 : Nat) ({ cls := "LeftUndoesModel", name := "isUnder", desc := "(II)Z" } : Jvm.MethodName)) ∈ lw_all := lw_g (lw_at lw_m7 166 rfl) rfl
theorem q1724 : (Jvm.Cond.static ({ cls := "LeftUndoesModel", name := "isUnder", desc := "(II)Z" } : Jvm.MethodName)) ∈ lw_all := lw_g (lw_at lw_m7 167 rfl) rfl
theorem q1725 : (Jvm.Cond.code ({ cls := "LeftUndoesModel", name := "isUnder", desc := "(II)Z" } : Jvm.MethodName) prog_26_method_29_code (2 : Nat) (Option.some Jvm.ClassFile.FieldType.boolean)) ∈ lw_all := lw_g (lw_at lw_m7 168 rfl) rfl
theorem q1726 : (Jvm.Cond.methodLink "LeftUndoesModel" (139 : Nat) ({ cls := "LeftUndoesModel", name := "isSo", desc := "(III)Z" } : Jvm.MethodName)) ∈ lw_all := lw_g (lw_at lw_m7 169 rfl) rfl
theorem q1727 : (Jvm.Cond.privateMethod ({ cls := "LeftUndoesModel", name := "isSo", desc := "(III)Z" } : Jvm.MethodName)) ∈ lw_tbl := lw_at lw_m7 170 rfl
theorem q1728 : (Jvm.Cond.instanceMethod ({ cls := "LeftUndoesModel", name := "isSo", desc := "(III)Z" } : Jvm.MethodName)) ∈ lw_all := lw_g (lw_at lw_m7 171 rfl) rfl
theorem q1729 : (Jvm.Cond.code ({ cls := "LeftUndoesModel", name := "isSo", desc := "(III)Z" } : Jvm.MethodName) prog_26_method_32_code (7 : Nat) (Option.some Jvm.ClassFile.FieldType.boolean)) ∈ lw_all := lw_g (lw_at lw_m7 172 rfl) rfl
theorem q1730 : (Jvm.Cond.methodLink "LeftUndoesModel" (128 : Nat) ({ cls := "LeftUndoesModel", name := "fact", desc := "(II)I" } : Jvm.MethodName)) ∈ lw_all := lw_g (lw_at lw_m7 173 rfl) rfl
theorem q1731 : (Jvm.Cond.privateMethod ({ cls := "LeftUndoesModel", name := "fact", desc := "(II)I" } : Jvm.MethodName)) ∈ lw_tbl := lw_at lw_m7 174 rfl
theorem q1732 : (Jvm.Cond.instanceMethod ({ cls := "LeftUndoesModel", name := "fact", desc := "(II)I" } : Jvm.MethodName)) ∈ lw_all := lw_g (lw_at lw_m7 175 rfl) rfl
theorem q1733 : (Jvm.Cond.code ({ cls := "LeftUndoesModel", name := "fact", desc := "(II)I" } : Jvm.MethodName) prog_26_method_30_code (3 : Nat) (Option.some Jvm.ClassFile.FieldType.int)) ∈ lw_all := lw_g (lw_at lw_m7 176 rfl) rfl
theorem q1734 : (Jvm.Cond.methodLink "LeftUndoesModel" (131 : Nat) ({ cls := "LeftUndoesModel", name := "isHolding", desc := "(III)Z" } : Jvm.MethodName)) ∈ lw_all := lw_g (lw_at lw_m7 177 rfl) rfl
theorem q1735 : (Jvm.Cond.static ({ cls := "LeftUndoesModel", name := "isHolding", desc := "(III)Z" } : Jvm.MethodName)) ∈ lw_all := lw_g (lw_at lw_m7 178 rfl) rfl
theorem q1736 : (Jvm.Cond.code ({ cls := "LeftUndoesModel", name := "isHolding", desc := "(III)Z" } : Jvm.MethodName) prog_26_method_31_code (3 : Nat) (Option.some Jvm.ClassFile.FieldType.boolean)) ∈ lw_all := lw_g (lw_at lw_m7 179 rfl) rfl
theorem q1737 : (Jvm.Cond.methodLink "LeftUndoesModel" (119 : Nat) ({ cls := "LeftUndoesModel", name := "due", desc := "(I)I" } : Jvm.MethodName)) ∈ lw_all := lw_g (lw_at lw_m7 180 rfl) rfl
theorem q1738 : (Jvm.Cond.privateMethod ({ cls := "LeftUndoesModel", name := "due", desc := "(I)I" } : Jvm.MethodName)) ∈ lw_tbl := lw_at lw_m7 181 rfl
theorem q1739 : (Jvm.Cond.instanceMethod ({ cls := "LeftUndoesModel", name := "due", desc := "(I)I" } : Jvm.MethodName)) ∈ lw_all := lw_g (lw_at lw_m7 182 rfl) rfl
theorem q1740 : (Jvm.Cond.code ({ cls := "LeftUndoesModel", name := "due", desc := "(I)I" } : Jvm.MethodName) prog_26_method_18_code (3 : Nat) (Option.some Jvm.ClassFile.FieldType.int)) ∈ lw_all := lw_g (lw_at lw_m7 183 rfl) rfl
theorem q1741 : (Jvm.Cond.methodLink "LeftUndoesModel" (93 : Nat) ({ cls := "LeftUndoesModel", name := "termOf", desc := "(II)I" } : Jvm.MethodName)) ∈ lw_all := lw_g (lw_at lw_m7 184 rfl) rfl
theorem q1742 : (Jvm.Cond.static ({ cls := "LeftUndoesModel", name := "termOf", desc := "(II)I" } : Jvm.MethodName)) ∈ lw_all := lw_g (lw_at lw_m7 185 rfl) rfl
theorem q1743 : (Jvm.Cond.code ({ cls := "LeftUndoesModel", name := "termOf", desc := "(II)I" } : Jvm.MethodName) prog_26_method_15_code (2 : Nat) (Option.some Jvm.ClassFile.FieldType.int)) ∈ lw_all := lw_g (lw_at lw_m7 186 rfl) rfl
theorem q1745 : (Jvm.Cond.instanceMethod ({ cls := "LeftUndoesModel", name := "change", desc := "(III)I" } : Jvm.MethodName)) ∈ lw_all := lw_g (lw_at lw_m7 188 rfl) rfl
theorem q1746 : (Jvm.Cond.selects "LeftUndoesModel" ({ cls := "LeftUndoesModel", name := "change", desc := "(III)I" } : Jvm.MethodName) ({ cls := "LeftUndoesModel", name := "change", desc := "(III)I" } : Jvm.MethodName)) ∈ lw_all := lw_g (lw_at lw_m7 189 rfl) rfl
theorem q1747 : (Jvm.Cond.code ({ cls := "LeftUndoesModel", name := "change", desc := "(III)I" } : Jvm.MethodName) prog_26_method_21_code (4 : Nat) (Option.some Jvm.ClassFile.FieldType.int)) ∈ lw_all := lw_g (lw_at lw_m7 190 rfl) rfl
theorem q1748 : (Jvm.Cond.constantLong "LeftUndoesModel" (109 : Nat) (2 : Int64)) ∈ lw_all := lw_g (lw_at lw_m7 191 rfl) rfl
theorem q1749 : (Jvm.Cond.methodLink "LeftUndoesModel" (111 : Nat) ({ cls := "LeftUndoesModel", name := "becomes", desc := "(II)I" } : Jvm.MethodName)) ∈ lw_all := lw_g (lw_at lw_m7 192 rfl) rfl
theorem q1750 : (Jvm.Cond.privateMethod ({ cls := "LeftUndoesModel", name := "becomes", desc := "(II)I" } : Jvm.MethodName)) ∈ lw_tbl := lw_at lw_m7 193 rfl
theorem q1751 : (Jvm.Cond.instanceMethod ({ cls := "LeftUndoesModel", name := "becomes", desc := "(II)I" } : Jvm.MethodName)) ∈ lw_all := lw_g (lw_at lw_m7 194 rfl) rfl
theorem q1752 : (Jvm.Cond.code ({ cls := "LeftUndoesModel", name := "becomes", desc := "(II)I" } : Jvm.MethodName) prog_26_method_8_code (4 : Nat) (Option.some Jvm.ClassFile.FieldType.int)) ∈ lw_all := lw_g (lw_at lw_m7 195 rfl) rfl
theorem q1754 : (Jvm.Cond.instanceMethod ({ cls := "LeftUndoesModel", name := "remake", desc := "(II)I" } : Jvm.MethodName)) ∈ lw_all := lw_g (lw_at lw_m7 197 rfl) rfl
theorem q1755 : (Jvm.Cond.selects "LeftUndoesModel" ({ cls := "LeftUndoesModel", name := "remake", desc := "(II)I" } : Jvm.MethodName) ({ cls := "LeftUndoesModel", name := "remake", desc := "(II)I" } : Jvm.MethodName)) ∈ lw_all := lw_g (lw_at lw_m7 198 rfl) rfl
theorem q1756 : (Jvm.Cond.code ({ cls := "LeftUndoesModel", name := "remake", desc := "(II)I" } : Jvm.MethodName) prog_26_method_22_code (3 : Nat) (Option.some Jvm.ClassFile.FieldType.int)) ∈ lw_all := lw_g (lw_at lw_m7 199 rfl) rfl
theorem q1758 : (Jvm.Cond.instanceMethod ({ cls := "LeftUndoesModel", name := "deed", desc := "(IIII)I" } : Jvm.MethodName)) ∈ lw_all := lw_g (lw_at lw_m7 201 rfl) rfl
theorem q1759 : (Jvm.Cond.selects "LeftUndoesModel" ({ cls := "LeftUndoesModel", name := "deed", desc := "(IIII)I" } : Jvm.MethodName) ({ cls := "LeftUndoesModel", name := "deed", desc := "(IIII)I" } : Jvm.MethodName)) ∈ lw_all := lw_g (lw_at lw_m7 202 rfl) rfl
theorem q1760 : (Jvm.Cond.code ({ cls := "LeftUndoesModel", name := "deed", desc := "(IIII)I" } : Jvm.MethodName) prog_26_method_23_code (6 : Nat) (Option.some Jvm.ClassFile.FieldType.int)) ∈ lw_all := lw_g (lw_at lw_m7 203 rfl) rfl
theorem q1761 : (Jvm.Cond.constantLong "LeftUndoesModel" (114 : Nat) (15 : Int64)) ∈ lw_all := lw_g (lw_at lw_m7 204 rfl) rfl
theorem q1762 : (Jvm.Cond.methodLink "LeftUndoesModel" (116 : Nat) ({ cls := "LeftUndoesModel", name := "isDeed", desc := "(I)Z" } : Jvm.MethodName)) ∈ lw_all := lw_g (lw_at lw_m7 205 rfl) rfl
theorem q1763 : (Jvm.Cond.privateMethod ({ cls := "LeftUndoesModel", name := "isDeed", desc := "(I)Z" } : Jvm.MethodName)) ∈ lw_tbl := lw_at lw_m7 206 rfl
theorem q1764 : (Jvm.Cond.instanceMethod ({ cls := "LeftUndoesModel", name := "isDeed", desc := "(I)Z" } : Jvm.MethodName)) ∈ lw_all := lw_g (lw_at lw_m7 207 rfl) rfl
theorem q1765 : (Jvm.Cond.code ({ cls := "LeftUndoesModel", name := "isDeed", desc := "(I)Z" } : Jvm.MethodName) prog_26_method_4_code (2 : Nat) (Option.some Jvm.ClassFile.FieldType.boolean)) ∈ lw_all := lw_g (lw_at lw_m7 208 rfl) rfl
theorem q1767 : (Jvm.Cond.instanceMethod ({ cls := "LeftUndoesModel", name := "deedOf", desc := "(II)I" } : Jvm.MethodName)) ∈ lw_all := lw_g (lw_at lw_m7 210 rfl) rfl
theorem q1768 : (Jvm.Cond.selects "LeftUndoesModel" ({ cls := "LeftUndoesModel", name := "deedOf", desc := "(II)I" } : Jvm.MethodName) ({ cls := "LeftUndoesModel", name := "deedOf", desc := "(II)I" } : Jvm.MethodName)) ∈ lw_all := lw_g (lw_at lw_m7 211 rfl) rfl
theorem q1769 : (Jvm.Cond.code ({ cls := "LeftUndoesModel", name := "deedOf", desc := "(II)I" } : Jvm.MethodName) prog_26_method_24_code (3 : Nat) (Option.some Jvm.ClassFile.FieldType.int)) ∈ lw_all := lw_g (lw_at lw_m7 212 rfl) rfl
theorem q1771 : (Jvm.Cond.instanceMethod ({ cls := "LeftUndoesModel", name := "ends", desc := "(I)I" } : Jvm.MethodName)) ∈ lw_all := lw_g (lw_at lw_m7 214 rfl) rfl
theorem q1772 : (Jvm.Cond.selects "LeftUndoesModel" ({ cls := "LeftUndoesModel", name := "ends", desc := "(I)I" } : Jvm.MethodName) ({ cls := "LeftUndoesModel", name := "ends", desc := "(I)I" } : Jvm.MethodName)) ∈ lw_all := lw_g (lw_at lw_m7 215 rfl) rfl
theorem q1773 : (Jvm.Cond.code ({ cls := "LeftUndoesModel", name := "ends", desc := "(I)I" } : Jvm.MethodName) prog_26_method_25_code (2 : Nat) (Option.some Jvm.ClassFile.FieldType.int)) ∈ lw_all := lw_g (lw_at lw_m7 216 rfl) rfl
theorem q1774 : (Jvm.Cond.constantLong "LeftUndoesModel" (122 : Nat) (16 : Int64)) ∈ lw_all := lw_g (lw_at lw_m7 217 rfl) rfl
theorem q1776 : (Jvm.Cond.instanceMethod ({ cls := "LeftUndoesModel", name := "anew", desc := "()I" } : Jvm.MethodName)) ∈ lw_all := lw_g (lw_at lw_m7 219 rfl) rfl
theorem q1777 : (Jvm.Cond.selects "LeftUndoesModel" ({ cls := "LeftUndoesModel", name := "anew", desc := "()I" } : Jvm.MethodName) ({ cls := "LeftUndoesModel", name := "anew", desc := "()I" } : Jvm.MethodName)) ∈ lw_all := lw_g (lw_at lw_m7 220 rfl) rfl
theorem q1778 : (Jvm.Cond.code ({ cls := "LeftUndoesModel", name := "anew", desc := "()I" } : Jvm.MethodName) prog_26_method_26_code (2 : Nat) (Option.some Jvm.ClassFile.FieldType.int)) ∈ lw_all := lw_g (lw_at lw_m7 221 rfl) rfl
theorem q1780 : (Jvm.Cond.instanceMethod ({ cls := "LeftUndoesModel", name := "state", desc := "(I)I" } : Jvm.MethodName)) ∈ lw_all := lw_g (lw_at lw_m7 223 rfl) rfl
theorem q1781 : (Jvm.Cond.selects "LeftUndoesModel" ({ cls := "LeftUndoesModel", name := "state", desc := "(I)I" } : Jvm.MethodName) ({ cls := "LeftUndoesModel", name := "state", desc := "(I)I" } : Jvm.MethodName)) ∈ lw_all := lw_g (lw_at lw_m7 224 rfl) rfl
theorem q1782 : (Jvm.Cond.code ({ cls := "LeftUndoesModel", name := "state", desc := "(I)I" } : Jvm.MethodName) prog_26_method_28_code (2 : Nat) (Option.some Jvm.ClassFile.FieldType.int)) ∈ lw_all := lw_g (lw_at lw_m7 225 rfl) rfl
theorem q1783 : (Jvm.Cond.methodLink "LeftUndoesModel" (124 : Nat) ({ cls := "LeftUndoesModel", name := "isOver", desc := "()Z" } : Jvm.MethodName)) ∈ lw_all := lw_g (lw_at lw_m7 226 rfl) rfl
theorem q1784 : (Jvm.Cond.privateMethod ({ cls := "LeftUndoesModel", name := "isOver", desc := "()Z" } : Jvm.MethodName)) ∈ lw_tbl := lw_at lw_m7 227 rfl
theorem q1785 : (Jvm.Cond.instanceMethod ({ cls := "LeftUndoesModel", name := "isOver", desc := "()Z" } : Jvm.MethodName)) ∈ lw_all := lw_g (lw_at lw_m7 228 rfl) rfl
theorem q1786 : (Jvm.Cond.code ({ cls := "LeftUndoesModel", name := "isOver", desc := "()Z" } : Jvm.MethodName) prog_26_method_27_code (1 : Nat) (Option.some Jvm.ClassFile.FieldType.boolean)) ∈ lw_all := lw_g (lw_at lw_m7 229 rfl) rfl
theorem q1788 : (Jvm.Cond.instanceMethod ({ cls := "LeftUndoesModel", name := "year", desc := "()I" } : Jvm.MethodName)) ∈ lw_all := lw_g (lw_at lw_m7 231 rfl) rfl
theorem q1789 : (Jvm.Cond.selects "LeftUndoesModel" ({ cls := "LeftUndoesModel", name := "year", desc := "()I" } : Jvm.MethodName) ({ cls := "LeftUndoesModel", name := "year", desc := "()I" } : Jvm.MethodName)) ∈ lw_all := lw_g (lw_at lw_m7 232 rfl) rfl
theorem q1790 : (Jvm.Cond.code ({ cls := "LeftUndoesModel", name := "year", desc := "()I" } : Jvm.MethodName) prog_26_method_36_code (1 : Nat) (Option.some Jvm.ClassFile.FieldType.int)) ∈ lw_all := lw_g (lw_at lw_m7 233 rfl) rfl
theorem q1791 : (Jvm.Cond.methodLink "LeftUndoesModel" (146 : Nat) ({ cls := "LeftUndoesModel", name := "goes", desc := "(I)I" } : Jvm.MethodName)) ∈ lw_all := lw_g (lw_at lw_m7 234 rfl) rfl
theorem q1792 : (Jvm.Cond.privateMethod ({ cls := "LeftUndoesModel", name := "goes", desc := "(I)I" } : Jvm.MethodName)) ∈ lw_tbl := lw_at lw_m7 235 rfl
theorem q1793 : (Jvm.Cond.instanceMethod ({ cls := "LeftUndoesModel", name := "goes", desc := "(I)I" } : Jvm.MethodName)) ∈ lw_all := lw_g (lw_at lw_m7 236 rfl) rfl
theorem q1794 : (Jvm.Cond.code ({ cls := "LeftUndoesModel", name := "goes", desc := "(I)I" } : Jvm.MethodName) prog_26_method_35_code (5 : Nat) (Option.some Jvm.ClassFile.FieldType.int)) ∈ lw_all := lw_g (lw_at lw_m7 237 rfl) rfl
theorem q1795 : (Jvm.Cond.methodLink "LeftUndoesModel" (142 : Nat) ({ cls := "LeftUndoesModel", name := "undo", desc := "(I)V" } : Jvm.MethodName)) ∈ lw_all := lw_g (lw_at lw_m7 238 rfl) rfl
theorem q1796 : (Jvm.Cond.privateMethod ({ cls := "LeftUndoesModel", name := "undo", desc := "(I)V" } : Jvm.MethodName)) ∈ lw_tbl := lw_at lw_m7 239 rfl
theorem q1797 : (Jvm.Cond.instanceMethod ({ cls := "LeftUndoesModel", name := "undo", desc := "(I)V" } : Jvm.MethodName)) ∈ lw_all := lw_g (lw_at lw_m8 0 rfl) rfl
theorem q1798 : (Jvm.Cond.code ({ cls := "LeftUndoesModel", name := "undo", desc := "(I)V" } : Jvm.MethodName) prog_26_method_34_code (5 : Nat) (Option.none : Option Jvm.ClassFile.FieldType)) ∈ lw_all := lw_g (lw_at lw_m8 1 rfl) rfl
theorem q1800 : (Jvm.Cond.instanceMethod ({ cls := "LeftUndoesModel", name := "standing", desc := "(I)I" } : Jvm.MethodName)) ∈ lw_all := lw_g (lw_at lw_m8 3 rfl) rfl
theorem q1801 : (Jvm.Cond.selects "LeftUndoesModel" ({ cls := "LeftUndoesModel", name := "standing", desc := "(I)I" } : Jvm.MethodName) ({ cls := "LeftUndoesModel", name := "standing", desc := "(I)I" } : Jvm.MethodName)) ∈ lw_all := lw_g (lw_at lw_m8 4 rfl) rfl
theorem q1802 : (Jvm.Cond.code ({ cls := "LeftUndoesModel", name := "standing", desc := "(I)I" } : Jvm.MethodName) prog_26_method_38_code (2 : Nat) (Option.some Jvm.ClassFile.FieldType.int)) ∈ lw_all := lw_g (lw_at lw_m8 5 rfl) rfl
theorem q1803 : (Jvm.Cond.constantLong "LeftUndoesModel" (149 : Nat) (4 : Int64)) ∈ lw_all := lw_g (lw_at lw_m8 6 rfl) rfl
theorem q1804 : (Jvm.Cond.methodLink "LeftUndoesModel" (151 : Nat) ({ cls := "LeftUndoesModel", name := "those", desc := "(I)I" } : Jvm.MethodName)) ∈ lw_all := lw_g (lw_at lw_m8 7 rfl) rfl
theorem q1805 : (Jvm.Cond.privateMethod ({ cls := "LeftUndoesModel", name := "those", desc := "(I)I" } : Jvm.MethodName)) ∈ lw_tbl := lw_at lw_m8 8 rfl
theorem q1806 : (Jvm.Cond.instanceMethod ({ cls := "LeftUndoesModel", name := "those", desc := "(I)I" } : Jvm.MethodName)) ∈ lw_all := lw_g (lw_at lw_m8 9 rfl) rfl
theorem q1807 : (Jvm.Cond.code ({ cls := "LeftUndoesModel", name := "those", desc := "(I)I" } : Jvm.MethodName) prog_26_method_37_code (4 : Nat) (Option.some Jvm.ClassFile.FieldType.int)) ∈ lw_all := lw_g (lw_at lw_m8 10 rfl) rfl
theorem q1809 : (Jvm.Cond.instanceMethod ({ cls := "LeftUndoesModel", name := "leaves", desc := "(I)I" } : Jvm.MethodName)) ∈ lw_all := lw_g (lw_at lw_m8 12 rfl) rfl
theorem q1810 : (Jvm.Cond.selects "LeftUndoesModel" ({ cls := "LeftUndoesModel", name := "leaves", desc := "(I)I" } : Jvm.MethodName) ({ cls := "LeftUndoesModel", name := "leaves", desc := "(I)I" } : Jvm.MethodName)) ∈ lw_all := lw_g (lw_at lw_m8 13 rfl) rfl
theorem q1811 : (Jvm.Cond.code ({ cls := "LeftUndoesModel", name := "leaves", desc := "(I)I" } : Jvm.MethodName) prog_26_method_40_code (4 : Nat) (Option.some Jvm.ClassFile.FieldType.int)) ∈ lw_all := lw_g (lw_at lw_m8 14 rfl) rfl
theorem q1812 : (Jvm.Cond.methodLink "LeftUndoesModel" (154 : Nat) ({ cls := "LeftUndoesModel", name := "puts", desc := "()V" } : Jvm.MethodName)) ∈ lw_all := lw_g (lw_at lw_m8 15 rfl) rfl
theorem q1813 : (Jvm.Cond.privateMethod ({ cls := "LeftUndoesModel", name := "puts", desc := "()V" } : Jvm.MethodName)) ∈ lw_tbl := lw_at lw_m8 16 rfl
theorem q1814 : (Jvm.Cond.instanceMethod ({ cls := "LeftUndoesModel", name := "puts", desc := "()V" } : Jvm.MethodName)) ∈ lw_all := lw_g (lw_at lw_m8 17 rfl) rfl
theorem q1815 : (Jvm.Cond.code ({ cls := "LeftUndoesModel", name := "puts", desc := "()V" } : Jvm.MethodName) prog_26_method_6_code (2 : Nat) (Option.none : Option Jvm.ClassFile.FieldType)) ∈ lw_all := lw_g (lw_at lw_m8 18 rfl) rfl
theorem q1816 : (Jvm.Cond.methodLink "LeftUndoesModel" (157 : Nat) ({ cls := "LeftUndoesModel", name := "rest", desc := "(I)I" } : Jvm.MethodName)) ∈ lw_all := lw_g (lw_at lw_m8 19 rfl) rfl
theorem q1817 : (Jvm.Cond.privateMethod ({ cls := "LeftUndoesModel", name := "rest", desc := "(I)I" } : Jvm.MethodName)) ∈ lw_tbl := lw_at lw_m8 20 rfl
theorem q1818 : (Jvm.Cond.instanceMethod ({ cls := "LeftUndoesModel", name := "rest", desc := "(I)I" } : Jvm.MethodName)) ∈ lw_all := lw_g (lw_at lw_m8 21 rfl) rfl
theorem q1819 : (Jvm.Cond.code ({ cls := "LeftUndoesModel", name := "rest", desc := "(I)I" } : Jvm.MethodName) prog_26_method_39_code (4 : Nat) (Option.some Jvm.ClassFile.FieldType.int)) ∈ lw_all := lw_g (lw_at lw_m8 22 rfl) rfl
theorem q1820 : (Jvm.Cond.methodLink "LeftUndoesModel" (160 : Nat) ({ cls := "LeftUndoesModel", name := "putsBack", desc := "()V" } : Jvm.MethodName)) ∈ lw_all := lw_g (lw_at lw_m8 23 rfl) rfl
theorem q1821 : (Jvm.Cond.privateMethod ({ cls := "LeftUndoesModel", name := "putsBack", desc := "()V" } : Jvm.MethodName)) ∈ lw_tbl := lw_at lw_m8 24 rfl
theorem q1822 : (Jvm.Cond.instanceMethod ({ cls := "LeftUndoesModel", name := "putsBack", desc := "()V" } : Jvm.MethodName)) ∈ lw_all := lw_g (lw_at lw_m8 25 rfl) rfl
theorem q1823 : (Jvm.Cond.code ({ cls := "LeftUndoesModel", name := "putsBack", desc := "()V" } : Jvm.MethodName) prog_26_method_7_code (2 : Nat) (Option.none : Option Jvm.ClassFile.FieldType)) ∈ lw_all := lw_g (lw_at lw_m8 26 rfl) rfl
theorem q1825 : (Jvm.Cond.instanceMethod ({ cls := "LeftUndoesModel", name := "on", desc := "(I)I" } : Jvm.MethodName)) ∈ lw_all := lw_g (lw_at lw_m8 28 rfl) rfl
theorem q1826 : (Jvm.Cond.selects "LeftUndoesModel" ({ cls := "LeftUndoesModel", name := "on", desc := "(I)I" } : Jvm.MethodName) ({ cls := "LeftUndoesModel", name := "on", desc := "(I)I" } : Jvm.MethodName)) ∈ lw_all := lw_g (lw_at lw_m8 29 rfl) rfl
theorem q1827 : (Jvm.Cond.code ({ cls := "LeftUndoesModel", name := "on", desc := "(I)I" } : Jvm.MethodName) prog_26_method_41_code (3 : Nat) (Option.some Jvm.ClassFile.FieldType.int)) ∈ lw_all := lw_g (lw_at lw_m8 30 rfl) rfl
theorem q1829 : (Jvm.Cond.instanceMethod ({ cls := "LeftUndoesModel", name := "until", desc := "(I)I" } : Jvm.MethodName)) ∈ lw_all := lw_g (lw_at lw_m8 32 rfl) rfl
theorem q1830 : (Jvm.Cond.selects "LeftUndoesModel" ({ cls := "LeftUndoesModel", name := "until", desc := "(I)I" } : Jvm.MethodName) ({ cls := "LeftUndoesModel", name := "until", desc := "(I)I" } : Jvm.MethodName)) ∈ lw_all := lw_g (lw_at lw_m8 33 rfl) rfl
theorem q1831 : (Jvm.Cond.code ({ cls := "LeftUndoesModel", name := "until", desc := "(I)I" } : Jvm.MethodName) prog_26_method_43_code (4 : Nat) (Option.some Jvm.ClassFile.FieldType.int)) ∈ lw_all := lw_g (lw_at lw_m8 34 rfl) rfl
theorem q1832 : (Jvm.Cond.methodLink "LeftUndoesModel" (163 : Nat) ({ cls := "LeftUndoesModel", name := "isGone", desc := "(I)Z" } : Jvm.MethodName)) ∈ lw_all := lw_g (lw_at lw_m8 35 rfl) rfl
theorem q1833 : (Jvm.Cond.privateMethod ({ cls := "LeftUndoesModel", name := "isGone", desc := "(I)Z" } : Jvm.MethodName)) ∈ lw_tbl := lw_at lw_m8 36 rfl
theorem q1834 : (Jvm.Cond.instanceMethod ({ cls := "LeftUndoesModel", name := "isGone", desc := "(I)Z" } : Jvm.MethodName)) ∈ lw_all := lw_g (lw_at lw_m8 37 rfl) rfl
theorem q1835 : (Jvm.Cond.code ({ cls := "LeftUndoesModel", name := "isGone", desc := "(I)Z" } : Jvm.MethodName) prog_26_method_42_code (2 : Nat) (Option.some Jvm.ClassFile.FieldType.boolean)) ∈ lw_all := lw_g (lw_at lw_m8 38 rfl) rfl
theorem q1837 : (Jvm.Cond.instanceMethod ({ cls := "LeftUndoesModel", name := "overdue", desc := "()I" } : Jvm.MethodName)) ∈ lw_all := lw_g (lw_at lw_m8 40 rfl) rfl
theorem q1838 : (Jvm.Cond.selects "LeftUndoesModel" ({ cls := "LeftUndoesModel", name := "overdue", desc := "()I" } : Jvm.MethodName) ({ cls := "LeftUndoesModel", name := "overdue", desc := "()I" } : Jvm.MethodName)) ∈ lw_all := lw_g (lw_at lw_m8 41 rfl) rfl
theorem q1839 : (Jvm.Cond.code ({ cls := "LeftUndoesModel", name := "overdue", desc := "()I" } : Jvm.MethodName) prog_26_method_45_code (3 : Nat) (Option.some Jvm.ClassFile.FieldType.int)) ∈ lw_all := lw_g (lw_at lw_m8 42 rfl) rfl
theorem q1840 : (Jvm.Cond.methodLink "LeftUndoesModel" (166 : Nat) ({ cls := "LeftUndoesModel", name := "late", desc := "()I" } : Jvm.MethodName)) ∈ lw_all := lw_g (lw_at lw_m8 43 rfl) rfl
theorem q1841 : (Jvm.Cond.privateMethod ({ cls := "LeftUndoesModel", name := "late", desc := "()I" } : Jvm.MethodName)) ∈ lw_tbl := lw_at lw_m8 44 rfl
theorem q1842 : (Jvm.Cond.instanceMethod ({ cls := "LeftUndoesModel", name := "late", desc := "()I" } : Jvm.MethodName)) ∈ lw_all := lw_g (lw_at lw_m8 45 rfl) rfl
theorem q1843 : (Jvm.Cond.code ({ cls := "LeftUndoesModel", name := "late", desc := "()I" } : Jvm.MethodName) prog_26_method_44_code (3 : Nat) (Option.some Jvm.ClassFile.FieldType.int)) ∈ lw_all := lw_g (lw_at lw_m8 46 rfl) rfl
theorem q1845 : (Jvm.Cond.instanceMethod ({ cls := "LeftUndoesModel", name := "falls", desc := "(I)I" } : Jvm.MethodName)) ∈ lw_all := lw_g (lw_at lw_m8 48 rfl) rfl
theorem q1846 : (Jvm.Cond.selects "LeftUndoesModel" ({ cls := "LeftUndoesModel", name := "falls", desc := "(I)I" } : Jvm.MethodName) ({ cls := "LeftUndoesModel", name := "falls", desc := "(I)I" } : Jvm.MethodName)) ∈ lw_all := lw_g (lw_at lw_m8 49 rfl) rfl
theorem q1847 : (Jvm.Cond.code ({ cls := "LeftUndoesModel", name := "falls", desc := "(I)I" } : Jvm.MethodName) prog_26_method_46_code (4 : Nat) (Option.some Jvm.ClassFile.FieldType.int)) ∈ lw_all := lw_g (lw_at lw_m8 50 rfl) rfl
theorem q1849 : (Jvm.Cond.instanceMethod ({ cls := "LeftUndoesModel", name := "graceFor", desc := "(I)I" } : Jvm.MethodName)) ∈ lw_all := lw_g (lw_at lw_m8 52 rfl) rfl
theorem q1850 : (Jvm.Cond.selects "LeftUndoesModel" ({ cls := "LeftUndoesModel", name := "graceFor", desc := "(I)I" } : Jvm.MethodName) ({ cls := "LeftUndoesModel", name := "graceFor", desc := "(I)I" } : Jvm.MethodName)) ∈ lw_all := lw_g (lw_at lw_m8 53 rfl) rfl
theorem q1851 : (Jvm.Cond.code ({ cls := "LeftUndoesModel", name := "graceFor", desc := "(I)I" } : Jvm.MethodName) prog_26_method_47_code (6 : Nat) (Option.some Jvm.ClassFile.FieldType.int)) ∈ lw_all := lw_g (lw_at lw_m8 54 rfl) rfl
theorem q1853 : (Jvm.Cond.instanceMethod ({ cls := "LeftUndoesModel", name := "strengthFor", desc := "(I)I" } : Jvm.MethodName)) ∈ lw_all := lw_g (lw_at lw_m8 56 rfl) rfl
theorem q1854 : (Jvm.Cond.selects "LeftUndoesModel" ({ cls := "LeftUndoesModel", name := "strengthFor", desc := "(I)I" } : Jvm.MethodName) ({ cls := "LeftUndoesModel", name := "strengthFor", desc := "(I)I" } : Jvm.MethodName)) ∈ lw_all := lw_g (lw_at lw_m8 57 rfl) rfl
theorem q1855 : (Jvm.Cond.code ({ cls := "LeftUndoesModel", name := "strengthFor", desc := "(I)I" } : Jvm.MethodName) prog_26_method_48_code (5 : Nat) (Option.some Jvm.ClassFile.FieldType.int)) ∈ lw_all := lw_g (lw_at lw_m8 58 rfl) rfl
theorem q1857 : (Jvm.Cond.instanceMethod ({ cls := "LeftUndoesModel", name := "owe", desc := "(III)I" } : Jvm.MethodName)) ∈ lw_all := lw_g (lw_at lw_m8 60 rfl) rfl
theorem q1858 : (Jvm.Cond.selects "LeftUndoesModel" ({ cls := "LeftUndoesModel", name := "owe", desc := "(III)I" } : Jvm.MethodName) ({ cls := "LeftUndoesModel", name := "owe", desc := "(III)I" } : Jvm.MethodName)) ∈ lw_all := lw_g (lw_at lw_m8 61 rfl) rfl
theorem q1859 : (Jvm.Cond.code ({ cls := "LeftUndoesModel", name := "owe", desc := "(III)I" } : Jvm.MethodName) prog_26_method_50_code (4 : Nat) (Option.some Jvm.ClassFile.FieldType.int)) ∈ lw_all := lw_g (lw_at lw_m8 62 rfl) rfl
theorem q1860 : (Jvm.Cond.methodLink "LeftUndoesModel" (170 : Nat) ({ cls := "LeftUndoesModel", name := "areTwo", desc := "(II)Z" } : Jvm.MethodName)) ∈ lw_all := lw_g (lw_at lw_m8 63 rfl) rfl
theorem q1861 : (Jvm.Cond.privateMethod ({ cls := "LeftUndoesModel", name := "areTwo", desc := "(II)Z" } : Jvm.MethodName)) ∈ lw_tbl := lw_at lw_m8 64 rfl
theorem q1862 : (Jvm.Cond.instanceMethod ({ cls := "LeftUndoesModel", name := "areTwo", desc := "(II)Z" } : Jvm.MethodName)) ∈ lw_all := lw_g (lw_at lw_m8 65 rfl) rfl
theorem q1863 : (Jvm.Cond.code ({ cls := "LeftUndoesModel", name := "areTwo", desc := "(II)Z" } : Jvm.MethodName) prog_26_method_49_code (3 : Nat) (Option.some Jvm.ClassFile.FieldType.boolean)) ∈ lw_all := lw_g (lw_at lw_m8 66 rfl) rfl
theorem q1864 : (Jvm.Cond.constantLong "LeftUndoesModel" (173 : Nat) (99 : Int64)) ∈ lw_all := lw_g (lw_at lw_m8 67 rfl) rfl
theorem q1866 : (Jvm.Cond.instanceMethod ({ cls := "LeftUndoesModel", name := "owes", desc := "(II)I" } : Jvm.MethodName)) ∈ lw_all := lw_g (lw_at lw_m8 69 rfl) rfl
theorem q1867 : (Jvm.Cond.selects "LeftUndoesModel" ({ cls := "LeftUndoesModel", name := "owes", desc := "(II)I" } : Jvm.MethodName) ({ cls := "LeftUndoesModel", name := "owes", desc := "(II)I" } : Jvm.MethodName)) ∈ lw_all := lw_g (lw_at lw_m8 70 rfl) rfl
theorem q1868 : (Jvm.Cond.code ({ cls := "LeftUndoesModel", name := "owes", desc := "(II)I" } : Jvm.MethodName) prog_26_method_51_code (3 : Nat) (Option.some Jvm.ClassFile.FieldType.int)) ∈ lw_all := lw_g (lw_at lw_m8 71 rfl) rfl
theorem q1870 : (Jvm.Cond.instanceMethod ({ cls := "LeftUndoesModel", name := "net", desc := "(I)I" } : Jvm.MethodName)) ∈ lw_all := lw_g (lw_at lw_m8 73 rfl) rfl
theorem q1871 : (Jvm.Cond.selects "LeftUndoesModel" ({ cls := "LeftUndoesModel", name := "net", desc := "(I)I" } : Jvm.MethodName) ({ cls := "LeftUndoesModel", name := "net", desc := "(I)I" } : Jvm.MethodName)) ∈ lw_all := lw_g (lw_at lw_m8 74 rfl) rfl
theorem q1872 : (Jvm.Cond.code ({ cls := "LeftUndoesModel", name := "net", desc := "(I)I" } : Jvm.MethodName) prog_26_method_53_code (2 : Nat) (Option.some Jvm.ClassFile.FieldType.int)) ∈ lw_all := lw_g (lw_at lw_m8 75 rfl) rfl
theorem q1873 : (Jvm.Cond.methodLink "LeftUndoesModel" (175 : Nat) ({ cls := "LeftUndoesModel", name := "netOf", desc := "(I)I" } : Jvm.MethodName)) ∈ lw_all := lw_g (lw_at lw_m8 76 rfl) rfl
theorem q1874 : (Jvm.Cond.privateMethod ({ cls := "LeftUndoesModel", name := "netOf", desc := "(I)I" } : Jvm.MethodName)) ∈ lw_tbl := lw_at lw_m8 77 rfl
theorem q1875 : (Jvm.Cond.instanceMethod ({ cls := "LeftUndoesModel", name := "netOf", desc := "(I)I" } : Jvm.MethodName)) ∈ lw_all := lw_g (lw_at lw_m8 78 rfl) rfl
theorem q1876 : (Jvm.Cond.code ({ cls := "LeftUndoesModel", name := "netOf", desc := "(I)I" } : Jvm.MethodName) prog_26_method_52_code (4 : Nat) (Option.some Jvm.ClassFile.FieldType.int)) ∈ lw_all := lw_g (lw_at lw_m8 79 rfl) rfl
theorem q1878 : (Jvm.Cond.instanceMethod ({ cls := "LeftUndoesModel", name := "ring", desc := "(I)I" } : Jvm.MethodName)) ∈ lw_all := lw_g (lw_at lw_m8 81 rfl) rfl
theorem q1879 : (Jvm.Cond.selects "LeftUndoesModel" ({ cls := "LeftUndoesModel", name := "ring", desc := "(I)I" } : Jvm.MethodName) ({ cls := "LeftUndoesModel", name := "ring", desc := "(I)I" } : Jvm.MethodName)) ∈ lw_all := lw_g (lw_at lw_m8 82 rfl) rfl
theorem q1880 : (Jvm.Cond.code ({ cls := "LeftUndoesModel", name := "ring", desc := "(I)I" } : Jvm.MethodName) prog_26_method_55_code (4 : Nat) (Option.some Jvm.ClassFile.FieldType.int)) ∈ lw_all := lw_g (lw_at lw_m8 83 rfl) rfl
theorem q1881 : (Jvm.Cond.methodLink "LeftUndoesModel" (178 : Nat) ({ cls := "LeftUndoesModel", name := "owedBy", desc := "(I)I" } : Jvm.MethodName)) ∈ lw_all := lw_g (lw_at lw_m8 84 rfl) rfl
theorem q1882 : (Jvm.Cond.privateMethod ({ cls := "LeftUndoesModel", name := "owedBy", desc := "(I)I" } : Jvm.MethodName)) ∈ lw_tbl := lw_at lw_m8 85 rfl
theorem q1883 : (Jvm.Cond.instanceMethod ({ cls := "LeftUndoesModel", name := "owedBy", desc := "(I)I" } : Jvm.MethodName)) ∈ lw_all := lw_g (lw_at lw_m8 86 rfl) rfl
theorem q1884 : (Jvm.Cond.code ({ cls := "LeftUndoesModel", name := "owedBy", desc := "(I)I" } : Jvm.MethodName) prog_26_method_54_code (4 : Nat) (Option.some Jvm.ClassFile.FieldType.int)) ∈ lw_all := lw_g (lw_at lw_m8 87 rfl) rfl
theorem q1886 : (Jvm.Cond.instanceMethod ({ cls := "LeftUndoesModel", name := "payments", desc := "()I" } : Jvm.MethodName)) ∈ lw_all := lw_g (lw_at lw_m8 89 rfl) rfl
theorem q1887 : (Jvm.Cond.selects "LeftUndoesModel" ({ cls := "LeftUndoesModel", name := "payments", desc := "()I" } : Jvm.MethodName) ({ cls := "LeftUndoesModel", name := "payments", desc := "()I" } : Jvm.MethodName)) ∈ lw_all := lw_g (lw_at lw_m8 90 rfl) rfl
theorem q1888 : (Jvm.Cond.code ({ cls := "LeftUndoesModel", name := "payments", desc := "()I" } : Jvm.MethodName) prog_26_method_56_code (5 : Nat) (Option.some Jvm.ClassFile.FieldType.int)) ∈ lw_all := lw_g (lw_at lw_m8 91 rfl) rfl
theorem q1890 : (Jvm.Cond.instanceMethod ({ cls := "LeftUndoesModel", name := "best", desc := "(I)I" } : Jvm.MethodName)) ∈ lw_all := lw_g (lw_at lw_m8 93 rfl) rfl
theorem q1891 : (Jvm.Cond.selects "LeftUndoesModel" ({ cls := "LeftUndoesModel", name := "best", desc := "(I)I" } : Jvm.MethodName) ({ cls := "LeftUndoesModel", name := "best", desc := "(I)I" } : Jvm.MethodName)) ∈ lw_all := lw_g (lw_at lw_m8 94 rfl) rfl
theorem q1892 : (Jvm.Cond.code ({ cls := "LeftUndoesModel", name := "best", desc := "(I)I" } : Jvm.MethodName) prog_26_method_64_code (3 : Nat) (Option.some Jvm.ClassFile.FieldType.int)) ∈ lw_all := lw_g (lw_at lw_m8 95 rfl) rfl
theorem q1893 : (Jvm.Cond.methodLink "LeftUndoesModel" (214 : Nat) ({ cls := "LeftUndoesModel", name := "isLong", desc := "(I)Z" } : Jvm.MethodName)) ∈ lw_all := lw_g (lw_at lw_m8 96 rfl) rfl
theorem q1894 : (Jvm.Cond.static ({ cls := "LeftUndoesModel", name := "isLong", desc := "(I)Z" } : Jvm.MethodName)) ∈ lw_all := lw_g (lw_at lw_m8 97 rfl) rfl
theorem q1895 : (Jvm.Cond.code ({ cls := "LeftUndoesModel", name := "isLong", desc := "(I)Z" } : Jvm.MethodName) prog_26_method_63_code (1 : Nat) (Option.some Jvm.ClassFile.FieldType.boolean)) ∈ lw_all := lw_g (lw_at lw_m8 98 rfl) rfl
theorem q1896 : (Jvm.Cond.methodLink "LeftUndoesModel" (217 : Nat) ({ cls := "LeftUndoesModel", name := "plansOf", desc := "(II)I" } : Jvm.MethodName)) ∈ lw_all := lw_g (lw_at lw_m8 99 rfl) rfl
theorem q1897 : (Jvm.Cond.privateMethod ({ cls := "LeftUndoesModel", name := "plansOf", desc := "(II)I" } : Jvm.MethodName)) ∈ lw_tbl := lw_at lw_m8 100 rfl
theorem q1898 : (Jvm.Cond.instanceMethod ({ cls := "LeftUndoesModel", name := "plansOf", desc := "(II)I" } : Jvm.MethodName)) ∈ lw_all := lw_g (lw_at lw_m8 101 rfl) rfl
theorem q1899 : (Jvm.Cond.code ({ cls := "LeftUndoesModel", name := "plansOf", desc := "(II)I" } : Jvm.MethodName) prog_26_method_62_code (4 : Nat) (Option.some Jvm.ClassFile.FieldType.int)) ∈ lw_all := lw_g (lw_at lw_m8 102 rfl) rfl
theorem q1900 : (Jvm.Cond.methodLink "LeftUndoesModel" (211 : Nat) ({ cls := "LeftUndoesModel", name := "yearsOf", desc := "(I)I" } : Jvm.MethodName)) ∈ lw_all := lw_g (lw_at lw_m8 103 rfl) rfl
theorem q1901 : (Jvm.Cond.privateMethod ({ cls := "LeftUndoesModel", name := "yearsOf", desc := "(I)I" } : Jvm.MethodName)) ∈ lw_tbl := lw_at lw_m8 104 rfl
theorem q1902 : (Jvm.Cond.instanceMethod ({ cls := "LeftUndoesModel", name := "yearsOf", desc := "(I)I" } : Jvm.MethodName)) ∈ lw_all := lw_g (lw_at lw_m8 105 rfl) rfl
theorem q1903 : (Jvm.Cond.code ({ cls := "LeftUndoesModel", name := "yearsOf", desc := "(I)I" } : Jvm.MethodName) prog_26_method_61_code (3 : Nat) (Option.some Jvm.ClassFile.FieldType.int)) ∈ lw_all := lw_g (lw_at lw_m8 106 rfl) rfl
theorem q1904 : (Jvm.Cond.methodLink "LeftUndoesModel" (204 : Nat) ({ cls := "LeftUndoesModel", name := "plans", desc := "(III)V" } : Jvm.MethodName)) ∈ lw_all := lw_g (lw_at lw_m8 107 rfl) rfl
theorem q1905 : (Jvm.Cond.privateMethod ({ cls := "LeftUndoesModel", name := "plans", desc := "(III)V" } : Jvm.MethodName)) ∈ lw_tbl := lw_at lw_m8 108 rfl
theorem q1906 : (Jvm.Cond.instanceMethod ({ cls := "LeftUndoesModel", name := "plans", desc := "(III)V" } : Jvm.MethodName)) ∈ lw_all := lw_g (lw_at lw_m8 109 rfl) rfl
theorem q1907 : (Jvm.Cond.code ({ cls := "LeftUndoesModel", name := "plans", desc := "(III)V" } : Jvm.MethodName) prog_26_method_60_code (5 : Nat) (Option.none : Option Jvm.ClassFile.FieldType)) ∈ lw_all := lw_g (lw_at lw_m8 110 rfl) rfl
theorem q1908 : (Jvm.Cond.methodLink "LeftUndoesModel" (197 : Nat) ({ cls := "LeftUndoesModel", name := "ended", desc := "(II)V" } : Jvm.MethodName)) ∈ lw_all := lw_g (lw_at lw_m8 111 rfl) rfl
theorem q1909 : (Jvm.Cond.privateMethod ({ cls := "LeftUndoesModel", name := "ended", desc := "(II)V" } : Jvm.MethodName)) ∈ lw_tbl := lw_at lw_m8 112 rfl
theorem q1910 : (Jvm.Cond.instanceMethod ({ cls := "LeftUndoesModel", name := "ended", desc := "(II)V" } : Jvm.MethodName)) ∈ lw_all := lw_g (lw_at lw_m8 113 rfl) rfl
theorem q1911 : (Jvm.Cond.code ({ cls := "LeftUndoesModel", name := "ended", desc := "(II)V" } : Jvm.MethodName) prog_26_method_59_code (5 : Nat) (Option.none : Option Jvm.ClassFile.FieldType)) ∈ lw_all := lw_g (lw_at lw_m8 114 rfl) rfl
theorem q1912 : (Jvm.Cond.methodLink "LeftUndoesModel" (201 : Nat) ({ cls := "LeftUndoesModel", name := "saves", desc := "(I)V" } : Jvm.MethodName)) ∈ lw_all := lw_g (lw_at lw_m8 115 rfl) rfl
theorem q1913 : (Jvm.Cond.privateMethod ({ cls := "LeftUndoesModel", name := "saves", desc := "(I)V" } : Jvm.MethodName)) ∈ lw_tbl := lw_at lw_m8 116 rfl
theorem q1914 : (Jvm.Cond.instanceMethod ({ cls := "LeftUndoesModel", name := "saves", desc := "(I)V" } : Jvm.MethodName)) ∈ lw_all := lw_g (lw_at lw_m8 117 rfl) rfl
theorem q1915 : (Jvm.Cond.code ({ cls := "LeftUndoesModel", name := "saves", desc := "(I)V" } : Jvm.MethodName) prog_26_method_57_code (3 : Nat) (Option.none : Option Jvm.ClassFile.FieldType)) ∈ lw_all := lw_g (lw_at lw_m8 118 rfl) rfl
theorem q1916 : (Jvm.Cond.methodLink "LeftUndoesModel" (208 : Nat) ({ cls := "LeftUndoesModel", name := "takesBack", desc := "(I)V" } : Jvm.MethodName)) ∈ lw_all := lw_g (lw_at lw_m8 119 rfl) rfl
theorem q1917 : (Jvm.Cond.privateMethod ({ cls := "LeftUndoesModel", name := "takesBack", desc := "(I)V" } : Jvm.MethodName)) ∈ lw_tbl := lw_at lw_m8 120 rfl
theorem q1918 : (Jvm.Cond.instanceMethod ({ cls := "LeftUndoesModel", name := "takesBack", desc := "(I)V" } : Jvm.MethodName)) ∈ lw_all := lw_g (lw_at lw_m8 121 rfl) rfl
theorem q1919 : (Jvm.Cond.code ({ cls := "LeftUndoesModel", name := "takesBack", desc := "(I)V" } : Jvm.MethodName) prog_26_method_58_code (3 : Nat) (Option.none : Option Jvm.ClassFile.FieldType)) ∈ lw_all := lw_g (lw_at lw_m8 122 rfl) rfl
theorem q1921 : (Jvm.Cond.instanceMethod ({ cls := "LeftUndoesModel", name := "ith", desc := "(II)I" } : Jvm.MethodName)) ∈ lw_all := lw_g (lw_at lw_m8 124 rfl) rfl
theorem q1922 : (Jvm.Cond.selects "LeftUndoesModel" ({ cls := "LeftUndoesModel", name := "ith", desc := "(II)I" } : Jvm.MethodName) ({ cls := "LeftUndoesModel", name := "ith", desc := "(II)I" } : Jvm.MethodName)) ∈ lw_all := lw_g (lw_at lw_m8 125 rfl) rfl
theorem q1923 : (Jvm.Cond.code ({ cls := "LeftUndoesModel", name := "ith", desc := "(II)I" } : Jvm.MethodName) prog_26_method_65_code (3 : Nat) (Option.some Jvm.ClassFile.FieldType.int)) ∈ lw_all := lw_g (lw_at lw_m8 126 rfl) rfl
theorem q1924 : (Jvm.Cond.constantLong "LeftUndoesModel" (220 : Nat) (3 : Int64)) ∈ lw_all := lw_g (lw_at lw_m8 127 rfl) rfl
theorem q1926 : (Jvm.Cond.instanceMethod ({ cls := "LeftUndoesModel", name := "ways", desc := "(I)I" } : Jvm.MethodName)) ∈ lw_all := lw_g (lw_at lw_m8 129 rfl) rfl
theorem q1927 : (Jvm.Cond.selects "LeftUndoesModel" ({ cls := "LeftUndoesModel", name := "ways", desc := "(I)I" } : Jvm.MethodName) ({ cls := "LeftUndoesModel", name := "ways", desc := "(I)I" } : Jvm.MethodName)) ∈ lw_all := lw_g (lw_at lw_m8 130 rfl) rfl
theorem q1928 : (Jvm.Cond.code ({ cls := "LeftUndoesModel", name := "ways", desc := "(I)I" } : Jvm.MethodName) prog_26_method_66_code (3 : Nat) (Option.some Jvm.ClassFile.FieldType.int)) ∈ lw_all := lw_g (lw_at lw_m8 131 rfl) rfl
theorem q1930 : (Jvm.Cond.instanceMethod ({ cls := "LeftUndoesModel", name := "life", desc := "(II)I" } : Jvm.MethodName)) ∈ lw_all := lw_g (lw_at lw_m8 133 rfl) rfl
theorem q1931 : (Jvm.Cond.selects "LeftUndoesModel" ({ cls := "LeftUndoesModel", name := "life", desc := "(II)I" } : Jvm.MethodName) ({ cls := "LeftUndoesModel", name := "life", desc := "(II)I" } : Jvm.MethodName)) ∈ lw_all := lw_g (lw_at lw_m8 134 rfl) rfl
theorem q1932 : (Jvm.Cond.code ({ cls := "LeftUndoesModel", name := "life", desc := "(II)I" } : Jvm.MethodName) prog_26_method_67_code (4 : Nat) (Option.some Jvm.ClassFile.FieldType.int)) ∈ lw_all := lw_g (lw_at lw_m8 135 rfl) rfl
theorem q1933 : (Jvm.Cond.methodLink "LeftUndoesModel" (222 : Nat) ({ cls := "LeftUndoesModel", name := "areDeeds", desc := "(I)Z" } : Jvm.MethodName)) ∈ lw_all := lw_g (lw_at lw_m8 136 rfl) rfl
theorem q1934 : (Jvm.Cond.privateMethod ({ cls := "LeftUndoesModel", name := "areDeeds", desc := "(I)Z" } : Jvm.MethodName)) ∈ lw_tbl := lw_at lw_m8 137 rfl
theorem q1935 : (Jvm.Cond.instanceMethod ({ cls := "LeftUndoesModel", name := "areDeeds", desc := "(I)Z" } : Jvm.MethodName)) ∈ lw_all := lw_g (lw_at lw_m8 138 rfl) rfl
theorem q1936 : (Jvm.Cond.code ({ cls := "LeftUndoesModel", name := "areDeeds", desc := "(I)Z" } : Jvm.MethodName) prog_26_method_5_code (2 : Nat) (Option.some Jvm.ClassFile.FieldType.boolean)) ∈ lw_all := lw_g (lw_at lw_m8 139 rfl) rfl
theorem q1938 : (Jvm.Cond.instanceMethod ({ cls := "LeftUndoesModel", name := "bars", desc := "(II)I" } : Jvm.MethodName)) ∈ lw_all := lw_g (lw_at lw_m8 141 rfl) rfl
theorem q1939 : (Jvm.Cond.selects "LeftUndoesModel" ({ cls := "LeftUndoesModel", name := "bars", desc := "(II)I" } : Jvm.MethodName) ({ cls := "LeftUndoesModel", name := "bars", desc := "(II)I" } : Jvm.MethodName)) ∈ lw_all := lw_g (lw_at lw_m8 142 rfl) rfl
theorem q1940 : (Jvm.Cond.code ({ cls := "LeftUndoesModel", name := "bars", desc := "(II)I" } : Jvm.MethodName) prog_26_method_68_code (5 : Nat) (Option.some Jvm.ClassFile.FieldType.int)) ∈ lw_all := lw_g (lw_at lw_m8 143 rfl) rfl
theorem q1942 : (Jvm.Cond.instanceMethod ({ cls := "LeftUndoesModel", name := "game", desc := "(I)I" } : Jvm.MethodName)) ∈ lw_all := lw_g (lw_at lw_m8 145 rfl) rfl
theorem q1943 : (Jvm.Cond.selects "LeftUndoesModel" ({ cls := "LeftUndoesModel", name := "game", desc := "(I)I" } : Jvm.MethodName) ({ cls := "LeftUndoesModel", name := "game", desc := "(I)I" } : Jvm.MethodName)) ∈ lw_all := lw_g (lw_at lw_m8 146 rfl) rfl
theorem q1944 : (Jvm.Cond.code ({ cls := "LeftUndoesModel", name := "game", desc := "(I)I" } : Jvm.MethodName) prog_26_method_70_code (2 : Nat) (Option.some Jvm.ClassFile.FieldType.int)) ∈ lw_all := lw_g (lw_at lw_m8 147 rfl) rfl
theorem q1945 : (Jvm.Cond.methodLink "LeftUndoesModel" (225 : Nat) ({ cls := "LeftUndoesModel", name := "played", desc := "(IIZ)I" } : Jvm.MethodName)) ∈ lw_all := lw_g (lw_at lw_m8 148 rfl) rfl
theorem q1946 : (Jvm.Cond.privateMethod ({ cls := "LeftUndoesModel", name := "played", desc := "(IIZ)I" } : Jvm.MethodName)) ∈ lw_tbl := lw_at lw_m8 149 rfl
theorem q1947 : (Jvm.Cond.instanceMethod ({ cls := "LeftUndoesModel", name := "played", desc := "(IIZ)I" } : Jvm.MethodName)) ∈ lw_all := lw_g (lw_at lw_m8 150 rfl) rfl
theorem q1948 : (Jvm.Cond.code ({ cls := "LeftUndoesModel", name := "played", desc := "(IIZ)I" } : Jvm.MethodName) prog_26_method_69_code (9 : Nat) (Option.some Jvm.ClassFile.FieldType.int)) ∈ lw_all := lw_g (lw_at lw_m8 151 rfl) rfl
theorem q1950 : (Jvm.Cond.instanceMethod ({ cls := "LeftUndoesModel", name := "play", desc := "(I)I" } : Jvm.MethodName)) ∈ lw_all := lw_g (lw_at lw_m8 153 rfl) rfl
theorem q1951 : (Jvm.Cond.selects "LeftUndoesModel" ({ cls := "LeftUndoesModel", name := "play", desc := "(I)I" } : Jvm.MethodName) ({ cls := "LeftUndoesModel", name := "play", desc := "(I)I" } : Jvm.MethodName)) ∈ lw_all := lw_g (lw_at lw_m8 154 rfl) rfl
theorem q1952 : (Jvm.Cond.code ({ cls := "LeftUndoesModel", name := "play", desc := "(I)I" } : Jvm.MethodName) prog_26_method_71_code (3 : Nat) (Option.some Jvm.ClassFile.FieldType.int)) ∈ lw_all := lw_g (lw_at lw_m8 155 rfl) rfl
theorem q1954 : (Jvm.Cond.instanceMethod ({ cls := "LeftUndoesModel", name := "report", desc := "(IIII)I" } : Jvm.MethodName)) ∈ lw_all := lw_g (lw_at lw_m8 157 rfl) rfl
theorem q1955 : (Jvm.Cond.selects "LeftUndoesModel" ({ cls := "LeftUndoesModel", name := "report", desc := "(IIII)I" } : Jvm.MethodName) ({ cls := "LeftUndoesModel", name := "report", desc := "(IIII)I" } : Jvm.MethodName)) ∈ lw_all := lw_g (lw_at lw_m8 158 rfl) rfl
theorem q1956 : (Jvm.Cond.code ({ cls := "LeftUndoesModel", name := "report", desc := "(IIII)I" } : Jvm.MethodName) prog_26_method_72_code (6 : Nat) (Option.some Jvm.ClassFile.FieldType.int)) ∈ lw_all := lw_g (lw_at lw_m8 159 rfl) rfl
theorem q1957 : (Jvm.Cond.constantLong "LeftUndoesModel" (232 : Nat) (31 : Int64)) ∈ lw_all := lw_g (lw_at lw_m8 160 rfl) rfl
theorem q1959 : (Jvm.Cond.instanceMethod ({ cls := "LeftUndoesModel", name := "forget", desc := "()I" } : Jvm.MethodName)) ∈ lw_all := lw_g (lw_at lw_m8 162 rfl) rfl
theorem q1960 : (Jvm.Cond.selects "LeftUndoesModel" ({ cls := "LeftUndoesModel", name := "forget", desc := "()I" } : Jvm.MethodName) ({ cls := "LeftUndoesModel", name := "forget", desc := "()I" } : Jvm.MethodName)) ∈ lw_all := lw_g (lw_at lw_m8 163 rfl) rfl
theorem q1961 : (Jvm.Cond.code ({ cls := "LeftUndoesModel", name := "forget", desc := "()I" } : Jvm.MethodName) prog_26_method_73_code (1 : Nat) (Option.some Jvm.ClassFile.FieldType.int)) ∈ lw_all := lw_g (lw_at lw_m8 164 rfl) rfl
theorem q1963 : (Jvm.Cond.instanceMethod ({ cls := "LeftUndoesModel", name := "span", desc := "(I)I" } : Jvm.MethodName)) ∈ lw_all := lw_g (lw_at lw_m8 166 rfl) rfl
theorem q1964 : (Jvm.Cond.selects "LeftUndoesModel" ({ cls := "LeftUndoesModel", name := "span", desc := "(I)I" } : Jvm.MethodName) ({ cls := "LeftUndoesModel", name := "span", desc := "(I)I" } : Jvm.MethodName)) ∈ lw_all := lw_g (lw_at lw_m8 167 rfl) rfl
theorem q1965 : (Jvm.Cond.code ({ cls := "LeftUndoesModel", name := "span", desc := "(I)I" } : Jvm.MethodName) prog_26_method_77_code (2 : Nat) (Option.some Jvm.ClassFile.FieldType.int)) ∈ lw_all := lw_g (lw_at lw_m8 168 rfl) rfl
theorem q1966 : (Jvm.Cond.methodLink "LeftUndoesModel" (253 : Nat) ({ cls := "LeftUndoesModel", name := "findFits", desc := "(I)V" } : Jvm.MethodName)) ∈ lw_all := lw_g (lw_at lw_m8 169 rfl) rfl
theorem q1967 : (Jvm.Cond.privateMethod ({ cls := "LeftUndoesModel", name := "findFits", desc := "(I)V" } : Jvm.MethodName)) ∈ lw_tbl := lw_at lw_m8 170 rfl
theorem q1968 : (Jvm.Cond.instanceMethod ({ cls := "LeftUndoesModel", name := "findFits", desc := "(I)V" } : Jvm.MethodName)) ∈ lw_all := lw_g (lw_at lw_m8 171 rfl) rfl
theorem q1969 : (Jvm.Cond.code ({ cls := "LeftUndoesModel", name := "findFits", desc := "(I)V" } : Jvm.MethodName) prog_26_method_76_code (6 : Nat) (Option.none : Option Jvm.ClassFile.FieldType)) ∈ lw_all := lw_g (lw_at lw_m8 172 rfl) rfl
theorem q1970 : (Jvm.Cond.methodLink "LeftUndoesModel" (241 : Nat) ({ cls := "LeftUndoesModel", name := "isFit", desc := "(IIII)Z" } : Jvm.MethodName)) ∈ lw_all := lw_g (lw_at lw_m8 173 rfl) rfl
theorem q1971 : (Jvm.Cond.privateMethod ({ cls := "LeftUndoesModel", name := "isFit", desc := "(IIII)Z" } : Jvm.MethodName)) ∈ lw_tbl := lw_at lw_m8 174 rfl
theorem q1972 : (Jvm.Cond.instanceMethod ({ cls := "LeftUndoesModel", name := "isFit", desc := "(IIII)Z" } : Jvm.MethodName)) ∈ lw_all := lw_g (lw_at lw_m8 175 rfl) rfl
theorem q1973 : (Jvm.Cond.code ({ cls := "LeftUndoesModel", name := "isFit", desc := "(IIII)Z" } : Jvm.MethodName) prog_26_method_75_code (7 : Nat) (Option.some Jvm.ClassFile.FieldType.boolean)) ∈ lw_all := lw_g (lw_at lw_m8 176 rfl) rfl
theorem q1974 : (Jvm.Cond.methodLink "LeftUndoesModel" (234 : Nat) ({ cls := "LeftUndoesModel", name := "isSoBy", desc := "(IIII)Z" } : Jvm.MethodName)) ∈ lw_all := lw_g (lw_at lw_m8 177 rfl) rfl
theorem q1975 : (Jvm.Cond.privateMethod ({ cls := "LeftUndoesModel", name := "isSoBy", desc := "(IIII)Z" } : Jvm.MethodName)) ∈ lw_tbl := lw_at lw_m8 178 rfl
theorem q1976 : (Jvm.Cond.instanceMethod ({ cls := "LeftUndoesModel", name := "isSoBy", desc := "(IIII)Z" } : Jvm.MethodName)) ∈ lw_all := lw_g (lw_at lw_m8 179 rfl) rfl
theorem q1977 : (Jvm.Cond.code ({ cls := "LeftUndoesModel", name := "isSoBy", desc := "(IIII)Z" } : Jvm.MethodName) prog_26_method_74_code (8 : Nat) (Option.some Jvm.ClassFile.FieldType.boolean)) ∈ lw_all := lw_g (lw_at lw_m8 180 rfl) rfl
theorem q1979 : (Jvm.Cond.instanceMethod ({ cls := "LeftUndoesModel", name := "liar", desc := "()I" } : Jvm.MethodName)) ∈ lw_all := lw_g (lw_at lw_m8 182 rfl) rfl
theorem q1980 : (Jvm.Cond.selects "LeftUndoesModel" ({ cls := "LeftUndoesModel", name := "liar", desc := "()I" } : Jvm.MethodName) ({ cls := "LeftUndoesModel", name := "liar", desc := "()I" } : Jvm.MethodName)) ∈ lw_all := lw_g (lw_at lw_m8 183 rfl) rfl
theorem q1981 : (Jvm.Cond.code ({ cls := "LeftUndoesModel", name := "liar", desc := "()I" } : Jvm.MethodName) prog_26_method_78_code (3 : Nat) (Option.some Jvm.ClassFile.FieldType.int)) ∈ lw_all := lw_g (lw_at lw_m8 184 rfl) rfl
theorem q1983 : (Jvm.Cond.instanceMethod ({ cls := "LeftUndoesModel", name := "seed", desc := "(I)I" } : Jvm.MethodName)) ∈ lw_all := lw_g (lw_at lw_m8 186 rfl) rfl
theorem q1984 : (Jvm.Cond.selects "LeftUndoesModel" ({ cls := "LeftUndoesModel", name := "seed", desc := "(I)I" } : Jvm.MethodName) ({ cls := "LeftUndoesModel", name := "seed", desc := "(I)I" } : Jvm.MethodName)) ∈ lw_all := lw_g (lw_at lw_m8 187 rfl) rfl
theorem q1985 : (Jvm.Cond.code ({ cls := "LeftUndoesModel", name := "seed", desc := "(I)I" } : Jvm.MethodName) prog_26_method_79_code (2 : Nat) (Option.some Jvm.ClassFile.FieldType.int)) ∈ lw_all := lw_g (lw_at lw_m8 188 rfl) rfl
theorem q1987 : (Jvm.Cond.instanceMethod ({ cls := "LeftUndoesModel", name := "lot", desc := "()I" } : Jvm.MethodName)) ∈ lw_all := lw_g (lw_at lw_m8 190 rfl) rfl
theorem q1988 : (Jvm.Cond.selects "LeftUndoesModel" ({ cls := "LeftUndoesModel", name := "lot", desc := "()I" } : Jvm.MethodName) ({ cls := "LeftUndoesModel", name := "lot", desc := "()I" } : Jvm.MethodName)) ∈ lw_all := lw_g (lw_at lw_m8 191 rfl) rfl
theorem q1989 : (Jvm.Cond.code ({ cls := "LeftUndoesModel", name := "lot", desc := "()I" } : Jvm.MethodName) prog_26_method_81_code (1 : Nat) (Option.some Jvm.ClassFile.FieldType.int)) ∈ lw_all := lw_g (lw_at lw_m8 192 rfl) rfl
theorem q1990 : (Jvm.Cond.methodLink "LeftUndoesModel" (257 : Nat) ({ cls := "LeftUndoesModel", name := "byLot", desc := "()I" } : Jvm.MethodName)) ∈ lw_all := lw_g (lw_at lw_m8 193 rfl) rfl
theorem q1991 : (Jvm.Cond.privateMethod ({ cls := "LeftUndoesModel", name := "byLot", desc := "()I" } : Jvm.MethodName)) ∈ lw_tbl := lw_at lw_m8 194 rfl
theorem q1992 : (Jvm.Cond.instanceMethod ({ cls := "LeftUndoesModel", name := "byLot", desc := "()I" } : Jvm.MethodName)) ∈ lw_all := lw_g (lw_at lw_m8 195 rfl) rfl
theorem q1993 : (Jvm.Cond.code ({ cls := "LeftUndoesModel", name := "byLot", desc := "()I" } : Jvm.MethodName) prog_26_method_80_code (1 : Nat) (Option.some Jvm.ClassFile.FieldType.int)) ∈ lw_all := lw_g (lw_at lw_m8 196 rfl) rfl
theorem q1994 : (Jvm.Cond.constant "LeftUndoesModel" (256 : Nat) (1103515245 : Int32)) ∈ lw_all := lw_g (lw_at lw_m8 197 rfl) rfl
theorem q1996 : (Jvm.Cond.instanceMethod ({ cls := "LeftUndoesModel", name := "often", desc := "(II)I" } : Jvm.MethodName)) ∈ lw_all := lw_g (lw_at lw_m8 199 rfl) rfl
theorem q1997 : (Jvm.Cond.selects "LeftUndoesModel" ({ cls := "LeftUndoesModel", name := "often", desc := "(II)I" } : Jvm.MethodName) ({ cls := "LeftUndoesModel", name := "often", desc := "(II)I" } : Jvm.MethodName)) ∈ lw_all := lw_g (lw_at lw_m8 200 rfl) rfl
theorem q1998 : (Jvm.Cond.code ({ cls := "LeftUndoesModel", name := "often", desc := "(II)I" } : Jvm.MethodName) prog_26_method_82_code (7 : Nat) (Option.some Jvm.ClassFile.FieldType.int)) ∈ lw_all := lw_g (lw_at lw_m8 201 rfl) rfl
theorem q1999 : (Jvm.Cond.constantLong "LeftUndoesModel" (260 : Nat) (40 : Int64)) ∈ lw_all := lw_g (lw_at lw_m8 202 rfl) rfl
theorem q2000 : (Jvm.Cond.constantLong "LeftUndoesModel" (262 : Nat) (999 : Int64)) ∈ lw_all := lw_g (lw_at lw_m8 203 rfl) rfl
theorem q2002 : (Jvm.Cond.instanceMethod ({ cls := "LeftUndoesModel", name := "prove", desc := "(I)I" } : Jvm.MethodName)) ∈ lw_all := lw_g (lw_at lw_m8 205 rfl) rfl
theorem q2003 : (Jvm.Cond.selects "LeftUndoesModel" ({ cls := "LeftUndoesModel", name := "prove", desc := "(I)I" } : Jvm.MethodName) ({ cls := "LeftUndoesModel", name := "prove", desc := "(I)I" } : Jvm.MethodName)) ∈ lw_all := lw_g (lw_at lw_m8 206 rfl) rfl
theorem q2004 : (Jvm.Cond.code ({ cls := "LeftUndoesModel", name := "prove", desc := "(I)I" } : Jvm.MethodName) prog_26_method_83_code (3 : Nat) (Option.some Jvm.ClassFile.FieldType.int)) ∈ lw_all := lw_g (lw_at lw_m8 207 rfl) rfl
theorem q2006 : (Jvm.Cond.instanceMethod ({ cls := "LeftUndoesModel", name := "row", desc := "(II)I" } : Jvm.MethodName)) ∈ lw_all := lw_g (lw_at lw_m8 209 rfl) rfl
theorem q2007 : (Jvm.Cond.selects "LeftUndoesModel" ({ cls := "LeftUndoesModel", name := "row", desc := "(II)I" } : Jvm.MethodName) ({ cls := "LeftUndoesModel", name := "row", desc := "(II)I" } : Jvm.MethodName)) ∈ lw_all := lw_g (lw_at lw_m8 210 rfl) rfl
theorem q2008 : (Jvm.Cond.code ({ cls := "LeftUndoesModel", name := "row", desc := "(II)I" } : Jvm.MethodName) prog_26_method_85_code (3 : Nat) (Option.some Jvm.ClassFile.FieldType.int)) ∈ lw_all := lw_g (lw_at lw_m8 211 rfl) rfl
theorem q2009 : (Jvm.Cond.methodLink "LeftUndoesModel" (267 : Nat) ({ cls := "LeftUndoesModel", name := "isRow", desc := "(II)Z" } : Jvm.MethodName)) ∈ lw_all := lw_g (lw_at lw_m8 212 rfl) rfl
theorem q2010 : (Jvm.Cond.privateMethod ({ cls := "LeftUndoesModel", name := "isRow", desc := "(II)Z" } : Jvm.MethodName)) ∈ lw_tbl := lw_at lw_m8 213 rfl
theorem q2011 : (Jvm.Cond.instanceMethod ({ cls := "LeftUndoesModel", name := "isRow", desc := "(II)Z" } : Jvm.MethodName)) ∈ lw_all := lw_g (lw_at lw_m8 214 rfl) rfl
theorem q2012 : (Jvm.Cond.code ({ cls := "LeftUndoesModel", name := "isRow", desc := "(II)Z" } : Jvm.MethodName) prog_26_method_84_code (3 : Nat) (Option.some Jvm.ClassFile.FieldType.boolean)) ∈ lw_all := lw_g (lw_at lw_m8 215 rfl) rfl
theorem q2014 : (Jvm.Cond.instanceMethod ({ cls := "LeftUndoesModel", name := "alterRow", desc := "(III)I" } : Jvm.MethodName)) ∈ lw_all := lw_g (lw_at lw_m8 217 rfl) rfl
theorem q2015 : (Jvm.Cond.selects "LeftUndoesModel" ({ cls := "LeftUndoesModel", name := "alterRow", desc := "(III)I" } : Jvm.MethodName) ({ cls := "LeftUndoesModel", name := "alterRow", desc := "(III)I" } : Jvm.MethodName)) ∈ lw_all := lw_g (lw_at lw_m8 218 rfl) rfl
theorem q2016 : (Jvm.Cond.code ({ cls := "LeftUndoesModel", name := "alterRow", desc := "(III)I" } : Jvm.MethodName) prog_26_method_86_code (5 : Nat) (Option.some Jvm.ClassFile.FieldType.int)) ∈ lw_all := lw_g (lw_at lw_m8 219 rfl) rfl
theorem q2018 : (Jvm.Cond.instanceMethod ({ cls := "LeftUndoesModel", name := "judge", desc := "()I" } : Jvm.MethodName)) ∈ lw_all := lw_g (lw_at lw_m8 221 rfl) rfl
theorem q2019 : (Jvm.Cond.selects "LeftUndoesModel" ({ cls := "LeftUndoesModel", name := "judge", desc := "()I" } : Jvm.MethodName) ({ cls := "LeftUndoesModel", name := "judge", desc := "()I" } : Jvm.MethodName)) ∈ lw_all := lw_g (lw_at lw_m8 222 rfl) rfl
theorem q2020 : (Jvm.Cond.code ({ cls := "LeftUndoesModel", name := "judge", desc := "()I" } : Jvm.MethodName) prog_26_method_88_code (4 : Nat) (Option.some Jvm.ClassFile.FieldType.int)) ∈ lw_all := lw_g (lw_at lw_m8 223 rfl) rfl
theorem q2021 : (Jvm.Cond.methodLink "LeftUndoesModel" (270 : Nat) ({ cls := "LeftUndoesModel", name := "isAct", desc := "(I)Z" } : Jvm.MethodName)) ∈ lw_all := lw_g (lw_at lw_m8 224 rfl) rfl
theorem q2022 : (Jvm.Cond.privateMethod ({ cls := "LeftUndoesModel", name := "isAct", desc := "(I)Z" } : Jvm.MethodName)) ∈ lw_tbl := lw_at lw_m8 225 rfl
theorem q2023 : (Jvm.Cond.instanceMethod ({ cls := "LeftUndoesModel", name := "isAct", desc := "(I)Z" } : Jvm.MethodName)) ∈ lw_all := lw_g (lw_at lw_m8 226 rfl) rfl
theorem q2024 : (Jvm.Cond.code ({ cls := "LeftUndoesModel", name := "isAct", desc := "(I)Z" } : Jvm.MethodName) prog_26_method_87_code (2 : Nat) (Option.some Jvm.ClassFile.FieldType.boolean)) ∈ lw_all := lw_g (lw_at lw_m8 227 rfl) rfl
theorem q2026 : (Jvm.Cond.instanceMethod ({ cls := "LeftUndoesModel", name := "feed", desc := "(JI)I" } : Jvm.MethodName)) ∈ lw_all := lw_g (lw_at lw_m8 229 rfl) rfl
theorem q2027 : (Jvm.Cond.selects "LeftUndoesModel" ({ cls := "LeftUndoesModel", name := "feed", desc := "(JI)I" } : Jvm.MethodName) ({ cls := "LeftUndoesModel", name := "feed", desc := "(JI)I" } : Jvm.MethodName)) ∈ lw_all := lw_g (lw_at lw_m8 230 rfl) rfl
theorem q2028 : (Jvm.Cond.code ({ cls := "LeftUndoesModel", name := "feed", desc := "(JI)I" } : Jvm.MethodName) prog_26_method_89_code (5 : Nat) (Option.some Jvm.ClassFile.FieldType.int)) ∈ lw_all := lw_g (lw_at lw_m8 231 rfl) rfl
theorem q2029 : (Jvm.Cond.constantLong "LeftUndoesModel" (273 : Nat) (8 : Int64)) ∈ lw_all := lw_g (lw_at lw_m8 232 rfl) rfl
theorem q2030 : (Jvm.Cond.constantLong "LeftUndoesModel" (278 : Nat) (255 : Int64)) ∈ lw_all := lw_g (lw_at lw_m8 233 rfl) rfl
theorem q2032 : (Jvm.Cond.instanceMethod ({ cls := "LeftUndoesModel", name := "rules", desc := "()I" } : Jvm.MethodName)) ∈ lw_all := lw_g (lw_at lw_m8 235 rfl) rfl
theorem q2033 : (Jvm.Cond.selects "LeftUndoesModel" ({ cls := "LeftUndoesModel", name := "rules", desc := "()I" } : Jvm.MethodName) ({ cls := "LeftUndoesModel", name := "rules", desc := "()I" } : Jvm.MethodName)) ∈ lw_all := lw_g (lw_at lw_m8 236 rfl) rfl
theorem q2034 : (Jvm.Cond.code ({ cls := "LeftUndoesModel", name := "rules", desc := "()I" } : Jvm.MethodName) prog_26_method_106_code (1 : Nat) (Option.some Jvm.ClassFile.FieldType.int)) ∈ lw_all := lw_g (lw_at lw_m8 237 rfl) rfl
theorem q2035 : (Jvm.Cond.methodLink "LeftUndoesModel" (307 : Nat) ({ cls := "LeftUndoesModel", name := "token", desc := "()V" } : Jvm.MethodName)) ∈ lw_all := lw_g (lw_at lw_m8 238 rfl) rfl
theorem q2036 : (Jvm.Cond.privateMethod ({ cls := "LeftUndoesModel", name := "token", desc := "()V" } : Jvm.MethodName)) ∈ lw_tbl := lw_at lw_m8 239 rfl
theorem q2037 : (Jvm.Cond.instanceMethod ({ cls := "LeftUndoesModel", name := "token", desc := "()V" } : Jvm.MethodName)) ∈ lw_all := lw_g (lw_at lw_m9 0 rfl) rfl
theorem q2038 : (Jvm.Cond.code ({ cls := "LeftUndoesModel", name := "token", desc := "()V" } : Jvm.MethodName) prog_26_method_93_code (3 : Nat) (Option.none : Option Jvm.ClassFile.FieldType)) ∈ lw_all := lw_g (lw_at lw_m9 1 rfl) rfl
theorem q2039 : (Jvm.Cond.methodLink "LeftUndoesModel" (294 : Nat) ({ cls := "LeftUndoesModel", name := "byteAt", desc := "(I)I" } : Jvm.MethodName)) ∈ lw_all := lw_g (lw_at lw_m9 2 rfl) rfl
theorem q2040 : (Jvm.Cond.privateMethod ({ cls := "LeftUndoesModel", name := "byteAt", desc := "(I)I" } : Jvm.MethodName)) ∈ lw_tbl := lw_at lw_m9 3 rfl
theorem q2041 : (Jvm.Cond.instanceMethod ({ cls := "LeftUndoesModel", name := "byteAt", desc := "(I)I" } : Jvm.MethodName)) ∈ lw_all := lw_g (lw_at lw_m9 4 rfl) rfl
theorem q2042 : (Jvm.Cond.code ({ cls := "LeftUndoesModel", name := "byteAt", desc := "(I)I" } : Jvm.MethodName) prog_26_method_90_code (2 : Nat) (Option.some Jvm.ClassFile.FieldType.int)) ∈ lw_all := lw_g (lw_at lw_m9 5 rfl) rfl
theorem q2043 : (Jvm.Cond.methodLink "LeftUndoesModel" (297 : Nat) ({ cls := "LeftUndoesModel", name := "isLetter", desc := "(I)Z" } : Jvm.MethodName)) ∈ lw_all := lw_g (lw_at lw_m9 6 rfl) rfl
theorem q2044 : (Jvm.Cond.static ({ cls := "LeftUndoesModel", name := "isLetter", desc := "(I)Z" } : Jvm.MethodName)) ∈ lw_all := lw_g (lw_at lw_m9 7 rfl) rfl
theorem q2045 : (Jvm.Cond.code ({ cls := "LeftUndoesModel", name := "isLetter", desc := "(I)Z" } : Jvm.MethodName) prog_26_method_91_code (1 : Nat) (Option.some Jvm.ClassFile.FieldType.boolean)) ∈ lw_all := lw_g (lw_at lw_m9 8 rfl) rfl
theorem q2046 : (Jvm.Cond.constantLong "LeftUndoesModel" (280 : Nat) (97 : Int64)) ∈ lw_all := lw_g (lw_at lw_m9 9 rfl) rfl
theorem q2047 : (Jvm.Cond.constantLong "LeftUndoesModel" (282 : Nat) (122 : Int64)) ∈ lw_all := lw_g (lw_at lw_m9 10 rfl) rfl
theorem q2048 : (Jvm.Cond.methodLink "LeftUndoesModel" (300 : Nat) ({ cls := "LeftUndoesModel", name := "isDigit", desc := "(I)Z" } : Jvm.MethodName)) ∈ lw_all := lw_g (lw_at lw_m9 11 rfl) rfl
theorem q2049 : (Jvm.Cond.static ({ cls := "LeftUndoesModel", name := "isDigit", desc := "(I)Z" } : Jvm.MethodName)) ∈ lw_all := lw_g (lw_at lw_m9 12 rfl) rfl
theorem q2050 : (Jvm.Cond.code ({ cls := "LeftUndoesModel", name := "isDigit", desc := "(I)Z" } : Jvm.MethodName) prog_26_method_92_code (1 : Nat) (Option.some Jvm.ClassFile.FieldType.boolean)) ∈ lw_all := lw_g (lw_at lw_m9 13 rfl) rfl
theorem q2051 : (Jvm.Cond.constantLong "LeftUndoesModel" (284 : Nat) (48 : Int64)) ∈ lw_all := lw_g (lw_at lw_m9 14 rfl) rfl
theorem q2052 : (Jvm.Cond.constantLong "LeftUndoesModel" (286 : Nat) (57 : Int64)) ∈ lw_all := lw_g (lw_at lw_m9 15 rfl) rfl
theorem q2053 : (Jvm.Cond.methodLink "LeftUndoesModel" (394 : Nat) ({ cls := "LeftUndoesModel", name := "rule", desc := "()V" } : Jvm.MethodName)) ∈ lw_all := lw_g (lw_at lw_m9 16 rfl) rfl
theorem q2054 : (Jvm.Cond.privateMethod ({ cls := "LeftUndoesModel", name := "rule", desc := "()V" } : Jvm.MethodName)) ∈ lw_tbl := lw_at lw_m9 17 rfl
theorem q2055 : (Jvm.Cond.instanceMethod ({ cls := "LeftUndoesModel", name := "rule", desc := "()V" } : Jvm.MethodName)) ∈ lw_all := lw_g (lw_at lw_m9 18 rfl) rfl
theorem q2056 : (Jvm.Cond.code ({ cls := "LeftUndoesModel", name := "rule", desc := "()V" } : Jvm.MethodName) prog_26_method_105_code (7 : Nat) (Option.none : Option Jvm.ClassFile.FieldType)) ∈ lw_all := lw_g (lw_at lw_m9 19 rfl) rfl
theorem q2057 : (Jvm.Cond.methodLink "LeftUndoesModel" (383 : Nat) ({ cls := "LeftUndoesModel", name := "kindHere", desc := "()I" } : Jvm.MethodName)) ∈ lw_all := lw_g (lw_at lw_m9 20 rfl) rfl
theorem q2058 : (Jvm.Cond.privateMethod ({ cls := "LeftUndoesModel", name := "kindHere", desc := "()I" } : Jvm.MethodName)) ∈ lw_tbl := lw_at lw_m9 21 rfl
theorem q2059 : (Jvm.Cond.instanceMethod ({ cls := "LeftUndoesModel", name := "kindHere", desc := "()I" } : Jvm.MethodName)) ∈ lw_all := lw_g (lw_at lw_m9 22 rfl) rfl
theorem q2060 : (Jvm.Cond.code ({ cls := "LeftUndoesModel", name := "kindHere", desc := "()I" } : Jvm.MethodName) prog_26_method_97_code (3 : Nat) (Option.some Jvm.ClassFile.FieldType.int)) ∈ lw_all := lw_g (lw_at lw_m9 23 rfl) rfl
theorem q2061 : (Jvm.Cond.methodLink "LeftUndoesModel" (321 : Nat) ({ cls := "LeftUndoesModel", name := "word", desc := "()J" } : Jvm.MethodName)) ∈ lw_all := lw_g (lw_at lw_m9 24 rfl) rfl
theorem q2062 : (Jvm.Cond.privateMethod ({ cls := "LeftUndoesModel", name := "word", desc := "()J" } : Jvm.MethodName)) ∈ lw_tbl := lw_at lw_m9 25 rfl
theorem q2063 : (Jvm.Cond.instanceMethod ({ cls := "LeftUndoesModel", name := "word", desc := "()J" } : Jvm.MethodName)) ∈ lw_all := lw_g (lw_at lw_m9 26 rfl) rfl
theorem q2064 : (Jvm.Cond.code ({ cls := "LeftUndoesModel", name := "word", desc := "()J" } : Jvm.MethodName) prog_26_method_95_code (4 : Nat) (Option.some Jvm.ClassFile.FieldType.long)) ∈ lw_all := lw_g (lw_at lw_m9 27 rfl) rfl
theorem q2065 : (Jvm.Cond.constantLong "LeftUndoesModel" (310 : Nat) (36028797018963967 : Int64)) ∈ lw_all := lw_g (lw_at lw_m9 28 rfl) rfl
theorem q2066 : (Jvm.Cond.constantLong "LeftUndoesModel" (312 : Nat) (32 : Int64)) ∈ lw_all := lw_g (lw_at lw_m9 29 rfl) rfl
theorem q2067 : (Jvm.Cond.constantLong "LeftUndoesModel" (325 : Nat) (263620 : Int64)) ∈ lw_all := lw_g (lw_at lw_m9 30 rfl) rfl
theorem q2068 : (Jvm.Cond.constantLong "LeftUndoesModel" (327 : Nat) (3625566372 : Int64)) ∈ lw_all := lw_g (lw_at lw_m9 31 rfl) rfl
theorem q2069 : (Jvm.Cond.constantLong "LeftUndoesModel" (329 : Nat) (217652402 : Int64)) ∈ lw_all := lw_g (lw_at lw_m9 32 rfl) rfl
theorem q2070 : (Jvm.Cond.constantLong "LeftUndoesModel" (331 : Nat) (679214 : Int64)) ∈ lw_all := lw_g (lw_at lw_m9 33 rfl) rfl
theorem q2071 : (Jvm.Cond.constantLong "LeftUndoesModel" (333 : Nat) (635383 : Int64)) ∈ lw_all := lw_g (lw_at lw_m9 34 rfl) rfl
theorem q2072 : (Jvm.Cond.constantLong "LeftUndoesModel" (335 : Nat) (267570 : Int64)) ∈ lw_all := lw_g (lw_at lw_m9 35 rfl) rfl
theorem q2073 : (Jvm.Cond.methodLink "LeftUndoesModel" (317 : Nat) ({ cls := "LeftUndoesModel", name := "wants", desc := "(Z)V" } : Jvm.MethodName)) ∈ lw_all := lw_g (lw_at lw_m9 36 rfl) rfl
theorem q2074 : (Jvm.Cond.privateMethod ({ cls := "LeftUndoesModel", name := "wants", desc := "(Z)V" } : Jvm.MethodName)) ∈ lw_tbl := lw_at lw_m9 37 rfl
theorem q2075 : (Jvm.Cond.instanceMethod ({ cls := "LeftUndoesModel", name := "wants", desc := "(Z)V" } : Jvm.MethodName)) ∈ lw_all := lw_g (lw_at lw_m9 38 rfl) rfl
theorem q2076 : (Jvm.Cond.code ({ cls := "LeftUndoesModel", name := "wants", desc := "(Z)V" } : Jvm.MethodName) prog_26_method_94_code (2 : Nat) (Option.none : Option Jvm.ClassFile.FieldType)) ∈ lw_all := lw_g (lw_at lw_m9 39 rfl) rfl
theorem q2077 : (Jvm.Cond.constantLong "LeftUndoesModel" (386 : Nat) (294 : Int64)) ∈ lw_all := lw_g (lw_at lw_m9 40 rfl) rfl
theorem q2078 : (Jvm.Cond.methodLink "LeftUndoesModel" (367 : Nat) ({ cls := "LeftUndoesModel", name := "condition", desc := "()V" } : Jvm.MethodName)) ∈ lw_all := lw_g (lw_at lw_m9 41 rfl) rfl
theorem q2079 : (Jvm.Cond.privateMethod ({ cls := "LeftUndoesModel", name := "condition", desc := "()V" } : Jvm.MethodName)) ∈ lw_tbl := lw_at lw_m9 42 rfl
theorem q2080 : (Jvm.Cond.instanceMethod ({ cls := "LeftUndoesModel", name := "condition", desc := "()V" } : Jvm.MethodName)) ∈ lw_all := lw_g (lw_at lw_m9 43 rfl) rfl
theorem q2081 : (Jvm.Cond.code ({ cls := "LeftUndoesModel", name := "condition", desc := "()V" } : Jvm.MethodName) prog_26_method_104_code (1 : Nat) (Option.none : Option Jvm.ClassFile.FieldType)) ∈ lw_all := lw_g (lw_at lw_m9 44 rfl) rfl
theorem q2082 : (Jvm.Cond.methodLink "LeftUndoesModel" (378 : Nat) ({ cls := "LeftUndoesModel", name := "all", desc := "()V" } : Jvm.MethodName)) ∈ lw_all := lw_g (lw_at lw_m9 45 rfl) rfl
theorem q2083 : (Jvm.Cond.privateMethod ({ cls := "LeftUndoesModel", name := "all", desc := "()V" } : Jvm.MethodName)) ∈ lw_tbl := lw_at lw_m9 46 rfl
theorem q2084 : (Jvm.Cond.instanceMethod ({ cls := "LeftUndoesModel", name := "all", desc := "()V" } : Jvm.MethodName)) ∈ lw_all := lw_g (lw_at lw_m9 47 rfl) rfl
theorem q2085 : (Jvm.Cond.code ({ cls := "LeftUndoesModel", name := "all", desc := "()V" } : Jvm.MethodName) prog_26_method_103_code (1 : Nat) (Option.none : Option Jvm.ClassFile.FieldType)) ∈ lw_all := lw_g (lw_at lw_m9 48 rfl) rfl
theorem q2086 : (Jvm.Cond.methodLink "LeftUndoesModel" (373 : Nat) ({ cls := "LeftUndoesModel", name := "one", desc := "()V" } : Jvm.MethodName)) ∈ lw_all := lw_g (lw_at lw_m9 49 rfl) rfl
theorem q2087 : (Jvm.Cond.privateMethod ({ cls := "LeftUndoesModel", name := "one", desc := "()V" } : Jvm.MethodName)) ∈ lw_tbl := lw_at lw_m9 50 rfl
theorem q2088 : (Jvm.Cond.instanceMethod ({ cls := "LeftUndoesModel", name := "one", desc := "()V" } : Jvm.MethodName)) ∈ lw_all := lw_g (lw_at lw_m9 51 rfl) rfl
theorem q2089 : (Jvm.Cond.code ({ cls := "LeftUndoesModel", name := "one", desc := "()V" } : Jvm.MethodName) prog_26_method_102_code (2 : Nat) (Option.none : Option Jvm.ClassFile.FieldType)) ∈ lw_all := lw_g (lw_at lw_m9 52 rfl) rfl
theorem q2090 : (Jvm.Cond.constantLong "LeftUndoesModel" (362 : Nat) (14836 : Int64)) ∈ lw_all := lw_g (lw_at lw_m9 53 rfl) rfl
theorem q2091 : (Jvm.Cond.methodLink "LeftUndoesModel" (370 : Nat) ({ cls := "LeftUndoesModel", name := "comparison", desc := "()V" } : Jvm.MethodName)) ∈ lw_all := lw_g (lw_at lw_m9 54 rfl) rfl
theorem q2092 : (Jvm.Cond.privateMethod ({ cls := "LeftUndoesModel", name := "comparison", desc := "()V" } : Jvm.MethodName)) ∈ lw_tbl := lw_at lw_m9 55 rfl
theorem q2093 : (Jvm.Cond.instanceMethod ({ cls := "LeftUndoesModel", name := "comparison", desc := "()V" } : Jvm.MethodName)) ∈ lw_all := lw_g (lw_at lw_m9 56 rfl) rfl
theorem q2094 : (Jvm.Cond.code ({ cls := "LeftUndoesModel", name := "comparison", desc := "()V" } : Jvm.MethodName) prog_26_method_101_code (2 : Nat) (Option.none : Option Jvm.ClassFile.FieldType)) ∈ lw_all := lw_g (lw_at lw_m9 57 rfl) rfl
theorem q2095 : (Jvm.Cond.methodLink "LeftUndoesModel" (359 : Nat) ({ cls := "LeftUndoesModel", name := "valueHere", desc := "()V" } : Jvm.MethodName)) ∈ lw_all := lw_g (lw_at lw_m9 58 rfl) rfl
theorem q2096 : (Jvm.Cond.privateMethod ({ cls := "LeftUndoesModel", name := "valueHere", desc := "()V" } : Jvm.MethodName)) ∈ lw_tbl := lw_at lw_m9 59 rfl
theorem q2097 : (Jvm.Cond.instanceMethod ({ cls := "LeftUndoesModel", name := "valueHere", desc := "()V" } : Jvm.MethodName)) ∈ lw_all := lw_g (lw_at lw_m9 60 rfl) rfl
theorem q2098 : (Jvm.Cond.code ({ cls := "LeftUndoesModel", name := "valueHere", desc := "()V" } : Jvm.MethodName) prog_26_method_100_code (2 : Nat) (Option.none : Option Jvm.ClassFile.FieldType)) ∈ lw_all := lw_g (lw_at lw_m9 61 rfl) rfl
theorem q2099 : (Jvm.Cond.methodLink "LeftUndoesModel" (350 : Nat) ({ cls := "LeftUndoesModel", name := "factHere", desc := "()I" } : Jvm.MethodName)) ∈ lw_all := lw_g (lw_at lw_m9 62 rfl) rfl
theorem q2100 : (Jvm.Cond.privateMethod ({ cls := "LeftUndoesModel", name := "factHere", desc := "()I" } : Jvm.MethodName)) ∈ lw_tbl := lw_at lw_m9 63 rfl
theorem q2101 : (Jvm.Cond.instanceMethod ({ cls := "LeftUndoesModel", name := "factHere", desc := "()I" } : Jvm.MethodName)) ∈ lw_all := lw_g (lw_at lw_m9 64 rfl) rfl
theorem q2102 : (Jvm.Cond.code ({ cls := "LeftUndoesModel", name := "factHere", desc := "()I" } : Jvm.MethodName) prog_26_method_98_code (3 : Nat) (Option.some Jvm.ClassFile.FieldType.int)) ∈ lw_all := lw_g (lw_at lw_m9 65 rfl) rfl
theorem q2103 : (Jvm.Cond.constantLong "LeftUndoesModel" (337 : Nat) (824370 : Int64)) ∈ lw_all := lw_g (lw_at lw_m9 66 rfl) rfl
theorem q2104 : (Jvm.Cond.constantLong "LeftUndoesModel" (339 : Nat) (658552979 : Int64)) ∈ lw_all := lw_g (lw_at lw_m9 67 rfl) rfl
theorem q2105 : (Jvm.Cond.constantLong "LeftUndoesModel" (341 : Nat) (7930981 : Int64)) ∈ lw_all := lw_g (lw_at lw_m9 68 rfl) rfl
theorem q2106 : (Jvm.Cond.constantLong "LeftUndoesModel" (343 : Nat) (674919554696 : Int64)) ∈ lw_all := lw_g (lw_at lw_m9 69 rfl) rfl
theorem q2107 : (Jvm.Cond.constantLong "LeftUndoesModel" (345 : Nat) (492210354 : Int64)) ∈ lw_all := lw_g (lw_at lw_m9 70 rfl) rfl
theorem q2108 : (Jvm.Cond.methodLink "LeftUndoesModel" (353 : Nat) ({ cls := "LeftUndoesModel", name := "writes", desc := "(I)V" } : Jvm.MethodName)) ∈ lw_all := lw_g (lw_at lw_m9 71 rfl) rfl
theorem q2109 : (Jvm.Cond.privateMethod ({ cls := "LeftUndoesModel", name := "writes", desc := "(I)V" } : Jvm.MethodName)) ∈ lw_tbl := lw_at lw_m9 72 rfl
theorem q2110 : (Jvm.Cond.instanceMethod ({ cls := "LeftUndoesModel", name := "writes", desc := "(I)V" } : Jvm.MethodName)) ∈ lw_all := lw_g (lw_at lw_m9 73 rfl) rfl
theorem q2111 : (Jvm.Cond.code ({ cls := "LeftUndoesModel", name := "writes", desc := "(I)V" } : Jvm.MethodName) prog_26_method_99_code (2 : Nat) (Option.none : Option Jvm.ClassFile.FieldType)) ∈ lw_all := lw_g (lw_at lw_m9 74 rfl) rfl
theorem q2112 : (Jvm.Cond.methodLink "LeftUndoesModel" (356 : Nat) ({ cls := "LeftUndoesModel", name := "number", desc := "(I)V" } : Jvm.MethodName)) ∈ lw_all := lw_g (lw_at lw_m9 75 rfl) rfl
theorem q2113 : (Jvm.Cond.privateMethod ({ cls := "LeftUndoesModel", name := "number", desc := "(I)V" } : Jvm.MethodName)) ∈ lw_tbl := lw_at lw_m9 76 rfl
theorem q2114 : (Jvm.Cond.instanceMethod ({ cls := "LeftUndoesModel", name := "number", desc := "(I)V" } : Jvm.MethodName)) ∈ lw_all := lw_g (lw_at lw_m9 77 rfl) rfl
theorem q2115 : (Jvm.Cond.code ({ cls := "LeftUndoesModel", name := "number", desc := "(I)V" } : Jvm.MethodName) prog_26_method_96_code (4 : Nat) (Option.none : Option Jvm.ClassFile.FieldType)) ∈ lw_all := lw_g (lw_at lw_m9 78 rfl) rfl
theorem q2116 : (Jvm.Cond.constantLong "LeftUndoesModel" (376 : Nat) (1476 : Int64)) ∈ lw_all := lw_g (lw_at lw_m9 79 rfl) rfl
theorem q2117 : (Jvm.Cond.constantLong "LeftUndoesModel" (381 : Nat) (498 : Int64)) ∈ lw_all := lw_g (lw_at lw_m9 80 rfl) rfl
theorem q2118 : (Jvm.Cond.constantLong "LeftUndoesModel" (388 : Nat) (5294489 : Int64)) ∈ lw_all := lw_g (lw_at lw_m9 81 rfl) rfl
theorem q2119 : (Jvm.Cond.constantLong "LeftUndoesModel" (390 : Nat) (394885 : Int64)) ∈ lw_all := lw_g (lw_at lw_m9 82 rfl) rfl
theorem q2120 : (Jvm.Cond.constantLong "LeftUndoesModel" (392 : Nat) (20448837 : Int64)) ∈ lw_all := lw_g (lw_at lw_m9 83 rfl) rfl
theorem q2122 : (Jvm.Cond.instanceMethod ({ cls := "LeftUndoesModel", name := "sheet", desc := "(III)I" } : Jvm.MethodName)) ∈ lw_all := lw_g (lw_at lw_m9 85 rfl) rfl
theorem q2123 : (Jvm.Cond.selects "LeftUndoesModel" ({ cls := "LeftUndoesModel", name := "sheet", desc := "(III)I" } : Jvm.MethodName) ({ cls := "LeftUndoesModel", name := "sheet", desc := "(III)I" } : Jvm.MethodName)) ∈ lw_all := lw_g (lw_at lw_m9 86 rfl) rfl
theorem q2124 : (Jvm.Cond.code ({ cls := "LeftUndoesModel", name := "sheet", desc := "(III)I" } : Jvm.MethodName) prog_26_method_108_code (5 : Nat) (Option.some Jvm.ClassFile.FieldType.int)) ∈ lw_all := lw_g (lw_at lw_m9 87 rfl) rfl
theorem q2125 : (Jvm.Cond.methodLink "LeftUndoesModel" (397 : Nat) ({ cls := "LeftUndoesModel", name := "isOne", desc := "(I)Z" } : Jvm.MethodName)) ∈ lw_all := lw_g (lw_at lw_m9 88 rfl) rfl
theorem q2126 : (Jvm.Cond.static ({ cls := "LeftUndoesModel", name := "isOne", desc := "(I)Z" } : Jvm.MethodName)) ∈ lw_all := lw_g (lw_at lw_m9 89 rfl) rfl
theorem q2127 : (Jvm.Cond.code ({ cls := "LeftUndoesModel", name := "isOne", desc := "(I)Z" } : Jvm.MethodName) prog_26_method_107_code (1 : Nat) (Option.some Jvm.ClassFile.FieldType.boolean)) ∈ lw_all := lw_g (lw_at lw_m9 90 rfl) rfl
theorem q2128 : (Jvm.Cond.constantLong "LeftUndoesModel" (400 : Nat) (-1 : Int64)) ∈ lw_all := lw_g (lw_at lw_m9 91 rfl) rfl
theorem q2130 : (Jvm.Cond.instanceMethod ({ cls := "LeftUndoesModel", name := "write", desc := "(III)I" } : Jvm.MethodName)) ∈ lw_all := lw_g (lw_at lw_m9 93 rfl) rfl
theorem q2131 : (Jvm.Cond.selects "LeftUndoesModel" ({ cls := "LeftUndoesModel", name := "write", desc := "(III)I" } : Jvm.MethodName) ({ cls := "LeftUndoesModel", name := "write", desc := "(III)I" } : Jvm.MethodName)) ∈ lw_all := lw_g (lw_at lw_m9 94 rfl) rfl
theorem q2132 : (Jvm.Cond.code ({ cls := "LeftUndoesModel", name := "write", desc := "(III)I" } : Jvm.MethodName) prog_26_method_110_code (4 : Nat) (Option.some Jvm.ClassFile.FieldType.int)) ∈ lw_all := lw_g (lw_at lw_m9 95 rfl) rfl
theorem q2133 : (Jvm.Cond.methodLink "LeftUndoesModel" (402 : Nat) ({ cls := "LeftUndoesModel", name := "narrowed", desc := "(II)I" } : Jvm.MethodName)) ∈ lw_all := lw_g (lw_at lw_m9 96 rfl) rfl
theorem q2134 : (Jvm.Cond.static ({ cls := "LeftUndoesModel", name := "narrowed", desc := "(II)I" } : Jvm.MethodName)) ∈ lw_all := lw_g (lw_at lw_m9 97 rfl) rfl
theorem q2135 : (Jvm.Cond.code ({ cls := "LeftUndoesModel", name := "narrowed", desc := "(II)I" } : Jvm.MethodName) prog_26_method_109_code (2 : Nat) (Option.some Jvm.ClassFile.FieldType.int)) ∈ lw_all := lw_g (lw_at lw_m9 98 rfl) rfl
theorem q2137 : (Jvm.Cond.instanceMethod ({ cls := "LeftUndoesModel", name := "item", desc := "(III)I" } : Jvm.MethodName)) ∈ lw_all := lw_g (lw_at lw_m9 100 rfl) rfl
theorem q2138 : (Jvm.Cond.selects "LeftUndoesModel" ({ cls := "LeftUndoesModel", name := "item", desc := "(III)I" } : Jvm.MethodName) ({ cls := "LeftUndoesModel", name := "item", desc := "(III)I" } : Jvm.MethodName)) ∈ lw_all := lw_g (lw_at lw_m9 101 rfl) rfl
theorem q2139 : (Jvm.Cond.code ({ cls := "LeftUndoesModel", name := "item", desc := "(III)I" } : Jvm.MethodName) prog_26_method_112_code (5 : Nat) (Option.some Jvm.ClassFile.FieldType.int)) ∈ lw_all := lw_g (lw_at lw_m9 102 rfl) rfl
theorem q2140 : (Jvm.Cond.methodLink "LeftUndoesModel" (405 : Nat) ({ cls := "LeftUndoesModel", name := "whyNot", desc := "(II)I" } : Jvm.MethodName)) ∈ lw_all := lw_g (lw_at lw_m9 103 rfl) rfl
theorem q2141 : (Jvm.Cond.privateMethod ({ cls := "LeftUndoesModel", name := "whyNot", desc := "(II)I" } : Jvm.MethodName)) ∈ lw_tbl := lw_at lw_m9 104 rfl
theorem q2142 : (Jvm.Cond.instanceMethod ({ cls := "LeftUndoesModel", name := "whyNot", desc := "(II)I" } : Jvm.MethodName)) ∈ lw_all := lw_g (lw_at lw_m9 105 rfl) rfl
theorem q2143 : (Jvm.Cond.code ({ cls := "LeftUndoesModel", name := "whyNot", desc := "(II)I" } : Jvm.MethodName) prog_26_method_111_code (3 : Nat) (Option.some Jvm.ClassFile.FieldType.int)) ∈ lw_all := lw_g (lw_at lw_m9 106 rfl) rfl
theorem q2145 : (Jvm.Cond.instanceMethod ({ cls := "LeftUndoesModel", name := "goAll", desc := "(III)I" } : Jvm.MethodName)) ∈ lw_all := lw_g (lw_at lw_m9 108 rfl) rfl
theorem q2146 : (Jvm.Cond.selects "LeftUndoesModel" ({ cls := "LeftUndoesModel", name := "goAll", desc := "(III)I" } : Jvm.MethodName) ({ cls := "LeftUndoesModel", name := "goAll", desc := "(III)I" } : Jvm.MethodName)) ∈ lw_all := lw_g (lw_at lw_m9 109 rfl) rfl
theorem q2147 : (Jvm.Cond.code ({ cls := "LeftUndoesModel", name := "goAll", desc := "(III)I" } : Jvm.MethodName) prog_26_method_115_code (8 : Nat) (Option.some Jvm.ClassFile.FieldType.int)) ∈ lw_all := lw_g (lw_at lw_m9 110 rfl) rfl
theorem q2148 : (Jvm.Cond.methodLink "LeftUndoesModel" (410 : Nat) ({ cls := "LeftUndoesModel", name := "isSpan", desc := "(II)Z" } : Jvm.MethodName)) ∈ lw_all := lw_g (lw_at lw_m9 111 rfl) rfl
theorem q2149 : (Jvm.Cond.privateMethod ({ cls := "LeftUndoesModel", name := "isSpan", desc := "(II)Z" } : Jvm.MethodName)) ∈ lw_tbl := lw_at lw_m9 112 rfl
theorem q2150 : (Jvm.Cond.instanceMethod ({ cls := "LeftUndoesModel", name := "isSpan", desc := "(II)Z" } : Jvm.MethodName)) ∈ lw_all := lw_g (lw_at lw_m9 113 rfl) rfl
theorem q2151 : (Jvm.Cond.code ({ cls := "LeftUndoesModel", name := "isSpan", desc := "(II)Z" } : Jvm.MethodName) prog_26_method_114_code (3 : Nat) (Option.some Jvm.ClassFile.FieldType.boolean)) ∈ lw_all := lw_g (lw_at lw_m9 114 rfl) rfl
theorem q2152 : (Jvm.Cond.constantLong "LeftUndoesModel" (408 : Nat) (20 : Int64)) ∈ lw_all := lw_g (lw_at lw_m9 115 rfl) rfl
theorem q2153 : (Jvm.Cond.methodLink "LeftUndoesModel" (413 : Nat) ({ cls := "LeftUndoesModel", name := "isItem", desc := "(IJ)Z" } : Jvm.MethodName)) ∈ lw_all := lw_g (lw_at lw_m9 116 rfl) rfl
theorem q2154 : (Jvm.Cond.privateMethod ({ cls := "LeftUndoesModel", name := "isItem", desc := "(IJ)Z" } : Jvm.MethodName)) ∈ lw_tbl := lw_at lw_m9 117 rfl
theorem q2155 : (Jvm.Cond.instanceMethod ({ cls := "LeftUndoesModel", name := "isItem", desc := "(IJ)Z" } : Jvm.MethodName)) ∈ lw_all := lw_g (lw_at lw_m9 118 rfl) rfl
theorem q2156 : (Jvm.Cond.code ({ cls := "LeftUndoesModel", name := "isItem", desc := "(IJ)Z" } : Jvm.MethodName) prog_26_method_113_code (4 : Nat) (Option.some Jvm.ClassFile.FieldType.boolean)) ∈ lw_all := lw_g (lw_at lw_m9 119 rfl) rfl
theorem q2158 : (Jvm.Cond.instanceMethod ({ cls := "LeftUndoesModel", name := "wouldBe", desc := "(III)I" } : Jvm.MethodName)) ∈ lw_all := lw_g (lw_at lw_m9 121 rfl) rfl
theorem q2159 : (Jvm.Cond.selects "LeftUndoesModel" ({ cls := "LeftUndoesModel", name := "wouldBe", desc := "(III)I" } : Jvm.MethodName) ({ cls := "LeftUndoesModel", name := "wouldBe", desc := "(III)I" } : Jvm.MethodName)) ∈ lw_all := lw_g (lw_at lw_m9 122 rfl) rfl
theorem q2160 : (Jvm.Cond.code ({ cls := "LeftUndoesModel", name := "wouldBe", desc := "(III)I" } : Jvm.MethodName) prog_26_method_116_code (8 : Nat) (Option.some Jvm.ClassFile.FieldType.int)) ∈ lw_all := lw_g (lw_at lw_m9 123 rfl) rfl
theorem q2162 : (Jvm.Cond.instanceMethod ({ cls := "LeftUndoesModel", name := "shelf", desc := "(III)I" } : Jvm.MethodName)) ∈ lw_all := lw_g (lw_at lw_m9 125 rfl) rfl
theorem q2163 : (Jvm.Cond.selects "LeftUndoesModel" ({ cls := "LeftUndoesModel", name := "shelf", desc := "(III)I" } : Jvm.MethodName) ({ cls := "LeftUndoesModel", name := "shelf", desc := "(III)I" } : Jvm.MethodName)) ∈ lw_all := lw_g (lw_at lw_m9 126 rfl) rfl
theorem q2164 : (Jvm.Cond.code ({ cls := "LeftUndoesModel", name := "shelf", desc := "(III)I" } : Jvm.MethodName) prog_26_method_117_code (4 : Nat) (Option.some Jvm.ClassFile.FieldType.int)) ∈ lw_all := lw_g (lw_at lw_m9 127 rfl) rfl
theorem q2166 : (Jvm.Cond.instanceMethod ({ cls := "LeftUndoesModel", name := "taken", desc := "(II)I" } : Jvm.MethodName)) ∈ lw_all := lw_g (lw_at lw_m9 129 rfl) rfl
theorem q2167 : (Jvm.Cond.selects "LeftUndoesModel" ({ cls := "LeftUndoesModel", name := "taken", desc := "(II)I" } : Jvm.MethodName) ({ cls := "LeftUndoesModel", name := "taken", desc := "(II)I" } : Jvm.MethodName)) ∈ lw_all := lw_g (lw_at lw_m9 130 rfl) rfl
theorem q2168 : (Jvm.Cond.code ({ cls := "LeftUndoesModel", name := "taken", desc := "(II)I" } : Jvm.MethodName) prog_26_method_119_code (5 : Nat) (Option.some Jvm.ClassFile.FieldType.int)) ∈ lw_all := lw_g (lw_at lw_m9 131 rfl) rfl
theorem q2169 : (Jvm.Cond.constantLong "LeftUndoesModel" (417 : Nat) (10 : Int64)) ∈ lw_all := lw_g (lw_at lw_m9 132 rfl) rfl
theorem q2170 : (Jvm.Cond.constantLong "LeftUndoesModel" (419 : Nat) (14 : Int64)) ∈ lw_all := lw_g (lw_at lw_m9 133 rfl) rfl
theorem q2171 : (Jvm.Cond.methodLink "LeftUndoesModel" (421 : Nat) ({ cls := "LeftUndoesModel", name := "onShelf", desc := "(I)I" } : Jvm.MethodName)) ∈ lw_all := lw_g (lw_at lw_m9 134 rfl) rfl
theorem q2172 : (Jvm.Cond.privateMethod ({ cls := "LeftUndoesModel", name := "onShelf", desc := "(I)I" } : Jvm.MethodName)) ∈ lw_tbl := lw_at lw_m9 135 rfl
theorem q2173 : (Jvm.Cond.instanceMethod ({ cls := "LeftUndoesModel", name := "onShelf", desc := "(I)I" } : Jvm.MethodName)) ∈ lw_all := lw_g (lw_at lw_m9 136 rfl) rfl
theorem q2174 : (Jvm.Cond.code ({ cls := "LeftUndoesModel", name := "onShelf", desc := "(I)I" } : Jvm.MethodName) prog_26_method_118_code (2 : Nat) (Option.some Jvm.ClassFile.FieldType.int)) ∈ lw_all := lw_g (lw_at lw_m9 137 rfl) rfl
theorem q2176 : (Jvm.Cond.instanceMethod ({ cls := "LeftUndoesModel", name := "act", desc := "(III)I" } : Jvm.MethodName)) ∈ lw_all := lw_g (lw_at lw_m9 139 rfl) rfl
theorem q2177 : (Jvm.Cond.selects "LeftUndoesModel" ({ cls := "LeftUndoesModel", name := "act", desc := "(III)I" } : Jvm.MethodName) ({ cls := "LeftUndoesModel", name := "act", desc := "(III)I" } : Jvm.MethodName)) ∈ lw_all := lw_g (lw_at lw_m9 140 rfl) rfl
theorem q2178 : (Jvm.Cond.code ({ cls := "LeftUndoesModel", name := "act", desc := "(III)I" } : Jvm.MethodName) prog_26_method_126_code (5 : Nat) (Option.some Jvm.ClassFile.FieldType.int)) ∈ lw_all := lw_g (lw_at lw_m9 141 rfl) rfl
theorem q2179 : (Jvm.Cond.methodLink "LeftUndoesModel" (442 : Nat) ({ cls := "LeftUndoesModel", name := "gives", desc := "(I)I" } : Jvm.MethodName)) ∈ lw_all := lw_g (lw_at lw_m9 142 rfl) rfl
theorem q2180 : (Jvm.Cond.privateMethod ({ cls := "LeftUndoesModel", name := "gives", desc := "(I)I" } : Jvm.MethodName)) ∈ lw_tbl := lw_at lw_m9 143 rfl
theorem q2181 : (Jvm.Cond.instanceMethod ({ cls := "LeftUndoesModel", name := "gives", desc := "(I)I" } : Jvm.MethodName)) ∈ lw_all := lw_g (lw_at lw_m9 144 rfl) rfl
theorem q2182 : (Jvm.Cond.code ({ cls := "LeftUndoesModel", name := "gives", desc := "(I)I" } : Jvm.MethodName) prog_26_method_121_code (3 : Nat) (Option.some Jvm.ClassFile.FieldType.int)) ∈ lw_all := lw_g (lw_at lw_m9 145 rfl) rfl
theorem q2183 : (Jvm.Cond.methodLink "LeftUndoesModel" (433 : Nat) ({ cls := "LeftUndoesModel", name := "runs", desc := "(I)V" } : Jvm.MethodName)) ∈ lw_all := lw_g (lw_at lw_m9 146 rfl) rfl
theorem q2184 : (Jvm.Cond.privateMethod ({ cls := "LeftUndoesModel", name := "runs", desc := "(I)V" } : Jvm.MethodName)) ∈ lw_tbl := lw_at lw_m9 147 rfl
theorem q2185 : (Jvm.Cond.instanceMethod ({ cls := "LeftUndoesModel", name := "runs", desc := "(I)V" } : Jvm.MethodName)) ∈ lw_all := lw_g (lw_at lw_m9 148 rfl) rfl
theorem q2186 : (Jvm.Cond.code ({ cls := "LeftUndoesModel", name := "runs", desc := "(I)V" } : Jvm.MethodName) prog_26_method_120_code (2 : Nat) (Option.none : Option Jvm.ClassFile.FieldType)) ∈ lw_all := lw_g (lw_at lw_m9 149 rfl) rfl
theorem q2187 : (Jvm.Cond.methodLink "LeftUndoesModel" (448 : Nat) ({ cls := "LeftUndoesModel", name := "takes", desc := "(I)I" } : Jvm.MethodName)) ∈ lw_all := lw_g (lw_at lw_m9 150 rfl) rfl
theorem q2188 : (Jvm.Cond.privateMethod ({ cls := "LeftUndoesModel", name := "takes", desc := "(I)I" } : Jvm.MethodName)) ∈ lw_tbl := lw_at lw_m9 151 rfl
theorem q2189 : (Jvm.Cond.instanceMethod ({ cls := "LeftUndoesModel", name := "takes", desc := "(I)I" } : Jvm.MethodName)) ∈ lw_all := lw_g (lw_at lw_m9 152 rfl) rfl
theorem q2190 : (Jvm.Cond.code ({ cls := "LeftUndoesModel", name := "takes", desc := "(I)I" } : Jvm.MethodName) prog_26_method_122_code (4 : Nat) (Option.some Jvm.ClassFile.FieldType.int)) ∈ lw_all := lw_g (lw_at lw_m9 153 rfl) rfl
theorem q2191 : (Jvm.Cond.methodLink "LeftUndoesModel" (451 : Nat) ({ cls := "LeftUndoesModel", name := "splits", desc := "(I)I" } : Jvm.MethodName)) ∈ lw_all := lw_g (lw_at lw_m9 154 rfl) rfl
theorem q2192 : (Jvm.Cond.privateMethod ({ cls := "LeftUndoesModel", name := "splits", desc := "(I)I" } : Jvm.MethodName)) ∈ lw_tbl := lw_at lw_m9 155 rfl
theorem q2193 : (Jvm.Cond.instanceMethod ({ cls := "LeftUndoesModel", name := "splits", desc := "(I)I" } : Jvm.MethodName)) ∈ lw_all := lw_g (lw_at lw_m9 156 rfl) rfl
theorem q2194 : (Jvm.Cond.code ({ cls := "LeftUndoesModel", name := "splits", desc := "(I)I" } : Jvm.MethodName) prog_26_method_124_code (3 : Nat) (Option.some Jvm.ClassFile.FieldType.int)) ∈ lw_all := lw_g (lw_at lw_m9 157 rfl) rfl
theorem q2195 : (Jvm.Cond.methodLink "LeftUndoesModel" (445 : Nat) ({ cls := "LeftUndoesModel", name := "plainSplits", desc := "(I)I" } : Jvm.MethodName)) ∈ lw_all := lw_g (lw_at lw_m9 158 rfl) rfl
theorem q2196 : (Jvm.Cond.privateMethod ({ cls := "LeftUndoesModel", name := "plainSplits", desc := "(I)I" } : Jvm.MethodName)) ∈ lw_tbl := lw_at lw_m9 159 rfl
theorem q2197 : (Jvm.Cond.instanceMethod ({ cls := "LeftUndoesModel", name := "plainSplits", desc := "(I)I" } : Jvm.MethodName)) ∈ lw_all := lw_g (lw_at lw_m9 160 rfl) rfl
theorem q2198 : (Jvm.Cond.code ({ cls := "LeftUndoesModel", name := "plainSplits", desc := "(I)I" } : Jvm.MethodName) prog_26_method_123_code (2 : Nat) (Option.some Jvm.ClassFile.FieldType.int)) ∈ lw_all := lw_g (lw_at lw_m9 161 rfl) rfl
theorem q2199 : (Jvm.Cond.methodLink "LeftUndoesModel" (454 : Nat) ({ cls := "LeftUndoesModel", name := "swears", desc := "(I)I" } : Jvm.MethodName)) ∈ lw_all := lw_g (lw_at lw_m9 162 rfl) rfl
theorem q2200 : (Jvm.Cond.privateMethod ({ cls := "LeftUndoesModel", name := "swears", desc := "(I)I" } : Jvm.MethodName)) ∈ lw_tbl := lw_at lw_m9 163 rfl
theorem q2201 : (Jvm.Cond.instanceMethod ({ cls := "LeftUndoesModel", name := "swears", desc := "(I)I" } : Jvm.MethodName)) ∈ lw_all := lw_g (lw_at lw_m9 164 rfl) rfl
theorem q2202 : (Jvm.Cond.code ({ cls := "LeftUndoesModel", name := "swears", desc := "(I)I" } : Jvm.MethodName) prog_26_method_125_code (3 : Nat) (Option.some Jvm.ClassFile.FieldType.int)) ∈ lw_all := lw_g (lw_at lw_m9 165 rfl) rfl
theorem q2204 : (Jvm.Cond.instanceMethod ({ cls := "LeftUndoesModel", name := "trace", desc := "(I)I" } : Jvm.MethodName)) ∈ lw_all := lw_g (lw_at lw_m9 167 rfl) rfl
theorem q2205 : (Jvm.Cond.selects "LeftUndoesModel" ({ cls := "LeftUndoesModel", name := "trace", desc := "(I)I" } : Jvm.MethodName) ({ cls := "LeftUndoesModel", name := "trace", desc := "(I)I" } : Jvm.MethodName)) ∈ lw_all := lw_g (lw_at lw_m9 168 rfl) rfl
theorem q2206 : (Jvm.Cond.code ({ cls := "LeftUndoesModel", name := "trace", desc := "(I)I" } : Jvm.MethodName) prog_26_method_128_code (2 : Nat) (Option.some Jvm.ClassFile.FieldType.int)) ∈ lw_all := lw_g (lw_at lw_m9 169 rfl) rfl
theorem q2207 : (Jvm.Cond.methodLink "LeftUndoesModel" (457 : Nat) ({ cls := "LeftUndoesModel", name := "traced", desc := "()I" } : Jvm.MethodName)) ∈ lw_all := lw_g (lw_at lw_m9 170 rfl) rfl
theorem q2208 : (Jvm.Cond.privateMethod ({ cls := "LeftUndoesModel", name := "traced", desc := "()I" } : Jvm.MethodName)) ∈ lw_tbl := lw_at lw_m9 171 rfl
theorem q2209 : (Jvm.Cond.instanceMethod ({ cls := "LeftUndoesModel", name := "traced", desc := "()I" } : Jvm.MethodName)) ∈ lw_all := lw_g (lw_at lw_m9 172 rfl) rfl
theorem q2210 : (Jvm.Cond.code ({ cls := "LeftUndoesModel", name := "traced", desc := "()I" } : Jvm.MethodName) prog_26_method_127_code (1 : Nat) (Option.some Jvm.ClassFile.FieldType.int)) ∈ lw_all := lw_g (lw_at lw_m9 173 rfl) rfl
theorem q2212 : (Jvm.Cond.instanceMethod ({ cls := "LeftUndoesModel", name := "many", desc := "(I)I" } : Jvm.MethodName)) ∈ lw_all := lw_g (lw_at lw_m9 175 rfl) rfl
theorem q2213 : (Jvm.Cond.selects "LeftUndoesModel" ({ cls := "LeftUndoesModel", name := "many", desc := "(I)I" } : Jvm.MethodName) ({ cls := "LeftUndoesModel", name := "many", desc := "(I)I" } : Jvm.MethodName)) ∈ lw_all := lw_g (lw_at lw_m9 176 rfl) rfl
theorem q2214 : (Jvm.Cond.code ({ cls := "LeftUndoesModel", name := "many", desc := "(I)I" } : Jvm.MethodName) prog_26_method_130_code (2 : Nat) (Option.some Jvm.ClassFile.FieldType.int)) ∈ lw_all := lw_g (lw_at lw_m9 177 rfl) rfl
theorem q2215 : (Jvm.Cond.methodLink "LeftUndoesModel" (460 : Nat) ({ cls := "LeftUndoesModel", name := "loans", desc := "()I" } : Jvm.MethodName)) ∈ lw_all := lw_g (lw_at lw_m9 178 rfl) rfl
theorem q2216 : (Jvm.Cond.privateMethod ({ cls := "LeftUndoesModel", name := "loans", desc := "()I" } : Jvm.MethodName)) ∈ lw_tbl := lw_at lw_m9 179 rfl
theorem q2217 : (Jvm.Cond.instanceMethod ({ cls := "LeftUndoesModel", name := "loans", desc := "()I" } : Jvm.MethodName)) ∈ lw_all := lw_g (lw_at lw_m9 180 rfl) rfl
theorem q2218 : (Jvm.Cond.code ({ cls := "LeftUndoesModel", name := "loans", desc := "()I" } : Jvm.MethodName) prog_26_method_129_code (3 : Nat) (Option.some Jvm.ClassFile.FieldType.int)) ∈ lw_all := lw_g (lw_at lw_m9 181 rfl) rfl
theorem q2220 : (Jvm.Cond.instanceMethod ({ cls := "LeftUndoesModel", name := "keep", desc := "()I" } : Jvm.MethodName)) ∈ lw_all := lw_g (lw_at lw_m9 183 rfl) rfl
theorem q2221 : (Jvm.Cond.selects "LeftUndoesModel" ({ cls := "LeftUndoesModel", name := "keep", desc := "()I" } : Jvm.MethodName) ({ cls := "LeftUndoesModel", name := "keep", desc := "()I" } : Jvm.MethodName)) ∈ lw_all := lw_g (lw_at lw_m9 184 rfl) rfl
theorem q2222 : (Jvm.Cond.code ({ cls := "LeftUndoesModel", name := "keep", desc := "()I" } : Jvm.MethodName) prog_26_method_131_code (2 : Nat) (Option.some Jvm.ClassFile.FieldType.int)) ∈ lw_all := lw_g (lw_at lw_m9 185 rfl) rfl
theorem q2224 : (Jvm.Cond.instanceMethod ({ cls := "LeftUndoesModel", name := "again", desc := "()I" } : Jvm.MethodName)) ∈ lw_all := lw_g (lw_at lw_m9 187 rfl) rfl
theorem q2225 : (Jvm.Cond.selects "LeftUndoesModel" ({ cls := "LeftUndoesModel", name := "again", desc := "()I" } : Jvm.MethodName) ({ cls := "LeftUndoesModel", name := "again", desc := "()I" } : Jvm.MethodName)) ∈ lw_all := lw_g (lw_at lw_m9 188 rfl) rfl
theorem q2226 : (Jvm.Cond.code ({ cls := "LeftUndoesModel", name := "again", desc := "()I" } : Jvm.MethodName) prog_26_method_132_code (2 : Nat) (Option.some Jvm.ClassFile.FieldType.int)) ∈ lw_all := lw_g (lw_at lw_m9 189 rfl) rfl
theorem in_X6 : ∀ w ∈ wsX60, w ∈ lw_all := lw_in wsX60 [1589, 1591, 1593, 1595, 1597, 1599, 1601, 1603, 1605, 1607, 1609, 1611, 1613, 1615, 1617, 1619, 1621, 1623, 1625, 1627, 1629, 1631, 1633, 1635, 1637, 1639, 1641, 1643, 1645, 1647, 1649, 1651, 1653, 1655, 1657, 1659, 1661, 1663, 1665, 1667, 1669, 1671] (by decide +kernel) (by decide +kernel)
theorem q273 : (Jvm.Cond.arrayOver (Jvm.ClassFile.FieldType.object "LeftUndoes$Rule")) ∈ lw_tbl := lw_at lw_m1 156 rfl
set_option maxRecDepth 100000
theorem q359 : (Jvm.Cond.arrayClass Jvm.ClassFile.FieldType.int) ∈ lw_all := lw_g (lw_at lw_m2 2 rfl) rfl
theorem q361 : (Jvm.Cond.arrayOver (Jvm.ClassFile.FieldType.object "LeftUndoes$Hand")) ∈ lw_tbl := lw_at lw_m2 4 rfl
theorem q363 : (Jvm.Cond.arrayOver (Jvm.ClassFile.FieldType.object "java/lang/String")) ∈ lw_tbl := lw_at lw_m2 6 rfl
theorem q379 : (Jvm.Cond.arrayOver (Jvm.ClassFile.FieldType.object "LeftUndoes$Shelf")) ∈ lw_tbl := lw_at lw_m2 22 rfl
theorem q395 : (Jvm.Cond.arrayClass Jvm.ClassFile.FieldType.byte) ∈ lw_all := lw_g (lw_at lw_m2 38 rfl) rfl
theorem q1228 : (Jvm.Cond.arrayClass Jvm.ClassFile.FieldType.short) ∈ lw_all := lw_g (lw_at lw_m5 151 rfl) rfl
theorem q1229 : (Jvm.Cond.arrayClass Jvm.ClassFile.FieldType.long) ∈ lw_all := lw_g (lw_at lw_m5 152 rfl) rfl
theorem q1230 : (Jvm.Cond.arrayClass Jvm.ClassFile.FieldType.boolean) ∈ lw_all := lw_g (lw_at lw_m5 153 rfl) rfl
