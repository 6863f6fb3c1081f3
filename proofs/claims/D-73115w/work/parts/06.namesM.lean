/-! QuiverKinModel -/
set_option maxRecDepth 100000
def RX2 : String := "QuiverKinModel"
def TX2 : u_T := fun k => match k with
  | 0 => ("QuiverKinModel", "a", "[I", true)
  | 1 => ("QuiverKinModel", "image", "[I", true)
  | 2 => ("QuiverKinModel", "texts", "[I", true)
  | 3 => ("QuiverKinModel", "tape", "[I", true)
  | 4 => ("QuiverKinModel", "taped", "I", false)
  | 5 => ("QuiverKinModel", "fault", "I", false)
  | 6 => ("QuiverKinModel", "faultPlace", "I", false)
  | 7 => ("QuiverKinModel", "cursor", "I", false)
  | 8 => ("QuiverKinModel", "place", "I", false)
  | 9 => ("QuiverKinModel", "token", "I", false)
  | 10 => ("QuiverKinModel", "number", "I", false)
  | 11 => ("QuiverKinModel", "word", "J", false)
  | 12 => ("QuiverKinModel", "text0", "I", false)
  | 13 => ("QuiverKinModel", "written", "I", false)
  | 14 => ("QuiverKinModel", "sort0", "I", false)
  | 15 => ("QuiverKinModel", "pile", "[I", true)
  | 16 => ("QuiverKinModel", "piled", "I", false)
  | 17 => ("QuiverKinModel", "opens", "I", false)
  | 18 => ("QuiverKinModel", "isWhole", "Z", false)
  | 19 => ("QuiverKinModel", "once", "I", false)
  | 20 => ("QuiverKinModel", "named", "[I", true)
  | 21 => ("QuiverKinModel", "values", "[J", true)
  | 22 => ("QuiverKinModel", "truth", "[Z", true)
  | 23 => ("QuiverKinModel", "isWritten", "Z", false)
  | 24 => ("QuiverKinModel", "loosed", "I", false)
  | 25 => ("QuiverKinModel", "aside", "[I", true)
  | 26 => ("QuiverKinModel", "row", "[I", true)
  | 27 => ("QuiverKinModel", "bestRow", "[I", true)
  | 28 => ("QuiverKinModel", "leastSpite", "I", false)
  | 29 => ("QuiverKinModel", "asGood", "I", false)
  | 30 => ("QuiverKinModel", "mostSpite", "I", false)
  | 31 => ("QuiverKinModel", "hadCome", "[Z", true)
  | 32 => ("QuiverKinModel", "flown", "I", false)
  | 33 => ("QuiverKinModel", "lastCell", "I", false)
  | 34 => ("QuiverKinModel", "turns", "I", false)
  | 35 => ("QuiverKinModel", "lastWay", "I", false)
  | 36 => ("QuiverKinModel", "fitting", "[I", true)
  | 37 => ("QuiverKinModel", "often", "[I", true)
  | _ => ("QuiverKinModel", "wins", "[Z", true)
def tyX2 : Nat → FieldType := fun k => match k with
  | 0 => .array .int
  | 1 => .array .int
  | 2 => .array .int
  | 3 => .array .int
  | 4 => .int
  | 5 => .int
  | 6 => .int
  | 7 => .int
  | 8 => .int
  | 9 => .int
  | 10 => .int
  | 11 => .long
  | 12 => .int
  | 13 => .int
  | 14 => .int
  | 15 => .array .int
  | 16 => .int
  | 17 => .int
  | 18 => .boolean
  | 19 => .int
  | 20 => .array .int
  | 21 => .array .long
  | 22 => .array .boolean
  | 23 => .boolean
  | 24 => .int
  | 25 => .array .int
  | 26 => .array .int
  | 27 => .array .int
  | 28 => .int
  | 29 => .int
  | 30 => .int
  | 31 => .array .boolean
  | 32 => .int
  | 33 => .int
  | 34 => .int
  | 35 => .int
  | 36 => .array .int
  | 37 => .array .int
  | _ => .array .boolean
abbrev wsX20 : List Cond := u_ws RX2 TX2 39
set_option maxRecDepth 100000 in
theorem nmX2 : ∀ a, a < 39 → ∀ b, b < 39 → a ≠ b → (TX2 a).2.1 ≠ (TX2 b).2.1 := by decide +kernel
set_option maxRecDepth 100000 in
theorem tyX2_ok : ∀ k, k < 39 → parseFieldDescriptor (TX2 k).2.2.1 = some (tyX2 k) := by decide +kernel
abbrev cX2_init : ByteArray := prog_20_method_1_code
def yX2_init : MethodName := ⟨RX2, "<init>", "()V"⟩
def dkwX2_init_7 : List UInt8 := [79, 42, 180, 0, 7, 42, 180, 0, 13, 184, 0, 68, 177]
abbrev dktX2_init_7 : List UInt8 := dkwX2_init_7 ++ []
def dkwX2_init_6 : List UInt8 := [17, 30, 96, 188, 4, 181, 0, 65, 42, 180, 0, 7, 16, 8, 17, 1, 165, 79, 42, 180, 0, 7, 5, 2]
abbrev dktX2_init_6 : List UInt8 := dkwX2_init_6 ++ dktX2_init_7
def dkwX2_init_5 : List UInt8 := [188, 4, 181, 0, 56, 42, 16, 125, 188, 10, 181, 0, 59, 42, 16, 31, 188, 10, 181, 0, 62, 42]
abbrev dktX2_init_5 : List UInt8 := dkwX2_init_5 ++ dktX2_init_6
def dkwX2_init_4 : List UInt8 := [181, 0, 47, 42, 16, 6, 188, 10, 181, 0, 50, 42, 16, 6, 188, 10, 181, 0, 53, 42, 17, 0, 144]
abbrev dktX2_init_4 : List UInt8 := dkwX2_init_4 ++ dktX2_init_5
def dkwX2_init_3 : List UInt8 := [188, 11, 181, 0, 35, 42, 17, 1, 74, 188, 4, 181, 0, 39, 42, 4, 181, 0, 43, 42, 16, 23, 188, 10]
abbrev dktX2_init_3 : List UInt8 := dkwX2_init_3 ++ dktX2_init_4
def dkwX2_init_2 : List UInt8 := [181, 0, 26, 42, 17, 0, 160, 188, 10, 181, 0, 29, 42, 16, 7, 188, 10, 181, 0, 32, 42, 17, 1, 74]
abbrev dktX2_init_2 : List UInt8 := dkwX2_init_2 ++ dktX2_init_3
def dkwX2_init_1 : List UInt8 := [17, 10, 164, 188, 10, 181, 0, 16, 42, 17, 1, 44, 188, 10, 181, 0, 19, 42, 2, 181, 0, 22, 42, 2]
abbrev dktX2_init_1 : List UInt8 := dkwX2_init_1 ++ dktX2_init_2
def dkwX2_init_0 : List UInt8 := [42, 183, 0, 1, 42, 17, 5, 170, 188, 10, 181, 0, 7, 42, 17, 5, 170, 188, 10, 181, 0, 13, 42]
abbrev dktX2_init_0 : List UInt8 := dkwX2_init_0 ++ dktX2_init_1
theorem dksX2_init_0 : cX2_init.data.toList.drop 0 = dktX2_init_0 := by decide +kernel
theorem dksX2_init_1 : cX2_init.data.toList.drop 23 = dktX2_init_1 := dk_seg dksX2_init_0 23 rfl rfl
theorem dksX2_init_2 : cX2_init.data.toList.drop 47 = dktX2_init_2 := dk_seg dksX2_init_1 24 rfl rfl
theorem dksX2_init_3 : cX2_init.data.toList.drop 71 = dktX2_init_3 := dk_seg dksX2_init_2 24 rfl rfl
theorem dksX2_init_4 : cX2_init.data.toList.drop 95 = dktX2_init_4 := dk_seg dksX2_init_3 24 rfl rfl
theorem dksX2_init_5 : cX2_init.data.toList.drop 118 = dktX2_init_5 := dk_seg dksX2_init_4 23 rfl rfl
theorem dksX2_init_6 : cX2_init.data.toList.drop 140 = dktX2_init_6 := dk_seg dksX2_init_5 22 rfl rfl
theorem dksX2_init_7 : cX2_init.data.toList.drop 164 = dktX2_init_7 := dk_seg dksX2_init_6 24 rfl rfl
theorem dX2_init_0 : decode cX2_init 0 = .ok (.aload_n 0, 1) := dk_42 (dk_at dksX2_init_0 0 rfl rfl)
theorem dX2_init_1 : decode cX2_init 1 = .ok (.invokespecial 1, 3) := dk_183 0 1 (dk_at dksX2_init_0 1 rfl rfl)
theorem dX2_init_4 : decode cX2_init 4 = .ok (.aload_n 0, 1) := dk_42 (dk_at dksX2_init_0 4 rfl rfl)
theorem dX2_init_5 : decode cX2_init 5 = .ok (.sipush 1450, 3) := dk_17 5 170 (dk_at dksX2_init_0 5 rfl rfl)
theorem dX2_init_8 : decode cX2_init 8 = .ok (.newarray .int, 2) := dk_188_10 (dk_at dksX2_init_0 8 rfl rfl)
theorem dX2_init_10 : decode cX2_init 10 = .ok (.putfield 7, 3) := dk_181 0 7 (dk_at dksX2_init_0 10 rfl rfl)
theorem dX2_init_13 : decode cX2_init 13 = .ok (.aload_n 0, 1) := dk_42 (dk_at dksX2_init_0 13 rfl rfl)
theorem dX2_init_14 : decode cX2_init 14 = .ok (.sipush 1450, 3) := dk_17 5 170 (dk_at dksX2_init_0 14 rfl rfl)
theorem dX2_init_17 : decode cX2_init 17 = .ok (.newarray .int, 2) := dk_188_10 (dk_at dksX2_init_0 17 rfl rfl)
theorem dX2_init_19 : decode cX2_init 19 = .ok (.putfield 13, 3) := dk_181 0 13 (dk_at dksX2_init_0 19 rfl rfl)
theorem dX2_init_22 : decode cX2_init 22 = .ok (.aload_n 0, 1) := dk_42 (dk_at dksX2_init_0 22 rfl rfl)
theorem dX2_init_23 : decode cX2_init 23 = .ok (.sipush 2724, 3) := dk_17 10 164 (dk_at dksX2_init_1 0 rfl rfl)
theorem dX2_init_26 : decode cX2_init 26 = .ok (.newarray .int, 2) := dk_188_10 (dk_at dksX2_init_1 3 rfl rfl)
theorem dX2_init_28 : decode cX2_init 28 = .ok (.putfield 16, 3) := dk_181 0 16 (dk_at dksX2_init_1 5 rfl rfl)
theorem dX2_init_31 : decode cX2_init 31 = .ok (.aload_n 0, 1) := dk_42 (dk_at dksX2_init_1 8 rfl rfl)
theorem dX2_init_32 : decode cX2_init 32 = .ok (.sipush 300, 3) := dk_17 1 44 (dk_at dksX2_init_1 9 rfl rfl)
theorem dX2_init_35 : decode cX2_init 35 = .ok (.newarray .int, 2) := dk_188_10 (dk_at dksX2_init_1 12 rfl rfl)
theorem dX2_init_37 : decode cX2_init 37 = .ok (.putfield 19, 3) := dk_181 0 19 (dk_at dksX2_init_1 14 rfl rfl)
theorem dX2_init_40 : decode cX2_init 40 = .ok (.aload_n 0, 1) := dk_42 (dk_at dksX2_init_1 17 rfl rfl)
theorem dX2_init_41 : decode cX2_init 41 = .ok (.iconst (-1), 1) := dk_2 (dk_at dksX2_init_1 18 rfl rfl)
theorem dX2_init_42 : decode cX2_init 42 = .ok (.putfield 22, 3) := dk_181 0 22 (dk_at dksX2_init_1 19 rfl rfl)
theorem dX2_init_45 : decode cX2_init 45 = .ok (.aload_n 0, 1) := dk_42 (dk_at dksX2_init_1 22 rfl rfl)
theorem dX2_init_46 : decode cX2_init 46 = .ok (.iconst (-1), 1) := dk_2 (dk_at dksX2_init_1 23 rfl rfl)
theorem dX2_init_47 : decode cX2_init 47 = .ok (.putfield 26, 3) := dk_181 0 26 (dk_at dksX2_init_2 0 rfl rfl)
theorem dX2_init_50 : decode cX2_init 50 = .ok (.aload_n 0, 1) := dk_42 (dk_at dksX2_init_2 3 rfl rfl)
theorem dX2_init_51 : decode cX2_init 51 = .ok (.sipush 160, 3) := dk_17 0 160 (dk_at dksX2_init_2 4 rfl rfl)
theorem dX2_init_54 : decode cX2_init 54 = .ok (.newarray .int, 2) := dk_188_10 (dk_at dksX2_init_2 7 rfl rfl)
theorem dX2_init_56 : decode cX2_init 56 = .ok (.putfield 29, 3) := dk_181 0 29 (dk_at dksX2_init_2 9 rfl rfl)
theorem dX2_init_59 : decode cX2_init 59 = .ok (.aload_n 0, 1) := dk_42 (dk_at dksX2_init_2 12 rfl rfl)
theorem dX2_init_60 : decode cX2_init 60 = .ok (.bipush 7, 2) := dk_16 7 (dk_at dksX2_init_2 13 rfl rfl)
theorem dX2_init_62 : decode cX2_init 62 = .ok (.newarray .int, 2) := dk_188_10 (dk_at dksX2_init_2 15 rfl rfl)
theorem dX2_init_64 : decode cX2_init 64 = .ok (.putfield 32, 3) := dk_181 0 32 (dk_at dksX2_init_2 17 rfl rfl)
theorem dX2_init_67 : decode cX2_init 67 = .ok (.aload_n 0, 1) := dk_42 (dk_at dksX2_init_2 20 rfl rfl)
theorem dX2_init_68 : decode cX2_init 68 = .ok (.sipush 330, 3) := dk_17 1 74 (dk_at dksX2_init_2 21 rfl rfl)
theorem dX2_init_71 : decode cX2_init 71 = .ok (.newarray .long, 2) := dk_188_11 (dk_at dksX2_init_3 0 rfl rfl)
theorem dX2_init_73 : decode cX2_init 73 = .ok (.putfield 35, 3) := dk_181 0 35 (dk_at dksX2_init_3 2 rfl rfl)
theorem dX2_init_76 : decode cX2_init 76 = .ok (.aload_n 0, 1) := dk_42 (dk_at dksX2_init_3 5 rfl rfl)
theorem dX2_init_77 : decode cX2_init 77 = .ok (.sipush 330, 3) := dk_17 1 74 (dk_at dksX2_init_3 6 rfl rfl)
theorem dX2_init_80 : decode cX2_init 80 = .ok (.newarray .boolean, 2) := dk_188_4 (dk_at dksX2_init_3 9 rfl rfl)
theorem dX2_init_82 : decode cX2_init 82 = .ok (.putfield 39, 3) := dk_181 0 39 (dk_at dksX2_init_3 11 rfl rfl)
theorem dX2_init_85 : decode cX2_init 85 = .ok (.aload_n 0, 1) := dk_42 (dk_at dksX2_init_3 14 rfl rfl)
theorem dX2_init_86 : decode cX2_init 86 = .ok (.iconst 1, 1) := dk_4 (dk_at dksX2_init_3 15 rfl rfl)
theorem dX2_init_87 : decode cX2_init 87 = .ok (.putfield 43, 3) := dk_181 0 43 (dk_at dksX2_init_3 16 rfl rfl)
theorem dX2_init_90 : decode cX2_init 90 = .ok (.aload_n 0, 1) := dk_42 (dk_at dksX2_init_3 19 rfl rfl)
theorem dX2_init_91 : decode cX2_init 91 = .ok (.bipush 23, 2) := dk_16 23 (dk_at dksX2_init_3 20 rfl rfl)
theorem dX2_init_93 : decode cX2_init 93 = .ok (.newarray .int, 2) := dk_188_10 (dk_at dksX2_init_3 22 rfl rfl)
theorem dX2_init_95 : decode cX2_init 95 = .ok (.putfield 47, 3) := dk_181 0 47 (dk_at dksX2_init_4 0 rfl rfl)
theorem dX2_init_98 : decode cX2_init 98 = .ok (.aload_n 0, 1) := dk_42 (dk_at dksX2_init_4 3 rfl rfl)
theorem dX2_init_99 : decode cX2_init 99 = .ok (.bipush 6, 2) := dk_16 6 (dk_at dksX2_init_4 4 rfl rfl)
theorem dX2_init_101 : decode cX2_init 101 = .ok (.newarray .int, 2) := dk_188_10 (dk_at dksX2_init_4 6 rfl rfl)
theorem dX2_init_103 : decode cX2_init 103 = .ok (.putfield 50, 3) := dk_181 0 50 (dk_at dksX2_init_4 8 rfl rfl)
theorem dX2_init_106 : decode cX2_init 106 = .ok (.aload_n 0, 1) := dk_42 (dk_at dksX2_init_4 11 rfl rfl)
theorem dX2_init_107 : decode cX2_init 107 = .ok (.bipush 6, 2) := dk_16 6 (dk_at dksX2_init_4 12 rfl rfl)
theorem dX2_init_109 : decode cX2_init 109 = .ok (.newarray .int, 2) := dk_188_10 (dk_at dksX2_init_4 14 rfl rfl)
theorem dX2_init_111 : decode cX2_init 111 = .ok (.putfield 53, 3) := dk_181 0 53 (dk_at dksX2_init_4 16 rfl rfl)
theorem dX2_init_114 : decode cX2_init 114 = .ok (.aload_n 0, 1) := dk_42 (dk_at dksX2_init_4 19 rfl rfl)
theorem dX2_init_115 : decode cX2_init 115 = .ok (.sipush 144, 3) := dk_17 0 144 (dk_at dksX2_init_4 20 rfl rfl)
theorem dX2_init_118 : decode cX2_init 118 = .ok (.newarray .boolean, 2) := dk_188_4 (dk_at dksX2_init_5 0 rfl rfl)
theorem dX2_init_120 : decode cX2_init 120 = .ok (.putfield 56, 3) := dk_181 0 56 (dk_at dksX2_init_5 2 rfl rfl)
theorem dX2_init_123 : decode cX2_init 123 = .ok (.aload_n 0, 1) := dk_42 (dk_at dksX2_init_5 5 rfl rfl)
theorem dX2_init_124 : decode cX2_init 124 = .ok (.bipush 125, 2) := dk_16 125 (dk_at dksX2_init_5 6 rfl rfl)
theorem dX2_init_126 : decode cX2_init 126 = .ok (.newarray .int, 2) := dk_188_10 (dk_at dksX2_init_5 8 rfl rfl)
theorem dX2_init_128 : decode cX2_init 128 = .ok (.putfield 59, 3) := dk_181 0 59 (dk_at dksX2_init_5 10 rfl rfl)
theorem dX2_init_131 : decode cX2_init 131 = .ok (.aload_n 0, 1) := dk_42 (dk_at dksX2_init_5 13 rfl rfl)
theorem dX2_init_132 : decode cX2_init 132 = .ok (.bipush 31, 2) := dk_16 31 (dk_at dksX2_init_5 14 rfl rfl)
theorem dX2_init_134 : decode cX2_init 134 = .ok (.newarray .int, 2) := dk_188_10 (dk_at dksX2_init_5 16 rfl rfl)
theorem dX2_init_136 : decode cX2_init 136 = .ok (.putfield 62, 3) := dk_181 0 62 (dk_at dksX2_init_5 18 rfl rfl)
theorem dX2_init_139 : decode cX2_init 139 = .ok (.aload_n 0, 1) := dk_42 (dk_at dksX2_init_5 21 rfl rfl)
theorem dX2_init_140 : decode cX2_init 140 = .ok (.sipush 7776, 3) := dk_17 30 96 (dk_at dksX2_init_6 0 rfl rfl)
theorem dX2_init_143 : decode cX2_init 143 = .ok (.newarray .boolean, 2) := dk_188_4 (dk_at dksX2_init_6 3 rfl rfl)
theorem dX2_init_145 : decode cX2_init 145 = .ok (.putfield 65, 3) := dk_181 0 65 (dk_at dksX2_init_6 5 rfl rfl)
theorem dX2_init_148 : decode cX2_init 148 = .ok (.aload_n 0, 1) := dk_42 (dk_at dksX2_init_6 8 rfl rfl)
theorem dX2_init_149 : decode cX2_init 149 = .ok (.getfield 7, 3) := dk_180 0 7 (dk_at dksX2_init_6 9 rfl rfl)
theorem dX2_init_152 : decode cX2_init 152 = .ok (.bipush 8, 2) := dk_16 8 (dk_at dksX2_init_6 12 rfl rfl)
theorem dX2_init_154 : decode cX2_init 154 = .ok (.sipush 421, 3) := dk_17 1 165 (dk_at dksX2_init_6 14 rfl rfl)
theorem dX2_init_157 : decode cX2_init 157 = .ok (.iastore, 1) := dk_79 (dk_at dksX2_init_6 17 rfl rfl)
theorem dX2_init_158 : decode cX2_init 158 = .ok (.aload_n 0, 1) := dk_42 (dk_at dksX2_init_6 18 rfl rfl)
theorem dX2_init_159 : decode cX2_init 159 = .ok (.getfield 7, 3) := dk_180 0 7 (dk_at dksX2_init_6 19 rfl rfl)
theorem dX2_init_162 : decode cX2_init 162 = .ok (.iconst 2, 1) := dk_5 (dk_at dksX2_init_6 22 rfl rfl)
theorem dX2_init_163 : decode cX2_init 163 = .ok (.iconst (-1), 1) := dk_2 (dk_at dksX2_init_6 23 rfl rfl)
theorem dX2_init_164 : decode cX2_init 164 = .ok (.iastore, 1) := dk_79 (dk_at dksX2_init_7 0 rfl rfl)
theorem dX2_init_165 : decode cX2_init 165 = .ok (.aload_n 0, 1) := dk_42 (dk_at dksX2_init_7 1 rfl rfl)
theorem dX2_init_166 : decode cX2_init 166 = .ok (.getfield 7, 3) := dk_180 0 7 (dk_at dksX2_init_7 2 rfl rfl)
theorem dX2_init_169 : decode cX2_init 169 = .ok (.aload_n 0, 1) := dk_42 (dk_at dksX2_init_7 5 rfl rfl)
theorem dX2_init_170 : decode cX2_init 170 = .ok (.getfield 13, 3) := dk_180 0 13 (dk_at dksX2_init_7 6 rfl rfl)
theorem dX2_init_173 : decode cX2_init 173 = .ok (.invokestatic 68, 3) := dk_184 0 68 (dk_at dksX2_init_7 9 rfl rfl)
theorem dX2_init_176 : decode cX2_init 176 = .ok (.return_, 1) := dk_177 (dk_at dksX2_init_7 12 rfl rfl)
abbrev cX2_copy : ByteArray := prog_20_method_2_code
def yX2_copy : MethodName := ⟨RX2, "copy", "([I[I)V"⟩
def dkwX2_copy_0 : List UInt8 := [3, 61, 28, 17, 5, 170, 162, 0, 15, 43, 28, 42, 28, 46, 79, 132, 2, 1, 167, 255, 240, 177]
abbrev dktX2_copy_0 : List UInt8 := dkwX2_copy_0 ++ []
theorem dksX2_copy_0 : cX2_copy.data.toList.drop 0 = dktX2_copy_0 := by decide +kernel
theorem dX2_copy_0 : decode cX2_copy 0 = .ok (.iconst 0, 1) := dk_3 (dk_at dksX2_copy_0 0 rfl rfl)
theorem dX2_copy_1 : decode cX2_copy 1 = .ok (.istore_n 2, 1) := dk_61 (dk_at dksX2_copy_0 1 rfl rfl)
theorem dX2_copy_2 : decode cX2_copy 2 = .ok (.iload_n 2, 1) := dk_28 (dk_at dksX2_copy_0 2 rfl rfl)
theorem dX2_copy_3 : decode cX2_copy 3 = .ok (.sipush 1450, 3) := dk_17 5 170 (dk_at dksX2_copy_0 3 rfl rfl)
theorem dX2_copy_6 : decode cX2_copy 6 = .ok (.if_icmp .ge 15, 3) := dk_162 0 15 (dk_at dksX2_copy_0 6 rfl rfl)
theorem dX2_copy_9 : decode cX2_copy 9 = .ok (.aload_n 1, 1) := dk_43 (dk_at dksX2_copy_0 9 rfl rfl)
theorem dX2_copy_10 : decode cX2_copy 10 = .ok (.iload_n 2, 1) := dk_28 (dk_at dksX2_copy_0 10 rfl rfl)
theorem dX2_copy_11 : decode cX2_copy 11 = .ok (.aload_n 0, 1) := dk_42 (dk_at dksX2_copy_0 11 rfl rfl)
theorem dX2_copy_12 : decode cX2_copy 12 = .ok (.iload_n 2, 1) := dk_28 (dk_at dksX2_copy_0 12 rfl rfl)
theorem dX2_copy_13 : decode cX2_copy 13 = .ok (.iaload, 1) := dk_46 (dk_at dksX2_copy_0 13 rfl rfl)
theorem dX2_copy_14 : decode cX2_copy 14 = .ok (.iastore, 1) := dk_79 (dk_at dksX2_copy_0 14 rfl rfl)
theorem dX2_copy_15 : decode cX2_copy 15 = .ok (.iinc 2 1, 3) := dk_132 2 1 (dk_at dksX2_copy_0 15 rfl rfl)
theorem dX2_copy_18 : decode cX2_copy 18 = .ok (.goto (-16), 3) := dk_167 255 240 (dk_at dksX2_copy_0 18 rfl rfl)
theorem dX2_copy_21 : decode cX2_copy 21 = .ok (.return_, 1) := dk_177 (dk_at dksX2_copy_0 21 rfl rfl)
abbrev cX2_kin : ByteArray := prog_20_method_12_code
def yX2_kin : MethodName := ⟨RX2, "kin", "(II)I"⟩
def dkwX2_kin_3 : List UInt8 := [4, 96, 79, 29, 172]
abbrev dktX2_kin_3 : List UInt8 := dkwX2_kin_3 ++ []
def dkwX2_kin_2 : List UInt8 := [27, 79, 42, 180, 0, 7, 16, 29, 29, 96, 28, 79, 42, 29, 182, 0, 88, 42, 180, 0, 7, 3, 92, 46]
abbrev dktX2_kin_2 : List UInt8 := dkwX2_kin_2 ++ dktX2_kin_3
def dkwX2_kin_1 : List UInt8 := [3, 46, 16, 6, 160, 0, 5, 2, 172, 42, 180, 0, 7, 3, 46, 62, 42, 180, 0, 7, 16, 23, 29, 96]
abbrev dktX2_kin_1 : List UInt8 := dkwX2_kin_1 ++ dktX2_kin_2
def dkwX2_kin_0 : List UInt8 := [27, 3, 16, 9, 184, 0, 72, 153, 0, 24, 28, 3, 16, 99, 184, 0, 72, 153, 0, 14, 42, 180, 0, 7]
abbrev dktX2_kin_0 : List UInt8 := dkwX2_kin_0 ++ dktX2_kin_1
theorem dksX2_kin_0 : cX2_kin.data.toList.drop 0 = dktX2_kin_0 := by decide +kernel
theorem dksX2_kin_1 : cX2_kin.data.toList.drop 24 = dktX2_kin_1 := dk_seg dksX2_kin_0 24 rfl rfl
theorem dksX2_kin_2 : cX2_kin.data.toList.drop 48 = dktX2_kin_2 := dk_seg dksX2_kin_1 24 rfl rfl
theorem dksX2_kin_3 : cX2_kin.data.toList.drop 72 = dktX2_kin_3 := dk_seg dksX2_kin_2 24 rfl rfl
theorem dX2_kin_0 : decode cX2_kin 0 = .ok (.iload_n 1, 1) := dk_27 (dk_at dksX2_kin_0 0 rfl rfl)
theorem dX2_kin_1 : decode cX2_kin 1 = .ok (.iconst 0, 1) := dk_3 (dk_at dksX2_kin_0 1 rfl rfl)
theorem dX2_kin_2 : decode cX2_kin 2 = .ok (.bipush 9, 2) := dk_16 9 (dk_at dksX2_kin_0 2 rfl rfl)
theorem dX2_kin_4 : decode cX2_kin 4 = .ok (.invokestatic 72, 3) := dk_184 0 72 (dk_at dksX2_kin_0 4 rfl rfl)
theorem dX2_kin_7 : decode cX2_kin 7 = .ok (.ifCond .eq 24, 3) := dk_153 0 24 (dk_at dksX2_kin_0 7 rfl rfl)
theorem dX2_kin_10 : decode cX2_kin 10 = .ok (.iload_n 2, 1) := dk_28 (dk_at dksX2_kin_0 10 rfl rfl)
theorem dX2_kin_11 : decode cX2_kin 11 = .ok (.iconst 0, 1) := dk_3 (dk_at dksX2_kin_0 11 rfl rfl)
theorem dX2_kin_12 : decode cX2_kin 12 = .ok (.bipush 99, 2) := dk_16 99 (dk_at dksX2_kin_0 12 rfl rfl)
theorem dX2_kin_14 : decode cX2_kin 14 = .ok (.invokestatic 72, 3) := dk_184 0 72 (dk_at dksX2_kin_0 14 rfl rfl)
theorem dX2_kin_17 : decode cX2_kin 17 = .ok (.ifCond .eq 14, 3) := dk_153 0 14 (dk_at dksX2_kin_0 17 rfl rfl)
theorem dX2_kin_20 : decode cX2_kin 20 = .ok (.aload_n 0, 1) := dk_42 (dk_at dksX2_kin_0 20 rfl rfl)
theorem dX2_kin_21 : decode cX2_kin 21 = .ok (.getfield 7, 3) := dk_180 0 7 (dk_at dksX2_kin_0 21 rfl rfl)
theorem dX2_kin_24 : decode cX2_kin 24 = .ok (.iconst 0, 1) := dk_3 (dk_at dksX2_kin_1 0 rfl rfl)
theorem dX2_kin_25 : decode cX2_kin 25 = .ok (.iaload, 1) := dk_46 (dk_at dksX2_kin_1 1 rfl rfl)
theorem dX2_kin_26 : decode cX2_kin 26 = .ok (.bipush 6, 2) := dk_16 6 (dk_at dksX2_kin_1 2 rfl rfl)
theorem dX2_kin_28 : decode cX2_kin 28 = .ok (.if_icmp .ne 5, 3) := dk_160 0 5 (dk_at dksX2_kin_1 4 rfl rfl)
theorem dX2_kin_31 : decode cX2_kin 31 = .ok (.iconst (-1), 1) := dk_2 (dk_at dksX2_kin_1 7 rfl rfl)
theorem dX2_kin_32 : decode cX2_kin 32 = .ok (.ireturn, 1) := dk_172 (dk_at dksX2_kin_1 8 rfl rfl)
theorem dX2_kin_33 : decode cX2_kin 33 = .ok (.aload_n 0, 1) := dk_42 (dk_at dksX2_kin_1 9 rfl rfl)
theorem dX2_kin_34 : decode cX2_kin 34 = .ok (.getfield 7, 3) := dk_180 0 7 (dk_at dksX2_kin_1 10 rfl rfl)
theorem dX2_kin_37 : decode cX2_kin 37 = .ok (.iconst 0, 1) := dk_3 (dk_at dksX2_kin_1 13 rfl rfl)
theorem dX2_kin_38 : decode cX2_kin 38 = .ok (.iaload, 1) := dk_46 (dk_at dksX2_kin_1 14 rfl rfl)
theorem dX2_kin_39 : decode cX2_kin 39 = .ok (.istore_n 3, 1) := dk_62 (dk_at dksX2_kin_1 15 rfl rfl)
theorem dX2_kin_40 : decode cX2_kin 40 = .ok (.aload_n 0, 1) := dk_42 (dk_at dksX2_kin_1 16 rfl rfl)
theorem dX2_kin_41 : decode cX2_kin 41 = .ok (.getfield 7, 3) := dk_180 0 7 (dk_at dksX2_kin_1 17 rfl rfl)
theorem dX2_kin_44 : decode cX2_kin 44 = .ok (.bipush 23, 2) := dk_16 23 (dk_at dksX2_kin_1 20 rfl rfl)
theorem dX2_kin_46 : decode cX2_kin 46 = .ok (.iload_n 3, 1) := dk_29 (dk_at dksX2_kin_1 22 rfl rfl)
theorem dX2_kin_47 : decode cX2_kin 47 = .ok (.iadd, 1) := dk_96 (dk_at dksX2_kin_1 23 rfl rfl)
theorem dX2_kin_48 : decode cX2_kin 48 = .ok (.iload_n 1, 1) := dk_27 (dk_at dksX2_kin_2 0 rfl rfl)
theorem dX2_kin_49 : decode cX2_kin 49 = .ok (.iastore, 1) := dk_79 (dk_at dksX2_kin_2 1 rfl rfl)
theorem dX2_kin_50 : decode cX2_kin 50 = .ok (.aload_n 0, 1) := dk_42 (dk_at dksX2_kin_2 2 rfl rfl)
theorem dX2_kin_51 : decode cX2_kin 51 = .ok (.getfield 7, 3) := dk_180 0 7 (dk_at dksX2_kin_2 3 rfl rfl)
theorem dX2_kin_54 : decode cX2_kin 54 = .ok (.bipush 29, 2) := dk_16 29 (dk_at dksX2_kin_2 6 rfl rfl)
theorem dX2_kin_56 : decode cX2_kin 56 = .ok (.iload_n 3, 1) := dk_29 (dk_at dksX2_kin_2 8 rfl rfl)
theorem dX2_kin_57 : decode cX2_kin 57 = .ok (.iadd, 1) := dk_96 (dk_at dksX2_kin_2 9 rfl rfl)
theorem dX2_kin_58 : decode cX2_kin 58 = .ok (.iload_n 2, 1) := dk_28 (dk_at dksX2_kin_2 10 rfl rfl)
theorem dX2_kin_59 : decode cX2_kin 59 = .ok (.iastore, 1) := dk_79 (dk_at dksX2_kin_2 11 rfl rfl)
theorem dX2_kin_60 : decode cX2_kin 60 = .ok (.aload_n 0, 1) := dk_42 (dk_at dksX2_kin_2 12 rfl rfl)
theorem dX2_kin_61 : decode cX2_kin 61 = .ok (.iload_n 3, 1) := dk_29 (dk_at dksX2_kin_2 13 rfl rfl)
theorem dX2_kin_62 : decode cX2_kin 62 = .ok (.invokevirtual 88, 3) := dk_182 0 88 (dk_at dksX2_kin_2 14 rfl rfl)
theorem dX2_kin_65 : decode cX2_kin 65 = .ok (.aload_n 0, 1) := dk_42 (dk_at dksX2_kin_2 17 rfl rfl)
theorem dX2_kin_66 : decode cX2_kin 66 = .ok (.getfield 7, 3) := dk_180 0 7 (dk_at dksX2_kin_2 18 rfl rfl)
theorem dX2_kin_69 : decode cX2_kin 69 = .ok (.iconst 0, 1) := dk_3 (dk_at dksX2_kin_2 21 rfl rfl)
theorem dX2_kin_70 : decode cX2_kin 70 = .ok (.dup2, 1) := dk_92 (dk_at dksX2_kin_2 22 rfl rfl)
theorem dX2_kin_71 : decode cX2_kin 71 = .ok (.iaload, 1) := dk_46 (dk_at dksX2_kin_2 23 rfl rfl)
theorem dX2_kin_72 : decode cX2_kin 72 = .ok (.iconst 1, 1) := dk_4 (dk_at dksX2_kin_3 0 rfl rfl)
theorem dX2_kin_73 : decode cX2_kin 73 = .ok (.iadd, 1) := dk_96 (dk_at dksX2_kin_3 1 rfl rfl)
theorem dX2_kin_74 : decode cX2_kin 74 = .ok (.iastore, 1) := dk_79 (dk_at dksX2_kin_3 2 rfl rfl)
theorem dX2_kin_75 : decode cX2_kin 75 = .ok (.iload_n 3, 1) := dk_29 (dk_at dksX2_kin_3 3 rfl rfl)
theorem dX2_kin_76 : decode cX2_kin 76 = .ok (.ireturn, 1) := dk_172 (dk_at dksX2_kin_3 4 rfl rfl)
abbrev cX2_isIn : ByteArray := prog_20_method_3_code
def yX2_isIn : MethodName := ⟨RX2, "isIn", "(III)Z"⟩
def dkwX2_isIn_0 : List UInt8 := [26, 27, 161, 0, 12, 26, 28, 163, 0, 7, 4, 167, 0, 4, 3, 172]
abbrev dktX2_isIn_0 : List UInt8 := dkwX2_isIn_0 ++ []
theorem dksX2_isIn_0 : cX2_isIn.data.toList.drop 0 = dktX2_isIn_0 := by decide +kernel
theorem dX2_isIn_0 : decode cX2_isIn 0 = .ok (.iload_n 0, 1) := dk_26 (dk_at dksX2_isIn_0 0 rfl rfl)
theorem dX2_isIn_1 : decode cX2_isIn 1 = .ok (.iload_n 1, 1) := dk_27 (dk_at dksX2_isIn_0 1 rfl rfl)
theorem dX2_isIn_2 : decode cX2_isIn 2 = .ok (.if_icmp .lt 12, 3) := dk_161 0 12 (dk_at dksX2_isIn_0 2 rfl rfl)
theorem dX2_isIn_5 : decode cX2_isIn 5 = .ok (.iload_n 0, 1) := dk_26 (dk_at dksX2_isIn_0 5 rfl rfl)
theorem dX2_isIn_6 : decode cX2_isIn 6 = .ok (.iload_n 2, 1) := dk_28 (dk_at dksX2_isIn_0 6 rfl rfl)
theorem dX2_isIn_7 : decode cX2_isIn 7 = .ok (.if_icmp .gt 7, 3) := dk_163 0 7 (dk_at dksX2_isIn_0 7 rfl rfl)
theorem dX2_isIn_10 : decode cX2_isIn 10 = .ok (.iconst 1, 1) := dk_4 (dk_at dksX2_isIn_0 10 rfl rfl)
theorem dX2_isIn_11 : decode cX2_isIn 11 = .ok (.goto 4, 3) := dk_167 0 4 (dk_at dksX2_isIn_0 11 rfl rfl)
theorem dX2_isIn_14 : decode cX2_isIn 14 = .ok (.iconst 0, 1) := dk_3 (dk_at dksX2_isIn_0 14 rfl rfl)
theorem dX2_isIn_15 : decode cX2_isIn 15 = .ok (.ireturn, 1) := dk_172 (dk_at dksX2_isIn_0 15 rfl rfl)
abbrev cX2_begin : ByteArray := prog_20_method_13_code
def yX2_begin : MethodName := ⟨RX2, "begin", "(I)V"⟩
def dkwX2_begin_1 : List UInt8 := [27, 96, 27, 79, 177]
abbrev dktX2_begin_1 : List UInt8 := dkwX2_begin_1 ++ []
def dkwX2_begin_0 : List UInt8 := [42, 180, 0, 7, 16, 11, 27, 96, 42, 180, 0, 7, 16, 29, 27, 96, 46, 79, 42, 180, 0, 7, 16, 17]
abbrev dktX2_begin_0 : List UInt8 := dkwX2_begin_0 ++ dktX2_begin_1
theorem dksX2_begin_0 : cX2_begin.data.toList.drop 0 = dktX2_begin_0 := by decide +kernel
theorem dksX2_begin_1 : cX2_begin.data.toList.drop 24 = dktX2_begin_1 := dk_seg dksX2_begin_0 24 rfl rfl
theorem dX2_begin_0 : decode cX2_begin 0 = .ok (.aload_n 0, 1) := dk_42 (dk_at dksX2_begin_0 0 rfl rfl)
theorem dX2_begin_1 : decode cX2_begin 1 = .ok (.getfield 7, 3) := dk_180 0 7 (dk_at dksX2_begin_0 1 rfl rfl)
theorem dX2_begin_4 : decode cX2_begin 4 = .ok (.bipush 11, 2) := dk_16 11 (dk_at dksX2_begin_0 4 rfl rfl)
theorem dX2_begin_6 : decode cX2_begin 6 = .ok (.iload_n 1, 1) := dk_27 (dk_at dksX2_begin_0 6 rfl rfl)
theorem dX2_begin_7 : decode cX2_begin 7 = .ok (.iadd, 1) := dk_96 (dk_at dksX2_begin_0 7 rfl rfl)
theorem dX2_begin_8 : decode cX2_begin 8 = .ok (.aload_n 0, 1) := dk_42 (dk_at dksX2_begin_0 8 rfl rfl)
theorem dX2_begin_9 : decode cX2_begin 9 = .ok (.getfield 7, 3) := dk_180 0 7 (dk_at dksX2_begin_0 9 rfl rfl)
theorem dX2_begin_12 : decode cX2_begin 12 = .ok (.bipush 29, 2) := dk_16 29 (dk_at dksX2_begin_0 12 rfl rfl)
theorem dX2_begin_14 : decode cX2_begin 14 = .ok (.iload_n 1, 1) := dk_27 (dk_at dksX2_begin_0 14 rfl rfl)
theorem dX2_begin_15 : decode cX2_begin 15 = .ok (.iadd, 1) := dk_96 (dk_at dksX2_begin_0 15 rfl rfl)
theorem dX2_begin_16 : decode cX2_begin 16 = .ok (.iaload, 1) := dk_46 (dk_at dksX2_begin_0 16 rfl rfl)
theorem dX2_begin_17 : decode cX2_begin 17 = .ok (.iastore, 1) := dk_79 (dk_at dksX2_begin_0 17 rfl rfl)
theorem dX2_begin_18 : decode cX2_begin 18 = .ok (.aload_n 0, 1) := dk_42 (dk_at dksX2_begin_0 18 rfl rfl)
theorem dX2_begin_19 : decode cX2_begin 19 = .ok (.getfield 7, 3) := dk_180 0 7 (dk_at dksX2_begin_0 19 rfl rfl)
theorem dX2_begin_22 : decode cX2_begin 22 = .ok (.bipush 17, 2) := dk_16 17 (dk_at dksX2_begin_0 22 rfl rfl)
theorem dX2_begin_24 : decode cX2_begin 24 = .ok (.iload_n 1, 1) := dk_27 (dk_at dksX2_begin_1 0 rfl rfl)
theorem dX2_begin_25 : decode cX2_begin 25 = .ok (.iadd, 1) := dk_96 (dk_at dksX2_begin_1 1 rfl rfl)
theorem dX2_begin_26 : decode cX2_begin 26 = .ok (.iload_n 1, 1) := dk_27 (dk_at dksX2_begin_1 2 rfl rfl)
theorem dX2_begin_27 : decode cX2_begin 27 = .ok (.iastore, 1) := dk_79 (dk_at dksX2_begin_1 3 rfl rfl)
theorem dX2_begin_28 : decode cX2_begin 28 = .ok (.return_, 1) := dk_177 (dk_at dksX2_begin_1 4 rfl rfl)
abbrev cX2_spite : ByteArray := prog_20_method_14_code
def yX2_spite : MethodName := ⟨RX2, "spite", "(III)Z"⟩
def dkwX2_spite_2 : List UInt8 := [79, 42, 180, 0, 7, 16, 35, 16, 6, 28, 104, 96, 27, 96, 29, 79, 4, 172]
abbrev dktX2_spite_2 : List UInt8 := dkwX2_spite_2 ++ []
def dkwX2_spite_1 : List UInt8 := [16, 99, 184, 0, 72, 154, 0, 5, 3, 172, 42, 180, 0, 7, 16, 35, 16, 6, 27, 104, 96, 28, 96, 29]
abbrev dktX2_spite_1 : List UInt8 := dkwX2_spite_1 ++ dktX2_spite_2
def dkwX2_spite_0 : List UInt8 := [42, 27, 182, 0, 92, 153, 0, 26, 42, 28, 182, 0, 92, 153, 0, 18, 27, 28, 159, 0, 13, 29, 3]
abbrev dktX2_spite_0 : List UInt8 := dkwX2_spite_0 ++ dktX2_spite_1
theorem dksX2_spite_0 : cX2_spite.data.toList.drop 0 = dktX2_spite_0 := by decide +kernel
theorem dksX2_spite_1 : cX2_spite.data.toList.drop 23 = dktX2_spite_1 := dk_seg dksX2_spite_0 23 rfl rfl
theorem dksX2_spite_2 : cX2_spite.data.toList.drop 47 = dktX2_spite_2 := dk_seg dksX2_spite_1 24 rfl rfl
theorem dX2_spite_0 : decode cX2_spite 0 = .ok (.aload_n 0, 1) := dk_42 (dk_at dksX2_spite_0 0 rfl rfl)
theorem dX2_spite_1 : decode cX2_spite 1 = .ok (.iload_n 1, 1) := dk_27 (dk_at dksX2_spite_0 1 rfl rfl)
theorem dX2_spite_2 : decode cX2_spite 2 = .ok (.invokevirtual 92, 3) := dk_182 0 92 (dk_at dksX2_spite_0 2 rfl rfl)
theorem dX2_spite_5 : decode cX2_spite 5 = .ok (.ifCond .eq 26, 3) := dk_153 0 26 (dk_at dksX2_spite_0 5 rfl rfl)
theorem dX2_spite_8 : decode cX2_spite 8 = .ok (.aload_n 0, 1) := dk_42 (dk_at dksX2_spite_0 8 rfl rfl)
theorem dX2_spite_9 : decode cX2_spite 9 = .ok (.iload_n 2, 1) := dk_28 (dk_at dksX2_spite_0 9 rfl rfl)
theorem dX2_spite_10 : decode cX2_spite 10 = .ok (.invokevirtual 92, 3) := dk_182 0 92 (dk_at dksX2_spite_0 10 rfl rfl)
theorem dX2_spite_13 : decode cX2_spite 13 = .ok (.ifCond .eq 18, 3) := dk_153 0 18 (dk_at dksX2_spite_0 13 rfl rfl)
theorem dX2_spite_16 : decode cX2_spite 16 = .ok (.iload_n 1, 1) := dk_27 (dk_at dksX2_spite_0 16 rfl rfl)
theorem dX2_spite_17 : decode cX2_spite 17 = .ok (.iload_n 2, 1) := dk_28 (dk_at dksX2_spite_0 17 rfl rfl)
theorem dX2_spite_18 : decode cX2_spite 18 = .ok (.if_icmp .eq 13, 3) := dk_159 0 13 (dk_at dksX2_spite_0 18 rfl rfl)
theorem dX2_spite_21 : decode cX2_spite 21 = .ok (.iload_n 3, 1) := dk_29 (dk_at dksX2_spite_0 21 rfl rfl)
theorem dX2_spite_22 : decode cX2_spite 22 = .ok (.iconst 0, 1) := dk_3 (dk_at dksX2_spite_0 22 rfl rfl)
theorem dX2_spite_23 : decode cX2_spite 23 = .ok (.bipush 99, 2) := dk_16 99 (dk_at dksX2_spite_1 0 rfl rfl)
theorem dX2_spite_25 : decode cX2_spite 25 = .ok (.invokestatic 72, 3) := dk_184 0 72 (dk_at dksX2_spite_1 2 rfl rfl)
theorem dX2_spite_28 : decode cX2_spite 28 = .ok (.ifCond .ne 5, 3) := dk_154 0 5 (dk_at dksX2_spite_1 5 rfl rfl)
theorem dX2_spite_31 : decode cX2_spite 31 = .ok (.iconst 0, 1) := dk_3 (dk_at dksX2_spite_1 8 rfl rfl)
theorem dX2_spite_32 : decode cX2_spite 32 = .ok (.ireturn, 1) := dk_172 (dk_at dksX2_spite_1 9 rfl rfl)
theorem dX2_spite_33 : decode cX2_spite 33 = .ok (.aload_n 0, 1) := dk_42 (dk_at dksX2_spite_1 10 rfl rfl)
theorem dX2_spite_34 : decode cX2_spite 34 = .ok (.getfield 7, 3) := dk_180 0 7 (dk_at dksX2_spite_1 11 rfl rfl)
theorem dX2_spite_37 : decode cX2_spite 37 = .ok (.bipush 35, 2) := dk_16 35 (dk_at dksX2_spite_1 14 rfl rfl)
theorem dX2_spite_39 : decode cX2_spite 39 = .ok (.bipush 6, 2) := dk_16 6 (dk_at dksX2_spite_1 16 rfl rfl)
theorem dX2_spite_41 : decode cX2_spite 41 = .ok (.iload_n 1, 1) := dk_27 (dk_at dksX2_spite_1 18 rfl rfl)
theorem dX2_spite_42 : decode cX2_spite 42 = .ok (.imul, 1) := dk_104 (dk_at dksX2_spite_1 19 rfl rfl)
theorem dX2_spite_43 : decode cX2_spite 43 = .ok (.iadd, 1) := dk_96 (dk_at dksX2_spite_1 20 rfl rfl)
theorem dX2_spite_44 : decode cX2_spite 44 = .ok (.iload_n 2, 1) := dk_28 (dk_at dksX2_spite_1 21 rfl rfl)
theorem dX2_spite_45 : decode cX2_spite 45 = .ok (.iadd, 1) := dk_96 (dk_at dksX2_spite_1 22 rfl rfl)
theorem dX2_spite_46 : decode cX2_spite 46 = .ok (.iload_n 3, 1) := dk_29 (dk_at dksX2_spite_1 23 rfl rfl)
theorem dX2_spite_47 : decode cX2_spite 47 = .ok (.iastore, 1) := dk_79 (dk_at dksX2_spite_2 0 rfl rfl)
theorem dX2_spite_48 : decode cX2_spite 48 = .ok (.aload_n 0, 1) := dk_42 (dk_at dksX2_spite_2 1 rfl rfl)
theorem dX2_spite_49 : decode cX2_spite 49 = .ok (.getfield 7, 3) := dk_180 0 7 (dk_at dksX2_spite_2 2 rfl rfl)
theorem dX2_spite_52 : decode cX2_spite 52 = .ok (.bipush 35, 2) := dk_16 35 (dk_at dksX2_spite_2 5 rfl rfl)
theorem dX2_spite_54 : decode cX2_spite 54 = .ok (.bipush 6, 2) := dk_16 6 (dk_at dksX2_spite_2 7 rfl rfl)
theorem dX2_spite_56 : decode cX2_spite 56 = .ok (.iload_n 2, 1) := dk_28 (dk_at dksX2_spite_2 9 rfl rfl)
theorem dX2_spite_57 : decode cX2_spite 57 = .ok (.imul, 1) := dk_104 (dk_at dksX2_spite_2 10 rfl rfl)
theorem dX2_spite_58 : decode cX2_spite 58 = .ok (.iadd, 1) := dk_96 (dk_at dksX2_spite_2 11 rfl rfl)
theorem dX2_spite_59 : decode cX2_spite 59 = .ok (.iload_n 1, 1) := dk_27 (dk_at dksX2_spite_2 12 rfl rfl)
theorem dX2_spite_60 : decode cX2_spite 60 = .ok (.iadd, 1) := dk_96 (dk_at dksX2_spite_2 13 rfl rfl)
theorem dX2_spite_61 : decode cX2_spite 61 = .ok (.iload_n 3, 1) := dk_29 (dk_at dksX2_spite_2 14 rfl rfl)
theorem dX2_spite_62 : decode cX2_spite 62 = .ok (.iastore, 1) := dk_79 (dk_at dksX2_spite_2 15 rfl rfl)
theorem dX2_spite_63 : decode cX2_spite 63 = .ok (.iconst 1, 1) := dk_4 (dk_at dksX2_spite_2 16 rfl rfl)
theorem dX2_spite_64 : decode cX2_spite 64 = .ok (.ireturn, 1) := dk_172 (dk_at dksX2_spite_2 17 rfl rfl)
abbrev cX2_isKin : ByteArray := prog_20_method_7_code
def yX2_isKin : MethodName := ⟨RX2, "isKin", "(I)Z"⟩
def dkwX2_isKin_0 : List UInt8 := [27, 3, 42, 180, 0, 7, 3, 46, 4, 100, 184, 0, 72, 172]
abbrev dktX2_isKin_0 : List UInt8 := dkwX2_isKin_0 ++ []
theorem dksX2_isKin_0 : cX2_isKin.data.toList.drop 0 = dktX2_isKin_0 := by decide +kernel
theorem dX2_isKin_0 : decode cX2_isKin 0 = .ok (.iload_n 1, 1) := dk_27 (dk_at dksX2_isKin_0 0 rfl rfl)
theorem dX2_isKin_1 : decode cX2_isKin 1 = .ok (.iconst 0, 1) := dk_3 (dk_at dksX2_isKin_0 1 rfl rfl)
theorem dX2_isKin_2 : decode cX2_isKin 2 = .ok (.aload_n 0, 1) := dk_42 (dk_at dksX2_isKin_0 2 rfl rfl)
theorem dX2_isKin_3 : decode cX2_isKin 3 = .ok (.getfield 7, 3) := dk_180 0 7 (dk_at dksX2_isKin_0 3 rfl rfl)
theorem dX2_isKin_6 : decode cX2_isKin 6 = .ok (.iconst 0, 1) := dk_3 (dk_at dksX2_isKin_0 6 rfl rfl)
theorem dX2_isKin_7 : decode cX2_isKin 7 = .ok (.iaload, 1) := dk_46 (dk_at dksX2_isKin_0 7 rfl rfl)
theorem dX2_isKin_8 : decode cX2_isKin 8 = .ok (.iconst 1, 1) := dk_4 (dk_at dksX2_isKin_0 8 rfl rfl)
theorem dX2_isKin_9 : decode cX2_isKin 9 = .ok (.isub, 1) := dk_100 (dk_at dksX2_isKin_0 9 rfl rfl)
theorem dX2_isKin_10 : decode cX2_isKin 10 = .ok (.invokestatic 72, 3) := dk_184 0 72 (dk_at dksX2_isKin_0 10 rfl rfl)
theorem dX2_isKin_13 : decode cX2_isKin 13 = .ok (.ireturn, 1) := dk_172 (dk_at dksX2_isKin_0 13 rfl rfl)
abbrev cX2_feed : ByteArray := prog_20_method_16_code
def yX2_feed : MethodName := ⟨RX2, "feed", "(IIIII)I"⟩
def dkwX2_feed_2 : List UInt8 := [172]
abbrev dktX2_feed_2 : List UInt8 := dkwX2_feed_2 ++ []
def dkwX2_feed_1 : List UInt8 := [182, 0, 99, 42, 29, 182, 0, 99, 42, 21, 4, 182, 0, 99, 42, 21, 5, 182, 0, 99, 42, 180, 0, 96]
abbrev dktX2_feed_1 : List UInt8 := dkwX2_feed_1 ++ dktX2_feed_2
def dkwX2_feed_0 : List UInt8 := [42, 180, 0, 96, 16, 20, 96, 17, 1, 44, 164, 0, 5, 2, 172, 42, 27, 182, 0, 99, 42, 28]
abbrev dktX2_feed_0 : List UInt8 := dkwX2_feed_0 ++ dktX2_feed_1
theorem dksX2_feed_0 : cX2_feed.data.toList.drop 0 = dktX2_feed_0 := by decide +kernel
theorem dksX2_feed_1 : cX2_feed.data.toList.drop 22 = dktX2_feed_1 := dk_seg dksX2_feed_0 22 rfl rfl
theorem dksX2_feed_2 : cX2_feed.data.toList.drop 46 = dktX2_feed_2 := dk_seg dksX2_feed_1 24 rfl rfl
theorem dX2_feed_0 : decode cX2_feed 0 = .ok (.aload_n 0, 1) := dk_42 (dk_at dksX2_feed_0 0 rfl rfl)
theorem dX2_feed_1 : decode cX2_feed 1 = .ok (.getfield 96, 3) := dk_180 0 96 (dk_at dksX2_feed_0 1 rfl rfl)
theorem dX2_feed_4 : decode cX2_feed 4 = .ok (.bipush 20, 2) := dk_16 20 (dk_at dksX2_feed_0 4 rfl rfl)
theorem dX2_feed_6 : decode cX2_feed 6 = .ok (.iadd, 1) := dk_96 (dk_at dksX2_feed_0 6 rfl rfl)
theorem dX2_feed_7 : decode cX2_feed 7 = .ok (.sipush 300, 3) := dk_17 1 44 (dk_at dksX2_feed_0 7 rfl rfl)
theorem dX2_feed_10 : decode cX2_feed 10 = .ok (.if_icmp .le 5, 3) := dk_164 0 5 (dk_at dksX2_feed_0 10 rfl rfl)
theorem dX2_feed_13 : decode cX2_feed 13 = .ok (.iconst (-1), 1) := dk_2 (dk_at dksX2_feed_0 13 rfl rfl)
theorem dX2_feed_14 : decode cX2_feed 14 = .ok (.ireturn, 1) := dk_172 (dk_at dksX2_feed_0 14 rfl rfl)
theorem dX2_feed_15 : decode cX2_feed 15 = .ok (.aload_n 0, 1) := dk_42 (dk_at dksX2_feed_0 15 rfl rfl)
theorem dX2_feed_16 : decode cX2_feed 16 = .ok (.iload_n 1, 1) := dk_27 (dk_at dksX2_feed_0 16 rfl rfl)
theorem dX2_feed_17 : decode cX2_feed 17 = .ok (.invokevirtual 99, 3) := dk_182 0 99 (dk_at dksX2_feed_0 17 rfl rfl)
theorem dX2_feed_20 : decode cX2_feed 20 = .ok (.aload_n 0, 1) := dk_42 (dk_at dksX2_feed_0 20 rfl rfl)
theorem dX2_feed_21 : decode cX2_feed 21 = .ok (.iload_n 2, 1) := dk_28 (dk_at dksX2_feed_0 21 rfl rfl)
theorem dX2_feed_22 : decode cX2_feed 22 = .ok (.invokevirtual 99, 3) := dk_182 0 99 (dk_at dksX2_feed_1 0 rfl rfl)
theorem dX2_feed_25 : decode cX2_feed 25 = .ok (.aload_n 0, 1) := dk_42 (dk_at dksX2_feed_1 3 rfl rfl)
theorem dX2_feed_26 : decode cX2_feed 26 = .ok (.iload_n 3, 1) := dk_29 (dk_at dksX2_feed_1 4 rfl rfl)
theorem dX2_feed_27 : decode cX2_feed 27 = .ok (.invokevirtual 99, 3) := dk_182 0 99 (dk_at dksX2_feed_1 5 rfl rfl)
theorem dX2_feed_30 : decode cX2_feed 30 = .ok (.aload_n 0, 1) := dk_42 (dk_at dksX2_feed_1 8 rfl rfl)
theorem dX2_feed_31 : decode cX2_feed 31 = .ok (.iload 4, 2) := dk_21 4 (dk_at dksX2_feed_1 9 rfl rfl)
theorem dX2_feed_33 : decode cX2_feed 33 = .ok (.invokevirtual 99, 3) := dk_182 0 99 (dk_at dksX2_feed_1 11 rfl rfl)
theorem dX2_feed_36 : decode cX2_feed 36 = .ok (.aload_n 0, 1) := dk_42 (dk_at dksX2_feed_1 14 rfl rfl)
theorem dX2_feed_37 : decode cX2_feed 37 = .ok (.iload 5, 2) := dk_21 5 (dk_at dksX2_feed_1 15 rfl rfl)
theorem dX2_feed_39 : decode cX2_feed 39 = .ok (.invokevirtual 99, 3) := dk_182 0 99 (dk_at dksX2_feed_1 17 rfl rfl)
theorem dX2_feed_42 : decode cX2_feed 42 = .ok (.aload_n 0, 1) := dk_42 (dk_at dksX2_feed_1 20 rfl rfl)
theorem dX2_feed_43 : decode cX2_feed 43 = .ok (.getfield 96, 3) := dk_180 0 96 (dk_at dksX2_feed_1 21 rfl rfl)
theorem dX2_feed_46 : decode cX2_feed 46 = .ok (.ireturn, 1) := dk_172 (dk_at dksX2_feed_2 0 rfl rfl)
abbrev cX2_four : ByteArray := prog_20_method_15_code
def yX2_four : MethodName := ⟨RX2, "four", "(I)V"⟩
def dkwX2_four_1 : List UInt8 := [89, 180, 0, 96, 4, 96, 181, 0, 96, 132, 2, 248, 167, 255, 223, 177]
abbrev dktX2_four_1 : List UInt8 := dkwX2_four_1 ++ []
def dkwX2_four_0 : List UInt8 := [16, 24, 61, 28, 155, 0, 35, 42, 180, 0, 19, 42, 180, 0, 96, 27, 28, 122, 17, 0, 255, 126, 79, 42]
abbrev dktX2_four_0 : List UInt8 := dkwX2_four_0 ++ dktX2_four_1
theorem dksX2_four_0 : cX2_four.data.toList.drop 0 = dktX2_four_0 := by decide +kernel
theorem dksX2_four_1 : cX2_four.data.toList.drop 24 = dktX2_four_1 := dk_seg dksX2_four_0 24 rfl rfl
theorem dX2_four_0 : decode cX2_four 0 = .ok (.bipush 24, 2) := dk_16 24 (dk_at dksX2_four_0 0 rfl rfl)
theorem dX2_four_2 : decode cX2_four 2 = .ok (.istore_n 2, 1) := dk_61 (dk_at dksX2_four_0 2 rfl rfl)
theorem dX2_four_3 : decode cX2_four 3 = .ok (.iload_n 2, 1) := dk_28 (dk_at dksX2_four_0 3 rfl rfl)
theorem dX2_four_4 : decode cX2_four 4 = .ok (.ifCond .lt 35, 3) := dk_155 0 35 (dk_at dksX2_four_0 4 rfl rfl)
theorem dX2_four_7 : decode cX2_four 7 = .ok (.aload_n 0, 1) := dk_42 (dk_at dksX2_four_0 7 rfl rfl)
theorem dX2_four_8 : decode cX2_four 8 = .ok (.getfield 19, 3) := dk_180 0 19 (dk_at dksX2_four_0 8 rfl rfl)
theorem dX2_four_11 : decode cX2_four 11 = .ok (.aload_n 0, 1) := dk_42 (dk_at dksX2_four_0 11 rfl rfl)
theorem dX2_four_12 : decode cX2_four 12 = .ok (.getfield 96, 3) := dk_180 0 96 (dk_at dksX2_four_0 12 rfl rfl)
theorem dX2_four_15 : decode cX2_four 15 = .ok (.iload_n 1, 1) := dk_27 (dk_at dksX2_four_0 15 rfl rfl)
theorem dX2_four_16 : decode cX2_four 16 = .ok (.iload_n 2, 1) := dk_28 (dk_at dksX2_four_0 16 rfl rfl)
theorem dX2_four_17 : decode cX2_four 17 = .ok (.ishr, 1) := dk_122 (dk_at dksX2_four_0 17 rfl rfl)
theorem dX2_four_18 : decode cX2_four 18 = .ok (.sipush 255, 3) := dk_17 0 255 (dk_at dksX2_four_0 18 rfl rfl)
theorem dX2_four_21 : decode cX2_four 21 = .ok (.iand, 1) := dk_126 (dk_at dksX2_four_0 21 rfl rfl)
theorem dX2_four_22 : decode cX2_four 22 = .ok (.iastore, 1) := dk_79 (dk_at dksX2_four_0 22 rfl rfl)
theorem dX2_four_23 : decode cX2_four 23 = .ok (.aload_n 0, 1) := dk_42 (dk_at dksX2_four_0 23 rfl rfl)
theorem dX2_four_24 : decode cX2_four 24 = .ok (.dup, 1) := dk_89 (dk_at dksX2_four_1 0 rfl rfl)
theorem dX2_four_25 : decode cX2_four 25 = .ok (.getfield 96, 3) := dk_180 0 96 (dk_at dksX2_four_1 1 rfl rfl)
theorem dX2_four_28 : decode cX2_four 28 = .ok (.iconst 1, 1) := dk_4 (dk_at dksX2_four_1 4 rfl rfl)
theorem dX2_four_29 : decode cX2_four 29 = .ok (.iadd, 1) := dk_96 (dk_at dksX2_four_1 5 rfl rfl)
theorem dX2_four_30 : decode cX2_four 30 = .ok (.putfield 96, 3) := dk_181 0 96 (dk_at dksX2_four_1 6 rfl rfl)
theorem dX2_four_33 : decode cX2_four 33 = .ok (.iinc 2 (-8), 3) := dk_132 2 248 (dk_at dksX2_four_1 9 rfl rfl)
theorem dX2_four_36 : decode cX2_four 36 = .ok (.goto (-33), 3) := dk_167 255 223 (dk_at dksX2_four_1 12 rfl rfl)
theorem dX2_four_39 : decode cX2_four 39 = .ok (.return_, 1) := dk_177 (dk_at dksX2_four_1 15 rfl rfl)
abbrev cX2_end : ByteArray := prog_20_method_17_code
def yX2_end : MethodName := ⟨RX2, "end", "(I)I"⟩
def dkwX2_end_0 : List UInt8 := [27, 3, 42, 180, 0, 96, 184, 0, 72, 154, 0, 5, 2, 172, 42, 27, 181, 0, 96, 27, 172]
abbrev dktX2_end_0 : List UInt8 := dkwX2_end_0 ++ []
theorem dksX2_end_0 : cX2_end.data.toList.drop 0 = dktX2_end_0 := by decide +kernel
theorem dX2_end_0 : decode cX2_end 0 = .ok (.iload_n 1, 1) := dk_27 (dk_at dksX2_end_0 0 rfl rfl)
theorem dX2_end_1 : decode cX2_end 1 = .ok (.iconst 0, 1) := dk_3 (dk_at dksX2_end_0 1 rfl rfl)
theorem dX2_end_2 : decode cX2_end 2 = .ok (.aload_n 0, 1) := dk_42 (dk_at dksX2_end_0 2 rfl rfl)
theorem dX2_end_3 : decode cX2_end 3 = .ok (.getfield 96, 3) := dk_180 0 96 (dk_at dksX2_end_0 3 rfl rfl)
theorem dX2_end_6 : decode cX2_end 6 = .ok (.invokestatic 72, 3) := dk_184 0 72 (dk_at dksX2_end_0 6 rfl rfl)
theorem dX2_end_9 : decode cX2_end 9 = .ok (.ifCond .ne 5, 3) := dk_154 0 5 (dk_at dksX2_end_0 9 rfl rfl)
theorem dX2_end_12 : decode cX2_end 12 = .ok (.iconst (-1), 1) := dk_2 (dk_at dksX2_end_0 12 rfl rfl)
theorem dX2_end_13 : decode cX2_end 13 = .ok (.ireturn, 1) := dk_172 (dk_at dksX2_end_0 13 rfl rfl)
theorem dX2_end_14 : decode cX2_end 14 = .ok (.aload_n 0, 1) := dk_42 (dk_at dksX2_end_0 14 rfl rfl)
theorem dX2_end_15 : decode cX2_end 15 = .ok (.iload_n 1, 1) := dk_27 (dk_at dksX2_end_0 15 rfl rfl)
theorem dX2_end_16 : decode cX2_end 16 = .ok (.putfield 96, 3) := dk_181 0 96 (dk_at dksX2_end_0 16 rfl rfl)
theorem dX2_end_19 : decode cX2_end 19 = .ok (.iload_n 1, 1) := dk_27 (dk_at dksX2_end_0 19 rfl rfl)
theorem dX2_end_20 : decode cX2_end 20 = .ok (.ireturn, 1) := dk_172 (dk_at dksX2_end_0 20 rfl rfl)
abbrev cX2_text : ByteArray := prog_20_method_53_code
def yX2_text : MethodName := ⟨RX2, "text", "()I"⟩
def dkwX2_text_3 : List UInt8 := [4, 100, 172]
abbrev dktX2_text_3 : List UInt8 := dkwX2_text_3 ++ []
def dkwX2_text_2 : List UInt8 := [180, 0, 22, 153, 0, 5, 2, 172, 42, 180, 0, 7, 4, 92, 46, 4, 96, 79, 42, 180, 0, 7, 4, 46]
abbrev dktX2_text_2 : List UInt8 := dkwX2_text_2 ++ dktX2_text_3
def dkwX2_text_1 : List UInt8 := [180, 0, 22, 154, 0, 7, 2, 167, 0, 7, 42, 180, 0, 108, 181, 0, 26, 42, 3, 181, 0, 96, 42]
abbrev dktX2_text_1 : List UInt8 := dkwX2_text_1 ++ dktX2_text_2
def dkwX2_text_0 : List UInt8 := [42, 180, 0, 7, 4, 46, 7, 160, 0, 5, 2, 172, 42, 42, 182, 0, 255, 181, 0, 22, 42, 42]
abbrev dktX2_text_0 : List UInt8 := dkwX2_text_0 ++ dktX2_text_1
theorem dksX2_text_0 : cX2_text.data.toList.drop 0 = dktX2_text_0 := by decide +kernel
theorem dksX2_text_1 : cX2_text.data.toList.drop 22 = dktX2_text_1 := dk_seg dksX2_text_0 22 rfl rfl
theorem dksX2_text_2 : cX2_text.data.toList.drop 45 = dktX2_text_2 := dk_seg dksX2_text_1 23 rfl rfl
theorem dksX2_text_3 : cX2_text.data.toList.drop 69 = dktX2_text_3 := dk_seg dksX2_text_2 24 rfl rfl
theorem dX2_text_0 : decode cX2_text 0 = .ok (.aload_n 0, 1) := dk_42 (dk_at dksX2_text_0 0 rfl rfl)
theorem dX2_text_1 : decode cX2_text 1 = .ok (.getfield 7, 3) := dk_180 0 7 (dk_at dksX2_text_0 1 rfl rfl)
theorem dX2_text_4 : decode cX2_text 4 = .ok (.iconst 1, 1) := dk_4 (dk_at dksX2_text_0 4 rfl rfl)
theorem dX2_text_5 : decode cX2_text 5 = .ok (.iaload, 1) := dk_46 (dk_at dksX2_text_0 5 rfl rfl)
theorem dX2_text_6 : decode cX2_text 6 = .ok (.iconst 4, 1) := dk_7 (dk_at dksX2_text_0 6 rfl rfl)
theorem dX2_text_7 : decode cX2_text 7 = .ok (.if_icmp .ne 5, 3) := dk_160 0 5 (dk_at dksX2_text_0 7 rfl rfl)
theorem dX2_text_10 : decode cX2_text 10 = .ok (.iconst (-1), 1) := dk_2 (dk_at dksX2_text_0 10 rfl rfl)
theorem dX2_text_11 : decode cX2_text 11 = .ok (.ireturn, 1) := dk_172 (dk_at dksX2_text_0 11 rfl rfl)
theorem dX2_text_12 : decode cX2_text 12 = .ok (.aload_n 0, 1) := dk_42 (dk_at dksX2_text_0 12 rfl rfl)
theorem dX2_text_13 : decode cX2_text 13 = .ok (.aload_n 0, 1) := dk_42 (dk_at dksX2_text_0 13 rfl rfl)
theorem dX2_text_14 : decode cX2_text 14 = .ok (.invokevirtual 255, 3) := dk_182 0 255 (dk_at dksX2_text_0 14 rfl rfl)
theorem dX2_text_17 : decode cX2_text 17 = .ok (.putfield 22, 3) := dk_181 0 22 (dk_at dksX2_text_0 17 rfl rfl)
theorem dX2_text_20 : decode cX2_text 20 = .ok (.aload_n 0, 1) := dk_42 (dk_at dksX2_text_0 20 rfl rfl)
theorem dX2_text_21 : decode cX2_text 21 = .ok (.aload_n 0, 1) := dk_42 (dk_at dksX2_text_0 21 rfl rfl)
theorem dX2_text_22 : decode cX2_text 22 = .ok (.getfield 22, 3) := dk_180 0 22 (dk_at dksX2_text_1 0 rfl rfl)
theorem dX2_text_25 : decode cX2_text 25 = .ok (.ifCond .ne 7, 3) := dk_154 0 7 (dk_at dksX2_text_1 3 rfl rfl)
theorem dX2_text_28 : decode cX2_text 28 = .ok (.iconst (-1), 1) := dk_2 (dk_at dksX2_text_1 6 rfl rfl)
theorem dX2_text_29 : decode cX2_text 29 = .ok (.goto 7, 3) := dk_167 0 7 (dk_at dksX2_text_1 7 rfl rfl)
theorem dX2_text_32 : decode cX2_text 32 = .ok (.aload_n 0, 1) := dk_42 (dk_at dksX2_text_1 10 rfl rfl)
theorem dX2_text_33 : decode cX2_text 33 = .ok (.getfield 108, 3) := dk_180 0 108 (dk_at dksX2_text_1 11 rfl rfl)
theorem dX2_text_36 : decode cX2_text 36 = .ok (.putfield 26, 3) := dk_181 0 26 (dk_at dksX2_text_1 14 rfl rfl)
theorem dX2_text_39 : decode cX2_text 39 = .ok (.aload_n 0, 1) := dk_42 (dk_at dksX2_text_1 17 rfl rfl)
theorem dX2_text_40 : decode cX2_text 40 = .ok (.iconst 0, 1) := dk_3 (dk_at dksX2_text_1 18 rfl rfl)
theorem dX2_text_41 : decode cX2_text 41 = .ok (.putfield 96, 3) := dk_181 0 96 (dk_at dksX2_text_1 19 rfl rfl)
theorem dX2_text_44 : decode cX2_text 44 = .ok (.aload_n 0, 1) := dk_42 (dk_at dksX2_text_1 22 rfl rfl)
theorem dX2_text_45 : decode cX2_text 45 = .ok (.getfield 22, 3) := dk_180 0 22 (dk_at dksX2_text_2 0 rfl rfl)
theorem dX2_text_48 : decode cX2_text 48 = .ok (.ifCond .eq 5, 3) := dk_153 0 5 (dk_at dksX2_text_2 3 rfl rfl)
theorem dX2_text_51 : decode cX2_text 51 = .ok (.iconst (-1), 1) := dk_2 (dk_at dksX2_text_2 6 rfl rfl)
theorem dX2_text_52 : decode cX2_text 52 = .ok (.ireturn, 1) := dk_172 (dk_at dksX2_text_2 7 rfl rfl)
theorem dX2_text_53 : decode cX2_text 53 = .ok (.aload_n 0, 1) := dk_42 (dk_at dksX2_text_2 8 rfl rfl)
theorem dX2_text_54 : decode cX2_text 54 = .ok (.getfield 7, 3) := dk_180 0 7 (dk_at dksX2_text_2 9 rfl rfl)
theorem dX2_text_57 : decode cX2_text 57 = .ok (.iconst 1, 1) := dk_4 (dk_at dksX2_text_2 12 rfl rfl)
theorem dX2_text_58 : decode cX2_text 58 = .ok (.dup2, 1) := dk_92 (dk_at dksX2_text_2 13 rfl rfl)
theorem dX2_text_59 : decode cX2_text 59 = .ok (.iaload, 1) := dk_46 (dk_at dksX2_text_2 14 rfl rfl)
theorem dX2_text_60 : decode cX2_text 60 = .ok (.iconst 1, 1) := dk_4 (dk_at dksX2_text_2 15 rfl rfl)
theorem dX2_text_61 : decode cX2_text 61 = .ok (.iadd, 1) := dk_96 (dk_at dksX2_text_2 16 rfl rfl)
theorem dX2_text_62 : decode cX2_text 62 = .ok (.iastore, 1) := dk_79 (dk_at dksX2_text_2 17 rfl rfl)
theorem dX2_text_63 : decode cX2_text 63 = .ok (.aload_n 0, 1) := dk_42 (dk_at dksX2_text_2 18 rfl rfl)
theorem dX2_text_64 : decode cX2_text 64 = .ok (.getfield 7, 3) := dk_180 0 7 (dk_at dksX2_text_2 19 rfl rfl)
theorem dX2_text_67 : decode cX2_text 67 = .ok (.iconst 1, 1) := dk_4 (dk_at dksX2_text_2 22 rfl rfl)
theorem dX2_text_68 : decode cX2_text 68 = .ok (.iaload, 1) := dk_46 (dk_at dksX2_text_2 23 rfl rfl)
theorem dX2_text_69 : decode cX2_text 69 = .ok (.iconst 1, 1) := dk_4 (dk_at dksX2_text_3 0 rfl rfl)
theorem dX2_text_70 : decode cX2_text 70 = .ok (.isub, 1) := dk_100 (dk_at dksX2_text_3 1 rfl rfl)
theorem dX2_text_71 : decode cX2_text 71 = .ok (.ireturn, 1) := dk_172 (dk_at dksX2_text_3 2 rfl rfl)
abbrev cX2_readText : ByteArray := prog_20_method_52_code
def yX2_readText : MethodName := ⟨RX2, "readText", "()I"⟩
def dkwX2_readText_2 : List UInt8 := [153, 0, 17, 42, 182, 0, 252, 60, 27, 153, 0, 5, 27, 172, 167, 255, 238, 3, 172]
abbrev dktX2_readText_2 : List UInt8 := dkwX2_readText_2 ++ []
def dkwX2_readText_1 : List UInt8 := [42, 3, 181, 0, 152, 42, 3, 181, 0, 246, 42, 3, 181, 0, 102, 42, 182, 0, 182, 42, 180, 0, 111]
abbrev dktX2_readText_1 : List UInt8 := dkwX2_readText_1 ++ dktX2_readText_2
def dkwX2_readText_0 : List UInt8 := [42, 17, 2, 169, 42, 180, 0, 7, 4, 46, 104, 181, 0, 149, 42, 180, 0, 16, 42, 180, 0, 149, 3, 79]
abbrev dktX2_readText_0 : List UInt8 := dkwX2_readText_0 ++ dktX2_readText_1
theorem dksX2_readText_0 : cX2_readText.data.toList.drop 0 = dktX2_readText_0 := by decide +kernel
theorem dksX2_readText_1 : cX2_readText.data.toList.drop 24 = dktX2_readText_1 := dk_seg dksX2_readText_0 24 rfl rfl
theorem dksX2_readText_2 : cX2_readText.data.toList.drop 47 = dktX2_readText_2 := dk_seg dksX2_readText_1 23 rfl rfl
theorem dX2_readText_0 : decode cX2_readText 0 = .ok (.aload_n 0, 1) := dk_42 (dk_at dksX2_readText_0 0 rfl rfl)
theorem dX2_readText_1 : decode cX2_readText 1 = .ok (.sipush 681, 3) := dk_17 2 169 (dk_at dksX2_readText_0 1 rfl rfl)
theorem dX2_readText_4 : decode cX2_readText 4 = .ok (.aload_n 0, 1) := dk_42 (dk_at dksX2_readText_0 4 rfl rfl)
theorem dX2_readText_5 : decode cX2_readText 5 = .ok (.getfield 7, 3) := dk_180 0 7 (dk_at dksX2_readText_0 5 rfl rfl)
theorem dX2_readText_8 : decode cX2_readText 8 = .ok (.iconst 1, 1) := dk_4 (dk_at dksX2_readText_0 8 rfl rfl)
theorem dX2_readText_9 : decode cX2_readText 9 = .ok (.iaload, 1) := dk_46 (dk_at dksX2_readText_0 9 rfl rfl)
theorem dX2_readText_10 : decode cX2_readText 10 = .ok (.imul, 1) := dk_104 (dk_at dksX2_readText_0 10 rfl rfl)
theorem dX2_readText_11 : decode cX2_readText 11 = .ok (.putfield 149, 3) := dk_181 0 149 (dk_at dksX2_readText_0 11 rfl rfl)
theorem dX2_readText_14 : decode cX2_readText 14 = .ok (.aload_n 0, 1) := dk_42 (dk_at dksX2_readText_0 14 rfl rfl)
theorem dX2_readText_15 : decode cX2_readText 15 = .ok (.getfield 16, 3) := dk_180 0 16 (dk_at dksX2_readText_0 15 rfl rfl)
theorem dX2_readText_18 : decode cX2_readText 18 = .ok (.aload_n 0, 1) := dk_42 (dk_at dksX2_readText_0 18 rfl rfl)
theorem dX2_readText_19 : decode cX2_readText 19 = .ok (.getfield 149, 3) := dk_180 0 149 (dk_at dksX2_readText_0 19 rfl rfl)
theorem dX2_readText_22 : decode cX2_readText 22 = .ok (.iconst 0, 1) := dk_3 (dk_at dksX2_readText_0 22 rfl rfl)
theorem dX2_readText_23 : decode cX2_readText 23 = .ok (.iastore, 1) := dk_79 (dk_at dksX2_readText_0 23 rfl rfl)
theorem dX2_readText_24 : decode cX2_readText 24 = .ok (.aload_n 0, 1) := dk_42 (dk_at dksX2_readText_1 0 rfl rfl)
theorem dX2_readText_25 : decode cX2_readText 25 = .ok (.iconst 0, 1) := dk_3 (dk_at dksX2_readText_1 1 rfl rfl)
theorem dX2_readText_26 : decode cX2_readText 26 = .ok (.putfield 152, 3) := dk_181 0 152 (dk_at dksX2_readText_1 2 rfl rfl)
theorem dX2_readText_29 : decode cX2_readText 29 = .ok (.aload_n 0, 1) := dk_42 (dk_at dksX2_readText_1 5 rfl rfl)
theorem dX2_readText_30 : decode cX2_readText 30 = .ok (.iconst 0, 1) := dk_3 (dk_at dksX2_readText_1 6 rfl rfl)
theorem dX2_readText_31 : decode cX2_readText 31 = .ok (.putfield 246, 3) := dk_181 0 246 (dk_at dksX2_readText_1 7 rfl rfl)
theorem dX2_readText_34 : decode cX2_readText 34 = .ok (.aload_n 0, 1) := dk_42 (dk_at dksX2_readText_1 10 rfl rfl)
theorem dX2_readText_35 : decode cX2_readText 35 = .ok (.iconst 0, 1) := dk_3 (dk_at dksX2_readText_1 11 rfl rfl)
theorem dX2_readText_36 : decode cX2_readText 36 = .ok (.putfield 102, 3) := dk_181 0 102 (dk_at dksX2_readText_1 12 rfl rfl)
theorem dX2_readText_39 : decode cX2_readText 39 = .ok (.aload_n 0, 1) := dk_42 (dk_at dksX2_readText_1 15 rfl rfl)
theorem dX2_readText_40 : decode cX2_readText 40 = .ok (.invokevirtual 182, 3) := dk_182 0 182 (dk_at dksX2_readText_1 16 rfl rfl)
theorem dX2_readText_43 : decode cX2_readText 43 = .ok (.aload_n 0, 1) := dk_42 (dk_at dksX2_readText_1 19 rfl rfl)
theorem dX2_readText_44 : decode cX2_readText 44 = .ok (.getfield 111, 3) := dk_180 0 111 (dk_at dksX2_readText_1 20 rfl rfl)
theorem dX2_readText_47 : decode cX2_readText 47 = .ok (.ifCond .eq 17, 3) := dk_153 0 17 (dk_at dksX2_readText_2 0 rfl rfl)
theorem dX2_readText_50 : decode cX2_readText 50 = .ok (.aload_n 0, 1) := dk_42 (dk_at dksX2_readText_2 3 rfl rfl)
theorem dX2_readText_51 : decode cX2_readText 51 = .ok (.invokevirtual 252, 3) := dk_182 0 252 (dk_at dksX2_readText_2 4 rfl rfl)
theorem dX2_readText_54 : decode cX2_readText 54 = .ok (.istore_n 1, 1) := dk_60 (dk_at dksX2_readText_2 7 rfl rfl)
theorem dX2_readText_55 : decode cX2_readText 55 = .ok (.iload_n 1, 1) := dk_27 (dk_at dksX2_readText_2 8 rfl rfl)
theorem dX2_readText_56 : decode cX2_readText 56 = .ok (.ifCond .eq 5, 3) := dk_153 0 5 (dk_at dksX2_readText_2 9 rfl rfl)
theorem dX2_readText_59 : decode cX2_readText 59 = .ok (.iload_n 1, 1) := dk_27 (dk_at dksX2_readText_2 12 rfl rfl)
theorem dX2_readText_60 : decode cX2_readText 60 = .ok (.ireturn, 1) := dk_172 (dk_at dksX2_readText_2 13 rfl rfl)
theorem dX2_readText_61 : decode cX2_readText 61 = .ok (.goto (-18), 3) := dk_167 255 238 (dk_at dksX2_readText_2 14 rfl rfl)
theorem dX2_readText_64 : decode cX2_readText 64 = .ok (.iconst 0, 1) := dk_3 (dk_at dksX2_readText_2 17 rfl rfl)
theorem dX2_readText_65 : decode cX2_readText 65 = .ok (.ireturn, 1) := dk_172 (dk_at dksX2_readText_2 18 rfl rfl)
abbrev cX2_nextToken : ByteArray := prog_20_method_22_code
def yX2_nextToken : MethodName := ⟨RX2, "nextToken", "()V"⟩
def dkwX2_nextToken_13 : List UInt8 := [180, 0, 102, 4, 96, 181, 0, 102, 177]
abbrev dktX2_nextToken_13 : List UInt8 := dkwX2_nextToken_13 ++ []
def dkwX2_nextToken_12 : List UInt8 := [16, 61, 160, 0, 28, 42, 27, 16, 60, 160, 0, 7, 7, 167, 0, 4, 8, 181, 0, 111, 42, 89]
abbrev dktX2_nextToken_12 : List UInt8 := dkwX2_nextToken_12 ++ dktX2_nextToken_13
def dkwX2_nextToken_11 : List UInt8 := [181, 0, 102, 27, 16, 60, 159, 0, 9, 27, 16, 62, 160, 0, 41, 42, 42, 180, 0, 102, 182, 0, 105]
abbrev dktX2_nextToken_11 : List UInt8 := dkwX2_nextToken_11 ++ dktX2_nextToken_12
def dkwX2_nextToken_10 : List UInt8 := [42, 27, 184, 0, 130, 153, 0, 7, 27, 167, 0, 4, 6, 181, 0, 111, 42, 89, 180, 0, 102, 4, 96]
abbrev dktX2_nextToken_10 : List UInt8 := dkwX2_nextToken_10 ++ dktX2_nextToken_11
def dkwX2_nextToken_9 : List UInt8 := [180, 0, 102, 182, 0, 105, 133, 129, 181, 0, 124, 42, 89, 180, 0, 102, 4, 96, 181, 0, 102, 167, 255, 193]
abbrev dktX2_nextToken_9 : List UInt8 := dkwX2_nextToken_9 ++ dktX2_nextToken_10
def dkwX2_nextToken_8 : List UInt8 := [16, 48, 123, 9, 148, 153, 0, 9, 20, 0, 128, 167, 0, 20, 42, 180, 0, 124, 16, 8, 121, 42, 42]
abbrev dktX2_nextToken_8 : List UInt8 := dkwX2_nextToken_8 ++ dktX2_nextToken_9
def dkwX2_nextToken_7 : List UInt8 := [9, 181, 0, 124, 42, 42, 180, 0, 102, 182, 0, 105, 184, 0, 121, 153, 0, 131, 42, 42, 180, 0, 124]
abbrev dktX2_nextToken_7 : List UInt8 := dkwX2_nextToken_7 ++ dktX2_nextToken_8
def dkwX2_nextToken_6 : List UInt8 := [180, 0, 102, 4, 96, 181, 0, 102, 167, 255, 193, 27, 184, 0, 121, 153, 0, 79, 42, 5, 181, 0, 111, 42]
abbrev dktX2_nextToken_6 : List UInt8 := dkwX2_nextToken_6 ++ dktX2_nextToken_7
def dkwX2_nextToken_5 : List UInt8 := [16, 10, 42, 180, 0, 117, 104, 42, 42, 180, 0, 102, 182, 0, 105, 96, 16, 48, 100, 181, 0, 117, 42, 89]
abbrev dktX2_nextToken_5 : List UInt8 := dkwX2_nextToken_5 ++ dktX2_nextToken_6
def dkwX2_nextToken_4 : List UInt8 := [184, 0, 114, 153, 0, 214, 42, 42, 180, 0, 117, 18, 120, 164, 0, 10, 42, 180, 0, 117, 167, 0, 22]
abbrev dktX2_nextToken_4 : List UInt8 := dkwX2_nextToken_4 ++ dktX2_nextToken_5
def dkwX2_nextToken_3 : List UInt8 := [184, 0, 114, 153, 0, 79, 42, 4, 181, 0, 111, 42, 3, 181, 0, 117, 42, 42, 180, 0, 102, 182, 0, 105]
abbrev dktX2_nextToken_3 : List UInt8 := dkwX2_nextToken_3 ++ dktX2_nextToken_4
def dkwX2_nextToken_2 : List UInt8 := [42, 42, 180, 0, 102, 182, 0, 105, 60, 27, 156, 0, 11, 42, 3, 181, 0, 111, 167, 0, 245, 27]
abbrev dktX2_nextToken_2 : List UInt8 := dkwX2_nextToken_2 ++ dktX2_nextToken_3
def dkwX2_nextToken_1 : List UInt8 := [160, 0, 16, 42, 89, 180, 0, 102, 4, 96, 181, 0, 102, 167, 255, 220, 42, 42, 180, 0, 102, 181, 0, 108]
abbrev dktX2_nextToken_1 : List UInt8 := dkwX2_nextToken_1 ++ dktX2_nextToken_2
def dkwX2_nextToken_0 : List UInt8 := [42, 42, 180, 0, 102, 182, 0, 105, 16, 32, 159, 0, 16, 42, 42, 180, 0, 102, 182, 0, 105, 16, 10]
abbrev dktX2_nextToken_0 : List UInt8 := dkwX2_nextToken_0 ++ dktX2_nextToken_1
theorem dksX2_nextToken_0 : cX2_nextToken.data.toList.drop 0 = dktX2_nextToken_0 := by decide +kernel
theorem dksX2_nextToken_1 : cX2_nextToken.data.toList.drop 23 = dktX2_nextToken_1 := dk_seg dksX2_nextToken_0 23 rfl rfl
theorem dksX2_nextToken_2 : cX2_nextToken.data.toList.drop 47 = dktX2_nextToken_2 := dk_seg dksX2_nextToken_1 24 rfl rfl
theorem dksX2_nextToken_3 : cX2_nextToken.data.toList.drop 69 = dktX2_nextToken_3 := dk_seg dksX2_nextToken_2 22 rfl rfl
theorem dksX2_nextToken_4 : cX2_nextToken.data.toList.drop 93 = dktX2_nextToken_4 := dk_seg dksX2_nextToken_3 24 rfl rfl
theorem dksX2_nextToken_5 : cX2_nextToken.data.toList.drop 116 = dktX2_nextToken_5 := dk_seg dksX2_nextToken_4 23 rfl rfl
theorem dksX2_nextToken_6 : cX2_nextToken.data.toList.drop 140 = dktX2_nextToken_6 := dk_seg dksX2_nextToken_5 24 rfl rfl
theorem dksX2_nextToken_7 : cX2_nextToken.data.toList.drop 164 = dktX2_nextToken_7 := dk_seg dksX2_nextToken_6 24 rfl rfl
theorem dksX2_nextToken_8 : cX2_nextToken.data.toList.drop 187 = dktX2_nextToken_8 := dk_seg dksX2_nextToken_7 23 rfl rfl
theorem dksX2_nextToken_9 : cX2_nextToken.data.toList.drop 210 = dktX2_nextToken_9 := dk_seg dksX2_nextToken_8 23 rfl rfl
theorem dksX2_nextToken_10 : cX2_nextToken.data.toList.drop 234 = dktX2_nextToken_10 := dk_seg dksX2_nextToken_9 24 rfl rfl
theorem dksX2_nextToken_11 : cX2_nextToken.data.toList.drop 257 = dktX2_nextToken_11 := dk_seg dksX2_nextToken_10 23 rfl rfl
theorem dksX2_nextToken_12 : cX2_nextToken.data.toList.drop 280 = dktX2_nextToken_12 := dk_seg dksX2_nextToken_11 23 rfl rfl
theorem dksX2_nextToken_13 : cX2_nextToken.data.toList.drop 302 = dktX2_nextToken_13 := dk_seg dksX2_nextToken_12 22 rfl rfl
theorem dX2_nextToken_0 : decode cX2_nextToken 0 = .ok (.aload_n 0, 1) := dk_42 (dk_at dksX2_nextToken_0 0 rfl rfl)
theorem dX2_nextToken_1 : decode cX2_nextToken 1 = .ok (.aload_n 0, 1) := dk_42 (dk_at dksX2_nextToken_0 1 rfl rfl)
theorem dX2_nextToken_2 : decode cX2_nextToken 2 = .ok (.getfield 102, 3) := dk_180 0 102 (dk_at dksX2_nextToken_0 2 rfl rfl)
theorem dX2_nextToken_5 : decode cX2_nextToken 5 = .ok (.invokevirtual 105, 3) := dk_182 0 105 (dk_at dksX2_nextToken_0 5 rfl rfl)
theorem dX2_nextToken_8 : decode cX2_nextToken 8 = .ok (.bipush 32, 2) := dk_16 32 (dk_at dksX2_nextToken_0 8 rfl rfl)
theorem dX2_nextToken_10 : decode cX2_nextToken 10 = .ok (.if_icmp .eq 16, 3) := dk_159 0 16 (dk_at dksX2_nextToken_0 10 rfl rfl)
theorem dX2_nextToken_13 : decode cX2_nextToken 13 = .ok (.aload_n 0, 1) := dk_42 (dk_at dksX2_nextToken_0 13 rfl rfl)
theorem dX2_nextToken_14 : decode cX2_nextToken 14 = .ok (.aload_n 0, 1) := dk_42 (dk_at dksX2_nextToken_0 14 rfl rfl)
theorem dX2_nextToken_15 : decode cX2_nextToken 15 = .ok (.getfield 102, 3) := dk_180 0 102 (dk_at dksX2_nextToken_0 15 rfl rfl)
theorem dX2_nextToken_18 : decode cX2_nextToken 18 = .ok (.invokevirtual 105, 3) := dk_182 0 105 (dk_at dksX2_nextToken_0 18 rfl rfl)
theorem dX2_nextToken_21 : decode cX2_nextToken 21 = .ok (.bipush 10, 2) := dk_16 10 (dk_at dksX2_nextToken_0 21 rfl rfl)
theorem dX2_nextToken_23 : decode cX2_nextToken 23 = .ok (.if_icmp .ne 16, 3) := dk_160 0 16 (dk_at dksX2_nextToken_1 0 rfl rfl)
theorem dX2_nextToken_26 : decode cX2_nextToken 26 = .ok (.aload_n 0, 1) := dk_42 (dk_at dksX2_nextToken_1 3 rfl rfl)
theorem dX2_nextToken_27 : decode cX2_nextToken 27 = .ok (.dup, 1) := dk_89 (dk_at dksX2_nextToken_1 4 rfl rfl)
theorem dX2_nextToken_28 : decode cX2_nextToken 28 = .ok (.getfield 102, 3) := dk_180 0 102 (dk_at dksX2_nextToken_1 5 rfl rfl)
theorem dX2_nextToken_31 : decode cX2_nextToken 31 = .ok (.iconst 1, 1) := dk_4 (dk_at dksX2_nextToken_1 8 rfl rfl)
theorem dX2_nextToken_32 : decode cX2_nextToken 32 = .ok (.iadd, 1) := dk_96 (dk_at dksX2_nextToken_1 9 rfl rfl)
theorem dX2_nextToken_33 : decode cX2_nextToken 33 = .ok (.putfield 102, 3) := dk_181 0 102 (dk_at dksX2_nextToken_1 10 rfl rfl)
theorem dX2_nextToken_36 : decode cX2_nextToken 36 = .ok (.goto (-36), 3) := dk_167 255 220 (dk_at dksX2_nextToken_1 13 rfl rfl)
theorem dX2_nextToken_39 : decode cX2_nextToken 39 = .ok (.aload_n 0, 1) := dk_42 (dk_at dksX2_nextToken_1 16 rfl rfl)
theorem dX2_nextToken_40 : decode cX2_nextToken 40 = .ok (.aload_n 0, 1) := dk_42 (dk_at dksX2_nextToken_1 17 rfl rfl)
theorem dX2_nextToken_41 : decode cX2_nextToken 41 = .ok (.getfield 102, 3) := dk_180 0 102 (dk_at dksX2_nextToken_1 18 rfl rfl)
theorem dX2_nextToken_44 : decode cX2_nextToken 44 = .ok (.putfield 108, 3) := dk_181 0 108 (dk_at dksX2_nextToken_1 21 rfl rfl)
theorem dX2_nextToken_47 : decode cX2_nextToken 47 = .ok (.aload_n 0, 1) := dk_42 (dk_at dksX2_nextToken_2 0 rfl rfl)
theorem dX2_nextToken_48 : decode cX2_nextToken 48 = .ok (.aload_n 0, 1) := dk_42 (dk_at dksX2_nextToken_2 1 rfl rfl)
theorem dX2_nextToken_49 : decode cX2_nextToken 49 = .ok (.getfield 102, 3) := dk_180 0 102 (dk_at dksX2_nextToken_2 2 rfl rfl)
theorem dX2_nextToken_52 : decode cX2_nextToken 52 = .ok (.invokevirtual 105, 3) := dk_182 0 105 (dk_at dksX2_nextToken_2 5 rfl rfl)
theorem dX2_nextToken_55 : decode cX2_nextToken 55 = .ok (.istore_n 1, 1) := dk_60 (dk_at dksX2_nextToken_2 8 rfl rfl)
theorem dX2_nextToken_56 : decode cX2_nextToken 56 = .ok (.iload_n 1, 1) := dk_27 (dk_at dksX2_nextToken_2 9 rfl rfl)
theorem dX2_nextToken_57 : decode cX2_nextToken 57 = .ok (.ifCond .ge 11, 3) := dk_156 0 11 (dk_at dksX2_nextToken_2 10 rfl rfl)
theorem dX2_nextToken_60 : decode cX2_nextToken 60 = .ok (.aload_n 0, 1) := dk_42 (dk_at dksX2_nextToken_2 13 rfl rfl)
theorem dX2_nextToken_61 : decode cX2_nextToken 61 = .ok (.iconst 0, 1) := dk_3 (dk_at dksX2_nextToken_2 14 rfl rfl)
theorem dX2_nextToken_62 : decode cX2_nextToken 62 = .ok (.putfield 111, 3) := dk_181 0 111 (dk_at dksX2_nextToken_2 15 rfl rfl)
theorem dX2_nextToken_65 : decode cX2_nextToken 65 = .ok (.goto 245, 3) := dk_167 0 245 (dk_at dksX2_nextToken_2 18 rfl rfl)
theorem dX2_nextToken_68 : decode cX2_nextToken 68 = .ok (.iload_n 1, 1) := dk_27 (dk_at dksX2_nextToken_2 21 rfl rfl)
theorem dX2_nextToken_69 : decode cX2_nextToken 69 = .ok (.invokestatic 114, 3) := dk_184 0 114 (dk_at dksX2_nextToken_3 0 rfl rfl)
theorem dX2_nextToken_72 : decode cX2_nextToken 72 = .ok (.ifCond .eq 79, 3) := dk_153 0 79 (dk_at dksX2_nextToken_3 3 rfl rfl)
theorem dX2_nextToken_75 : decode cX2_nextToken 75 = .ok (.aload_n 0, 1) := dk_42 (dk_at dksX2_nextToken_3 6 rfl rfl)
theorem dX2_nextToken_76 : decode cX2_nextToken 76 = .ok (.iconst 1, 1) := dk_4 (dk_at dksX2_nextToken_3 7 rfl rfl)
theorem dX2_nextToken_77 : decode cX2_nextToken 77 = .ok (.putfield 111, 3) := dk_181 0 111 (dk_at dksX2_nextToken_3 8 rfl rfl)
theorem dX2_nextToken_80 : decode cX2_nextToken 80 = .ok (.aload_n 0, 1) := dk_42 (dk_at dksX2_nextToken_3 11 rfl rfl)
theorem dX2_nextToken_81 : decode cX2_nextToken 81 = .ok (.iconst 0, 1) := dk_3 (dk_at dksX2_nextToken_3 12 rfl rfl)
theorem dX2_nextToken_82 : decode cX2_nextToken 82 = .ok (.putfield 117, 3) := dk_181 0 117 (dk_at dksX2_nextToken_3 13 rfl rfl)
theorem dX2_nextToken_85 : decode cX2_nextToken 85 = .ok (.aload_n 0, 1) := dk_42 (dk_at dksX2_nextToken_3 16 rfl rfl)
theorem dX2_nextToken_86 : decode cX2_nextToken 86 = .ok (.aload_n 0, 1) := dk_42 (dk_at dksX2_nextToken_3 17 rfl rfl)
theorem dX2_nextToken_87 : decode cX2_nextToken 87 = .ok (.getfield 102, 3) := dk_180 0 102 (dk_at dksX2_nextToken_3 18 rfl rfl)
theorem dX2_nextToken_90 : decode cX2_nextToken 90 = .ok (.invokevirtual 105, 3) := dk_182 0 105 (dk_at dksX2_nextToken_3 21 rfl rfl)
theorem dX2_nextToken_93 : decode cX2_nextToken 93 = .ok (.invokestatic 114, 3) := dk_184 0 114 (dk_at dksX2_nextToken_4 0 rfl rfl)
theorem dX2_nextToken_96 : decode cX2_nextToken 96 = .ok (.ifCond .eq 214, 3) := dk_153 0 214 (dk_at dksX2_nextToken_4 3 rfl rfl)
theorem dX2_nextToken_99 : decode cX2_nextToken 99 = .ok (.aload_n 0, 1) := dk_42 (dk_at dksX2_nextToken_4 6 rfl rfl)
theorem dX2_nextToken_100 : decode cX2_nextToken 100 = .ok (.aload_n 0, 1) := dk_42 (dk_at dksX2_nextToken_4 7 rfl rfl)
theorem dX2_nextToken_101 : decode cX2_nextToken 101 = .ok (.getfield 117, 3) := dk_180 0 117 (dk_at dksX2_nextToken_4 8 rfl rfl)
theorem dX2_nextToken_104 : decode cX2_nextToken 104 = .ok (.ldc 120, 2) := dk_18 120 (dk_at dksX2_nextToken_4 11 rfl rfl)
theorem dX2_nextToken_106 : decode cX2_nextToken 106 = .ok (.if_icmp .le 10, 3) := dk_164 0 10 (dk_at dksX2_nextToken_4 13 rfl rfl)
theorem dX2_nextToken_109 : decode cX2_nextToken 109 = .ok (.aload_n 0, 1) := dk_42 (dk_at dksX2_nextToken_4 16 rfl rfl)
theorem dX2_nextToken_110 : decode cX2_nextToken 110 = .ok (.getfield 117, 3) := dk_180 0 117 (dk_at dksX2_nextToken_4 17 rfl rfl)
theorem dX2_nextToken_113 : decode cX2_nextToken 113 = .ok (.goto 22, 3) := dk_167 0 22 (dk_at dksX2_nextToken_4 20 rfl rfl)
theorem dX2_nextToken_116 : decode cX2_nextToken 116 = .ok (.bipush 10, 2) := dk_16 10 (dk_at dksX2_nextToken_5 0 rfl rfl)
theorem dX2_nextToken_118 : decode cX2_nextToken 118 = .ok (.aload_n 0, 1) := dk_42 (dk_at dksX2_nextToken_5 2 rfl rfl)
theorem dX2_nextToken_119 : decode cX2_nextToken 119 = .ok (.getfield 117, 3) := dk_180 0 117 (dk_at dksX2_nextToken_5 3 rfl rfl)
theorem dX2_nextToken_122 : decode cX2_nextToken 122 = .ok (.imul, 1) := dk_104 (dk_at dksX2_nextToken_5 6 rfl rfl)
theorem dX2_nextToken_123 : decode cX2_nextToken 123 = .ok (.aload_n 0, 1) := dk_42 (dk_at dksX2_nextToken_5 7 rfl rfl)
theorem dX2_nextToken_124 : decode cX2_nextToken 124 = .ok (.aload_n 0, 1) := dk_42 (dk_at dksX2_nextToken_5 8 rfl rfl)
theorem dX2_nextToken_125 : decode cX2_nextToken 125 = .ok (.getfield 102, 3) := dk_180 0 102 (dk_at dksX2_nextToken_5 9 rfl rfl)
theorem dX2_nextToken_128 : decode cX2_nextToken 128 = .ok (.invokevirtual 105, 3) := dk_182 0 105 (dk_at dksX2_nextToken_5 12 rfl rfl)
theorem dX2_nextToken_131 : decode cX2_nextToken 131 = .ok (.iadd, 1) := dk_96 (dk_at dksX2_nextToken_5 15 rfl rfl)
theorem dX2_nextToken_132 : decode cX2_nextToken 132 = .ok (.bipush 48, 2) := dk_16 48 (dk_at dksX2_nextToken_5 16 rfl rfl)
theorem dX2_nextToken_134 : decode cX2_nextToken 134 = .ok (.isub, 1) := dk_100 (dk_at dksX2_nextToken_5 18 rfl rfl)
theorem dX2_nextToken_135 : decode cX2_nextToken 135 = .ok (.putfield 117, 3) := dk_181 0 117 (dk_at dksX2_nextToken_5 19 rfl rfl)
theorem dX2_nextToken_138 : decode cX2_nextToken 138 = .ok (.aload_n 0, 1) := dk_42 (dk_at dksX2_nextToken_5 22 rfl rfl)
theorem dX2_nextToken_139 : decode cX2_nextToken 139 = .ok (.dup, 1) := dk_89 (dk_at dksX2_nextToken_5 23 rfl rfl)
theorem dX2_nextToken_140 : decode cX2_nextToken 140 = .ok (.getfield 102, 3) := dk_180 0 102 (dk_at dksX2_nextToken_6 0 rfl rfl)
theorem dX2_nextToken_143 : decode cX2_nextToken 143 = .ok (.iconst 1, 1) := dk_4 (dk_at dksX2_nextToken_6 3 rfl rfl)
theorem dX2_nextToken_144 : decode cX2_nextToken 144 = .ok (.iadd, 1) := dk_96 (dk_at dksX2_nextToken_6 4 rfl rfl)
theorem dX2_nextToken_145 : decode cX2_nextToken 145 = .ok (.putfield 102, 3) := dk_181 0 102 (dk_at dksX2_nextToken_6 5 rfl rfl)
theorem dX2_nextToken_148 : decode cX2_nextToken 148 = .ok (.goto (-63), 3) := dk_167 255 193 (dk_at dksX2_nextToken_6 8 rfl rfl)
theorem dX2_nextToken_151 : decode cX2_nextToken 151 = .ok (.iload_n 1, 1) := dk_27 (dk_at dksX2_nextToken_6 11 rfl rfl)
theorem dX2_nextToken_152 : decode cX2_nextToken 152 = .ok (.invokestatic 121, 3) := dk_184 0 121 (dk_at dksX2_nextToken_6 12 rfl rfl)
theorem dX2_nextToken_155 : decode cX2_nextToken 155 = .ok (.ifCond .eq 79, 3) := dk_153 0 79 (dk_at dksX2_nextToken_6 15 rfl rfl)
theorem dX2_nextToken_158 : decode cX2_nextToken 158 = .ok (.aload_n 0, 1) := dk_42 (dk_at dksX2_nextToken_6 18 rfl rfl)
theorem dX2_nextToken_159 : decode cX2_nextToken 159 = .ok (.iconst 2, 1) := dk_5 (dk_at dksX2_nextToken_6 19 rfl rfl)
theorem dX2_nextToken_160 : decode cX2_nextToken 160 = .ok (.putfield 111, 3) := dk_181 0 111 (dk_at dksX2_nextToken_6 20 rfl rfl)
theorem dX2_nextToken_163 : decode cX2_nextToken 163 = .ok (.aload_n 0, 1) := dk_42 (dk_at dksX2_nextToken_6 23 rfl rfl)
theorem dX2_nextToken_164 : decode cX2_nextToken 164 = .ok (.lconst 0, 1) := dk_9 (dk_at dksX2_nextToken_7 0 rfl rfl)
theorem dX2_nextToken_165 : decode cX2_nextToken 165 = .ok (.putfield 124, 3) := dk_181 0 124 (dk_at dksX2_nextToken_7 1 rfl rfl)
theorem dX2_nextToken_168 : decode cX2_nextToken 168 = .ok (.aload_n 0, 1) := dk_42 (dk_at dksX2_nextToken_7 4 rfl rfl)
theorem dX2_nextToken_169 : decode cX2_nextToken 169 = .ok (.aload_n 0, 1) := dk_42 (dk_at dksX2_nextToken_7 5 rfl rfl)
theorem dX2_nextToken_170 : decode cX2_nextToken 170 = .ok (.getfield 102, 3) := dk_180 0 102 (dk_at dksX2_nextToken_7 6 rfl rfl)
theorem dX2_nextToken_173 : decode cX2_nextToken 173 = .ok (.invokevirtual 105, 3) := dk_182 0 105 (dk_at dksX2_nextToken_7 9 rfl rfl)
theorem dX2_nextToken_176 : decode cX2_nextToken 176 = .ok (.invokestatic 121, 3) := dk_184 0 121 (dk_at dksX2_nextToken_7 12 rfl rfl)
theorem dX2_nextToken_179 : decode cX2_nextToken 179 = .ok (.ifCond .eq 131, 3) := dk_153 0 131 (dk_at dksX2_nextToken_7 15 rfl rfl)
theorem dX2_nextToken_182 : decode cX2_nextToken 182 = .ok (.aload_n 0, 1) := dk_42 (dk_at dksX2_nextToken_7 18 rfl rfl)
theorem dX2_nextToken_183 : decode cX2_nextToken 183 = .ok (.aload_n 0, 1) := dk_42 (dk_at dksX2_nextToken_7 19 rfl rfl)
theorem dX2_nextToken_184 : decode cX2_nextToken 184 = .ok (.getfield 124, 3) := dk_180 0 124 (dk_at dksX2_nextToken_7 20 rfl rfl)
theorem dX2_nextToken_187 : decode cX2_nextToken 187 = .ok (.bipush 48, 2) := dk_16 48 (dk_at dksX2_nextToken_8 0 rfl rfl)
theorem dX2_nextToken_189 : decode cX2_nextToken 189 = .ok (.lshr, 1) := dk_123 (dk_at dksX2_nextToken_8 2 rfl rfl)
theorem dX2_nextToken_190 : decode cX2_nextToken 190 = .ok (.lconst 0, 1) := dk_9 (dk_at dksX2_nextToken_8 3 rfl rfl)
theorem dX2_nextToken_191 : decode cX2_nextToken 191 = .ok (.lcmp, 1) := dk_148 (dk_at dksX2_nextToken_8 4 rfl rfl)
theorem dX2_nextToken_192 : decode cX2_nextToken 192 = .ok (.ifCond .eq 9, 3) := dk_153 0 9 (dk_at dksX2_nextToken_8 5 rfl rfl)
theorem dX2_nextToken_195 : decode cX2_nextToken 195 = .ok (.ldc2_w 128, 3) := dk_20 0 128 (dk_at dksX2_nextToken_8 8 rfl rfl)
theorem dX2_nextToken_198 : decode cX2_nextToken 198 = .ok (.goto 20, 3) := dk_167 0 20 (dk_at dksX2_nextToken_8 11 rfl rfl)
theorem dX2_nextToken_201 : decode cX2_nextToken 201 = .ok (.aload_n 0, 1) := dk_42 (dk_at dksX2_nextToken_8 14 rfl rfl)
theorem dX2_nextToken_202 : decode cX2_nextToken 202 = .ok (.getfield 124, 3) := dk_180 0 124 (dk_at dksX2_nextToken_8 15 rfl rfl)
theorem dX2_nextToken_205 : decode cX2_nextToken 205 = .ok (.bipush 8, 2) := dk_16 8 (dk_at dksX2_nextToken_8 18 rfl rfl)
theorem dX2_nextToken_207 : decode cX2_nextToken 207 = .ok (.lshl, 1) := dk_121 (dk_at dksX2_nextToken_8 20 rfl rfl)
theorem dX2_nextToken_208 : decode cX2_nextToken 208 = .ok (.aload_n 0, 1) := dk_42 (dk_at dksX2_nextToken_8 21 rfl rfl)
theorem dX2_nextToken_209 : decode cX2_nextToken 209 = .ok (.aload_n 0, 1) := dk_42 (dk_at dksX2_nextToken_8 22 rfl rfl)
theorem dX2_nextToken_210 : decode cX2_nextToken 210 = .ok (.getfield 102, 3) := dk_180 0 102 (dk_at dksX2_nextToken_9 0 rfl rfl)
theorem dX2_nextToken_213 : decode cX2_nextToken 213 = .ok (.invokevirtual 105, 3) := dk_182 0 105 (dk_at dksX2_nextToken_9 3 rfl rfl)
theorem dX2_nextToken_216 : decode cX2_nextToken 216 = .ok (.i2l, 1) := dk_133 (dk_at dksX2_nextToken_9 6 rfl rfl)
theorem dX2_nextToken_217 : decode cX2_nextToken 217 = .ok (.lor, 1) := dk_129 (dk_at dksX2_nextToken_9 7 rfl rfl)
theorem dX2_nextToken_218 : decode cX2_nextToken 218 = .ok (.putfield 124, 3) := dk_181 0 124 (dk_at dksX2_nextToken_9 8 rfl rfl)
theorem dX2_nextToken_221 : decode cX2_nextToken 221 = .ok (.aload_n 0, 1) := dk_42 (dk_at dksX2_nextToken_9 11 rfl rfl)
theorem dX2_nextToken_222 : decode cX2_nextToken 222 = .ok (.dup, 1) := dk_89 (dk_at dksX2_nextToken_9 12 rfl rfl)
theorem dX2_nextToken_223 : decode cX2_nextToken 223 = .ok (.getfield 102, 3) := dk_180 0 102 (dk_at dksX2_nextToken_9 13 rfl rfl)
theorem dX2_nextToken_226 : decode cX2_nextToken 226 = .ok (.iconst 1, 1) := dk_4 (dk_at dksX2_nextToken_9 16 rfl rfl)
theorem dX2_nextToken_227 : decode cX2_nextToken 227 = .ok (.iadd, 1) := dk_96 (dk_at dksX2_nextToken_9 17 rfl rfl)
theorem dX2_nextToken_228 : decode cX2_nextToken 228 = .ok (.putfield 102, 3) := dk_181 0 102 (dk_at dksX2_nextToken_9 18 rfl rfl)
theorem dX2_nextToken_231 : decode cX2_nextToken 231 = .ok (.goto (-63), 3) := dk_167 255 193 (dk_at dksX2_nextToken_9 21 rfl rfl)
theorem dX2_nextToken_234 : decode cX2_nextToken 234 = .ok (.aload_n 0, 1) := dk_42 (dk_at dksX2_nextToken_10 0 rfl rfl)
theorem dX2_nextToken_235 : decode cX2_nextToken 235 = .ok (.iload_n 1, 1) := dk_27 (dk_at dksX2_nextToken_10 1 rfl rfl)
theorem dX2_nextToken_236 : decode cX2_nextToken 236 = .ok (.invokestatic 130, 3) := dk_184 0 130 (dk_at dksX2_nextToken_10 2 rfl rfl)
theorem dX2_nextToken_239 : decode cX2_nextToken 239 = .ok (.ifCond .eq 7, 3) := dk_153 0 7 (dk_at dksX2_nextToken_10 5 rfl rfl)
theorem dX2_nextToken_242 : decode cX2_nextToken 242 = .ok (.iload_n 1, 1) := dk_27 (dk_at dksX2_nextToken_10 8 rfl rfl)
theorem dX2_nextToken_243 : decode cX2_nextToken 243 = .ok (.goto 4, 3) := dk_167 0 4 (dk_at dksX2_nextToken_10 9 rfl rfl)
theorem dX2_nextToken_246 : decode cX2_nextToken 246 = .ok (.iconst 3, 1) := dk_6 (dk_at dksX2_nextToken_10 12 rfl rfl)
theorem dX2_nextToken_247 : decode cX2_nextToken 247 = .ok (.putfield 111, 3) := dk_181 0 111 (dk_at dksX2_nextToken_10 13 rfl rfl)
theorem dX2_nextToken_250 : decode cX2_nextToken 250 = .ok (.aload_n 0, 1) := dk_42 (dk_at dksX2_nextToken_10 16 rfl rfl)
theorem dX2_nextToken_251 : decode cX2_nextToken 251 = .ok (.dup, 1) := dk_89 (dk_at dksX2_nextToken_10 17 rfl rfl)
theorem dX2_nextToken_252 : decode cX2_nextToken 252 = .ok (.getfield 102, 3) := dk_180 0 102 (dk_at dksX2_nextToken_10 18 rfl rfl)
theorem dX2_nextToken_255 : decode cX2_nextToken 255 = .ok (.iconst 1, 1) := dk_4 (dk_at dksX2_nextToken_10 21 rfl rfl)
theorem dX2_nextToken_256 : decode cX2_nextToken 256 = .ok (.iadd, 1) := dk_96 (dk_at dksX2_nextToken_10 22 rfl rfl)
theorem dX2_nextToken_257 : decode cX2_nextToken 257 = .ok (.putfield 102, 3) := dk_181 0 102 (dk_at dksX2_nextToken_11 0 rfl rfl)
theorem dX2_nextToken_260 : decode cX2_nextToken 260 = .ok (.iload_n 1, 1) := dk_27 (dk_at dksX2_nextToken_11 3 rfl rfl)
theorem dX2_nextToken_261 : decode cX2_nextToken 261 = .ok (.bipush 60, 2) := dk_16 60 (dk_at dksX2_nextToken_11 4 rfl rfl)
theorem dX2_nextToken_263 : decode cX2_nextToken 263 = .ok (.if_icmp .eq 9, 3) := dk_159 0 9 (dk_at dksX2_nextToken_11 6 rfl rfl)
theorem dX2_nextToken_266 : decode cX2_nextToken 266 = .ok (.iload_n 1, 1) := dk_27 (dk_at dksX2_nextToken_11 9 rfl rfl)
theorem dX2_nextToken_267 : decode cX2_nextToken 267 = .ok (.bipush 62, 2) := dk_16 62 (dk_at dksX2_nextToken_11 10 rfl rfl)
theorem dX2_nextToken_269 : decode cX2_nextToken 269 = .ok (.if_icmp .ne 41, 3) := dk_160 0 41 (dk_at dksX2_nextToken_11 12 rfl rfl)
theorem dX2_nextToken_272 : decode cX2_nextToken 272 = .ok (.aload_n 0, 1) := dk_42 (dk_at dksX2_nextToken_11 15 rfl rfl)
theorem dX2_nextToken_273 : decode cX2_nextToken 273 = .ok (.aload_n 0, 1) := dk_42 (dk_at dksX2_nextToken_11 16 rfl rfl)
theorem dX2_nextToken_274 : decode cX2_nextToken 274 = .ok (.getfield 102, 3) := dk_180 0 102 (dk_at dksX2_nextToken_11 17 rfl rfl)
theorem dX2_nextToken_277 : decode cX2_nextToken 277 = .ok (.invokevirtual 105, 3) := dk_182 0 105 (dk_at dksX2_nextToken_11 20 rfl rfl)
theorem dX2_nextToken_280 : decode cX2_nextToken 280 = .ok (.bipush 61, 2) := dk_16 61 (dk_at dksX2_nextToken_12 0 rfl rfl)
theorem dX2_nextToken_282 : decode cX2_nextToken 282 = .ok (.if_icmp .ne 28, 3) := dk_160 0 28 (dk_at dksX2_nextToken_12 2 rfl rfl)
theorem dX2_nextToken_285 : decode cX2_nextToken 285 = .ok (.aload_n 0, 1) := dk_42 (dk_at dksX2_nextToken_12 5 rfl rfl)
theorem dX2_nextToken_286 : decode cX2_nextToken 286 = .ok (.iload_n 1, 1) := dk_27 (dk_at dksX2_nextToken_12 6 rfl rfl)
theorem dX2_nextToken_287 : decode cX2_nextToken 287 = .ok (.bipush 60, 2) := dk_16 60 (dk_at dksX2_nextToken_12 7 rfl rfl)
theorem dX2_nextToken_289 : decode cX2_nextToken 289 = .ok (.if_icmp .ne 7, 3) := dk_160 0 7 (dk_at dksX2_nextToken_12 9 rfl rfl)
theorem dX2_nextToken_292 : decode cX2_nextToken 292 = .ok (.iconst 4, 1) := dk_7 (dk_at dksX2_nextToken_12 12 rfl rfl)
theorem dX2_nextToken_293 : decode cX2_nextToken 293 = .ok (.goto 4, 3) := dk_167 0 4 (dk_at dksX2_nextToken_12 13 rfl rfl)
theorem dX2_nextToken_296 : decode cX2_nextToken 296 = .ok (.iconst 5, 1) := dk_8 (dk_at dksX2_nextToken_12 16 rfl rfl)
theorem dX2_nextToken_297 : decode cX2_nextToken 297 = .ok (.putfield 111, 3) := dk_181 0 111 (dk_at dksX2_nextToken_12 17 rfl rfl)
theorem dX2_nextToken_300 : decode cX2_nextToken 300 = .ok (.aload_n 0, 1) := dk_42 (dk_at dksX2_nextToken_12 20 rfl rfl)
theorem dX2_nextToken_301 : decode cX2_nextToken 301 = .ok (.dup, 1) := dk_89 (dk_at dksX2_nextToken_12 21 rfl rfl)
theorem dX2_nextToken_302 : decode cX2_nextToken 302 = .ok (.getfield 102, 3) := dk_180 0 102 (dk_at dksX2_nextToken_13 0 rfl rfl)
theorem dX2_nextToken_305 : decode cX2_nextToken 305 = .ok (.iconst 1, 1) := dk_4 (dk_at dksX2_nextToken_13 3 rfl rfl)
theorem dX2_nextToken_306 : decode cX2_nextToken 306 = .ok (.iadd, 1) := dk_96 (dk_at dksX2_nextToken_13 4 rfl rfl)
theorem dX2_nextToken_307 : decode cX2_nextToken 307 = .ok (.putfield 102, 3) := dk_181 0 102 (dk_at dksX2_nextToken_13 5 rfl rfl)
theorem dX2_nextToken_310 : decode cX2_nextToken 310 = .ok (.return_, 1) := dk_177 (dk_at dksX2_nextToken_13 8 rfl rfl)
abbrev cX2_byteAt : ByteArray := prog_20_method_18_code
def yX2_byteAt : MethodName := ⟨RX2, "byteAt", "(I)I"⟩
def dkwX2_byteAt_0 : List UInt8 := [27, 42, 180, 0, 96, 162, 0, 12, 42, 180, 0, 19, 27, 46, 167, 0, 4, 2, 172]
abbrev dktX2_byteAt_0 : List UInt8 := dkwX2_byteAt_0 ++ []
theorem dksX2_byteAt_0 : cX2_byteAt.data.toList.drop 0 = dktX2_byteAt_0 := by decide +kernel
theorem dX2_byteAt_0 : decode cX2_byteAt 0 = .ok (.iload_n 1, 1) := dk_27 (dk_at dksX2_byteAt_0 0 rfl rfl)
theorem dX2_byteAt_1 : decode cX2_byteAt 1 = .ok (.aload_n 0, 1) := dk_42 (dk_at dksX2_byteAt_0 1 rfl rfl)
theorem dX2_byteAt_2 : decode cX2_byteAt 2 = .ok (.getfield 96, 3) := dk_180 0 96 (dk_at dksX2_byteAt_0 2 rfl rfl)
theorem dX2_byteAt_5 : decode cX2_byteAt 5 = .ok (.if_icmp .ge 12, 3) := dk_162 0 12 (dk_at dksX2_byteAt_0 5 rfl rfl)
theorem dX2_byteAt_8 : decode cX2_byteAt 8 = .ok (.aload_n 0, 1) := dk_42 (dk_at dksX2_byteAt_0 8 rfl rfl)
theorem dX2_byteAt_9 : decode cX2_byteAt 9 = .ok (.getfield 19, 3) := dk_180 0 19 (dk_at dksX2_byteAt_0 9 rfl rfl)
theorem dX2_byteAt_12 : decode cX2_byteAt 12 = .ok (.iload_n 1, 1) := dk_27 (dk_at dksX2_byteAt_0 12 rfl rfl)
theorem dX2_byteAt_13 : decode cX2_byteAt 13 = .ok (.iaload, 1) := dk_46 (dk_at dksX2_byteAt_0 13 rfl rfl)
theorem dX2_byteAt_14 : decode cX2_byteAt 14 = .ok (.goto 4, 3) := dk_167 0 4 (dk_at dksX2_byteAt_0 14 rfl rfl)
theorem dX2_byteAt_17 : decode cX2_byteAt 17 = .ok (.iconst (-1), 1) := dk_2 (dk_at dksX2_byteAt_0 17 rfl rfl)
theorem dX2_byteAt_18 : decode cX2_byteAt 18 = .ok (.ireturn, 1) := dk_172 (dk_at dksX2_byteAt_0 18 rfl rfl)
abbrev cX2_isFigure : ByteArray := prog_20_method_20_code
def yX2_isFigure : MethodName := ⟨RX2, "isFigure", "(I)Z"⟩
def dkwX2_isFigure_0 : List UInt8 := [26, 16, 48, 161, 0, 13, 26, 16, 57, 163, 0, 7, 4, 167, 0, 4, 3, 172]
abbrev dktX2_isFigure_0 : List UInt8 := dkwX2_isFigure_0 ++ []
theorem dksX2_isFigure_0 : cX2_isFigure.data.toList.drop 0 = dktX2_isFigure_0 := by decide +kernel
theorem dX2_isFigure_0 : decode cX2_isFigure 0 = .ok (.iload_n 0, 1) := dk_26 (dk_at dksX2_isFigure_0 0 rfl rfl)
theorem dX2_isFigure_1 : decode cX2_isFigure 1 = .ok (.bipush 48, 2) := dk_16 48 (dk_at dksX2_isFigure_0 1 rfl rfl)
theorem dX2_isFigure_3 : decode cX2_isFigure 3 = .ok (.if_icmp .lt 13, 3) := dk_161 0 13 (dk_at dksX2_isFigure_0 3 rfl rfl)
theorem dX2_isFigure_6 : decode cX2_isFigure 6 = .ok (.iload_n 0, 1) := dk_26 (dk_at dksX2_isFigure_0 6 rfl rfl)
theorem dX2_isFigure_7 : decode cX2_isFigure 7 = .ok (.bipush 57, 2) := dk_16 57 (dk_at dksX2_isFigure_0 7 rfl rfl)
theorem dX2_isFigure_9 : decode cX2_isFigure 9 = .ok (.if_icmp .gt 7, 3) := dk_163 0 7 (dk_at dksX2_isFigure_0 9 rfl rfl)
theorem dX2_isFigure_12 : decode cX2_isFigure 12 = .ok (.iconst 1, 1) := dk_4 (dk_at dksX2_isFigure_0 12 rfl rfl)
theorem dX2_isFigure_13 : decode cX2_isFigure 13 = .ok (.goto 4, 3) := dk_167 0 4 (dk_at dksX2_isFigure_0 13 rfl rfl)
theorem dX2_isFigure_16 : decode cX2_isFigure 16 = .ok (.iconst 0, 1) := dk_3 (dk_at dksX2_isFigure_0 16 rfl rfl)
theorem dX2_isFigure_17 : decode cX2_isFigure 17 = .ok (.ireturn, 1) := dk_172 (dk_at dksX2_isFigure_0 17 rfl rfl)
abbrev cX2_isLetterByte : ByteArray := prog_20_method_19_code
def yX2_isLetterByte : MethodName := ⟨RX2, "isLetterByte", "(I)Z"⟩
def dkwX2_isLetterByte_1 : List UInt8 := [4, 167, 0, 4, 3, 172]
abbrev dktX2_isLetterByte_1 : List UInt8 := dkwX2_isLetterByte_1 ++ []
def dkwX2_isLetterByte_0 : List UInt8 := [26, 16, 97, 161, 0, 9, 26, 16, 122, 164, 0, 15, 26, 16, 65, 161, 0, 13, 26, 16, 90, 163, 0, 7]
abbrev dktX2_isLetterByte_0 : List UInt8 := dkwX2_isLetterByte_0 ++ dktX2_isLetterByte_1
theorem dksX2_isLetterByte_0 : cX2_isLetterByte.data.toList.drop 0 = dktX2_isLetterByte_0 := by decide +kernel
theorem dksX2_isLetterByte_1 : cX2_isLetterByte.data.toList.drop 24 = dktX2_isLetterByte_1 := dk_seg dksX2_isLetterByte_0 24 rfl rfl
theorem dX2_isLetterByte_0 : decode cX2_isLetterByte 0 = .ok (.iload_n 0, 1) := dk_26 (dk_at dksX2_isLetterByte_0 0 rfl rfl)
theorem dX2_isLetterByte_1 : decode cX2_isLetterByte 1 = .ok (.bipush 97, 2) := dk_16 97 (dk_at dksX2_isLetterByte_0 1 rfl rfl)
theorem dX2_isLetterByte_3 : decode cX2_isLetterByte 3 = .ok (.if_icmp .lt 9, 3) := dk_161 0 9 (dk_at dksX2_isLetterByte_0 3 rfl rfl)
theorem dX2_isLetterByte_6 : decode cX2_isLetterByte 6 = .ok (.iload_n 0, 1) := dk_26 (dk_at dksX2_isLetterByte_0 6 rfl rfl)
theorem dX2_isLetterByte_7 : decode cX2_isLetterByte 7 = .ok (.bipush 122, 2) := dk_16 122 (dk_at dksX2_isLetterByte_0 7 rfl rfl)
theorem dX2_isLetterByte_9 : decode cX2_isLetterByte 9 = .ok (.if_icmp .le 15, 3) := dk_164 0 15 (dk_at dksX2_isLetterByte_0 9 rfl rfl)
theorem dX2_isLetterByte_12 : decode cX2_isLetterByte 12 = .ok (.iload_n 0, 1) := dk_26 (dk_at dksX2_isLetterByte_0 12 rfl rfl)
theorem dX2_isLetterByte_13 : decode cX2_isLetterByte 13 = .ok (.bipush 65, 2) := dk_16 65 (dk_at dksX2_isLetterByte_0 13 rfl rfl)
theorem dX2_isLetterByte_15 : decode cX2_isLetterByte 15 = .ok (.if_icmp .lt 13, 3) := dk_161 0 13 (dk_at dksX2_isLetterByte_0 15 rfl rfl)
theorem dX2_isLetterByte_18 : decode cX2_isLetterByte 18 = .ok (.iload_n 0, 1) := dk_26 (dk_at dksX2_isLetterByte_0 18 rfl rfl)
theorem dX2_isLetterByte_19 : decode cX2_isLetterByte 19 = .ok (.bipush 90, 2) := dk_16 90 (dk_at dksX2_isLetterByte_0 19 rfl rfl)
theorem dX2_isLetterByte_21 : decode cX2_isLetterByte 21 = .ok (.if_icmp .gt 7, 3) := dk_163 0 7 (dk_at dksX2_isLetterByte_0 21 rfl rfl)
theorem dX2_isLetterByte_24 : decode cX2_isLetterByte 24 = .ok (.iconst 1, 1) := dk_4 (dk_at dksX2_isLetterByte_1 0 rfl rfl)
theorem dX2_isLetterByte_25 : decode cX2_isLetterByte 25 = .ok (.goto 4, 3) := dk_167 0 4 (dk_at dksX2_isLetterByte_1 1 rfl rfl)
theorem dX2_isLetterByte_28 : decode cX2_isLetterByte 28 = .ok (.iconst 0, 1) := dk_3 (dk_at dksX2_isLetterByte_1 4 rfl rfl)
theorem dX2_isLetterByte_29 : decode cX2_isLetterByte 29 = .ok (.ireturn, 1) := dk_172 (dk_at dksX2_isLetterByte_1 5 rfl rfl)
abbrev cX2_isSign : ByteArray := prog_20_method_21_code
def yX2_isSign : MethodName := ⟨RX2, "isSign", "(I)Z"⟩
def dkwX2_isSign_2 : List UInt8 := [4, 172, 3, 172]
abbrev dktX2_isSign_2 : List UInt8 := dkwX2_isSign_2 ++ []
def dkwX2_isSign_1 : List UInt8 := [170, 0, 0, 0, 0, 0, 129, 0, 0, 0, 35, 0, 0, 0, 62, 0, 0, 0, 127, 0, 0, 0, 129, 0, 0, 0, 129, 0, 0, 0, 129, 0, 0, 0, 129, 0, 0, 0, 127, 0, 0, 0, 127, 0, 0, 0, 127, 0, 0, 0, 127, 0, 0, 0, 129, 0, 0, 0, 127, 0, 0, 0, 129, 0, 0, 0, 127, 0, 0, 0, 129, 0, 0, 0, 129, 0, 0, 0, 129, 0, 0, 0, 129, 0, 0, 0, 129, 0, 0, 0, 129, 0, 0, 0, 129, 0, 0, 0, 129, 0, 0, 0, 129, 0, 0, 0, 129, 0, 0, 0, 127, 0, 0, 0, 127, 0, 0, 0, 127, 0, 0, 0, 127, 0, 0, 0, 127]
abbrev dktX2_isSign_1 : List UInt8 := dkwX2_isSign_1 ++ dktX2_isSign_2
def dkwX2_isSign_0 : List UInt8 := [26]
abbrev dktX2_isSign_0 : List UInt8 := dkwX2_isSign_0 ++ dktX2_isSign_1
theorem dksX2_isSign_0 : cX2_isSign.data.toList.drop 0 = dktX2_isSign_0 := by decide +kernel
theorem dksX2_isSign_1 : cX2_isSign.data.toList.drop 1 = dktX2_isSign_1 := dk_seg dksX2_isSign_0 1 rfl rfl
theorem dksX2_isSign_2 : cX2_isSign.data.toList.drop 128 = dktX2_isSign_2 := dk_seg dksX2_isSign_1 127 rfl rfl
theorem dX2_isSign_0 : decode cX2_isSign 0 = .ok (.iload_n 0, 1) := dk_26 (dk_at dksX2_isSign_0 0 rfl rfl)
theorem dX2_isSign_1 : decode cX2_isSign 1 = .ok (.tableswitch 129 35 62 #[127, 129, 129, 129, 129, 127, 127, 127, 127, 129, 127, 129, 127, 129, 129, 129, 129, 129, 129, 129, 129, 129, 129, 127, 127, 127, 127, 127], 127) := by decide +kernel
theorem dX2_isSign_128 : decode cX2_isSign 128 = .ok (.iconst 1, 1) := dk_4 (dk_at dksX2_isSign_2 0 rfl rfl)
theorem dX2_isSign_129 : decode cX2_isSign 129 = .ok (.ireturn, 1) := dk_172 (dk_at dksX2_isSign_2 1 rfl rfl)
theorem dX2_isSign_130 : decode cX2_isSign 130 = .ok (.iconst 0, 1) := dk_3 (dk_at dksX2_isSign_2 2 rfl rfl)
theorem dX2_isSign_131 : decode cX2_isSign 131 = .ok (.ireturn, 1) := dk_172 (dk_at dksX2_isSign_2 3 rfl rfl)
abbrev cX2_clause : ByteArray := prog_20_method_51_code
def yX2_clause : MethodName := ⟨RX2, "clause", "()I"⟩
def dkwX2_clause_5 : List UInt8 := [96, 79, 42, 180, 0, 111, 16, 59, 159, 0, 5, 4, 172, 42, 182, 0, 182, 3, 172]
abbrev dktX2_clause_5 : List UInt8 := dkwX2_clause_5 ++ []
def dkwX2_clause_4 : List UInt8 := [182, 0, 249, 54, 4, 21, 4, 153, 0, 6, 21, 4, 172, 42, 180, 0, 16, 42, 180, 0, 149, 92, 46, 4]
abbrev dktX2_clause_4 : List UInt8 := dkwX2_clause_4 ++ dktX2_clause_5
def dkwX2_clause_3 : List UInt8 := [182, 0, 182, 42, 180, 0, 149, 4, 96, 6, 28, 104, 96, 62, 42, 180, 0, 16, 29, 27, 79, 42, 27, 29]
abbrev dktX2_clause_3 : List UInt8 := dkwX2_clause_3 ++ dktX2_clause_4
def dkwX2_clause_2 : List UInt8 := [27, 4, 163, 0, 15, 42, 89, 180, 0, 246, 4, 27, 120, 128, 181, 0, 246, 42, 27, 181, 0, 159, 42]
abbrev dktX2_clause_2 : List UInt8 := dkwX2_clause_2 ++ dktX2_clause_3
def dkwX2_clause_1 : List UInt8 := [153, 0, 5, 7, 172, 42, 180, 0, 16, 42, 180, 0, 149, 46, 61, 28, 16, 24, 160, 0, 6, 16, 6, 172]
abbrev dktX2_clause_1 : List UInt8 := dkwX2_clause_1 ++ dktX2_clause_2
def dkwX2_clause_0 : List UInt8 := [42, 182, 0, 243, 60, 27, 156, 0, 5, 4, 172, 27, 4, 163, 0, 16, 42, 180, 0, 246, 27, 184, 0, 76]
abbrev dktX2_clause_0 : List UInt8 := dkwX2_clause_0 ++ dktX2_clause_1
theorem dksX2_clause_0 : cX2_clause.data.toList.drop 0 = dktX2_clause_0 := by decide +kernel
theorem dksX2_clause_1 : cX2_clause.data.toList.drop 24 = dktX2_clause_1 := dk_seg dksX2_clause_0 24 rfl rfl
theorem dksX2_clause_2 : cX2_clause.data.toList.drop 48 = dktX2_clause_2 := dk_seg dksX2_clause_1 24 rfl rfl
theorem dksX2_clause_3 : cX2_clause.data.toList.drop 71 = dktX2_clause_3 := dk_seg dksX2_clause_2 23 rfl rfl
theorem dksX2_clause_4 : cX2_clause.data.toList.drop 95 = dktX2_clause_4 := dk_seg dksX2_clause_3 24 rfl rfl
theorem dksX2_clause_5 : cX2_clause.data.toList.drop 119 = dktX2_clause_5 := dk_seg dksX2_clause_4 24 rfl rfl
theorem dX2_clause_0 : decode cX2_clause 0 = .ok (.aload_n 0, 1) := dk_42 (dk_at dksX2_clause_0 0 rfl rfl)
theorem dX2_clause_1 : decode cX2_clause 1 = .ok (.invokevirtual 243, 3) := dk_182 0 243 (dk_at dksX2_clause_0 1 rfl rfl)
theorem dX2_clause_4 : decode cX2_clause 4 = .ok (.istore_n 1, 1) := dk_60 (dk_at dksX2_clause_0 4 rfl rfl)
theorem dX2_clause_5 : decode cX2_clause 5 = .ok (.iload_n 1, 1) := dk_27 (dk_at dksX2_clause_0 5 rfl rfl)
theorem dX2_clause_6 : decode cX2_clause 6 = .ok (.ifCond .ge 5, 3) := dk_156 0 5 (dk_at dksX2_clause_0 6 rfl rfl)
theorem dX2_clause_9 : decode cX2_clause 9 = .ok (.iconst 1, 1) := dk_4 (dk_at dksX2_clause_0 9 rfl rfl)
theorem dX2_clause_10 : decode cX2_clause 10 = .ok (.ireturn, 1) := dk_172 (dk_at dksX2_clause_0 10 rfl rfl)
theorem dX2_clause_11 : decode cX2_clause 11 = .ok (.iload_n 1, 1) := dk_27 (dk_at dksX2_clause_0 11 rfl rfl)
theorem dX2_clause_12 : decode cX2_clause 12 = .ok (.iconst 1, 1) := dk_4 (dk_at dksX2_clause_0 12 rfl rfl)
theorem dX2_clause_13 : decode cX2_clause 13 = .ok (.if_icmp .gt 16, 3) := dk_163 0 16 (dk_at dksX2_clause_0 13 rfl rfl)
theorem dX2_clause_16 : decode cX2_clause 16 = .ok (.aload_n 0, 1) := dk_42 (dk_at dksX2_clause_0 16 rfl rfl)
theorem dX2_clause_17 : decode cX2_clause 17 = .ok (.getfield 246, 3) := dk_180 0 246 (dk_at dksX2_clause_0 17 rfl rfl)
theorem dX2_clause_20 : decode cX2_clause 20 = .ok (.iload_n 1, 1) := dk_27 (dk_at dksX2_clause_0 20 rfl rfl)
theorem dX2_clause_21 : decode cX2_clause 21 = .ok (.invokestatic 76, 3) := dk_184 0 76 (dk_at dksX2_clause_0 21 rfl rfl)
theorem dX2_clause_24 : decode cX2_clause 24 = .ok (.ifCond .eq 5, 3) := dk_153 0 5 (dk_at dksX2_clause_1 0 rfl rfl)
theorem dX2_clause_27 : decode cX2_clause 27 = .ok (.iconst 4, 1) := dk_7 (dk_at dksX2_clause_1 3 rfl rfl)
theorem dX2_clause_28 : decode cX2_clause 28 = .ok (.ireturn, 1) := dk_172 (dk_at dksX2_clause_1 4 rfl rfl)
theorem dX2_clause_29 : decode cX2_clause 29 = .ok (.aload_n 0, 1) := dk_42 (dk_at dksX2_clause_1 5 rfl rfl)
theorem dX2_clause_30 : decode cX2_clause 30 = .ok (.getfield 16, 3) := dk_180 0 16 (dk_at dksX2_clause_1 6 rfl rfl)
theorem dX2_clause_33 : decode cX2_clause 33 = .ok (.aload_n 0, 1) := dk_42 (dk_at dksX2_clause_1 9 rfl rfl)
theorem dX2_clause_34 : decode cX2_clause 34 = .ok (.getfield 149, 3) := dk_180 0 149 (dk_at dksX2_clause_1 10 rfl rfl)
theorem dX2_clause_37 : decode cX2_clause 37 = .ok (.iaload, 1) := dk_46 (dk_at dksX2_clause_1 13 rfl rfl)
theorem dX2_clause_38 : decode cX2_clause 38 = .ok (.istore_n 2, 1) := dk_61 (dk_at dksX2_clause_1 14 rfl rfl)
theorem dX2_clause_39 : decode cX2_clause 39 = .ok (.iload_n 2, 1) := dk_28 (dk_at dksX2_clause_1 15 rfl rfl)
theorem dX2_clause_40 : decode cX2_clause 40 = .ok (.bipush 24, 2) := dk_16 24 (dk_at dksX2_clause_1 16 rfl rfl)
theorem dX2_clause_42 : decode cX2_clause 42 = .ok (.if_icmp .ne 6, 3) := dk_160 0 6 (dk_at dksX2_clause_1 18 rfl rfl)
theorem dX2_clause_45 : decode cX2_clause 45 = .ok (.bipush 6, 2) := dk_16 6 (dk_at dksX2_clause_1 21 rfl rfl)
theorem dX2_clause_47 : decode cX2_clause 47 = .ok (.ireturn, 1) := dk_172 (dk_at dksX2_clause_1 23 rfl rfl)
theorem dX2_clause_48 : decode cX2_clause 48 = .ok (.iload_n 1, 1) := dk_27 (dk_at dksX2_clause_2 0 rfl rfl)
theorem dX2_clause_49 : decode cX2_clause 49 = .ok (.iconst 1, 1) := dk_4 (dk_at dksX2_clause_2 1 rfl rfl)
theorem dX2_clause_50 : decode cX2_clause 50 = .ok (.if_icmp .gt 15, 3) := dk_163 0 15 (dk_at dksX2_clause_2 2 rfl rfl)
theorem dX2_clause_53 : decode cX2_clause 53 = .ok (.aload_n 0, 1) := dk_42 (dk_at dksX2_clause_2 5 rfl rfl)
theorem dX2_clause_54 : decode cX2_clause 54 = .ok (.dup, 1) := dk_89 (dk_at dksX2_clause_2 6 rfl rfl)
theorem dX2_clause_55 : decode cX2_clause 55 = .ok (.getfield 246, 3) := dk_180 0 246 (dk_at dksX2_clause_2 7 rfl rfl)
theorem dX2_clause_58 : decode cX2_clause 58 = .ok (.iconst 1, 1) := dk_4 (dk_at dksX2_clause_2 10 rfl rfl)
theorem dX2_clause_59 : decode cX2_clause 59 = .ok (.iload_n 1, 1) := dk_27 (dk_at dksX2_clause_2 11 rfl rfl)
theorem dX2_clause_60 : decode cX2_clause 60 = .ok (.ishl, 1) := dk_120 (dk_at dksX2_clause_2 12 rfl rfl)
theorem dX2_clause_61 : decode cX2_clause 61 = .ok (.ior, 1) := dk_128 (dk_at dksX2_clause_2 13 rfl rfl)
theorem dX2_clause_62 : decode cX2_clause 62 = .ok (.putfield 246, 3) := dk_181 0 246 (dk_at dksX2_clause_2 14 rfl rfl)
theorem dX2_clause_65 : decode cX2_clause 65 = .ok (.aload_n 0, 1) := dk_42 (dk_at dksX2_clause_2 17 rfl rfl)
theorem dX2_clause_66 : decode cX2_clause 66 = .ok (.iload_n 1, 1) := dk_27 (dk_at dksX2_clause_2 18 rfl rfl)
theorem dX2_clause_67 : decode cX2_clause 67 = .ok (.putfield 159, 3) := dk_181 0 159 (dk_at dksX2_clause_2 19 rfl rfl)
theorem dX2_clause_70 : decode cX2_clause 70 = .ok (.aload_n 0, 1) := dk_42 (dk_at dksX2_clause_2 22 rfl rfl)
theorem dX2_clause_71 : decode cX2_clause 71 = .ok (.invokevirtual 182, 3) := dk_182 0 182 (dk_at dksX2_clause_3 0 rfl rfl)
theorem dX2_clause_74 : decode cX2_clause 74 = .ok (.aload_n 0, 1) := dk_42 (dk_at dksX2_clause_3 3 rfl rfl)
theorem dX2_clause_75 : decode cX2_clause 75 = .ok (.getfield 149, 3) := dk_180 0 149 (dk_at dksX2_clause_3 4 rfl rfl)
theorem dX2_clause_78 : decode cX2_clause 78 = .ok (.iconst 1, 1) := dk_4 (dk_at dksX2_clause_3 7 rfl rfl)
theorem dX2_clause_79 : decode cX2_clause 79 = .ok (.iadd, 1) := dk_96 (dk_at dksX2_clause_3 8 rfl rfl)
theorem dX2_clause_80 : decode cX2_clause 80 = .ok (.iconst 3, 1) := dk_6 (dk_at dksX2_clause_3 9 rfl rfl)
theorem dX2_clause_81 : decode cX2_clause 81 = .ok (.iload_n 2, 1) := dk_28 (dk_at dksX2_clause_3 10 rfl rfl)
theorem dX2_clause_82 : decode cX2_clause 82 = .ok (.imul, 1) := dk_104 (dk_at dksX2_clause_3 11 rfl rfl)
theorem dX2_clause_83 : decode cX2_clause 83 = .ok (.iadd, 1) := dk_96 (dk_at dksX2_clause_3 12 rfl rfl)
theorem dX2_clause_84 : decode cX2_clause 84 = .ok (.istore_n 3, 1) := dk_62 (dk_at dksX2_clause_3 13 rfl rfl)
theorem dX2_clause_85 : decode cX2_clause 85 = .ok (.aload_n 0, 1) := dk_42 (dk_at dksX2_clause_3 14 rfl rfl)
theorem dX2_clause_86 : decode cX2_clause 86 = .ok (.getfield 16, 3) := dk_180 0 16 (dk_at dksX2_clause_3 15 rfl rfl)
theorem dX2_clause_89 : decode cX2_clause 89 = .ok (.iload_n 3, 1) := dk_29 (dk_at dksX2_clause_3 18 rfl rfl)
theorem dX2_clause_90 : decode cX2_clause 90 = .ok (.iload_n 1, 1) := dk_27 (dk_at dksX2_clause_3 19 rfl rfl)
theorem dX2_clause_91 : decode cX2_clause 91 = .ok (.iastore, 1) := dk_79 (dk_at dksX2_clause_3 20 rfl rfl)
theorem dX2_clause_92 : decode cX2_clause 92 = .ok (.aload_n 0, 1) := dk_42 (dk_at dksX2_clause_3 21 rfl rfl)
theorem dX2_clause_93 : decode cX2_clause 93 = .ok (.iload_n 1, 1) := dk_27 (dk_at dksX2_clause_3 22 rfl rfl)
theorem dX2_clause_94 : decode cX2_clause 94 = .ok (.iload_n 3, 1) := dk_29 (dk_at dksX2_clause_3 23 rfl rfl)
theorem dX2_clause_95 : decode cX2_clause 95 = .ok (.invokevirtual 249, 3) := dk_182 0 249 (dk_at dksX2_clause_4 0 rfl rfl)
theorem dX2_clause_98 : decode cX2_clause 98 = .ok (.istore 4, 2) := dk_54 4 (dk_at dksX2_clause_4 3 rfl rfl)
theorem dX2_clause_100 : decode cX2_clause 100 = .ok (.iload 4, 2) := dk_21 4 (dk_at dksX2_clause_4 5 rfl rfl)
theorem dX2_clause_102 : decode cX2_clause 102 = .ok (.ifCond .eq 6, 3) := dk_153 0 6 (dk_at dksX2_clause_4 7 rfl rfl)
theorem dX2_clause_105 : decode cX2_clause 105 = .ok (.iload 4, 2) := dk_21 4 (dk_at dksX2_clause_4 10 rfl rfl)
theorem dX2_clause_107 : decode cX2_clause 107 = .ok (.ireturn, 1) := dk_172 (dk_at dksX2_clause_4 12 rfl rfl)
theorem dX2_clause_108 : decode cX2_clause 108 = .ok (.aload_n 0, 1) := dk_42 (dk_at dksX2_clause_4 13 rfl rfl)
theorem dX2_clause_109 : decode cX2_clause 109 = .ok (.getfield 16, 3) := dk_180 0 16 (dk_at dksX2_clause_4 14 rfl rfl)
theorem dX2_clause_112 : decode cX2_clause 112 = .ok (.aload_n 0, 1) := dk_42 (dk_at dksX2_clause_4 17 rfl rfl)
theorem dX2_clause_113 : decode cX2_clause 113 = .ok (.getfield 149, 3) := dk_180 0 149 (dk_at dksX2_clause_4 18 rfl rfl)
theorem dX2_clause_116 : decode cX2_clause 116 = .ok (.dup2, 1) := dk_92 (dk_at dksX2_clause_4 21 rfl rfl)
theorem dX2_clause_117 : decode cX2_clause 117 = .ok (.iaload, 1) := dk_46 (dk_at dksX2_clause_4 22 rfl rfl)
theorem dX2_clause_118 : decode cX2_clause 118 = .ok (.iconst 1, 1) := dk_4 (dk_at dksX2_clause_4 23 rfl rfl)
theorem dX2_clause_119 : decode cX2_clause 119 = .ok (.iadd, 1) := dk_96 (dk_at dksX2_clause_5 0 rfl rfl)
theorem dX2_clause_120 : decode cX2_clause 120 = .ok (.iastore, 1) := dk_79 (dk_at dksX2_clause_5 1 rfl rfl)
theorem dX2_clause_121 : decode cX2_clause 121 = .ok (.aload_n 0, 1) := dk_42 (dk_at dksX2_clause_5 2 rfl rfl)
theorem dX2_clause_122 : decode cX2_clause 122 = .ok (.getfield 111, 3) := dk_180 0 111 (dk_at dksX2_clause_5 3 rfl rfl)
theorem dX2_clause_125 : decode cX2_clause 125 = .ok (.bipush 59, 2) := dk_16 59 (dk_at dksX2_clause_5 6 rfl rfl)
theorem dX2_clause_127 : decode cX2_clause 127 = .ok (.if_icmp .eq 5, 3) := dk_159 0 5 (dk_at dksX2_clause_5 8 rfl rfl)
theorem dX2_clause_130 : decode cX2_clause 130 = .ok (.iconst 1, 1) := dk_4 (dk_at dksX2_clause_5 11 rfl rfl)
theorem dX2_clause_131 : decode cX2_clause 131 = .ok (.ireturn, 1) := dk_172 (dk_at dksX2_clause_5 12 rfl rfl)
theorem dX2_clause_132 : decode cX2_clause 132 = .ok (.aload_n 0, 1) := dk_42 (dk_at dksX2_clause_5 13 rfl rfl)
theorem dX2_clause_133 : decode cX2_clause 133 = .ok (.invokevirtual 182, 3) := dk_182 0 182 (dk_at dksX2_clause_5 14 rfl rfl)
theorem dX2_clause_136 : decode cX2_clause 136 = .ok (.iconst 0, 1) := dk_3 (dk_at dksX2_clause_5 17 rfl rfl)
theorem dX2_clause_137 : decode cX2_clause 137 = .ok (.ireturn, 1) := dk_172 (dk_at dksX2_clause_5 18 rfl rfl)
abbrev cX2_sortOf : ByteArray := prog_20_method_50_code
def yX2_sortOf : MethodName := ⟨RX2, "sortOf", "()I"⟩
def dkwX2_sortOf_6 : List UInt8 := [16, 110, 16, 110, 16, 101, 16, 114, 184, 0, 155, 182, 0, 200, 153, 0, 8, 16, 7, 167, 0, 4, 2, 172]
abbrev dktX2_sortOf_6 : List UInt8 := dkwX2_sortOf_6 ++ []
def dkwX2_sortOf_5 : List UInt8 := [16, 97, 16, 112, 184, 0, 141, 182, 0, 200, 153, 0, 8, 16, 6, 167, 0, 31, 42, 16, 100, 16, 105]
abbrev dktX2_sortOf_5 : List UInt8 := dkwX2_sortOf_5 ++ dktX2_sortOf_6
def dkwX2_sortOf_4 : List UInt8 := [16, 116, 16, 114, 16, 97, 16, 112, 184, 0, 145, 182, 0, 200, 153, 0, 5, 8, 172, 42, 16, 115, 16, 119]
abbrev dktX2_sortOf_4 : List UInt8 := dkwX2_sortOf_4 ++ dktX2_sortOf_5
def dkwX2_sortOf_3 : List UInt8 := [42, 16, 100, 16, 111, 16, 119, 16, 110, 184, 0, 141, 182, 0, 200, 153, 0, 5, 7, 172, 42, 16, 115]
abbrev dktX2_sortOf_3 : List UInt8 := dkwX2_sortOf_3 ++ dktX2_sortOf_4
def dkwX2_sortOf_2 : List UInt8 := [5, 172, 42, 16, 114, 16, 101, 16, 97, 16, 99, 16, 104, 184, 0, 145, 182, 0, 200, 153, 0, 5, 6, 172]
abbrev dktX2_sortOf_2 : List UInt8 := dkwX2_sortOf_2 ++ dktX2_sortOf_3
def dkwX2_sortOf_1 : List UInt8 := [182, 0, 200, 153, 0, 5, 4, 172, 42, 16, 107, 16, 105, 16, 110, 184, 0, 137, 182, 0, 200, 153, 0, 5]
abbrev dktX2_sortOf_1 : List UInt8 := dkwX2_sortOf_1 ++ dktX2_sortOf_2
def dkwX2_sortOf_0 : List UInt8 := [42, 182, 0, 240, 153, 0, 5, 3, 172, 42, 16, 98, 16, 101, 16, 97, 16, 114, 16, 115, 184, 0, 145]
abbrev dktX2_sortOf_0 : List UInt8 := dkwX2_sortOf_0 ++ dktX2_sortOf_1
theorem dksX2_sortOf_0 : cX2_sortOf.data.toList.drop 0 = dktX2_sortOf_0 := by decide +kernel
theorem dksX2_sortOf_1 : cX2_sortOf.data.toList.drop 23 = dktX2_sortOf_1 := dk_seg dksX2_sortOf_0 23 rfl rfl
theorem dksX2_sortOf_2 : cX2_sortOf.data.toList.drop 47 = dktX2_sortOf_2 := dk_seg dksX2_sortOf_1 24 rfl rfl
theorem dksX2_sortOf_3 : cX2_sortOf.data.toList.drop 71 = dktX2_sortOf_3 := dk_seg dksX2_sortOf_2 24 rfl rfl
theorem dksX2_sortOf_4 : cX2_sortOf.data.toList.drop 94 = dktX2_sortOf_4 := dk_seg dksX2_sortOf_3 23 rfl rfl
theorem dksX2_sortOf_5 : cX2_sortOf.data.toList.drop 118 = dktX2_sortOf_5 := dk_seg dksX2_sortOf_4 24 rfl rfl
theorem dksX2_sortOf_6 : cX2_sortOf.data.toList.drop 141 = dktX2_sortOf_6 := dk_seg dksX2_sortOf_5 23 rfl rfl
theorem dX2_sortOf_0 : decode cX2_sortOf 0 = .ok (.aload_n 0, 1) := dk_42 (dk_at dksX2_sortOf_0 0 rfl rfl)
theorem dX2_sortOf_1 : decode cX2_sortOf 1 = .ok (.invokevirtual 240, 3) := dk_182 0 240 (dk_at dksX2_sortOf_0 1 rfl rfl)
theorem dX2_sortOf_4 : decode cX2_sortOf 4 = .ok (.ifCond .eq 5, 3) := dk_153 0 5 (dk_at dksX2_sortOf_0 4 rfl rfl)
theorem dX2_sortOf_7 : decode cX2_sortOf 7 = .ok (.iconst 0, 1) := dk_3 (dk_at dksX2_sortOf_0 7 rfl rfl)
theorem dX2_sortOf_8 : decode cX2_sortOf 8 = .ok (.ireturn, 1) := dk_172 (dk_at dksX2_sortOf_0 8 rfl rfl)
theorem dX2_sortOf_9 : decode cX2_sortOf 9 = .ok (.aload_n 0, 1) := dk_42 (dk_at dksX2_sortOf_0 9 rfl rfl)
theorem dX2_sortOf_10 : decode cX2_sortOf 10 = .ok (.bipush 98, 2) := dk_16 98 (dk_at dksX2_sortOf_0 10 rfl rfl)
theorem dX2_sortOf_12 : decode cX2_sortOf 12 = .ok (.bipush 101, 2) := dk_16 101 (dk_at dksX2_sortOf_0 12 rfl rfl)
theorem dX2_sortOf_14 : decode cX2_sortOf 14 = .ok (.bipush 97, 2) := dk_16 97 (dk_at dksX2_sortOf_0 14 rfl rfl)
theorem dX2_sortOf_16 : decode cX2_sortOf 16 = .ok (.bipush 114, 2) := dk_16 114 (dk_at dksX2_sortOf_0 16 rfl rfl)
theorem dX2_sortOf_18 : decode cX2_sortOf 18 = .ok (.bipush 115, 2) := dk_16 115 (dk_at dksX2_sortOf_0 18 rfl rfl)
theorem dX2_sortOf_20 : decode cX2_sortOf 20 = .ok (.invokestatic 145, 3) := dk_184 0 145 (dk_at dksX2_sortOf_0 20 rfl rfl)
theorem dX2_sortOf_23 : decode cX2_sortOf 23 = .ok (.invokevirtual 200, 3) := dk_182 0 200 (dk_at dksX2_sortOf_1 0 rfl rfl)
theorem dX2_sortOf_26 : decode cX2_sortOf 26 = .ok (.ifCond .eq 5, 3) := dk_153 0 5 (dk_at dksX2_sortOf_1 3 rfl rfl)
theorem dX2_sortOf_29 : decode cX2_sortOf 29 = .ok (.iconst 1, 1) := dk_4 (dk_at dksX2_sortOf_1 6 rfl rfl)
theorem dX2_sortOf_30 : decode cX2_sortOf 30 = .ok (.ireturn, 1) := dk_172 (dk_at dksX2_sortOf_1 7 rfl rfl)
theorem dX2_sortOf_31 : decode cX2_sortOf 31 = .ok (.aload_n 0, 1) := dk_42 (dk_at dksX2_sortOf_1 8 rfl rfl)
theorem dX2_sortOf_32 : decode cX2_sortOf 32 = .ok (.bipush 107, 2) := dk_16 107 (dk_at dksX2_sortOf_1 9 rfl rfl)
theorem dX2_sortOf_34 : decode cX2_sortOf 34 = .ok (.bipush 105, 2) := dk_16 105 (dk_at dksX2_sortOf_1 11 rfl rfl)
theorem dX2_sortOf_36 : decode cX2_sortOf 36 = .ok (.bipush 110, 2) := dk_16 110 (dk_at dksX2_sortOf_1 13 rfl rfl)
theorem dX2_sortOf_38 : decode cX2_sortOf 38 = .ok (.invokestatic 137, 3) := dk_184 0 137 (dk_at dksX2_sortOf_1 15 rfl rfl)
theorem dX2_sortOf_41 : decode cX2_sortOf 41 = .ok (.invokevirtual 200, 3) := dk_182 0 200 (dk_at dksX2_sortOf_1 18 rfl rfl)
theorem dX2_sortOf_44 : decode cX2_sortOf 44 = .ok (.ifCond .eq 5, 3) := dk_153 0 5 (dk_at dksX2_sortOf_1 21 rfl rfl)
theorem dX2_sortOf_47 : decode cX2_sortOf 47 = .ok (.iconst 2, 1) := dk_5 (dk_at dksX2_sortOf_2 0 rfl rfl)
theorem dX2_sortOf_48 : decode cX2_sortOf 48 = .ok (.ireturn, 1) := dk_172 (dk_at dksX2_sortOf_2 1 rfl rfl)
theorem dX2_sortOf_49 : decode cX2_sortOf 49 = .ok (.aload_n 0, 1) := dk_42 (dk_at dksX2_sortOf_2 2 rfl rfl)
theorem dX2_sortOf_50 : decode cX2_sortOf 50 = .ok (.bipush 114, 2) := dk_16 114 (dk_at dksX2_sortOf_2 3 rfl rfl)
theorem dX2_sortOf_52 : decode cX2_sortOf 52 = .ok (.bipush 101, 2) := dk_16 101 (dk_at dksX2_sortOf_2 5 rfl rfl)
theorem dX2_sortOf_54 : decode cX2_sortOf 54 = .ok (.bipush 97, 2) := dk_16 97 (dk_at dksX2_sortOf_2 7 rfl rfl)
theorem dX2_sortOf_56 : decode cX2_sortOf 56 = .ok (.bipush 99, 2) := dk_16 99 (dk_at dksX2_sortOf_2 9 rfl rfl)
theorem dX2_sortOf_58 : decode cX2_sortOf 58 = .ok (.bipush 104, 2) := dk_16 104 (dk_at dksX2_sortOf_2 11 rfl rfl)
theorem dX2_sortOf_60 : decode cX2_sortOf 60 = .ok (.invokestatic 145, 3) := dk_184 0 145 (dk_at dksX2_sortOf_2 13 rfl rfl)
theorem dX2_sortOf_63 : decode cX2_sortOf 63 = .ok (.invokevirtual 200, 3) := dk_182 0 200 (dk_at dksX2_sortOf_2 16 rfl rfl)
theorem dX2_sortOf_66 : decode cX2_sortOf 66 = .ok (.ifCond .eq 5, 3) := dk_153 0 5 (dk_at dksX2_sortOf_2 19 rfl rfl)
theorem dX2_sortOf_69 : decode cX2_sortOf 69 = .ok (.iconst 3, 1) := dk_6 (dk_at dksX2_sortOf_2 22 rfl rfl)
theorem dX2_sortOf_70 : decode cX2_sortOf 70 = .ok (.ireturn, 1) := dk_172 (dk_at dksX2_sortOf_2 23 rfl rfl)
theorem dX2_sortOf_71 : decode cX2_sortOf 71 = .ok (.aload_n 0, 1) := dk_42 (dk_at dksX2_sortOf_3 0 rfl rfl)
theorem dX2_sortOf_72 : decode cX2_sortOf 72 = .ok (.bipush 100, 2) := dk_16 100 (dk_at dksX2_sortOf_3 1 rfl rfl)
theorem dX2_sortOf_74 : decode cX2_sortOf 74 = .ok (.bipush 111, 2) := dk_16 111 (dk_at dksX2_sortOf_3 3 rfl rfl)
theorem dX2_sortOf_76 : decode cX2_sortOf 76 = .ok (.bipush 119, 2) := dk_16 119 (dk_at dksX2_sortOf_3 5 rfl rfl)
theorem dX2_sortOf_78 : decode cX2_sortOf 78 = .ok (.bipush 110, 2) := dk_16 110 (dk_at dksX2_sortOf_3 7 rfl rfl)
theorem dX2_sortOf_80 : decode cX2_sortOf 80 = .ok (.invokestatic 141, 3) := dk_184 0 141 (dk_at dksX2_sortOf_3 9 rfl rfl)
theorem dX2_sortOf_83 : decode cX2_sortOf 83 = .ok (.invokevirtual 200, 3) := dk_182 0 200 (dk_at dksX2_sortOf_3 12 rfl rfl)
theorem dX2_sortOf_86 : decode cX2_sortOf 86 = .ok (.ifCond .eq 5, 3) := dk_153 0 5 (dk_at dksX2_sortOf_3 15 rfl rfl)
theorem dX2_sortOf_89 : decode cX2_sortOf 89 = .ok (.iconst 4, 1) := dk_7 (dk_at dksX2_sortOf_3 18 rfl rfl)
theorem dX2_sortOf_90 : decode cX2_sortOf 90 = .ok (.ireturn, 1) := dk_172 (dk_at dksX2_sortOf_3 19 rfl rfl)
theorem dX2_sortOf_91 : decode cX2_sortOf 91 = .ok (.aload_n 0, 1) := dk_42 (dk_at dksX2_sortOf_3 20 rfl rfl)
theorem dX2_sortOf_92 : decode cX2_sortOf 92 = .ok (.bipush 115, 2) := dk_16 115 (dk_at dksX2_sortOf_3 21 rfl rfl)
theorem dX2_sortOf_94 : decode cX2_sortOf 94 = .ok (.bipush 116, 2) := dk_16 116 (dk_at dksX2_sortOf_4 0 rfl rfl)
theorem dX2_sortOf_96 : decode cX2_sortOf 96 = .ok (.bipush 114, 2) := dk_16 114 (dk_at dksX2_sortOf_4 2 rfl rfl)
theorem dX2_sortOf_98 : decode cX2_sortOf 98 = .ok (.bipush 97, 2) := dk_16 97 (dk_at dksX2_sortOf_4 4 rfl rfl)
theorem dX2_sortOf_100 : decode cX2_sortOf 100 = .ok (.bipush 112, 2) := dk_16 112 (dk_at dksX2_sortOf_4 6 rfl rfl)
theorem dX2_sortOf_102 : decode cX2_sortOf 102 = .ok (.invokestatic 145, 3) := dk_184 0 145 (dk_at dksX2_sortOf_4 8 rfl rfl)
theorem dX2_sortOf_105 : decode cX2_sortOf 105 = .ok (.invokevirtual 200, 3) := dk_182 0 200 (dk_at dksX2_sortOf_4 11 rfl rfl)
theorem dX2_sortOf_108 : decode cX2_sortOf 108 = .ok (.ifCond .eq 5, 3) := dk_153 0 5 (dk_at dksX2_sortOf_4 14 rfl rfl)
theorem dX2_sortOf_111 : decode cX2_sortOf 111 = .ok (.iconst 5, 1) := dk_8 (dk_at dksX2_sortOf_4 17 rfl rfl)
theorem dX2_sortOf_112 : decode cX2_sortOf 112 = .ok (.ireturn, 1) := dk_172 (dk_at dksX2_sortOf_4 18 rfl rfl)
theorem dX2_sortOf_113 : decode cX2_sortOf 113 = .ok (.aload_n 0, 1) := dk_42 (dk_at dksX2_sortOf_4 19 rfl rfl)
theorem dX2_sortOf_114 : decode cX2_sortOf 114 = .ok (.bipush 115, 2) := dk_16 115 (dk_at dksX2_sortOf_4 20 rfl rfl)
theorem dX2_sortOf_116 : decode cX2_sortOf 116 = .ok (.bipush 119, 2) := dk_16 119 (dk_at dksX2_sortOf_4 22 rfl rfl)
theorem dX2_sortOf_118 : decode cX2_sortOf 118 = .ok (.bipush 97, 2) := dk_16 97 (dk_at dksX2_sortOf_5 0 rfl rfl)
theorem dX2_sortOf_120 : decode cX2_sortOf 120 = .ok (.bipush 112, 2) := dk_16 112 (dk_at dksX2_sortOf_5 2 rfl rfl)
theorem dX2_sortOf_122 : decode cX2_sortOf 122 = .ok (.invokestatic 141, 3) := dk_184 0 141 (dk_at dksX2_sortOf_5 4 rfl rfl)
theorem dX2_sortOf_125 : decode cX2_sortOf 125 = .ok (.invokevirtual 200, 3) := dk_182 0 200 (dk_at dksX2_sortOf_5 7 rfl rfl)
theorem dX2_sortOf_128 : decode cX2_sortOf 128 = .ok (.ifCond .eq 8, 3) := dk_153 0 8 (dk_at dksX2_sortOf_5 10 rfl rfl)
theorem dX2_sortOf_131 : decode cX2_sortOf 131 = .ok (.bipush 6, 2) := dk_16 6 (dk_at dksX2_sortOf_5 13 rfl rfl)
theorem dX2_sortOf_133 : decode cX2_sortOf 133 = .ok (.goto 31, 3) := dk_167 0 31 (dk_at dksX2_sortOf_5 15 rfl rfl)
theorem dX2_sortOf_136 : decode cX2_sortOf 136 = .ok (.aload_n 0, 1) := dk_42 (dk_at dksX2_sortOf_5 18 rfl rfl)
theorem dX2_sortOf_137 : decode cX2_sortOf 137 = .ok (.bipush 100, 2) := dk_16 100 (dk_at dksX2_sortOf_5 19 rfl rfl)
theorem dX2_sortOf_139 : decode cX2_sortOf 139 = .ok (.bipush 105, 2) := dk_16 105 (dk_at dksX2_sortOf_5 21 rfl rfl)
theorem dX2_sortOf_141 : decode cX2_sortOf 141 = .ok (.bipush 110, 2) := dk_16 110 (dk_at dksX2_sortOf_6 0 rfl rfl)
theorem dX2_sortOf_143 : decode cX2_sortOf 143 = .ok (.bipush 110, 2) := dk_16 110 (dk_at dksX2_sortOf_6 2 rfl rfl)
theorem dX2_sortOf_145 : decode cX2_sortOf 145 = .ok (.bipush 101, 2) := dk_16 101 (dk_at dksX2_sortOf_6 4 rfl rfl)
theorem dX2_sortOf_147 : decode cX2_sortOf 147 = .ok (.bipush 114, 2) := dk_16 114 (dk_at dksX2_sortOf_6 6 rfl rfl)
theorem dX2_sortOf_149 : decode cX2_sortOf 149 = .ok (.invokestatic 155, 3) := dk_184 0 155 (dk_at dksX2_sortOf_6 8 rfl rfl)
theorem dX2_sortOf_152 : decode cX2_sortOf 152 = .ok (.invokevirtual 200, 3) := dk_182 0 200 (dk_at dksX2_sortOf_6 11 rfl rfl)
theorem dX2_sortOf_155 : decode cX2_sortOf 155 = .ok (.ifCond .eq 8, 3) := dk_153 0 8 (dk_at dksX2_sortOf_6 14 rfl rfl)
theorem dX2_sortOf_158 : decode cX2_sortOf 158 = .ok (.bipush 7, 2) := dk_16 7 (dk_at dksX2_sortOf_6 17 rfl rfl)
theorem dX2_sortOf_160 : decode cX2_sortOf 160 = .ok (.goto 4, 3) := dk_167 0 4 (dk_at dksX2_sortOf_6 19 rfl rfl)
theorem dX2_sortOf_163 : decode cX2_sortOf 163 = .ok (.iconst (-1), 1) := dk_2 (dk_at dksX2_sortOf_6 22 rfl rfl)
theorem dX2_sortOf_164 : decode cX2_sortOf 164 = .ok (.ireturn, 1) := dk_172 (dk_at dksX2_sortOf_6 23 rfl rfl)
abbrev cX2_isReaches : ByteArray := prog_20_method_30_code
def yX2_isReaches : MethodName := ⟨RX2, "isReaches", "()Z"⟩
def dkwX2_isReaches_5 : List UInt8 := [184, 0, 137, 148, 154, 0, 7, 4, 167, 0, 4, 3, 172]
abbrev dktX2_isReaches_5 : List UInt8 := dkwX2_isReaches_5 ++ []
def dkwX2_isReaches_4 : List UInt8 := [182, 0, 105, 42, 42, 180, 0, 108, 16, 6, 96, 182, 0, 105, 184, 0, 137, 16, 104, 16, 101, 16, 115]
abbrev dktX2_isReaches_4 : List UInt8 := dkwX2_isReaches_4 ++ dktX2_isReaches_5
def dkwX2_isReaches_3 : List UInt8 := [184, 0, 141, 148, 154, 0, 54, 42, 42, 180, 0, 108, 7, 96, 182, 0, 105, 42, 42, 180, 0, 108, 8, 96]
abbrev dktX2_isReaches_3 : List UInt8 := dkwX2_isReaches_3 ++ dktX2_isReaches_4
def dkwX2_isReaches_2 : List UInt8 := [182, 0, 105, 42, 42, 180, 0, 108, 6, 96, 182, 0, 105, 184, 0, 141, 16, 114, 16, 101, 16, 97, 16, 99]
abbrev dktX2_isReaches_2 : List UInt8 := dkwX2_isReaches_2 ++ dktX2_isReaches_3
def dkwX2_isReaches_1 : List UInt8 := [180, 0, 108, 182, 0, 105, 42, 42, 180, 0, 108, 4, 96, 182, 0, 105, 42, 42, 180, 0, 108, 5, 96]
abbrev dktX2_isReaches_1 : List UInt8 := dkwX2_isReaches_1 ++ dktX2_isReaches_2
def dkwX2_isReaches_0 : List UInt8 := [42, 180, 0, 111, 5, 160, 0, 124, 42, 180, 0, 102, 42, 180, 0, 108, 100, 16, 7, 160, 0, 110, 42, 42]
abbrev dktX2_isReaches_0 : List UInt8 := dkwX2_isReaches_0 ++ dktX2_isReaches_1
theorem dksX2_isReaches_0 : cX2_isReaches.data.toList.drop 0 = dktX2_isReaches_0 := by decide +kernel
theorem dksX2_isReaches_1 : cX2_isReaches.data.toList.drop 24 = dktX2_isReaches_1 := dk_seg dksX2_isReaches_0 24 rfl rfl
theorem dksX2_isReaches_2 : cX2_isReaches.data.toList.drop 47 = dktX2_isReaches_2 := dk_seg dksX2_isReaches_1 23 rfl rfl
theorem dksX2_isReaches_3 : cX2_isReaches.data.toList.drop 71 = dktX2_isReaches_3 := dk_seg dksX2_isReaches_2 24 rfl rfl
theorem dksX2_isReaches_4 : cX2_isReaches.data.toList.drop 95 = dktX2_isReaches_4 := dk_seg dksX2_isReaches_3 24 rfl rfl
theorem dksX2_isReaches_5 : cX2_isReaches.data.toList.drop 118 = dktX2_isReaches_5 := dk_seg dksX2_isReaches_4 23 rfl rfl
theorem dX2_isReaches_0 : decode cX2_isReaches 0 = .ok (.aload_n 0, 1) := dk_42 (dk_at dksX2_isReaches_0 0 rfl rfl)
theorem dX2_isReaches_1 : decode cX2_isReaches 1 = .ok (.getfield 111, 3) := dk_180 0 111 (dk_at dksX2_isReaches_0 1 rfl rfl)
theorem dX2_isReaches_4 : decode cX2_isReaches 4 = .ok (.iconst 2, 1) := dk_5 (dk_at dksX2_isReaches_0 4 rfl rfl)
theorem dX2_isReaches_5 : decode cX2_isReaches 5 = .ok (.if_icmp .ne 124, 3) := dk_160 0 124 (dk_at dksX2_isReaches_0 5 rfl rfl)
theorem dX2_isReaches_8 : decode cX2_isReaches 8 = .ok (.aload_n 0, 1) := dk_42 (dk_at dksX2_isReaches_0 8 rfl rfl)
theorem dX2_isReaches_9 : decode cX2_isReaches 9 = .ok (.getfield 102, 3) := dk_180 0 102 (dk_at dksX2_isReaches_0 9 rfl rfl)
theorem dX2_isReaches_12 : decode cX2_isReaches 12 = .ok (.aload_n 0, 1) := dk_42 (dk_at dksX2_isReaches_0 12 rfl rfl)
theorem dX2_isReaches_13 : decode cX2_isReaches 13 = .ok (.getfield 108, 3) := dk_180 0 108 (dk_at dksX2_isReaches_0 13 rfl rfl)
theorem dX2_isReaches_16 : decode cX2_isReaches 16 = .ok (.isub, 1) := dk_100 (dk_at dksX2_isReaches_0 16 rfl rfl)
theorem dX2_isReaches_17 : decode cX2_isReaches 17 = .ok (.bipush 7, 2) := dk_16 7 (dk_at dksX2_isReaches_0 17 rfl rfl)
theorem dX2_isReaches_19 : decode cX2_isReaches 19 = .ok (.if_icmp .ne 110, 3) := dk_160 0 110 (dk_at dksX2_isReaches_0 19 rfl rfl)
theorem dX2_isReaches_22 : decode cX2_isReaches 22 = .ok (.aload_n 0, 1) := dk_42 (dk_at dksX2_isReaches_0 22 rfl rfl)
theorem dX2_isReaches_23 : decode cX2_isReaches 23 = .ok (.aload_n 0, 1) := dk_42 (dk_at dksX2_isReaches_0 23 rfl rfl)
theorem dX2_isReaches_24 : decode cX2_isReaches 24 = .ok (.getfield 108, 3) := dk_180 0 108 (dk_at dksX2_isReaches_1 0 rfl rfl)
theorem dX2_isReaches_27 : decode cX2_isReaches 27 = .ok (.invokevirtual 105, 3) := dk_182 0 105 (dk_at dksX2_isReaches_1 3 rfl rfl)
theorem dX2_isReaches_30 : decode cX2_isReaches 30 = .ok (.aload_n 0, 1) := dk_42 (dk_at dksX2_isReaches_1 6 rfl rfl)
theorem dX2_isReaches_31 : decode cX2_isReaches 31 = .ok (.aload_n 0, 1) := dk_42 (dk_at dksX2_isReaches_1 7 rfl rfl)
theorem dX2_isReaches_32 : decode cX2_isReaches 32 = .ok (.getfield 108, 3) := dk_180 0 108 (dk_at dksX2_isReaches_1 8 rfl rfl)
theorem dX2_isReaches_35 : decode cX2_isReaches 35 = .ok (.iconst 1, 1) := dk_4 (dk_at dksX2_isReaches_1 11 rfl rfl)
theorem dX2_isReaches_36 : decode cX2_isReaches 36 = .ok (.iadd, 1) := dk_96 (dk_at dksX2_isReaches_1 12 rfl rfl)
theorem dX2_isReaches_37 : decode cX2_isReaches 37 = .ok (.invokevirtual 105, 3) := dk_182 0 105 (dk_at dksX2_isReaches_1 13 rfl rfl)
theorem dX2_isReaches_40 : decode cX2_isReaches 40 = .ok (.aload_n 0, 1) := dk_42 (dk_at dksX2_isReaches_1 16 rfl rfl)
theorem dX2_isReaches_41 : decode cX2_isReaches 41 = .ok (.aload_n 0, 1) := dk_42 (dk_at dksX2_isReaches_1 17 rfl rfl)
theorem dX2_isReaches_42 : decode cX2_isReaches 42 = .ok (.getfield 108, 3) := dk_180 0 108 (dk_at dksX2_isReaches_1 18 rfl rfl)
theorem dX2_isReaches_45 : decode cX2_isReaches 45 = .ok (.iconst 2, 1) := dk_5 (dk_at dksX2_isReaches_1 21 rfl rfl)
theorem dX2_isReaches_46 : decode cX2_isReaches 46 = .ok (.iadd, 1) := dk_96 (dk_at dksX2_isReaches_1 22 rfl rfl)
theorem dX2_isReaches_47 : decode cX2_isReaches 47 = .ok (.invokevirtual 105, 3) := dk_182 0 105 (dk_at dksX2_isReaches_2 0 rfl rfl)
theorem dX2_isReaches_50 : decode cX2_isReaches 50 = .ok (.aload_n 0, 1) := dk_42 (dk_at dksX2_isReaches_2 3 rfl rfl)
theorem dX2_isReaches_51 : decode cX2_isReaches 51 = .ok (.aload_n 0, 1) := dk_42 (dk_at dksX2_isReaches_2 4 rfl rfl)
theorem dX2_isReaches_52 : decode cX2_isReaches 52 = .ok (.getfield 108, 3) := dk_180 0 108 (dk_at dksX2_isReaches_2 5 rfl rfl)
theorem dX2_isReaches_55 : decode cX2_isReaches 55 = .ok (.iconst 3, 1) := dk_6 (dk_at dksX2_isReaches_2 8 rfl rfl)
theorem dX2_isReaches_56 : decode cX2_isReaches 56 = .ok (.iadd, 1) := dk_96 (dk_at dksX2_isReaches_2 9 rfl rfl)
theorem dX2_isReaches_57 : decode cX2_isReaches 57 = .ok (.invokevirtual 105, 3) := dk_182 0 105 (dk_at dksX2_isReaches_2 10 rfl rfl)
theorem dX2_isReaches_60 : decode cX2_isReaches 60 = .ok (.invokestatic 141, 3) := dk_184 0 141 (dk_at dksX2_isReaches_2 13 rfl rfl)
theorem dX2_isReaches_63 : decode cX2_isReaches 63 = .ok (.bipush 114, 2) := dk_16 114 (dk_at dksX2_isReaches_2 16 rfl rfl)
theorem dX2_isReaches_65 : decode cX2_isReaches 65 = .ok (.bipush 101, 2) := dk_16 101 (dk_at dksX2_isReaches_2 18 rfl rfl)
theorem dX2_isReaches_67 : decode cX2_isReaches 67 = .ok (.bipush 97, 2) := dk_16 97 (dk_at dksX2_isReaches_2 20 rfl rfl)
theorem dX2_isReaches_69 : decode cX2_isReaches 69 = .ok (.bipush 99, 2) := dk_16 99 (dk_at dksX2_isReaches_2 22 rfl rfl)
theorem dX2_isReaches_71 : decode cX2_isReaches 71 = .ok (.invokestatic 141, 3) := dk_184 0 141 (dk_at dksX2_isReaches_3 0 rfl rfl)
theorem dX2_isReaches_74 : decode cX2_isReaches 74 = .ok (.lcmp, 1) := dk_148 (dk_at dksX2_isReaches_3 3 rfl rfl)
theorem dX2_isReaches_75 : decode cX2_isReaches 75 = .ok (.ifCond .ne 54, 3) := dk_154 0 54 (dk_at dksX2_isReaches_3 4 rfl rfl)
theorem dX2_isReaches_78 : decode cX2_isReaches 78 = .ok (.aload_n 0, 1) := dk_42 (dk_at dksX2_isReaches_3 7 rfl rfl)
theorem dX2_isReaches_79 : decode cX2_isReaches 79 = .ok (.aload_n 0, 1) := dk_42 (dk_at dksX2_isReaches_3 8 rfl rfl)
theorem dX2_isReaches_80 : decode cX2_isReaches 80 = .ok (.getfield 108, 3) := dk_180 0 108 (dk_at dksX2_isReaches_3 9 rfl rfl)
theorem dX2_isReaches_83 : decode cX2_isReaches 83 = .ok (.iconst 4, 1) := dk_7 (dk_at dksX2_isReaches_3 12 rfl rfl)
theorem dX2_isReaches_84 : decode cX2_isReaches 84 = .ok (.iadd, 1) := dk_96 (dk_at dksX2_isReaches_3 13 rfl rfl)
theorem dX2_isReaches_85 : decode cX2_isReaches 85 = .ok (.invokevirtual 105, 3) := dk_182 0 105 (dk_at dksX2_isReaches_3 14 rfl rfl)
theorem dX2_isReaches_88 : decode cX2_isReaches 88 = .ok (.aload_n 0, 1) := dk_42 (dk_at dksX2_isReaches_3 17 rfl rfl)
theorem dX2_isReaches_89 : decode cX2_isReaches 89 = .ok (.aload_n 0, 1) := dk_42 (dk_at dksX2_isReaches_3 18 rfl rfl)
theorem dX2_isReaches_90 : decode cX2_isReaches 90 = .ok (.getfield 108, 3) := dk_180 0 108 (dk_at dksX2_isReaches_3 19 rfl rfl)
theorem dX2_isReaches_93 : decode cX2_isReaches 93 = .ok (.iconst 5, 1) := dk_8 (dk_at dksX2_isReaches_3 22 rfl rfl)
theorem dX2_isReaches_94 : decode cX2_isReaches 94 = .ok (.iadd, 1) := dk_96 (dk_at dksX2_isReaches_3 23 rfl rfl)
theorem dX2_isReaches_95 : decode cX2_isReaches 95 = .ok (.invokevirtual 105, 3) := dk_182 0 105 (dk_at dksX2_isReaches_4 0 rfl rfl)
theorem dX2_isReaches_98 : decode cX2_isReaches 98 = .ok (.aload_n 0, 1) := dk_42 (dk_at dksX2_isReaches_4 3 rfl rfl)
theorem dX2_isReaches_99 : decode cX2_isReaches 99 = .ok (.aload_n 0, 1) := dk_42 (dk_at dksX2_isReaches_4 4 rfl rfl)
theorem dX2_isReaches_100 : decode cX2_isReaches 100 = .ok (.getfield 108, 3) := dk_180 0 108 (dk_at dksX2_isReaches_4 5 rfl rfl)
theorem dX2_isReaches_103 : decode cX2_isReaches 103 = .ok (.bipush 6, 2) := dk_16 6 (dk_at dksX2_isReaches_4 8 rfl rfl)
theorem dX2_isReaches_105 : decode cX2_isReaches 105 = .ok (.iadd, 1) := dk_96 (dk_at dksX2_isReaches_4 10 rfl rfl)
theorem dX2_isReaches_106 : decode cX2_isReaches 106 = .ok (.invokevirtual 105, 3) := dk_182 0 105 (dk_at dksX2_isReaches_4 11 rfl rfl)
theorem dX2_isReaches_109 : decode cX2_isReaches 109 = .ok (.invokestatic 137, 3) := dk_184 0 137 (dk_at dksX2_isReaches_4 14 rfl rfl)
theorem dX2_isReaches_112 : decode cX2_isReaches 112 = .ok (.bipush 104, 2) := dk_16 104 (dk_at dksX2_isReaches_4 17 rfl rfl)
theorem dX2_isReaches_114 : decode cX2_isReaches 114 = .ok (.bipush 101, 2) := dk_16 101 (dk_at dksX2_isReaches_4 19 rfl rfl)
theorem dX2_isReaches_116 : decode cX2_isReaches 116 = .ok (.bipush 115, 2) := dk_16 115 (dk_at dksX2_isReaches_4 21 rfl rfl)
theorem dX2_isReaches_118 : decode cX2_isReaches 118 = .ok (.invokestatic 137, 3) := dk_184 0 137 (dk_at dksX2_isReaches_5 0 rfl rfl)
theorem dX2_isReaches_121 : decode cX2_isReaches 121 = .ok (.lcmp, 1) := dk_148 (dk_at dksX2_isReaches_5 3 rfl rfl)
theorem dX2_isReaches_122 : decode cX2_isReaches 122 = .ok (.ifCond .ne 7, 3) := dk_154 0 7 (dk_at dksX2_isReaches_5 4 rfl rfl)
theorem dX2_isReaches_125 : decode cX2_isReaches 125 = .ok (.iconst 1, 1) := dk_4 (dk_at dksX2_isReaches_5 7 rfl rfl)
theorem dX2_isReaches_126 : decode cX2_isReaches 126 = .ok (.goto 4, 3) := dk_167 0 4 (dk_at dksX2_isReaches_5 8 rfl rfl)
theorem dX2_isReaches_129 : decode cX2_isReaches 129 = .ok (.iconst 0, 1) := dk_3 (dk_at dksX2_isReaches_5 11 rfl rfl)
theorem dX2_isReaches_130 : decode cX2_isReaches 130 = .ok (.ireturn, 1) := dk_172 (dk_at dksX2_isReaches_5 12 rfl rfl)
abbrev cX2_w4 : ByteArray := prog_20_method_25_code
def yX2_w4 : MethodName := ⟨RX2, "w4", "(IIII)J"⟩
def dkwX2_w4_0 : List UInt8 := [26, 27, 28, 184, 0, 137, 16, 8, 121, 29, 133, 129, 173]
abbrev dktX2_w4_0 : List UInt8 := dkwX2_w4_0 ++ []
theorem dksX2_w4_0 : cX2_w4.data.toList.drop 0 = dktX2_w4_0 := by decide +kernel
theorem dX2_w4_0 : decode cX2_w4 0 = .ok (.iload_n 0, 1) := dk_26 (dk_at dksX2_w4_0 0 rfl rfl)
theorem dX2_w4_1 : decode cX2_w4 1 = .ok (.iload_n 1, 1) := dk_27 (dk_at dksX2_w4_0 1 rfl rfl)
theorem dX2_w4_2 : decode cX2_w4 2 = .ok (.iload_n 2, 1) := dk_28 (dk_at dksX2_w4_0 2 rfl rfl)
theorem dX2_w4_3 : decode cX2_w4 3 = .ok (.invokestatic 137, 3) := dk_184 0 137 (dk_at dksX2_w4_0 3 rfl rfl)
theorem dX2_w4_6 : decode cX2_w4 6 = .ok (.bipush 8, 2) := dk_16 8 (dk_at dksX2_w4_0 6 rfl rfl)
theorem dX2_w4_8 : decode cX2_w4 8 = .ok (.lshl, 1) := dk_121 (dk_at dksX2_w4_0 8 rfl rfl)
theorem dX2_w4_9 : decode cX2_w4 9 = .ok (.iload_n 3, 1) := dk_29 (dk_at dksX2_w4_0 9 rfl rfl)
theorem dX2_w4_10 : decode cX2_w4 10 = .ok (.i2l, 1) := dk_133 (dk_at dksX2_w4_0 10 rfl rfl)
theorem dX2_w4_11 : decode cX2_w4 11 = .ok (.lor, 1) := dk_129 (dk_at dksX2_w4_0 11 rfl rfl)
theorem dX2_w4_12 : decode cX2_w4 12 = .ok (.lreturn, 1) := dk_173 (dk_at dksX2_w4_0 12 rfl rfl)
abbrev cX2_w3 : ByteArray := prog_20_method_24_code
def yX2_w3 : MethodName := ⟨RX2, "w3", "(III)J"⟩
def dkwX2_w3_0 : List UInt8 := [26, 27, 184, 0, 133, 16, 8, 121, 28, 133, 129, 173]
abbrev dktX2_w3_0 : List UInt8 := dkwX2_w3_0 ++ []
theorem dksX2_w3_0 : cX2_w3.data.toList.drop 0 = dktX2_w3_0 := by decide +kernel
theorem dX2_w3_0 : decode cX2_w3 0 = .ok (.iload_n 0, 1) := dk_26 (dk_at dksX2_w3_0 0 rfl rfl)
theorem dX2_w3_1 : decode cX2_w3 1 = .ok (.iload_n 1, 1) := dk_27 (dk_at dksX2_w3_0 1 rfl rfl)
theorem dX2_w3_2 : decode cX2_w3 2 = .ok (.invokestatic 133, 3) := dk_184 0 133 (dk_at dksX2_w3_0 2 rfl rfl)
theorem dX2_w3_5 : decode cX2_w3 5 = .ok (.bipush 8, 2) := dk_16 8 (dk_at dksX2_w3_0 5 rfl rfl)
theorem dX2_w3_7 : decode cX2_w3 7 = .ok (.lshl, 1) := dk_121 (dk_at dksX2_w3_0 7 rfl rfl)
theorem dX2_w3_8 : decode cX2_w3 8 = .ok (.iload_n 2, 1) := dk_28 (dk_at dksX2_w3_0 8 rfl rfl)
theorem dX2_w3_9 : decode cX2_w3 9 = .ok (.i2l, 1) := dk_133 (dk_at dksX2_w3_0 9 rfl rfl)
theorem dX2_w3_10 : decode cX2_w3 10 = .ok (.lor, 1) := dk_129 (dk_at dksX2_w3_0 10 rfl rfl)
theorem dX2_w3_11 : decode cX2_w3 11 = .ok (.lreturn, 1) := dk_173 (dk_at dksX2_w3_0 11 rfl rfl)
abbrev cX2_w2 : ByteArray := prog_20_method_23_code
def yX2_w2 : MethodName := ⟨RX2, "w2", "(II)J"⟩
def dkwX2_w2_0 : List UInt8 := [26, 133, 16, 8, 121, 27, 133, 129, 173]
abbrev dktX2_w2_0 : List UInt8 := dkwX2_w2_0 ++ []
theorem dksX2_w2_0 : cX2_w2.data.toList.drop 0 = dktX2_w2_0 := by decide +kernel
theorem dX2_w2_0 : decode cX2_w2 0 = .ok (.iload_n 0, 1) := dk_26 (dk_at dksX2_w2_0 0 rfl rfl)
theorem dX2_w2_1 : decode cX2_w2 1 = .ok (.i2l, 1) := dk_133 (dk_at dksX2_w2_0 1 rfl rfl)
theorem dX2_w2_2 : decode cX2_w2 2 = .ok (.bipush 8, 2) := dk_16 8 (dk_at dksX2_w2_0 2 rfl rfl)
theorem dX2_w2_4 : decode cX2_w2 4 = .ok (.lshl, 1) := dk_121 (dk_at dksX2_w2_0 4 rfl rfl)
theorem dX2_w2_5 : decode cX2_w2 5 = .ok (.iload_n 1, 1) := dk_27 (dk_at dksX2_w2_0 5 rfl rfl)
theorem dX2_w2_6 : decode cX2_w2 6 = .ok (.i2l, 1) := dk_133 (dk_at dksX2_w2_0 6 rfl rfl)
theorem dX2_w2_7 : decode cX2_w2 7 = .ok (.lor, 1) := dk_129 (dk_at dksX2_w2_0 7 rfl rfl)
theorem dX2_w2_8 : decode cX2_w2 8 = .ok (.lreturn, 1) := dk_173 (dk_at dksX2_w2_0 8 rfl rfl)
abbrev cX2_w5 : ByteArray := prog_20_method_26_code
def yX2_w5 : MethodName := ⟨RX2, "w5", "(IIIII)J"⟩
def dkwX2_w5_0 : List UInt8 := [26, 27, 28, 29, 184, 0, 141, 16, 8, 121, 21, 4, 133, 129, 173]
abbrev dktX2_w5_0 : List UInt8 := dkwX2_w5_0 ++ []
theorem dksX2_w5_0 : cX2_w5.data.toList.drop 0 = dktX2_w5_0 := by decide +kernel
theorem dX2_w5_0 : decode cX2_w5 0 = .ok (.iload_n 0, 1) := dk_26 (dk_at dksX2_w5_0 0 rfl rfl)
theorem dX2_w5_1 : decode cX2_w5 1 = .ok (.iload_n 1, 1) := dk_27 (dk_at dksX2_w5_0 1 rfl rfl)
theorem dX2_w5_2 : decode cX2_w5 2 = .ok (.iload_n 2, 1) := dk_28 (dk_at dksX2_w5_0 2 rfl rfl)
theorem dX2_w5_3 : decode cX2_w5 3 = .ok (.iload_n 3, 1) := dk_29 (dk_at dksX2_w5_0 3 rfl rfl)
theorem dX2_w5_4 : decode cX2_w5 4 = .ok (.invokestatic 141, 3) := dk_184 0 141 (dk_at dksX2_w5_0 4 rfl rfl)
theorem dX2_w5_7 : decode cX2_w5 7 = .ok (.bipush 8, 2) := dk_16 8 (dk_at dksX2_w5_0 7 rfl rfl)
theorem dX2_w5_9 : decode cX2_w5 9 = .ok (.lshl, 1) := dk_121 (dk_at dksX2_w5_0 9 rfl rfl)
theorem dX2_w5_10 : decode cX2_w5 10 = .ok (.iload 4, 2) := dk_21 4 (dk_at dksX2_w5_0 10 rfl rfl)
theorem dX2_w5_12 : decode cX2_w5 12 = .ok (.i2l, 1) := dk_133 (dk_at dksX2_w5_0 12 rfl rfl)
theorem dX2_w5_13 : decode cX2_w5 13 = .ok (.lor, 1) := dk_129 (dk_at dksX2_w5_0 13 rfl rfl)
theorem dX2_w5_14 : decode cX2_w5 14 = .ok (.lreturn, 1) := dk_173 (dk_at dksX2_w5_0 14 rfl rfl)
abbrev cX2_isWord : ByteArray := prog_20_method_28_code
def yX2_isWord : MethodName := ⟨RX2, "isWord", "(J)Z"⟩
def dkwX2_isWord_0 : List UInt8 := [42, 180, 0, 111, 5, 160, 0, 16, 42, 180, 0, 124, 31, 148, 154, 0, 7, 4, 167, 0, 4, 3, 172]
abbrev dktX2_isWord_0 : List UInt8 := dkwX2_isWord_0 ++ []
theorem dksX2_isWord_0 : cX2_isWord.data.toList.drop 0 = dktX2_isWord_0 := by decide +kernel
theorem dX2_isWord_0 : decode cX2_isWord 0 = .ok (.aload_n 0, 1) := dk_42 (dk_at dksX2_isWord_0 0 rfl rfl)
theorem dX2_isWord_1 : decode cX2_isWord 1 = .ok (.getfield 111, 3) := dk_180 0 111 (dk_at dksX2_isWord_0 1 rfl rfl)
theorem dX2_isWord_4 : decode cX2_isWord 4 = .ok (.iconst 2, 1) := dk_5 (dk_at dksX2_isWord_0 4 rfl rfl)
theorem dX2_isWord_5 : decode cX2_isWord 5 = .ok (.if_icmp .ne 16, 3) := dk_160 0 16 (dk_at dksX2_isWord_0 5 rfl rfl)
theorem dX2_isWord_8 : decode cX2_isWord 8 = .ok (.aload_n 0, 1) := dk_42 (dk_at dksX2_isWord_0 8 rfl rfl)
theorem dX2_isWord_9 : decode cX2_isWord 9 = .ok (.getfield 124, 3) := dk_180 0 124 (dk_at dksX2_isWord_0 9 rfl rfl)
theorem dX2_isWord_12 : decode cX2_isWord 12 = .ok (.lload_n 1, 1) := dk_31 (dk_at dksX2_isWord_0 12 rfl rfl)
theorem dX2_isWord_13 : decode cX2_isWord 13 = .ok (.lcmp, 1) := dk_148 (dk_at dksX2_isWord_0 13 rfl rfl)
theorem dX2_isWord_14 : decode cX2_isWord 14 = .ok (.ifCond .ne 7, 3) := dk_154 0 7 (dk_at dksX2_isWord_0 14 rfl rfl)
theorem dX2_isWord_17 : decode cX2_isWord 17 = .ok (.iconst 1, 1) := dk_4 (dk_at dksX2_isWord_0 17 rfl rfl)
theorem dX2_isWord_18 : decode cX2_isWord 18 = .ok (.goto 4, 3) := dk_167 0 4 (dk_at dksX2_isWord_0 18 rfl rfl)
theorem dX2_isWord_21 : decode cX2_isWord 21 = .ok (.iconst 0, 1) := dk_3 (dk_at dksX2_isWord_0 21 rfl rfl)
theorem dX2_isWord_22 : decode cX2_isWord 22 = .ok (.ireturn, 1) := dk_172 (dk_at dksX2_isWord_0 22 rfl rfl)
abbrev cX2_w6 : ByteArray := prog_20_method_27_code
def yX2_w6 : MethodName := ⟨RX2, "w6", "(IIIIII)J"⟩
def dkwX2_w6_0 : List UInt8 := [26, 27, 28, 29, 21, 4, 184, 0, 145, 16, 8, 121, 21, 5, 133, 129, 173]
abbrev dktX2_w6_0 : List UInt8 := dkwX2_w6_0 ++ []
theorem dksX2_w6_0 : cX2_w6.data.toList.drop 0 = dktX2_w6_0 := by decide +kernel
theorem dX2_w6_0 : decode cX2_w6 0 = .ok (.iload_n 0, 1) := dk_26 (dk_at dksX2_w6_0 0 rfl rfl)
theorem dX2_w6_1 : decode cX2_w6 1 = .ok (.iload_n 1, 1) := dk_27 (dk_at dksX2_w6_0 1 rfl rfl)
theorem dX2_w6_2 : decode cX2_w6 2 = .ok (.iload_n 2, 1) := dk_28 (dk_at dksX2_w6_0 2 rfl rfl)
theorem dX2_w6_3 : decode cX2_w6 3 = .ok (.iload_n 3, 1) := dk_29 (dk_at dksX2_w6_0 3 rfl rfl)
theorem dX2_w6_4 : decode cX2_w6 4 = .ok (.iload 4, 2) := dk_21 4 (dk_at dksX2_w6_0 4 rfl rfl)
theorem dX2_w6_6 : decode cX2_w6 6 = .ok (.invokestatic 145, 3) := dk_184 0 145 (dk_at dksX2_w6_0 6 rfl rfl)
theorem dX2_w6_9 : decode cX2_w6 9 = .ok (.bipush 8, 2) := dk_16 8 (dk_at dksX2_w6_0 9 rfl rfl)
theorem dX2_w6_11 : decode cX2_w6 11 = .ok (.lshl, 1) := dk_121 (dk_at dksX2_w6_0 11 rfl rfl)
theorem dX2_w6_12 : decode cX2_w6 12 = .ok (.iload 5, 2) := dk_21 5 (dk_at dksX2_w6_0 12 rfl rfl)
theorem dX2_w6_14 : decode cX2_w6 14 = .ok (.i2l, 1) := dk_133 (dk_at dksX2_w6_0 14 rfl rfl)
theorem dX2_w6_15 : decode cX2_w6 15 = .ok (.lor, 1) := dk_129 (dk_at dksX2_w6_0 15 rfl rfl)
theorem dX2_w6_16 : decode cX2_w6 16 = .ok (.lreturn, 1) := dk_173 (dk_at dksX2_w6_0 16 rfl rfl)
abbrev cX2_has : ByteArray := prog_20_method_5_code
def yX2_has : MethodName := ⟨RX2, "has", "(II)Z"⟩
def dkwX2_has_0 : List UInt8 := [26, 27, 122, 4, 126, 4, 160, 0, 7, 4, 167, 0, 4, 3, 172]
abbrev dktX2_has_0 : List UInt8 := dkwX2_has_0 ++ []
theorem dksX2_has_0 : cX2_has.data.toList.drop 0 = dktX2_has_0 := by decide +kernel
theorem dX2_has_0 : decode cX2_has 0 = .ok (.iload_n 0, 1) := dk_26 (dk_at dksX2_has_0 0 rfl rfl)
theorem dX2_has_1 : decode cX2_has 1 = .ok (.iload_n 1, 1) := dk_27 (dk_at dksX2_has_0 1 rfl rfl)
theorem dX2_has_2 : decode cX2_has 2 = .ok (.ishr, 1) := dk_122 (dk_at dksX2_has_0 2 rfl rfl)
theorem dX2_has_3 : decode cX2_has 3 = .ok (.iconst 1, 1) := dk_4 (dk_at dksX2_has_0 3 rfl rfl)
theorem dX2_has_4 : decode cX2_has 4 = .ok (.iand, 1) := dk_126 (dk_at dksX2_has_0 4 rfl rfl)
theorem dX2_has_5 : decode cX2_has 5 = .ok (.iconst 1, 1) := dk_4 (dk_at dksX2_has_0 5 rfl rfl)
theorem dX2_has_6 : decode cX2_has 6 = .ok (.if_icmp .ne 7, 3) := dk_160 0 7 (dk_at dksX2_has_0 6 rfl rfl)
theorem dX2_has_9 : decode cX2_has 9 = .ok (.iconst 1, 1) := dk_4 (dk_at dksX2_has_0 9 rfl rfl)
theorem dX2_has_10 : decode cX2_has 10 = .ok (.goto 4, 3) := dk_167 0 4 (dk_at dksX2_has_0 10 rfl rfl)
theorem dX2_has_13 : decode cX2_has 13 = .ok (.iconst 0, 1) := dk_3 (dk_at dksX2_has_0 13 rfl rfl)
theorem dX2_has_14 : decode cX2_has 14 = .ok (.ireturn, 1) := dk_172 (dk_at dksX2_has_0 14 rfl rfl)
abbrev cX2_body : ByteArray := prog_20_method_49_code
def yX2_body : MethodName := ⟨RX2, "body", "(II)I"⟩
def dkwX2_body_6 : List UInt8 := [182, 0, 237, 172]
abbrev dktX2_body_6 : List UInt8 := dkwX2_body_6 ++ []
def dkwX2_body_5 : List UInt8 := [184, 0, 141, 3, 8, 182, 0, 233, 172, 42, 28, 4, 96, 4, 16, 60, 182, 0, 229, 172, 42, 28]
abbrev dktX2_body_5 : List UInt8 := dkwX2_body_5 ++ dktX2_body_6
def dkwX2_body_4 : List UInt8 := [172, 42, 28, 4, 96, 3, 8, 182, 0, 229, 172, 42, 28, 8, 16, 119, 16, 105, 16, 116, 16, 104]
abbrev dktX2_body_4 : List UInt8 := dkwX2_body_4 ++ dktX2_body_5
def dkwX2_body_3 : List UInt8 := [4, 96, 3, 8, 182, 0, 229, 172, 42, 28, 8, 16, 98, 16, 121, 184, 0, 133, 4, 16, 99, 182, 0, 233]
abbrev dktX2_body_3 : List UInt8 := dkwX2_body_3 ++ dktX2_body_4
def dkwX2_body_2 : List UInt8 := [42, 28, 16, 9, 16, 107, 16, 101, 16, 112, 16, 116, 184, 0, 141, 3, 16, 99, 182, 0, 233, 172, 42, 28]
abbrev dktX2_body_2 : List UInt8 := dkwX2_body_2 ++ dktX2_body_3
def dkwX2_body_1 : List UInt8 := [170, 0, 0, 0, 0, 0, 129, 0, 0, 0, 2, 0, 0, 0, 7, 0, 0, 0, 39, 0, 0, 0, 61, 0, 0, 0, 71, 0, 0, 0, 88, 0, 0, 0, 98, 0, 0, 0, 118]
abbrev dktX2_body_1 : List UInt8 := dkwX2_body_1 ++ dktX2_body_2
def dkwX2_body_0 : List UInt8 := [27]
abbrev dktX2_body_0 : List UInt8 := dkwX2_body_0 ++ dktX2_body_1
theorem dksX2_body_0 : cX2_body.data.toList.drop 0 = dktX2_body_0 := by decide +kernel
theorem dksX2_body_1 : cX2_body.data.toList.drop 1 = dktX2_body_1 := dk_seg dksX2_body_0 1 rfl rfl
theorem dksX2_body_2 : cX2_body.data.toList.drop 40 = dktX2_body_2 := dk_seg dksX2_body_1 39 rfl rfl
theorem dksX2_body_3 : cX2_body.data.toList.drop 64 = dktX2_body_3 := dk_seg dksX2_body_2 24 rfl rfl
theorem dksX2_body_4 : cX2_body.data.toList.drop 88 = dktX2_body_4 := dk_seg dksX2_body_3 24 rfl rfl
theorem dksX2_body_5 : cX2_body.data.toList.drop 110 = dktX2_body_5 := dk_seg dksX2_body_4 22 rfl rfl
theorem dksX2_body_6 : cX2_body.data.toList.drop 132 = dktX2_body_6 := dk_seg dksX2_body_5 22 rfl rfl
theorem dX2_body_0 : decode cX2_body 0 = .ok (.iload_n 1, 1) := dk_27 (dk_at dksX2_body_0 0 rfl rfl)
theorem dX2_body_1 : decode cX2_body 1 = .ok (.tableswitch 129 2 7 #[39, 61, 71, 88, 98, 118], 39) := by decide +kernel
theorem dX2_body_40 : decode cX2_body 40 = .ok (.aload_n 0, 1) := dk_42 (dk_at dksX2_body_2 0 rfl rfl)
theorem dX2_body_41 : decode cX2_body 41 = .ok (.iload_n 2, 1) := dk_28 (dk_at dksX2_body_2 1 rfl rfl)
theorem dX2_body_42 : decode cX2_body 42 = .ok (.bipush 9, 2) := dk_16 9 (dk_at dksX2_body_2 2 rfl rfl)
theorem dX2_body_44 : decode cX2_body 44 = .ok (.bipush 107, 2) := dk_16 107 (dk_at dksX2_body_2 4 rfl rfl)
theorem dX2_body_46 : decode cX2_body 46 = .ok (.bipush 101, 2) := dk_16 101 (dk_at dksX2_body_2 6 rfl rfl)
theorem dX2_body_48 : decode cX2_body 48 = .ok (.bipush 112, 2) := dk_16 112 (dk_at dksX2_body_2 8 rfl rfl)
theorem dX2_body_50 : decode cX2_body 50 = .ok (.bipush 116, 2) := dk_16 116 (dk_at dksX2_body_2 10 rfl rfl)
theorem dX2_body_52 : decode cX2_body 52 = .ok (.invokestatic 141, 3) := dk_184 0 141 (dk_at dksX2_body_2 12 rfl rfl)
theorem dX2_body_55 : decode cX2_body 55 = .ok (.iconst 0, 1) := dk_3 (dk_at dksX2_body_2 15 rfl rfl)
theorem dX2_body_56 : decode cX2_body 56 = .ok (.bipush 99, 2) := dk_16 99 (dk_at dksX2_body_2 16 rfl rfl)
theorem dX2_body_58 : decode cX2_body 58 = .ok (.invokevirtual 233, 3) := dk_182 0 233 (dk_at dksX2_body_2 18 rfl rfl)
theorem dX2_body_61 : decode cX2_body 61 = .ok (.ireturn, 1) := dk_172 (dk_at dksX2_body_2 21 rfl rfl)
theorem dX2_body_62 : decode cX2_body 62 = .ok (.aload_n 0, 1) := dk_42 (dk_at dksX2_body_2 22 rfl rfl)
theorem dX2_body_63 : decode cX2_body 63 = .ok (.iload_n 2, 1) := dk_28 (dk_at dksX2_body_2 23 rfl rfl)
theorem dX2_body_64 : decode cX2_body 64 = .ok (.iconst 1, 1) := dk_4 (dk_at dksX2_body_3 0 rfl rfl)
theorem dX2_body_65 : decode cX2_body 65 = .ok (.iadd, 1) := dk_96 (dk_at dksX2_body_3 1 rfl rfl)
theorem dX2_body_66 : decode cX2_body 66 = .ok (.iconst 0, 1) := dk_3 (dk_at dksX2_body_3 2 rfl rfl)
theorem dX2_body_67 : decode cX2_body 67 = .ok (.iconst 5, 1) := dk_8 (dk_at dksX2_body_3 3 rfl rfl)
theorem dX2_body_68 : decode cX2_body 68 = .ok (.invokevirtual 229, 3) := dk_182 0 229 (dk_at dksX2_body_3 4 rfl rfl)
theorem dX2_body_71 : decode cX2_body 71 = .ok (.ireturn, 1) := dk_172 (dk_at dksX2_body_3 7 rfl rfl)
theorem dX2_body_72 : decode cX2_body 72 = .ok (.aload_n 0, 1) := dk_42 (dk_at dksX2_body_3 8 rfl rfl)
theorem dX2_body_73 : decode cX2_body 73 = .ok (.iload_n 2, 1) := dk_28 (dk_at dksX2_body_3 9 rfl rfl)
theorem dX2_body_74 : decode cX2_body 74 = .ok (.iconst 5, 1) := dk_8 (dk_at dksX2_body_3 10 rfl rfl)
theorem dX2_body_75 : decode cX2_body 75 = .ok (.bipush 98, 2) := dk_16 98 (dk_at dksX2_body_3 11 rfl rfl)
theorem dX2_body_77 : decode cX2_body 77 = .ok (.bipush 121, 2) := dk_16 121 (dk_at dksX2_body_3 13 rfl rfl)
theorem dX2_body_79 : decode cX2_body 79 = .ok (.invokestatic 133, 3) := dk_184 0 133 (dk_at dksX2_body_3 15 rfl rfl)
theorem dX2_body_82 : decode cX2_body 82 = .ok (.iconst 1, 1) := dk_4 (dk_at dksX2_body_3 18 rfl rfl)
theorem dX2_body_83 : decode cX2_body 83 = .ok (.bipush 99, 2) := dk_16 99 (dk_at dksX2_body_3 19 rfl rfl)
theorem dX2_body_85 : decode cX2_body 85 = .ok (.invokevirtual 233, 3) := dk_182 0 233 (dk_at dksX2_body_3 21 rfl rfl)
theorem dX2_body_88 : decode cX2_body 88 = .ok (.ireturn, 1) := dk_172 (dk_at dksX2_body_4 0 rfl rfl)
theorem dX2_body_89 : decode cX2_body 89 = .ok (.aload_n 0, 1) := dk_42 (dk_at dksX2_body_4 1 rfl rfl)
theorem dX2_body_90 : decode cX2_body 90 = .ok (.iload_n 2, 1) := dk_28 (dk_at dksX2_body_4 2 rfl rfl)
theorem dX2_body_91 : decode cX2_body 91 = .ok (.iconst 1, 1) := dk_4 (dk_at dksX2_body_4 3 rfl rfl)
theorem dX2_body_92 : decode cX2_body 92 = .ok (.iadd, 1) := dk_96 (dk_at dksX2_body_4 4 rfl rfl)
theorem dX2_body_93 : decode cX2_body 93 = .ok (.iconst 0, 1) := dk_3 (dk_at dksX2_body_4 5 rfl rfl)
theorem dX2_body_94 : decode cX2_body 94 = .ok (.iconst 5, 1) := dk_8 (dk_at dksX2_body_4 6 rfl rfl)
theorem dX2_body_95 : decode cX2_body 95 = .ok (.invokevirtual 229, 3) := dk_182 0 229 (dk_at dksX2_body_4 7 rfl rfl)
theorem dX2_body_98 : decode cX2_body 98 = .ok (.ireturn, 1) := dk_172 (dk_at dksX2_body_4 10 rfl rfl)
theorem dX2_body_99 : decode cX2_body 99 = .ok (.aload_n 0, 1) := dk_42 (dk_at dksX2_body_4 11 rfl rfl)
theorem dX2_body_100 : decode cX2_body 100 = .ok (.iload_n 2, 1) := dk_28 (dk_at dksX2_body_4 12 rfl rfl)
theorem dX2_body_101 : decode cX2_body 101 = .ok (.iconst 5, 1) := dk_8 (dk_at dksX2_body_4 13 rfl rfl)
theorem dX2_body_102 : decode cX2_body 102 = .ok (.bipush 119, 2) := dk_16 119 (dk_at dksX2_body_4 14 rfl rfl)
theorem dX2_body_104 : decode cX2_body 104 = .ok (.bipush 105, 2) := dk_16 105 (dk_at dksX2_body_4 16 rfl rfl)
theorem dX2_body_106 : decode cX2_body 106 = .ok (.bipush 116, 2) := dk_16 116 (dk_at dksX2_body_4 18 rfl rfl)
theorem dX2_body_108 : decode cX2_body 108 = .ok (.bipush 104, 2) := dk_16 104 (dk_at dksX2_body_4 20 rfl rfl)
theorem dX2_body_110 : decode cX2_body 110 = .ok (.invokestatic 141, 3) := dk_184 0 141 (dk_at dksX2_body_5 0 rfl rfl)
theorem dX2_body_113 : decode cX2_body 113 = .ok (.iconst 0, 1) := dk_3 (dk_at dksX2_body_5 3 rfl rfl)
theorem dX2_body_114 : decode cX2_body 114 = .ok (.iconst 5, 1) := dk_8 (dk_at dksX2_body_5 4 rfl rfl)
theorem dX2_body_115 : decode cX2_body 115 = .ok (.invokevirtual 233, 3) := dk_182 0 233 (dk_at dksX2_body_5 5 rfl rfl)
theorem dX2_body_118 : decode cX2_body 118 = .ok (.ireturn, 1) := dk_172 (dk_at dksX2_body_5 8 rfl rfl)
theorem dX2_body_119 : decode cX2_body 119 = .ok (.aload_n 0, 1) := dk_42 (dk_at dksX2_body_5 9 rfl rfl)
theorem dX2_body_120 : decode cX2_body 120 = .ok (.iload_n 2, 1) := dk_28 (dk_at dksX2_body_5 10 rfl rfl)
theorem dX2_body_121 : decode cX2_body 121 = .ok (.iconst 1, 1) := dk_4 (dk_at dksX2_body_5 11 rfl rfl)
theorem dX2_body_122 : decode cX2_body 122 = .ok (.iadd, 1) := dk_96 (dk_at dksX2_body_5 12 rfl rfl)
theorem dX2_body_123 : decode cX2_body 123 = .ok (.iconst 1, 1) := dk_4 (dk_at dksX2_body_5 13 rfl rfl)
theorem dX2_body_124 : decode cX2_body 124 = .ok (.bipush 60, 2) := dk_16 60 (dk_at dksX2_body_5 14 rfl rfl)
theorem dX2_body_126 : decode cX2_body 126 = .ok (.invokevirtual 229, 3) := dk_182 0 229 (dk_at dksX2_body_5 16 rfl rfl)
theorem dX2_body_129 : decode cX2_body 129 = .ok (.ireturn, 1) := dk_172 (dk_at dksX2_body_5 19 rfl rfl)
theorem dX2_body_130 : decode cX2_body 130 = .ok (.aload_n 0, 1) := dk_42 (dk_at dksX2_body_5 20 rfl rfl)
theorem dX2_body_131 : decode cX2_body 131 = .ok (.iload_n 2, 1) := dk_28 (dk_at dksX2_body_5 21 rfl rfl)
theorem dX2_body_132 : decode cX2_body 132 = .ok (.invokevirtual 237, 3) := dk_182 0 237 (dk_at dksX2_body_6 0 rfl rfl)
theorem dX2_body_135 : decode cX2_body 135 = .ok (.ireturn, 1) := dk_172 (dk_at dksX2_body_6 3 rfl rfl)
abbrev cX2_pair : ByteArray := prog_20_method_48_code
def yX2_pair : MethodName := ⟨RX2, "pair", "(IIJII)I"⟩
def dkwX2_pair_1 : List UInt8 := [154, 0, 5, 4, 172, 42, 182, 0, 182, 42, 27, 5, 96, 21, 5, 21, 6, 182, 0, 229, 172]
abbrev dktX2_pair_1 : List UInt8 := dkwX2_pair_1 ++ []
def dkwX2_pair_0 : List UInt8 := [42, 27, 4, 96, 3, 28, 182, 0, 229, 54, 7, 21, 7, 153, 0, 6, 21, 7, 172, 42, 33, 182, 0, 200]
abbrev dktX2_pair_0 : List UInt8 := dkwX2_pair_0 ++ dktX2_pair_1
theorem dksX2_pair_0 : cX2_pair.data.toList.drop 0 = dktX2_pair_0 := by decide +kernel
theorem dksX2_pair_1 : cX2_pair.data.toList.drop 24 = dktX2_pair_1 := dk_seg dksX2_pair_0 24 rfl rfl
theorem dX2_pair_0 : decode cX2_pair 0 = .ok (.aload_n 0, 1) := dk_42 (dk_at dksX2_pair_0 0 rfl rfl)
theorem dX2_pair_1 : decode cX2_pair 1 = .ok (.iload_n 1, 1) := dk_27 (dk_at dksX2_pair_0 1 rfl rfl)
theorem dX2_pair_2 : decode cX2_pair 2 = .ok (.iconst 1, 1) := dk_4 (dk_at dksX2_pair_0 2 rfl rfl)
theorem dX2_pair_3 : decode cX2_pair 3 = .ok (.iadd, 1) := dk_96 (dk_at dksX2_pair_0 3 rfl rfl)
theorem dX2_pair_4 : decode cX2_pair 4 = .ok (.iconst 0, 1) := dk_3 (dk_at dksX2_pair_0 4 rfl rfl)
theorem dX2_pair_5 : decode cX2_pair 5 = .ok (.iload_n 2, 1) := dk_28 (dk_at dksX2_pair_0 5 rfl rfl)
theorem dX2_pair_6 : decode cX2_pair 6 = .ok (.invokevirtual 229, 3) := dk_182 0 229 (dk_at dksX2_pair_0 6 rfl rfl)
theorem dX2_pair_9 : decode cX2_pair 9 = .ok (.istore 7, 2) := dk_54 7 (dk_at dksX2_pair_0 9 rfl rfl)
theorem dX2_pair_11 : decode cX2_pair 11 = .ok (.iload 7, 2) := dk_21 7 (dk_at dksX2_pair_0 11 rfl rfl)
theorem dX2_pair_13 : decode cX2_pair 13 = .ok (.ifCond .eq 6, 3) := dk_153 0 6 (dk_at dksX2_pair_0 13 rfl rfl)
theorem dX2_pair_16 : decode cX2_pair 16 = .ok (.iload 7, 2) := dk_21 7 (dk_at dksX2_pair_0 16 rfl rfl)
theorem dX2_pair_18 : decode cX2_pair 18 = .ok (.ireturn, 1) := dk_172 (dk_at dksX2_pair_0 18 rfl rfl)
theorem dX2_pair_19 : decode cX2_pair 19 = .ok (.aload_n 0, 1) := dk_42 (dk_at dksX2_pair_0 19 rfl rfl)
theorem dX2_pair_20 : decode cX2_pair 20 = .ok (.lload_n 3, 1) := dk_33 (dk_at dksX2_pair_0 20 rfl rfl)
theorem dX2_pair_21 : decode cX2_pair 21 = .ok (.invokevirtual 200, 3) := dk_182 0 200 (dk_at dksX2_pair_0 21 rfl rfl)
theorem dX2_pair_24 : decode cX2_pair 24 = .ok (.ifCond .ne 5, 3) := dk_154 0 5 (dk_at dksX2_pair_1 0 rfl rfl)
theorem dX2_pair_27 : decode cX2_pair 27 = .ok (.iconst 1, 1) := dk_4 (dk_at dksX2_pair_1 3 rfl rfl)
theorem dX2_pair_28 : decode cX2_pair 28 = .ok (.ireturn, 1) := dk_172 (dk_at dksX2_pair_1 4 rfl rfl)
theorem dX2_pair_29 : decode cX2_pair 29 = .ok (.aload_n 0, 1) := dk_42 (dk_at dksX2_pair_1 5 rfl rfl)
theorem dX2_pair_30 : decode cX2_pair 30 = .ok (.invokevirtual 182, 3) := dk_182 0 182 (dk_at dksX2_pair_1 6 rfl rfl)
theorem dX2_pair_33 : decode cX2_pair 33 = .ok (.aload_n 0, 1) := dk_42 (dk_at dksX2_pair_1 9 rfl rfl)
theorem dX2_pair_34 : decode cX2_pair 34 = .ok (.iload_n 1, 1) := dk_27 (dk_at dksX2_pair_1 10 rfl rfl)
theorem dX2_pair_35 : decode cX2_pair 35 = .ok (.iconst 2, 1) := dk_5 (dk_at dksX2_pair_1 11 rfl rfl)
theorem dX2_pair_36 : decode cX2_pair 36 = .ok (.iadd, 1) := dk_96 (dk_at dksX2_pair_1 12 rfl rfl)
theorem dX2_pair_37 : decode cX2_pair 37 = .ok (.iload 5, 2) := dk_21 5 (dk_at dksX2_pair_1 13 rfl rfl)
theorem dX2_pair_39 : decode cX2_pair 39 = .ok (.iload 6, 2) := dk_21 6 (dk_at dksX2_pair_1 15 rfl rfl)
theorem dX2_pair_41 : decode cX2_pair 41 = .ok (.invokevirtual 229, 3) := dk_182 0 229 (dk_at dksX2_pair_1 17 rfl rfl)
theorem dX2_pair_44 : decode cX2_pair 44 = .ok (.ireturn, 1) := dk_172 (dk_at dksX2_pair_1 20 rfl rfl)
abbrev cX2_figure : ByteArray := prog_20_method_46_code
def yX2_figure : MethodName := ⟨RX2, "figure", "(III)I"⟩
def dkwX2_figure_1 : List UInt8 := [42, 180, 0, 16, 27, 42, 180, 0, 117, 79, 42, 182, 0, 182, 3, 172]
abbrev dktX2_figure_1 : List UInt8 := dkwX2_figure_1 ++ []
def dkwX2_figure_0 : List UInt8 := [42, 180, 0, 111, 4, 159, 0, 5, 4, 172, 42, 180, 0, 117, 28, 29, 184, 0, 72, 154, 0, 5, 5, 172]
abbrev dktX2_figure_0 : List UInt8 := dkwX2_figure_0 ++ dktX2_figure_1
theorem dksX2_figure_0 : cX2_figure.data.toList.drop 0 = dktX2_figure_0 := by decide +kernel
theorem dksX2_figure_1 : cX2_figure.data.toList.drop 24 = dktX2_figure_1 := dk_seg dksX2_figure_0 24 rfl rfl
theorem dX2_figure_0 : decode cX2_figure 0 = .ok (.aload_n 0, 1) := dk_42 (dk_at dksX2_figure_0 0 rfl rfl)
theorem dX2_figure_1 : decode cX2_figure 1 = .ok (.getfield 111, 3) := dk_180 0 111 (dk_at dksX2_figure_0 1 rfl rfl)
theorem dX2_figure_4 : decode cX2_figure 4 = .ok (.iconst 1, 1) := dk_4 (dk_at dksX2_figure_0 4 rfl rfl)
theorem dX2_figure_5 : decode cX2_figure 5 = .ok (.if_icmp .eq 5, 3) := dk_159 0 5 (dk_at dksX2_figure_0 5 rfl rfl)
theorem dX2_figure_8 : decode cX2_figure 8 = .ok (.iconst 1, 1) := dk_4 (dk_at dksX2_figure_0 8 rfl rfl)
theorem dX2_figure_9 : decode cX2_figure 9 = .ok (.ireturn, 1) := dk_172 (dk_at dksX2_figure_0 9 rfl rfl)
theorem dX2_figure_10 : decode cX2_figure 10 = .ok (.aload_n 0, 1) := dk_42 (dk_at dksX2_figure_0 10 rfl rfl)
theorem dX2_figure_11 : decode cX2_figure 11 = .ok (.getfield 117, 3) := dk_180 0 117 (dk_at dksX2_figure_0 11 rfl rfl)
theorem dX2_figure_14 : decode cX2_figure 14 = .ok (.iload_n 2, 1) := dk_28 (dk_at dksX2_figure_0 14 rfl rfl)
theorem dX2_figure_15 : decode cX2_figure 15 = .ok (.iload_n 3, 1) := dk_29 (dk_at dksX2_figure_0 15 rfl rfl)
theorem dX2_figure_16 : decode cX2_figure 16 = .ok (.invokestatic 72, 3) := dk_184 0 72 (dk_at dksX2_figure_0 16 rfl rfl)
theorem dX2_figure_19 : decode cX2_figure 19 = .ok (.ifCond .ne 5, 3) := dk_154 0 5 (dk_at dksX2_figure_0 19 rfl rfl)
theorem dX2_figure_22 : decode cX2_figure 22 = .ok (.iconst 2, 1) := dk_5 (dk_at dksX2_figure_0 22 rfl rfl)
theorem dX2_figure_23 : decode cX2_figure 23 = .ok (.ireturn, 1) := dk_172 (dk_at dksX2_figure_0 23 rfl rfl)
theorem dX2_figure_24 : decode cX2_figure 24 = .ok (.aload_n 0, 1) := dk_42 (dk_at dksX2_figure_1 0 rfl rfl)
theorem dX2_figure_25 : decode cX2_figure 25 = .ok (.getfield 16, 3) := dk_180 0 16 (dk_at dksX2_figure_1 1 rfl rfl)
theorem dX2_figure_28 : decode cX2_figure 28 = .ok (.iload_n 1, 1) := dk_27 (dk_at dksX2_figure_1 4 rfl rfl)
theorem dX2_figure_29 : decode cX2_figure 29 = .ok (.aload_n 0, 1) := dk_42 (dk_at dksX2_figure_1 5 rfl rfl)
theorem dX2_figure_30 : decode cX2_figure 30 = .ok (.getfield 117, 3) := dk_180 0 117 (dk_at dksX2_figure_1 6 rfl rfl)
theorem dX2_figure_33 : decode cX2_figure 33 = .ok (.iastore, 1) := dk_79 (dk_at dksX2_figure_1 9 rfl rfl)
theorem dX2_figure_34 : decode cX2_figure 34 = .ok (.aload_n 0, 1) := dk_42 (dk_at dksX2_figure_1 10 rfl rfl)
theorem dX2_figure_35 : decode cX2_figure 35 = .ok (.invokevirtual 182, 3) := dk_182 0 182 (dk_at dksX2_figure_1 11 rfl rfl)
theorem dX2_figure_38 : decode cX2_figure 38 = .ok (.iconst 0, 1) := dk_3 (dk_at dksX2_figure_1 14 rfl rfl)
theorem dX2_figure_39 : decode cX2_figure 39 = .ok (.ireturn, 1) := dk_172 (dk_at dksX2_figure_1 15 rfl rfl)
abbrev cX2_lawClause : ByteArray := prog_20_method_47_code
def yX2_lawClause : MethodName := ⟨RX2, "lawClause", "(I)I"⟩
def dkwX2_lawClause_1 : List UInt8 := [42, 180, 0, 152, 79, 28, 172]
abbrev dktX2_lawClause_1 : List UInt8 := dkwX2_lawClause_1 ++ []
def dkwX2_lawClause_0 : List UInt8 := [42, 180, 0, 16, 27, 4, 96, 42, 180, 0, 152, 79, 42, 182, 0, 226, 61, 42, 180, 0, 16, 27, 5, 96]
abbrev dktX2_lawClause_0 : List UInt8 := dkwX2_lawClause_0 ++ dktX2_lawClause_1
theorem dksX2_lawClause_0 : cX2_lawClause.data.toList.drop 0 = dktX2_lawClause_0 := by decide +kernel
theorem dksX2_lawClause_1 : cX2_lawClause.data.toList.drop 24 = dktX2_lawClause_1 := dk_seg dksX2_lawClause_0 24 rfl rfl
theorem dX2_lawClause_0 : decode cX2_lawClause 0 = .ok (.aload_n 0, 1) := dk_42 (dk_at dksX2_lawClause_0 0 rfl rfl)
theorem dX2_lawClause_1 : decode cX2_lawClause 1 = .ok (.getfield 16, 3) := dk_180 0 16 (dk_at dksX2_lawClause_0 1 rfl rfl)
theorem dX2_lawClause_4 : decode cX2_lawClause 4 = .ok (.iload_n 1, 1) := dk_27 (dk_at dksX2_lawClause_0 4 rfl rfl)
theorem dX2_lawClause_5 : decode cX2_lawClause 5 = .ok (.iconst 1, 1) := dk_4 (dk_at dksX2_lawClause_0 5 rfl rfl)
theorem dX2_lawClause_6 : decode cX2_lawClause 6 = .ok (.iadd, 1) := dk_96 (dk_at dksX2_lawClause_0 6 rfl rfl)
theorem dX2_lawClause_7 : decode cX2_lawClause 7 = .ok (.aload_n 0, 1) := dk_42 (dk_at dksX2_lawClause_0 7 rfl rfl)
theorem dX2_lawClause_8 : decode cX2_lawClause 8 = .ok (.getfield 152, 3) := dk_180 0 152 (dk_at dksX2_lawClause_0 8 rfl rfl)
theorem dX2_lawClause_11 : decode cX2_lawClause 11 = .ok (.iastore, 1) := dk_79 (dk_at dksX2_lawClause_0 11 rfl rfl)
theorem dX2_lawClause_12 : decode cX2_lawClause 12 = .ok (.aload_n 0, 1) := dk_42 (dk_at dksX2_lawClause_0 12 rfl rfl)
theorem dX2_lawClause_13 : decode cX2_lawClause 13 = .ok (.invokevirtual 226, 3) := dk_182 0 226 (dk_at dksX2_lawClause_0 13 rfl rfl)
theorem dX2_lawClause_16 : decode cX2_lawClause 16 = .ok (.istore_n 2, 1) := dk_61 (dk_at dksX2_lawClause_0 16 rfl rfl)
theorem dX2_lawClause_17 : decode cX2_lawClause 17 = .ok (.aload_n 0, 1) := dk_42 (dk_at dksX2_lawClause_0 17 rfl rfl)
theorem dX2_lawClause_18 : decode cX2_lawClause 18 = .ok (.getfield 16, 3) := dk_180 0 16 (dk_at dksX2_lawClause_0 18 rfl rfl)
theorem dX2_lawClause_21 : decode cX2_lawClause 21 = .ok (.iload_n 1, 1) := dk_27 (dk_at dksX2_lawClause_0 21 rfl rfl)
theorem dX2_lawClause_22 : decode cX2_lawClause 22 = .ok (.iconst 2, 1) := dk_5 (dk_at dksX2_lawClause_0 22 rfl rfl)
theorem dX2_lawClause_23 : decode cX2_lawClause 23 = .ok (.iadd, 1) := dk_96 (dk_at dksX2_lawClause_0 23 rfl rfl)
theorem dX2_lawClause_24 : decode cX2_lawClause 24 = .ok (.aload_n 0, 1) := dk_42 (dk_at dksX2_lawClause_1 0 rfl rfl)
theorem dX2_lawClause_25 : decode cX2_lawClause 25 = .ok (.getfield 152, 3) := dk_180 0 152 (dk_at dksX2_lawClause_1 1 rfl rfl)
theorem dX2_lawClause_28 : decode cX2_lawClause 28 = .ok (.iastore, 1) := dk_79 (dk_at dksX2_lawClause_1 4 rfl rfl)
theorem dX2_lawClause_29 : decode cX2_lawClause 29 = .ok (.iload_n 2, 1) := dk_28 (dk_at dksX2_lawClause_1 5 rfl rfl)
theorem dX2_lawClause_30 : decode cX2_lawClause 30 = .ok (.ireturn, 1) := dk_172 (dk_at dksX2_lawClause_1 6 rfl rfl)
abbrev cX2_summed : ByteArray := prog_20_method_45_code
def yX2_summed : MethodName := ⟨RX2, "summed", "()I"⟩
def dkwX2_summed_2 : List UInt8 := [172, 42, 182, 0, 223, 60, 27, 153, 0, 5, 27, 172, 167, 255, 212]
abbrev dktX2_summed_2 : List UInt8 := dkwX2_summed_2 ++ []
def dkwX2_summed_1 : List UInt8 := [182, 0, 220, 153, 0, 6, 167, 255, 242, 42, 182, 0, 179, 155, 0, 5, 4, 172, 42, 4, 182, 0, 194, 3]
abbrev dktX2_summed_1 : List UInt8 := dkwX2_summed_1 ++ dktX2_summed_2
def dkwX2_summed_0 : List UInt8 := [42, 3, 181, 0, 162, 42, 3, 181, 0, 172, 42, 3, 181, 0, 191, 42, 180, 0, 191, 153, 0, 29, 42]
abbrev dktX2_summed_0 : List UInt8 := dkwX2_summed_0 ++ dktX2_summed_1
theorem dksX2_summed_0 : cX2_summed.data.toList.drop 0 = dktX2_summed_0 := by decide +kernel
theorem dksX2_summed_1 : cX2_summed.data.toList.drop 23 = dktX2_summed_1 := dk_seg dksX2_summed_0 23 rfl rfl
theorem dksX2_summed_2 : cX2_summed.data.toList.drop 47 = dktX2_summed_2 := dk_seg dksX2_summed_1 24 rfl rfl
theorem dX2_summed_0 : decode cX2_summed 0 = .ok (.aload_n 0, 1) := dk_42 (dk_at dksX2_summed_0 0 rfl rfl)
theorem dX2_summed_1 : decode cX2_summed 1 = .ok (.iconst 0, 1) := dk_3 (dk_at dksX2_summed_0 1 rfl rfl)
theorem dX2_summed_2 : decode cX2_summed 2 = .ok (.putfield 162, 3) := dk_181 0 162 (dk_at dksX2_summed_0 2 rfl rfl)
theorem dX2_summed_5 : decode cX2_summed 5 = .ok (.aload_n 0, 1) := dk_42 (dk_at dksX2_summed_0 5 rfl rfl)
theorem dX2_summed_6 : decode cX2_summed 6 = .ok (.iconst 0, 1) := dk_3 (dk_at dksX2_summed_0 6 rfl rfl)
theorem dX2_summed_7 : decode cX2_summed 7 = .ok (.putfield 172, 3) := dk_181 0 172 (dk_at dksX2_summed_0 7 rfl rfl)
theorem dX2_summed_10 : decode cX2_summed 10 = .ok (.aload_n 0, 1) := dk_42 (dk_at dksX2_summed_0 10 rfl rfl)
theorem dX2_summed_11 : decode cX2_summed 11 = .ok (.iconst 0, 1) := dk_3 (dk_at dksX2_summed_0 11 rfl rfl)
theorem dX2_summed_12 : decode cX2_summed 12 = .ok (.putfield 191, 3) := dk_181 0 191 (dk_at dksX2_summed_0 12 rfl rfl)
theorem dX2_summed_15 : decode cX2_summed 15 = .ok (.aload_n 0, 1) := dk_42 (dk_at dksX2_summed_0 15 rfl rfl)
theorem dX2_summed_16 : decode cX2_summed 16 = .ok (.getfield 191, 3) := dk_180 0 191 (dk_at dksX2_summed_0 16 rfl rfl)
theorem dX2_summed_19 : decode cX2_summed 19 = .ok (.ifCond .eq 29, 3) := dk_153 0 29 (dk_at dksX2_summed_0 19 rfl rfl)
theorem dX2_summed_22 : decode cX2_summed 22 = .ok (.aload_n 0, 1) := dk_42 (dk_at dksX2_summed_0 22 rfl rfl)
theorem dX2_summed_23 : decode cX2_summed 23 = .ok (.invokevirtual 220, 3) := dk_182 0 220 (dk_at dksX2_summed_1 0 rfl rfl)
theorem dX2_summed_26 : decode cX2_summed 26 = .ok (.ifCond .eq 6, 3) := dk_153 0 6 (dk_at dksX2_summed_1 3 rfl rfl)
theorem dX2_summed_29 : decode cX2_summed 29 = .ok (.goto (-14), 3) := dk_167 255 242 (dk_at dksX2_summed_1 6 rfl rfl)
theorem dX2_summed_32 : decode cX2_summed 32 = .ok (.aload_n 0, 1) := dk_42 (dk_at dksX2_summed_1 9 rfl rfl)
theorem dX2_summed_33 : decode cX2_summed 33 = .ok (.invokevirtual 179, 3) := dk_182 0 179 (dk_at dksX2_summed_1 10 rfl rfl)
theorem dX2_summed_36 : decode cX2_summed 36 = .ok (.ifCond .lt 5, 3) := dk_155 0 5 (dk_at dksX2_summed_1 13 rfl rfl)
theorem dX2_summed_39 : decode cX2_summed 39 = .ok (.iconst 1, 1) := dk_4 (dk_at dksX2_summed_1 16 rfl rfl)
theorem dX2_summed_40 : decode cX2_summed 40 = .ok (.ireturn, 1) := dk_172 (dk_at dksX2_summed_1 17 rfl rfl)
theorem dX2_summed_41 : decode cX2_summed 41 = .ok (.aload_n 0, 1) := dk_42 (dk_at dksX2_summed_1 18 rfl rfl)
theorem dX2_summed_42 : decode cX2_summed 42 = .ok (.iconst 1, 1) := dk_4 (dk_at dksX2_summed_1 19 rfl rfl)
theorem dX2_summed_43 : decode cX2_summed 43 = .ok (.invokevirtual 194, 3) := dk_182 0 194 (dk_at dksX2_summed_1 20 rfl rfl)
theorem dX2_summed_46 : decode cX2_summed 46 = .ok (.iconst 0, 1) := dk_3 (dk_at dksX2_summed_1 23 rfl rfl)
theorem dX2_summed_47 : decode cX2_summed 47 = .ok (.ireturn, 1) := dk_172 (dk_at dksX2_summed_2 0 rfl rfl)
theorem dX2_summed_48 : decode cX2_summed 48 = .ok (.aload_n 0, 1) := dk_42 (dk_at dksX2_summed_2 1 rfl rfl)
theorem dX2_summed_49 : decode cX2_summed 49 = .ok (.invokevirtual 223, 3) := dk_182 0 223 (dk_at dksX2_summed_2 2 rfl rfl)
theorem dX2_summed_52 : decode cX2_summed 52 = .ok (.istore_n 1, 1) := dk_60 (dk_at dksX2_summed_2 5 rfl rfl)
theorem dX2_summed_53 : decode cX2_summed 53 = .ok (.iload_n 1, 1) := dk_27 (dk_at dksX2_summed_2 6 rfl rfl)
theorem dX2_summed_54 : decode cX2_summed 54 = .ok (.ifCond .eq 5, 3) := dk_153 0 5 (dk_at dksX2_summed_2 7 rfl rfl)
theorem dX2_summed_57 : decode cX2_summed 57 = .ok (.iload_n 1, 1) := dk_27 (dk_at dksX2_summed_2 10 rfl rfl)
theorem dX2_summed_58 : decode cX2_summed 58 = .ok (.ireturn, 1) := dk_172 (dk_at dksX2_summed_2 11 rfl rfl)
theorem dX2_summed_59 : decode cX2_summed 59 = .ok (.goto (-44), 3) := dk_167 255 212 (dk_at dksX2_summed_2 12 rfl rfl)
abbrev cX2_behindOne : ByteArray := prog_20_method_44_code
def yX2_behindOne : MethodName := ⟨RX2, "behindOne", "()Z"⟩
def dkwX2_behindOne_6 : List UInt8 := [182, 0, 194, 4, 172]
abbrev dktX2_behindOne_6 : List UInt8 := dkwX2_behindOne_6 ++ []
def dkwX2_behindOne_5 : List UInt8 := [89, 180, 0, 162, 4, 100, 181, 0, 162, 28, 16, 43, 160, 0, 9, 42, 6, 3, 182, 0, 168, 42, 16, 7]
abbrev dktX2_behindOne_5 : List UInt8 := dkwX2_behindOne_5 ++ dktX2_behindOne_6
def dkwX2_behindOne_4 : List UInt8 := [42, 182, 0, 175, 29, 79, 42, 3, 181, 0, 191, 4, 172, 42, 89, 180, 0, 172, 4, 100, 181, 0, 172, 42]
abbrev dktX2_behindOne_4 : List UInt8 := dkwX2_behindOne_4 ++ dktX2_behindOne_5
def dkwX2_behindOne_3 : List UInt8 := [62, 29, 156, 0, 5, 3, 172, 42, 4, 182, 0, 194, 42, 182, 0, 182, 29, 158, 0, 20, 42, 180, 0, 29]
abbrev dktX2_behindOne_3 : List UInt8 := dkwX2_behindOne_3 ++ dktX2_behindOne_4
def dkwX2_behindOne_2 : List UInt8 := [181, 0, 162, 42, 3, 181, 0, 191, 42, 182, 0, 182, 4, 172, 42, 182, 0, 179, 61, 42, 28, 182, 0, 217]
abbrev dktX2_behindOne_2 : List UInt8 := dkwX2_behindOne_2 ++ dktX2_behindOne_3
def dkwX2_behindOne_1 : List UInt8 := [184, 0, 165, 182, 0, 194, 42, 180, 0, 29, 42, 180, 0, 162, 27, 79, 42, 89, 180, 0, 162, 4, 96]
abbrev dktX2_behindOne_1 : List UInt8 := dkwX2_behindOne_1 ++ dktX2_behindOne_2
def dkwX2_behindOne_0 : List UInt8 := [42, 182, 0, 214, 60, 27, 155, 0, 54, 42, 27, 184, 0, 165, 7, 160, 0, 7, 8, 167, 0, 7, 27]
abbrev dktX2_behindOne_0 : List UInt8 := dkwX2_behindOne_0 ++ dktX2_behindOne_1
theorem dksX2_behindOne_0 : cX2_behindOne.data.toList.drop 0 = dktX2_behindOne_0 := by decide +kernel
theorem dksX2_behindOne_1 : cX2_behindOne.data.toList.drop 23 = dktX2_behindOne_1 := dk_seg dksX2_behindOne_0 23 rfl rfl
theorem dksX2_behindOne_2 : cX2_behindOne.data.toList.drop 46 = dktX2_behindOne_2 := dk_seg dksX2_behindOne_1 23 rfl rfl
theorem dksX2_behindOne_3 : cX2_behindOne.data.toList.drop 70 = dktX2_behindOne_3 := dk_seg dksX2_behindOne_2 24 rfl rfl
theorem dksX2_behindOne_4 : cX2_behindOne.data.toList.drop 94 = dktX2_behindOne_4 := dk_seg dksX2_behindOne_3 24 rfl rfl
theorem dksX2_behindOne_5 : cX2_behindOne.data.toList.drop 118 = dktX2_behindOne_5 := dk_seg dksX2_behindOne_4 24 rfl rfl
theorem dksX2_behindOne_6 : cX2_behindOne.data.toList.drop 142 = dktX2_behindOne_6 := dk_seg dksX2_behindOne_5 24 rfl rfl
theorem dX2_behindOne_0 : decode cX2_behindOne 0 = .ok (.aload_n 0, 1) := dk_42 (dk_at dksX2_behindOne_0 0 rfl rfl)
theorem dX2_behindOne_1 : decode cX2_behindOne 1 = .ok (.invokevirtual 214, 3) := dk_182 0 214 (dk_at dksX2_behindOne_0 1 rfl rfl)
theorem dX2_behindOne_4 : decode cX2_behindOne 4 = .ok (.istore_n 1, 1) := dk_60 (dk_at dksX2_behindOne_0 4 rfl rfl)
theorem dX2_behindOne_5 : decode cX2_behindOne 5 = .ok (.iload_n 1, 1) := dk_27 (dk_at dksX2_behindOne_0 5 rfl rfl)
theorem dX2_behindOne_6 : decode cX2_behindOne 6 = .ok (.ifCond .lt 54, 3) := dk_155 0 54 (dk_at dksX2_behindOne_0 6 rfl rfl)
theorem dX2_behindOne_9 : decode cX2_behindOne 9 = .ok (.aload_n 0, 1) := dk_42 (dk_at dksX2_behindOne_0 9 rfl rfl)
theorem dX2_behindOne_10 : decode cX2_behindOne 10 = .ok (.iload_n 1, 1) := dk_27 (dk_at dksX2_behindOne_0 10 rfl rfl)
theorem dX2_behindOne_11 : decode cX2_behindOne 11 = .ok (.invokestatic 165, 3) := dk_184 0 165 (dk_at dksX2_behindOne_0 11 rfl rfl)
theorem dX2_behindOne_14 : decode cX2_behindOne 14 = .ok (.iconst 4, 1) := dk_7 (dk_at dksX2_behindOne_0 14 rfl rfl)
theorem dX2_behindOne_15 : decode cX2_behindOne 15 = .ok (.if_icmp .ne 7, 3) := dk_160 0 7 (dk_at dksX2_behindOne_0 15 rfl rfl)
theorem dX2_behindOne_18 : decode cX2_behindOne 18 = .ok (.iconst 5, 1) := dk_8 (dk_at dksX2_behindOne_0 18 rfl rfl)
theorem dX2_behindOne_19 : decode cX2_behindOne 19 = .ok (.goto 7, 3) := dk_167 0 7 (dk_at dksX2_behindOne_0 19 rfl rfl)
theorem dX2_behindOne_22 : decode cX2_behindOne 22 = .ok (.iload_n 1, 1) := dk_27 (dk_at dksX2_behindOne_0 22 rfl rfl)
theorem dX2_behindOne_23 : decode cX2_behindOne 23 = .ok (.invokestatic 165, 3) := dk_184 0 165 (dk_at dksX2_behindOne_1 0 rfl rfl)
theorem dX2_behindOne_26 : decode cX2_behindOne 26 = .ok (.invokevirtual 194, 3) := dk_182 0 194 (dk_at dksX2_behindOne_1 3 rfl rfl)
theorem dX2_behindOne_29 : decode cX2_behindOne 29 = .ok (.aload_n 0, 1) := dk_42 (dk_at dksX2_behindOne_1 6 rfl rfl)
theorem dX2_behindOne_30 : decode cX2_behindOne 30 = .ok (.getfield 29, 3) := dk_180 0 29 (dk_at dksX2_behindOne_1 7 rfl rfl)
theorem dX2_behindOne_33 : decode cX2_behindOne 33 = .ok (.aload_n 0, 1) := dk_42 (dk_at dksX2_behindOne_1 10 rfl rfl)
theorem dX2_behindOne_34 : decode cX2_behindOne 34 = .ok (.getfield 162, 3) := dk_180 0 162 (dk_at dksX2_behindOne_1 11 rfl rfl)
theorem dX2_behindOne_37 : decode cX2_behindOne 37 = .ok (.iload_n 1, 1) := dk_27 (dk_at dksX2_behindOne_1 14 rfl rfl)
theorem dX2_behindOne_38 : decode cX2_behindOne 38 = .ok (.iastore, 1) := dk_79 (dk_at dksX2_behindOne_1 15 rfl rfl)
theorem dX2_behindOne_39 : decode cX2_behindOne 39 = .ok (.aload_n 0, 1) := dk_42 (dk_at dksX2_behindOne_1 16 rfl rfl)
theorem dX2_behindOne_40 : decode cX2_behindOne 40 = .ok (.dup, 1) := dk_89 (dk_at dksX2_behindOne_1 17 rfl rfl)
theorem dX2_behindOne_41 : decode cX2_behindOne 41 = .ok (.getfield 162, 3) := dk_180 0 162 (dk_at dksX2_behindOne_1 18 rfl rfl)
theorem dX2_behindOne_44 : decode cX2_behindOne 44 = .ok (.iconst 1, 1) := dk_4 (dk_at dksX2_behindOne_1 21 rfl rfl)
theorem dX2_behindOne_45 : decode cX2_behindOne 45 = .ok (.iadd, 1) := dk_96 (dk_at dksX2_behindOne_1 22 rfl rfl)
theorem dX2_behindOne_46 : decode cX2_behindOne 46 = .ok (.putfield 162, 3) := dk_181 0 162 (dk_at dksX2_behindOne_2 0 rfl rfl)
theorem dX2_behindOne_49 : decode cX2_behindOne 49 = .ok (.aload_n 0, 1) := dk_42 (dk_at dksX2_behindOne_2 3 rfl rfl)
theorem dX2_behindOne_50 : decode cX2_behindOne 50 = .ok (.iconst 0, 1) := dk_3 (dk_at dksX2_behindOne_2 4 rfl rfl)
theorem dX2_behindOne_51 : decode cX2_behindOne 51 = .ok (.putfield 191, 3) := dk_181 0 191 (dk_at dksX2_behindOne_2 5 rfl rfl)
theorem dX2_behindOne_54 : decode cX2_behindOne 54 = .ok (.aload_n 0, 1) := dk_42 (dk_at dksX2_behindOne_2 8 rfl rfl)
theorem dX2_behindOne_55 : decode cX2_behindOne 55 = .ok (.invokevirtual 182, 3) := dk_182 0 182 (dk_at dksX2_behindOne_2 9 rfl rfl)
theorem dX2_behindOne_58 : decode cX2_behindOne 58 = .ok (.iconst 1, 1) := dk_4 (dk_at dksX2_behindOne_2 12 rfl rfl)
theorem dX2_behindOne_59 : decode cX2_behindOne 59 = .ok (.ireturn, 1) := dk_172 (dk_at dksX2_behindOne_2 13 rfl rfl)
theorem dX2_behindOne_60 : decode cX2_behindOne 60 = .ok (.aload_n 0, 1) := dk_42 (dk_at dksX2_behindOne_2 14 rfl rfl)
theorem dX2_behindOne_61 : decode cX2_behindOne 61 = .ok (.invokevirtual 179, 3) := dk_182 0 179 (dk_at dksX2_behindOne_2 15 rfl rfl)
theorem dX2_behindOne_64 : decode cX2_behindOne 64 = .ok (.istore_n 2, 1) := dk_61 (dk_at dksX2_behindOne_2 18 rfl rfl)
theorem dX2_behindOne_65 : decode cX2_behindOne 65 = .ok (.aload_n 0, 1) := dk_42 (dk_at dksX2_behindOne_2 19 rfl rfl)
theorem dX2_behindOne_66 : decode cX2_behindOne 66 = .ok (.iload_n 2, 1) := dk_28 (dk_at dksX2_behindOne_2 20 rfl rfl)
theorem dX2_behindOne_67 : decode cX2_behindOne 67 = .ok (.invokevirtual 217, 3) := dk_182 0 217 (dk_at dksX2_behindOne_2 21 rfl rfl)
theorem dX2_behindOne_70 : decode cX2_behindOne 70 = .ok (.istore_n 3, 1) := dk_62 (dk_at dksX2_behindOne_3 0 rfl rfl)
theorem dX2_behindOne_71 : decode cX2_behindOne 71 = .ok (.iload_n 3, 1) := dk_29 (dk_at dksX2_behindOne_3 1 rfl rfl)
theorem dX2_behindOne_72 : decode cX2_behindOne 72 = .ok (.ifCond .ge 5, 3) := dk_156 0 5 (dk_at dksX2_behindOne_3 2 rfl rfl)
theorem dX2_behindOne_75 : decode cX2_behindOne 75 = .ok (.iconst 0, 1) := dk_3 (dk_at dksX2_behindOne_3 5 rfl rfl)
theorem dX2_behindOne_76 : decode cX2_behindOne 76 = .ok (.ireturn, 1) := dk_172 (dk_at dksX2_behindOne_3 6 rfl rfl)
theorem dX2_behindOne_77 : decode cX2_behindOne 77 = .ok (.aload_n 0, 1) := dk_42 (dk_at dksX2_behindOne_3 7 rfl rfl)
theorem dX2_behindOne_78 : decode cX2_behindOne 78 = .ok (.iconst 1, 1) := dk_4 (dk_at dksX2_behindOne_3 8 rfl rfl)
theorem dX2_behindOne_79 : decode cX2_behindOne 79 = .ok (.invokevirtual 194, 3) := dk_182 0 194 (dk_at dksX2_behindOne_3 9 rfl rfl)
theorem dX2_behindOne_82 : decode cX2_behindOne 82 = .ok (.aload_n 0, 1) := dk_42 (dk_at dksX2_behindOne_3 12 rfl rfl)
theorem dX2_behindOne_83 : decode cX2_behindOne 83 = .ok (.invokevirtual 182, 3) := dk_182 0 182 (dk_at dksX2_behindOne_3 13 rfl rfl)
theorem dX2_behindOne_86 : decode cX2_behindOne 86 = .ok (.iload_n 3, 1) := dk_29 (dk_at dksX2_behindOne_3 16 rfl rfl)
theorem dX2_behindOne_87 : decode cX2_behindOne 87 = .ok (.ifCond .le 20, 3) := dk_158 0 20 (dk_at dksX2_behindOne_3 17 rfl rfl)
theorem dX2_behindOne_90 : decode cX2_behindOne 90 = .ok (.aload_n 0, 1) := dk_42 (dk_at dksX2_behindOne_3 20 rfl rfl)
theorem dX2_behindOne_91 : decode cX2_behindOne 91 = .ok (.getfield 29, 3) := dk_180 0 29 (dk_at dksX2_behindOne_3 21 rfl rfl)
theorem dX2_behindOne_94 : decode cX2_behindOne 94 = .ok (.aload_n 0, 1) := dk_42 (dk_at dksX2_behindOne_4 0 rfl rfl)
theorem dX2_behindOne_95 : decode cX2_behindOne 95 = .ok (.invokevirtual 175, 3) := dk_182 0 175 (dk_at dksX2_behindOne_4 1 rfl rfl)
theorem dX2_behindOne_98 : decode cX2_behindOne 98 = .ok (.iload_n 3, 1) := dk_29 (dk_at dksX2_behindOne_4 4 rfl rfl)
theorem dX2_behindOne_99 : decode cX2_behindOne 99 = .ok (.iastore, 1) := dk_79 (dk_at dksX2_behindOne_4 5 rfl rfl)
theorem dX2_behindOne_100 : decode cX2_behindOne 100 = .ok (.aload_n 0, 1) := dk_42 (dk_at dksX2_behindOne_4 6 rfl rfl)
theorem dX2_behindOne_101 : decode cX2_behindOne 101 = .ok (.iconst 0, 1) := dk_3 (dk_at dksX2_behindOne_4 7 rfl rfl)
theorem dX2_behindOne_102 : decode cX2_behindOne 102 = .ok (.putfield 191, 3) := dk_181 0 191 (dk_at dksX2_behindOne_4 8 rfl rfl)
theorem dX2_behindOne_105 : decode cX2_behindOne 105 = .ok (.iconst 1, 1) := dk_4 (dk_at dksX2_behindOne_4 11 rfl rfl)
theorem dX2_behindOne_106 : decode cX2_behindOne 106 = .ok (.ireturn, 1) := dk_172 (dk_at dksX2_behindOne_4 12 rfl rfl)
theorem dX2_behindOne_107 : decode cX2_behindOne 107 = .ok (.aload_n 0, 1) := dk_42 (dk_at dksX2_behindOne_4 13 rfl rfl)
theorem dX2_behindOne_108 : decode cX2_behindOne 108 = .ok (.dup, 1) := dk_89 (dk_at dksX2_behindOne_4 14 rfl rfl)
theorem dX2_behindOne_109 : decode cX2_behindOne 109 = .ok (.getfield 172, 3) := dk_180 0 172 (dk_at dksX2_behindOne_4 15 rfl rfl)
theorem dX2_behindOne_112 : decode cX2_behindOne 112 = .ok (.iconst 1, 1) := dk_4 (dk_at dksX2_behindOne_4 18 rfl rfl)
theorem dX2_behindOne_113 : decode cX2_behindOne 113 = .ok (.isub, 1) := dk_100 (dk_at dksX2_behindOne_4 19 rfl rfl)
theorem dX2_behindOne_114 : decode cX2_behindOne 114 = .ok (.putfield 172, 3) := dk_181 0 172 (dk_at dksX2_behindOne_4 20 rfl rfl)
theorem dX2_behindOne_117 : decode cX2_behindOne 117 = .ok (.aload_n 0, 1) := dk_42 (dk_at dksX2_behindOne_4 23 rfl rfl)
theorem dX2_behindOne_118 : decode cX2_behindOne 118 = .ok (.dup, 1) := dk_89 (dk_at dksX2_behindOne_5 0 rfl rfl)
theorem dX2_behindOne_119 : decode cX2_behindOne 119 = .ok (.getfield 162, 3) := dk_180 0 162 (dk_at dksX2_behindOne_5 1 rfl rfl)
theorem dX2_behindOne_122 : decode cX2_behindOne 122 = .ok (.iconst 1, 1) := dk_4 (dk_at dksX2_behindOne_5 4 rfl rfl)
theorem dX2_behindOne_123 : decode cX2_behindOne 123 = .ok (.isub, 1) := dk_100 (dk_at dksX2_behindOne_5 5 rfl rfl)
theorem dX2_behindOne_124 : decode cX2_behindOne 124 = .ok (.putfield 162, 3) := dk_181 0 162 (dk_at dksX2_behindOne_5 6 rfl rfl)
theorem dX2_behindOne_127 : decode cX2_behindOne 127 = .ok (.iload_n 2, 1) := dk_28 (dk_at dksX2_behindOne_5 9 rfl rfl)
theorem dX2_behindOne_128 : decode cX2_behindOne 128 = .ok (.bipush 43, 2) := dk_16 43 (dk_at dksX2_behindOne_5 10 rfl rfl)
theorem dX2_behindOne_130 : decode cX2_behindOne 130 = .ok (.if_icmp .ne 9, 3) := dk_160 0 9 (dk_at dksX2_behindOne_5 12 rfl rfl)
theorem dX2_behindOne_133 : decode cX2_behindOne 133 = .ok (.aload_n 0, 1) := dk_42 (dk_at dksX2_behindOne_5 15 rfl rfl)
theorem dX2_behindOne_134 : decode cX2_behindOne 134 = .ok (.iconst 3, 1) := dk_6 (dk_at dksX2_behindOne_5 16 rfl rfl)
theorem dX2_behindOne_135 : decode cX2_behindOne 135 = .ok (.iconst 0, 1) := dk_3 (dk_at dksX2_behindOne_5 17 rfl rfl)
theorem dX2_behindOne_136 : decode cX2_behindOne 136 = .ok (.invokevirtual 168, 3) := dk_182 0 168 (dk_at dksX2_behindOne_5 18 rfl rfl)
theorem dX2_behindOne_139 : decode cX2_behindOne 139 = .ok (.aload_n 0, 1) := dk_42 (dk_at dksX2_behindOne_5 21 rfl rfl)
theorem dX2_behindOne_140 : decode cX2_behindOne 140 = .ok (.bipush 7, 2) := dk_16 7 (dk_at dksX2_behindOne_5 22 rfl rfl)
theorem dX2_behindOne_142 : decode cX2_behindOne 142 = .ok (.invokevirtual 194, 3) := dk_182 0 194 (dk_at dksX2_behindOne_6 0 rfl rfl)
theorem dX2_behindOne_145 : decode cX2_behindOne 145 = .ok (.iconst 1, 1) := dk_4 (dk_at dksX2_behindOne_6 3 rfl rfl)
theorem dX2_behindOne_146 : decode cX2_behindOne 146 = .ok (.ireturn, 1) := dk_172 (dk_at dksX2_behindOne_6 4 rfl rfl)
abbrev cX2_betweenOf : ByteArray := prog_20_method_42_code
def yX2_betweenOf : MethodName := ⟨RX2, "betweenOf", "()I"⟩
def dkwX2_betweenOf_4 : List UInt8 := [16, 114, 184, 0, 133, 182, 0, 200, 153, 0, 8, 16, 22, 167, 0, 4, 2, 172]
abbrev dktX2_betweenOf_4 : List UInt8 := dkwX2_betweenOf_4 ++ []
def dkwX2_betweenOf_3 : List UInt8 := [16, 97, 16, 110, 16, 100, 184, 0, 137, 182, 0, 200, 153, 0, 8, 16, 21, 167, 0, 23, 42, 16, 111]
abbrev dktX2_betweenOf_3 : List UInt8 := dkwX2_betweenOf_3 ++ dktX2_betweenOf_4
def dkwX2_betweenOf_2 : List UInt8 := [42, 182, 0, 179, 16, 41, 159, 0, 5, 2, 172, 42, 182, 0, 208, 154, 0, 8, 42, 182, 0, 211, 172, 42]
abbrev dktX2_betweenOf_2 : List UInt8 := dkwX2_betweenOf_2 ++ dktX2_betweenOf_3
def dkwX2_betweenOf_1 : List UInt8 := [42, 180, 0, 111, 16, 42, 160, 0, 6, 16, 8, 172, 42, 180, 0, 111, 16, 47, 160, 0, 6, 16, 9, 172]
abbrev dktX2_betweenOf_1 : List UInt8 := dkwX2_betweenOf_1 ++ dktX2_betweenOf_2
def dkwX2_betweenOf_0 : List UInt8 := [42, 180, 0, 111, 16, 43, 160, 0, 6, 16, 6, 172, 42, 180, 0, 111, 16, 45, 160, 0, 6, 16, 7, 172]
abbrev dktX2_betweenOf_0 : List UInt8 := dkwX2_betweenOf_0 ++ dktX2_betweenOf_1
theorem dksX2_betweenOf_0 : cX2_betweenOf.data.toList.drop 0 = dktX2_betweenOf_0 := by decide +kernel
theorem dksX2_betweenOf_1 : cX2_betweenOf.data.toList.drop 24 = dktX2_betweenOf_1 := dk_seg dksX2_betweenOf_0 24 rfl rfl
theorem dksX2_betweenOf_2 : cX2_betweenOf.data.toList.drop 48 = dktX2_betweenOf_2 := dk_seg dksX2_betweenOf_1 24 rfl rfl
theorem dksX2_betweenOf_3 : cX2_betweenOf.data.toList.drop 72 = dktX2_betweenOf_3 := dk_seg dksX2_betweenOf_2 24 rfl rfl
theorem dksX2_betweenOf_4 : cX2_betweenOf.data.toList.drop 95 = dktX2_betweenOf_4 := dk_seg dksX2_betweenOf_3 23 rfl rfl
theorem dX2_betweenOf_0 : decode cX2_betweenOf 0 = .ok (.aload_n 0, 1) := dk_42 (dk_at dksX2_betweenOf_0 0 rfl rfl)
theorem dX2_betweenOf_1 : decode cX2_betweenOf 1 = .ok (.getfield 111, 3) := dk_180 0 111 (dk_at dksX2_betweenOf_0 1 rfl rfl)
theorem dX2_betweenOf_4 : decode cX2_betweenOf 4 = .ok (.bipush 43, 2) := dk_16 43 (dk_at dksX2_betweenOf_0 4 rfl rfl)
theorem dX2_betweenOf_6 : decode cX2_betweenOf 6 = .ok (.if_icmp .ne 6, 3) := dk_160 0 6 (dk_at dksX2_betweenOf_0 6 rfl rfl)
theorem dX2_betweenOf_9 : decode cX2_betweenOf 9 = .ok (.bipush 6, 2) := dk_16 6 (dk_at dksX2_betweenOf_0 9 rfl rfl)
theorem dX2_betweenOf_11 : decode cX2_betweenOf 11 = .ok (.ireturn, 1) := dk_172 (dk_at dksX2_betweenOf_0 11 rfl rfl)
theorem dX2_betweenOf_12 : decode cX2_betweenOf 12 = .ok (.aload_n 0, 1) := dk_42 (dk_at dksX2_betweenOf_0 12 rfl rfl)
theorem dX2_betweenOf_13 : decode cX2_betweenOf 13 = .ok (.getfield 111, 3) := dk_180 0 111 (dk_at dksX2_betweenOf_0 13 rfl rfl)
theorem dX2_betweenOf_16 : decode cX2_betweenOf 16 = .ok (.bipush 45, 2) := dk_16 45 (dk_at dksX2_betweenOf_0 16 rfl rfl)
theorem dX2_betweenOf_18 : decode cX2_betweenOf 18 = .ok (.if_icmp .ne 6, 3) := dk_160 0 6 (dk_at dksX2_betweenOf_0 18 rfl rfl)
theorem dX2_betweenOf_21 : decode cX2_betweenOf 21 = .ok (.bipush 7, 2) := dk_16 7 (dk_at dksX2_betweenOf_0 21 rfl rfl)
theorem dX2_betweenOf_23 : decode cX2_betweenOf 23 = .ok (.ireturn, 1) := dk_172 (dk_at dksX2_betweenOf_0 23 rfl rfl)
theorem dX2_betweenOf_24 : decode cX2_betweenOf 24 = .ok (.aload_n 0, 1) := dk_42 (dk_at dksX2_betweenOf_1 0 rfl rfl)
theorem dX2_betweenOf_25 : decode cX2_betweenOf 25 = .ok (.getfield 111, 3) := dk_180 0 111 (dk_at dksX2_betweenOf_1 1 rfl rfl)
theorem dX2_betweenOf_28 : decode cX2_betweenOf 28 = .ok (.bipush 42, 2) := dk_16 42 (dk_at dksX2_betweenOf_1 4 rfl rfl)
theorem dX2_betweenOf_30 : decode cX2_betweenOf 30 = .ok (.if_icmp .ne 6, 3) := dk_160 0 6 (dk_at dksX2_betweenOf_1 6 rfl rfl)
theorem dX2_betweenOf_33 : decode cX2_betweenOf 33 = .ok (.bipush 8, 2) := dk_16 8 (dk_at dksX2_betweenOf_1 9 rfl rfl)
theorem dX2_betweenOf_35 : decode cX2_betweenOf 35 = .ok (.ireturn, 1) := dk_172 (dk_at dksX2_betweenOf_1 11 rfl rfl)
theorem dX2_betweenOf_36 : decode cX2_betweenOf 36 = .ok (.aload_n 0, 1) := dk_42 (dk_at dksX2_betweenOf_1 12 rfl rfl)
theorem dX2_betweenOf_37 : decode cX2_betweenOf 37 = .ok (.getfield 111, 3) := dk_180 0 111 (dk_at dksX2_betweenOf_1 13 rfl rfl)
theorem dX2_betweenOf_40 : decode cX2_betweenOf 40 = .ok (.bipush 47, 2) := dk_16 47 (dk_at dksX2_betweenOf_1 16 rfl rfl)
theorem dX2_betweenOf_42 : decode cX2_betweenOf 42 = .ok (.if_icmp .ne 6, 3) := dk_160 0 6 (dk_at dksX2_betweenOf_1 18 rfl rfl)
theorem dX2_betweenOf_45 : decode cX2_betweenOf 45 = .ok (.bipush 9, 2) := dk_16 9 (dk_at dksX2_betweenOf_1 21 rfl rfl)
theorem dX2_betweenOf_47 : decode cX2_betweenOf 47 = .ok (.ireturn, 1) := dk_172 (dk_at dksX2_betweenOf_1 23 rfl rfl)
theorem dX2_betweenOf_48 : decode cX2_betweenOf 48 = .ok (.aload_n 0, 1) := dk_42 (dk_at dksX2_betweenOf_2 0 rfl rfl)
theorem dX2_betweenOf_49 : decode cX2_betweenOf 49 = .ok (.invokevirtual 179, 3) := dk_182 0 179 (dk_at dksX2_betweenOf_2 1 rfl rfl)
theorem dX2_betweenOf_52 : decode cX2_betweenOf 52 = .ok (.bipush 41, 2) := dk_16 41 (dk_at dksX2_betweenOf_2 4 rfl rfl)
theorem dX2_betweenOf_54 : decode cX2_betweenOf 54 = .ok (.if_icmp .eq 5, 3) := dk_159 0 5 (dk_at dksX2_betweenOf_2 6 rfl rfl)
theorem dX2_betweenOf_57 : decode cX2_betweenOf 57 = .ok (.iconst (-1), 1) := dk_2 (dk_at dksX2_betweenOf_2 9 rfl rfl)
theorem dX2_betweenOf_58 : decode cX2_betweenOf 58 = .ok (.ireturn, 1) := dk_172 (dk_at dksX2_betweenOf_2 10 rfl rfl)
theorem dX2_betweenOf_59 : decode cX2_betweenOf 59 = .ok (.aload_n 0, 1) := dk_42 (dk_at dksX2_betweenOf_2 11 rfl rfl)
theorem dX2_betweenOf_60 : decode cX2_betweenOf 60 = .ok (.invokevirtual 208, 3) := dk_182 0 208 (dk_at dksX2_betweenOf_2 12 rfl rfl)
theorem dX2_betweenOf_63 : decode cX2_betweenOf 63 = .ok (.ifCond .ne 8, 3) := dk_154 0 8 (dk_at dksX2_betweenOf_2 15 rfl rfl)
theorem dX2_betweenOf_66 : decode cX2_betweenOf 66 = .ok (.aload_n 0, 1) := dk_42 (dk_at dksX2_betweenOf_2 18 rfl rfl)
theorem dX2_betweenOf_67 : decode cX2_betweenOf 67 = .ok (.invokevirtual 211, 3) := dk_182 0 211 (dk_at dksX2_betweenOf_2 19 rfl rfl)
theorem dX2_betweenOf_70 : decode cX2_betweenOf 70 = .ok (.ireturn, 1) := dk_172 (dk_at dksX2_betweenOf_2 22 rfl rfl)
theorem dX2_betweenOf_71 : decode cX2_betweenOf 71 = .ok (.aload_n 0, 1) := dk_42 (dk_at dksX2_betweenOf_2 23 rfl rfl)
theorem dX2_betweenOf_72 : decode cX2_betweenOf 72 = .ok (.bipush 97, 2) := dk_16 97 (dk_at dksX2_betweenOf_3 0 rfl rfl)
theorem dX2_betweenOf_74 : decode cX2_betweenOf 74 = .ok (.bipush 110, 2) := dk_16 110 (dk_at dksX2_betweenOf_3 2 rfl rfl)
theorem dX2_betweenOf_76 : decode cX2_betweenOf 76 = .ok (.bipush 100, 2) := dk_16 100 (dk_at dksX2_betweenOf_3 4 rfl rfl)
theorem dX2_betweenOf_78 : decode cX2_betweenOf 78 = .ok (.invokestatic 137, 3) := dk_184 0 137 (dk_at dksX2_betweenOf_3 6 rfl rfl)
theorem dX2_betweenOf_81 : decode cX2_betweenOf 81 = .ok (.invokevirtual 200, 3) := dk_182 0 200 (dk_at dksX2_betweenOf_3 9 rfl rfl)
theorem dX2_betweenOf_84 : decode cX2_betweenOf 84 = .ok (.ifCond .eq 8, 3) := dk_153 0 8 (dk_at dksX2_betweenOf_3 12 rfl rfl)
theorem dX2_betweenOf_87 : decode cX2_betweenOf 87 = .ok (.bipush 21, 2) := dk_16 21 (dk_at dksX2_betweenOf_3 15 rfl rfl)
theorem dX2_betweenOf_89 : decode cX2_betweenOf 89 = .ok (.goto 23, 3) := dk_167 0 23 (dk_at dksX2_betweenOf_3 17 rfl rfl)
theorem dX2_betweenOf_92 : decode cX2_betweenOf 92 = .ok (.aload_n 0, 1) := dk_42 (dk_at dksX2_betweenOf_3 20 rfl rfl)
theorem dX2_betweenOf_93 : decode cX2_betweenOf 93 = .ok (.bipush 111, 2) := dk_16 111 (dk_at dksX2_betweenOf_3 21 rfl rfl)
theorem dX2_betweenOf_95 : decode cX2_betweenOf 95 = .ok (.bipush 114, 2) := dk_16 114 (dk_at dksX2_betweenOf_4 0 rfl rfl)
theorem dX2_betweenOf_97 : decode cX2_betweenOf 97 = .ok (.invokestatic 133, 3) := dk_184 0 133 (dk_at dksX2_betweenOf_4 2 rfl rfl)
theorem dX2_betweenOf_100 : decode cX2_betweenOf 100 = .ok (.invokevirtual 200, 3) := dk_182 0 200 (dk_at dksX2_betweenOf_4 5 rfl rfl)
theorem dX2_betweenOf_103 : decode cX2_betweenOf 103 = .ok (.ifCond .eq 8, 3) := dk_153 0 8 (dk_at dksX2_betweenOf_4 8 rfl rfl)
theorem dX2_betweenOf_106 : decode cX2_betweenOf 106 = .ok (.bipush 22, 2) := dk_16 22 (dk_at dksX2_betweenOf_4 11 rfl rfl)
theorem dX2_betweenOf_108 : decode cX2_betweenOf 108 = .ok (.goto 4, 3) := dk_167 0 4 (dk_at dksX2_betweenOf_4 13 rfl rfl)
theorem dX2_betweenOf_111 : decode cX2_betweenOf 111 = .ok (.iconst (-1), 1) := dk_2 (dk_at dksX2_betweenOf_4 16 rfl rfl)
theorem dX2_betweenOf_112 : decode cX2_betweenOf 112 = .ok (.ireturn, 1) := dk_172 (dk_at dksX2_betweenOf_4 17 rfl rfl)
abbrev cX2_openNow : ByteArray := prog_20_method_36_code
def yX2_openNow : MethodName := ⟨RX2, "openNow", "()I"⟩
def dkwX2_openNow_0 : List UInt8 := [42, 182, 0, 175, 156, 0, 7, 2, 167, 0, 12, 42, 180, 0, 29, 42, 182, 0, 175, 46, 172]
abbrev dktX2_openNow_0 : List UInt8 := dkwX2_openNow_0 ++ []
theorem dksX2_openNow_0 : cX2_openNow.data.toList.drop 0 = dktX2_openNow_0 := by decide +kernel
theorem dX2_openNow_0 : decode cX2_openNow 0 = .ok (.aload_n 0, 1) := dk_42 (dk_at dksX2_openNow_0 0 rfl rfl)
theorem dX2_openNow_1 : decode cX2_openNow 1 = .ok (.invokevirtual 175, 3) := dk_182 0 175 (dk_at dksX2_openNow_0 1 rfl rfl)
theorem dX2_openNow_4 : decode cX2_openNow 4 = .ok (.ifCond .ge 7, 3) := dk_156 0 7 (dk_at dksX2_openNow_0 4 rfl rfl)
theorem dX2_openNow_7 : decode cX2_openNow 7 = .ok (.iconst (-1), 1) := dk_2 (dk_at dksX2_openNow_0 7 rfl rfl)
theorem dX2_openNow_8 : decode cX2_openNow 8 = .ok (.goto 12, 3) := dk_167 0 12 (dk_at dksX2_openNow_0 8 rfl rfl)
theorem dX2_openNow_11 : decode cX2_openNow 11 = .ok (.aload_n 0, 1) := dk_42 (dk_at dksX2_openNow_0 11 rfl rfl)
theorem dX2_openNow_12 : decode cX2_openNow 12 = .ok (.getfield 29, 3) := dk_180 0 29 (dk_at dksX2_openNow_0 12 rfl rfl)
theorem dX2_openNow_15 : decode cX2_openNow 15 = .ok (.aload_n 0, 1) := dk_42 (dk_at dksX2_openNow_0 15 rfl rfl)
theorem dX2_openNow_16 : decode cX2_openNow 16 = .ok (.invokevirtual 175, 3) := dk_182 0 175 (dk_at dksX2_openNow_0 16 rfl rfl)
theorem dX2_openNow_19 : decode cX2_openNow 19 = .ok (.iaload, 1) := dk_46 (dk_at dksX2_openNow_0 19 rfl rfl)
theorem dX2_openNow_20 : decode cX2_openNow 20 = .ok (.ireturn, 1) := dk_172 (dk_at dksX2_openNow_0 20 rfl rfl)
abbrev cX2_openAt : ByteArray := prog_20_method_35_code
def yX2_openAt : MethodName := ⟨RX2, "openAt", "()I"⟩
def dkwX2_openAt_1 : List UInt8 := [132, 1, 255, 167, 255, 238, 27, 172]
abbrev dktX2_openAt_1 : List UInt8 := dkwX2_openAt_1 ++ []
def dkwX2_openAt_0 : List UInt8 := [42, 180, 0, 162, 4, 100, 60, 27, 155, 0, 20, 42, 180, 0, 29, 27, 46, 16, 40, 162, 0, 9]
abbrev dktX2_openAt_0 : List UInt8 := dkwX2_openAt_0 ++ dktX2_openAt_1
theorem dksX2_openAt_0 : cX2_openAt.data.toList.drop 0 = dktX2_openAt_0 := by decide +kernel
theorem dksX2_openAt_1 : cX2_openAt.data.toList.drop 22 = dktX2_openAt_1 := dk_seg dksX2_openAt_0 22 rfl rfl
theorem dX2_openAt_0 : decode cX2_openAt 0 = .ok (.aload_n 0, 1) := dk_42 (dk_at dksX2_openAt_0 0 rfl rfl)
theorem dX2_openAt_1 : decode cX2_openAt 1 = .ok (.getfield 162, 3) := dk_180 0 162 (dk_at dksX2_openAt_0 1 rfl rfl)
theorem dX2_openAt_4 : decode cX2_openAt 4 = .ok (.iconst 1, 1) := dk_4 (dk_at dksX2_openAt_0 4 rfl rfl)
theorem dX2_openAt_5 : decode cX2_openAt 5 = .ok (.isub, 1) := dk_100 (dk_at dksX2_openAt_0 5 rfl rfl)
theorem dX2_openAt_6 : decode cX2_openAt 6 = .ok (.istore_n 1, 1) := dk_60 (dk_at dksX2_openAt_0 6 rfl rfl)
theorem dX2_openAt_7 : decode cX2_openAt 7 = .ok (.iload_n 1, 1) := dk_27 (dk_at dksX2_openAt_0 7 rfl rfl)
theorem dX2_openAt_8 : decode cX2_openAt 8 = .ok (.ifCond .lt 20, 3) := dk_155 0 20 (dk_at dksX2_openAt_0 8 rfl rfl)
theorem dX2_openAt_11 : decode cX2_openAt 11 = .ok (.aload_n 0, 1) := dk_42 (dk_at dksX2_openAt_0 11 rfl rfl)
theorem dX2_openAt_12 : decode cX2_openAt 12 = .ok (.getfield 29, 3) := dk_180 0 29 (dk_at dksX2_openAt_0 12 rfl rfl)
theorem dX2_openAt_15 : decode cX2_openAt 15 = .ok (.iload_n 1, 1) := dk_27 (dk_at dksX2_openAt_0 15 rfl rfl)
theorem dX2_openAt_16 : decode cX2_openAt 16 = .ok (.iaload, 1) := dk_46 (dk_at dksX2_openAt_0 16 rfl rfl)
theorem dX2_openAt_17 : decode cX2_openAt 17 = .ok (.bipush 40, 2) := dk_16 40 (dk_at dksX2_openAt_0 17 rfl rfl)
theorem dX2_openAt_19 : decode cX2_openAt 19 = .ok (.if_icmp .ge 9, 3) := dk_162 0 9 (dk_at dksX2_openAt_0 19 rfl rfl)
theorem dX2_openAt_22 : decode cX2_openAt 22 = .ok (.iinc 1 (-1), 3) := dk_132 1 255 (dk_at dksX2_openAt_1 0 rfl rfl)
theorem dX2_openAt_25 : decode cX2_openAt 25 = .ok (.goto (-18), 3) := dk_167 255 238 (dk_at dksX2_openAt_1 3 rfl rfl)
theorem dX2_openAt_28 : decode cX2_openAt 28 = .ok (.iload_n 1, 1) := dk_27 (dk_at dksX2_openAt_1 6 rfl rfl)
theorem dX2_openAt_29 : decode cX2_openAt 29 = .ok (.ireturn, 1) := dk_172 (dk_at dksX2_openAt_1 7 rfl rfl)
abbrev cX2_isCompared : ByteArray := prog_20_method_37_code
def yX2_isCompared : MethodName := ⟨RX2, "isCompared", "()Z"⟩
def dkwX2_isCompared_2 : List UInt8 := [167, 0, 4, 3, 172]
abbrev dktX2_isCompared_2 : List UInt8 := dkwX2_isCompared_2 ++ []
def dkwX2_isCompared_1 : List UInt8 := [132, 1, 255, 167, 255, 236, 27, 155, 0, 20, 42, 180, 0, 29, 27, 46, 184, 0, 165, 7, 160, 0, 7, 4]
abbrev dktX2_isCompared_1 : List UInt8 := dkwX2_isCompared_1 ++ dktX2_isCompared_2
def dkwX2_isCompared_0 : List UInt8 := [42, 180, 0, 162, 4, 100, 60, 27, 155, 0, 22, 42, 180, 0, 29, 27, 46, 184, 0, 165, 7, 164, 0, 9]
abbrev dktX2_isCompared_0 : List UInt8 := dkwX2_isCompared_0 ++ dktX2_isCompared_1
theorem dksX2_isCompared_0 : cX2_isCompared.data.toList.drop 0 = dktX2_isCompared_0 := by decide +kernel
theorem dksX2_isCompared_1 : cX2_isCompared.data.toList.drop 24 = dktX2_isCompared_1 := dk_seg dksX2_isCompared_0 24 rfl rfl
theorem dksX2_isCompared_2 : cX2_isCompared.data.toList.drop 48 = dktX2_isCompared_2 := dk_seg dksX2_isCompared_1 24 rfl rfl
theorem dX2_isCompared_0 : decode cX2_isCompared 0 = .ok (.aload_n 0, 1) := dk_42 (dk_at dksX2_isCompared_0 0 rfl rfl)
theorem dX2_isCompared_1 : decode cX2_isCompared 1 = .ok (.getfield 162, 3) := dk_180 0 162 (dk_at dksX2_isCompared_0 1 rfl rfl)
theorem dX2_isCompared_4 : decode cX2_isCompared 4 = .ok (.iconst 1, 1) := dk_4 (dk_at dksX2_isCompared_0 4 rfl rfl)
theorem dX2_isCompared_5 : decode cX2_isCompared 5 = .ok (.isub, 1) := dk_100 (dk_at dksX2_isCompared_0 5 rfl rfl)
theorem dX2_isCompared_6 : decode cX2_isCompared 6 = .ok (.istore_n 1, 1) := dk_60 (dk_at dksX2_isCompared_0 6 rfl rfl)
theorem dX2_isCompared_7 : decode cX2_isCompared 7 = .ok (.iload_n 1, 1) := dk_27 (dk_at dksX2_isCompared_0 7 rfl rfl)
theorem dX2_isCompared_8 : decode cX2_isCompared 8 = .ok (.ifCond .lt 22, 3) := dk_155 0 22 (dk_at dksX2_isCompared_0 8 rfl rfl)
theorem dX2_isCompared_11 : decode cX2_isCompared 11 = .ok (.aload_n 0, 1) := dk_42 (dk_at dksX2_isCompared_0 11 rfl rfl)
theorem dX2_isCompared_12 : decode cX2_isCompared 12 = .ok (.getfield 29, 3) := dk_180 0 29 (dk_at dksX2_isCompared_0 12 rfl rfl)
theorem dX2_isCompared_15 : decode cX2_isCompared 15 = .ok (.iload_n 1, 1) := dk_27 (dk_at dksX2_isCompared_0 15 rfl rfl)
theorem dX2_isCompared_16 : decode cX2_isCompared 16 = .ok (.iaload, 1) := dk_46 (dk_at dksX2_isCompared_0 16 rfl rfl)
theorem dX2_isCompared_17 : decode cX2_isCompared 17 = .ok (.invokestatic 165, 3) := dk_184 0 165 (dk_at dksX2_isCompared_0 17 rfl rfl)
theorem dX2_isCompared_20 : decode cX2_isCompared 20 = .ok (.iconst 4, 1) := dk_7 (dk_at dksX2_isCompared_0 20 rfl rfl)
theorem dX2_isCompared_21 : decode cX2_isCompared 21 = .ok (.if_icmp .le 9, 3) := dk_164 0 9 (dk_at dksX2_isCompared_0 21 rfl rfl)
theorem dX2_isCompared_24 : decode cX2_isCompared 24 = .ok (.iinc 1 (-1), 3) := dk_132 1 255 (dk_at dksX2_isCompared_1 0 rfl rfl)
theorem dX2_isCompared_27 : decode cX2_isCompared 27 = .ok (.goto (-20), 3) := dk_167 255 236 (dk_at dksX2_isCompared_1 3 rfl rfl)
theorem dX2_isCompared_30 : decode cX2_isCompared 30 = .ok (.iload_n 1, 1) := dk_27 (dk_at dksX2_isCompared_1 6 rfl rfl)
theorem dX2_isCompared_31 : decode cX2_isCompared 31 = .ok (.ifCond .lt 20, 3) := dk_155 0 20 (dk_at dksX2_isCompared_1 7 rfl rfl)
theorem dX2_isCompared_34 : decode cX2_isCompared 34 = .ok (.aload_n 0, 1) := dk_42 (dk_at dksX2_isCompared_1 10 rfl rfl)
theorem dX2_isCompared_35 : decode cX2_isCompared 35 = .ok (.getfield 29, 3) := dk_180 0 29 (dk_at dksX2_isCompared_1 11 rfl rfl)
theorem dX2_isCompared_38 : decode cX2_isCompared 38 = .ok (.iload_n 1, 1) := dk_27 (dk_at dksX2_isCompared_1 14 rfl rfl)
theorem dX2_isCompared_39 : decode cX2_isCompared 39 = .ok (.iaload, 1) := dk_46 (dk_at dksX2_isCompared_1 15 rfl rfl)
theorem dX2_isCompared_40 : decode cX2_isCompared 40 = .ok (.invokestatic 165, 3) := dk_184 0 165 (dk_at dksX2_isCompared_1 16 rfl rfl)
theorem dX2_isCompared_43 : decode cX2_isCompared 43 = .ok (.iconst 4, 1) := dk_7 (dk_at dksX2_isCompared_1 19 rfl rfl)
theorem dX2_isCompared_44 : decode cX2_isCompared 44 = .ok (.if_icmp .ne 7, 3) := dk_160 0 7 (dk_at dksX2_isCompared_1 20 rfl rfl)
theorem dX2_isCompared_47 : decode cX2_isCompared 47 = .ok (.iconst 1, 1) := dk_4 (dk_at dksX2_isCompared_1 23 rfl rfl)
theorem dX2_isCompared_48 : decode cX2_isCompared 48 = .ok (.goto 4, 3) := dk_167 0 4 (dk_at dksX2_isCompared_2 0 rfl rfl)
theorem dX2_isCompared_51 : decode cX2_isCompared 51 = .ok (.iconst 0, 1) := dk_3 (dk_at dksX2_isCompared_2 3 rfl rfl)
theorem dX2_isCompared_52 : decode cX2_isCompared 52 = .ok (.ireturn, 1) := dk_172 (dk_at dksX2_isCompared_2 4 rfl rfl)
abbrev cX2_rank : ByteArray := prog_20_method_33_code
def yX2_rank : MethodName := ⟨RX2, "rank", "(I)I"⟩
def dkwX2_rank_3 : List UInt8 := [16, 7, 172]
abbrev dktX2_rank_3 : List UInt8 := dkwX2_rank_3 ++ []
def dkwX2_rank_2 : List UInt8 := [167, 0, 26, 26, 16, 8, 161, 0, 8, 16, 6, 167, 0, 15, 26, 16, 6, 161, 0, 7, 8, 167, 0, 5]
abbrev dktX2_rank_2 : List UInt8 := dkwX2_rank_2 ++ dktX2_rank_3
def dkwX2_rank_1 : List UInt8 := [160, 0, 7, 5, 167, 0, 46, 26, 16, 20, 160, 0, 7, 6, 167, 0, 36, 26, 16, 10, 161, 0, 7, 7]
abbrev dktX2_rank_1 : List UInt8 := dkwX2_rank_1 ++ dktX2_rank_2
def dkwX2_rank_0 : List UInt8 := [26, 16, 40, 161, 0, 7, 3, 167, 0, 66, 26, 16, 22, 160, 0, 7, 4, 167, 0, 56, 26, 16, 21]
abbrev dktX2_rank_0 : List UInt8 := dkwX2_rank_0 ++ dktX2_rank_1
theorem dksX2_rank_0 : cX2_rank.data.toList.drop 0 = dktX2_rank_0 := by decide +kernel
theorem dksX2_rank_1 : cX2_rank.data.toList.drop 23 = dktX2_rank_1 := dk_seg dksX2_rank_0 23 rfl rfl
theorem dksX2_rank_2 : cX2_rank.data.toList.drop 47 = dktX2_rank_2 := dk_seg dksX2_rank_1 24 rfl rfl
theorem dksX2_rank_3 : cX2_rank.data.toList.drop 71 = dktX2_rank_3 := dk_seg dksX2_rank_2 24 rfl rfl
theorem dX2_rank_0 : decode cX2_rank 0 = .ok (.iload_n 0, 1) := dk_26 (dk_at dksX2_rank_0 0 rfl rfl)
theorem dX2_rank_1 : decode cX2_rank 1 = .ok (.bipush 40, 2) := dk_16 40 (dk_at dksX2_rank_0 1 rfl rfl)
theorem dX2_rank_3 : decode cX2_rank 3 = .ok (.if_icmp .lt 7, 3) := dk_161 0 7 (dk_at dksX2_rank_0 3 rfl rfl)
theorem dX2_rank_6 : decode cX2_rank 6 = .ok (.iconst 0, 1) := dk_3 (dk_at dksX2_rank_0 6 rfl rfl)
theorem dX2_rank_7 : decode cX2_rank 7 = .ok (.goto 66, 3) := dk_167 0 66 (dk_at dksX2_rank_0 7 rfl rfl)
theorem dX2_rank_10 : decode cX2_rank 10 = .ok (.iload_n 0, 1) := dk_26 (dk_at dksX2_rank_0 10 rfl rfl)
theorem dX2_rank_11 : decode cX2_rank 11 = .ok (.bipush 22, 2) := dk_16 22 (dk_at dksX2_rank_0 11 rfl rfl)
theorem dX2_rank_13 : decode cX2_rank 13 = .ok (.if_icmp .ne 7, 3) := dk_160 0 7 (dk_at dksX2_rank_0 13 rfl rfl)
theorem dX2_rank_16 : decode cX2_rank 16 = .ok (.iconst 1, 1) := dk_4 (dk_at dksX2_rank_0 16 rfl rfl)
theorem dX2_rank_17 : decode cX2_rank 17 = .ok (.goto 56, 3) := dk_167 0 56 (dk_at dksX2_rank_0 17 rfl rfl)
theorem dX2_rank_20 : decode cX2_rank 20 = .ok (.iload_n 0, 1) := dk_26 (dk_at dksX2_rank_0 20 rfl rfl)
theorem dX2_rank_21 : decode cX2_rank 21 = .ok (.bipush 21, 2) := dk_16 21 (dk_at dksX2_rank_0 21 rfl rfl)
theorem dX2_rank_23 : decode cX2_rank 23 = .ok (.if_icmp .ne 7, 3) := dk_160 0 7 (dk_at dksX2_rank_1 0 rfl rfl)
theorem dX2_rank_26 : decode cX2_rank 26 = .ok (.iconst 2, 1) := dk_5 (dk_at dksX2_rank_1 3 rfl rfl)
theorem dX2_rank_27 : decode cX2_rank 27 = .ok (.goto 46, 3) := dk_167 0 46 (dk_at dksX2_rank_1 4 rfl rfl)
theorem dX2_rank_30 : decode cX2_rank 30 = .ok (.iload_n 0, 1) := dk_26 (dk_at dksX2_rank_1 7 rfl rfl)
theorem dX2_rank_31 : decode cX2_rank 31 = .ok (.bipush 20, 2) := dk_16 20 (dk_at dksX2_rank_1 8 rfl rfl)
theorem dX2_rank_33 : decode cX2_rank 33 = .ok (.if_icmp .ne 7, 3) := dk_160 0 7 (dk_at dksX2_rank_1 10 rfl rfl)
theorem dX2_rank_36 : decode cX2_rank 36 = .ok (.iconst 3, 1) := dk_6 (dk_at dksX2_rank_1 13 rfl rfl)
theorem dX2_rank_37 : decode cX2_rank 37 = .ok (.goto 36, 3) := dk_167 0 36 (dk_at dksX2_rank_1 14 rfl rfl)
theorem dX2_rank_40 : decode cX2_rank 40 = .ok (.iload_n 0, 1) := dk_26 (dk_at dksX2_rank_1 17 rfl rfl)
theorem dX2_rank_41 : decode cX2_rank 41 = .ok (.bipush 10, 2) := dk_16 10 (dk_at dksX2_rank_1 18 rfl rfl)
theorem dX2_rank_43 : decode cX2_rank 43 = .ok (.if_icmp .lt 7, 3) := dk_161 0 7 (dk_at dksX2_rank_1 20 rfl rfl)
theorem dX2_rank_46 : decode cX2_rank 46 = .ok (.iconst 4, 1) := dk_7 (dk_at dksX2_rank_1 23 rfl rfl)
theorem dX2_rank_47 : decode cX2_rank 47 = .ok (.goto 26, 3) := dk_167 0 26 (dk_at dksX2_rank_2 0 rfl rfl)
theorem dX2_rank_50 : decode cX2_rank 50 = .ok (.iload_n 0, 1) := dk_26 (dk_at dksX2_rank_2 3 rfl rfl)
theorem dX2_rank_51 : decode cX2_rank 51 = .ok (.bipush 8, 2) := dk_16 8 (dk_at dksX2_rank_2 4 rfl rfl)
theorem dX2_rank_53 : decode cX2_rank 53 = .ok (.if_icmp .lt 8, 3) := dk_161 0 8 (dk_at dksX2_rank_2 6 rfl rfl)
theorem dX2_rank_56 : decode cX2_rank 56 = .ok (.bipush 6, 2) := dk_16 6 (dk_at dksX2_rank_2 9 rfl rfl)
theorem dX2_rank_58 : decode cX2_rank 58 = .ok (.goto 15, 3) := dk_167 0 15 (dk_at dksX2_rank_2 11 rfl rfl)
theorem dX2_rank_61 : decode cX2_rank 61 = .ok (.iload_n 0, 1) := dk_26 (dk_at dksX2_rank_2 14 rfl rfl)
theorem dX2_rank_62 : decode cX2_rank 62 = .ok (.bipush 6, 2) := dk_16 6 (dk_at dksX2_rank_2 15 rfl rfl)
theorem dX2_rank_64 : decode cX2_rank 64 = .ok (.if_icmp .lt 7, 3) := dk_161 0 7 (dk_at dksX2_rank_2 17 rfl rfl)
theorem dX2_rank_67 : decode cX2_rank 67 = .ok (.iconst 5, 1) := dk_8 (dk_at dksX2_rank_2 20 rfl rfl)
theorem dX2_rank_68 : decode cX2_rank 68 = .ok (.goto 5, 3) := dk_167 0 5 (dk_at dksX2_rank_2 21 rfl rfl)
theorem dX2_rank_71 : decode cX2_rank 71 = .ok (.bipush 7, 2) := dk_16 7 (dk_at dksX2_rank_3 0 rfl rfl)
theorem dX2_rank_73 : decode cX2_rank 73 = .ok (.ireturn, 1) := dk_172 (dk_at dksX2_rank_3 2 rfl rfl)
abbrev cX2_compareOf : ByteArray := prog_20_method_41_code
def yX2_compareOf : MethodName := ⟨RX2, "compareOf", "()I"⟩
def dkwX2_compareOf_3 : List UInt8 := [180, 0, 111, 16, 35, 160, 0, 8, 16, 15, 167, 0, 4, 2, 172]
abbrev dktX2_compareOf_3 : List UInt8 := dkwX2_compareOf_3 ++ []
def dkwX2_compareOf_2 : List UInt8 := [160, 0, 8, 16, 13, 167, 0, 32, 42, 180, 0, 111, 16, 61, 160, 0, 8, 16, 14, 167, 0, 18, 42]
abbrev dktX2_compareOf_2 : List UInt8 := dkwX2_compareOf_2 ++ dktX2_compareOf_3
def dkwX2_compareOf_1 : List UInt8 := [167, 0, 59, 42, 180, 0, 111, 16, 62, 160, 0, 8, 16, 12, 167, 0, 45, 42, 180, 0, 111, 8]
abbrev dktX2_compareOf_1 : List UInt8 := dkwX2_compareOf_1 ++ dktX2_compareOf_2
def dkwX2_compareOf_0 : List UInt8 := [42, 180, 0, 111, 16, 60, 160, 0, 8, 16, 10, 167, 0, 72, 42, 180, 0, 111, 7, 160, 0, 8, 16, 11]
abbrev dktX2_compareOf_0 : List UInt8 := dkwX2_compareOf_0 ++ dktX2_compareOf_1
theorem dksX2_compareOf_0 : cX2_compareOf.data.toList.drop 0 = dktX2_compareOf_0 := by decide +kernel
theorem dksX2_compareOf_1 : cX2_compareOf.data.toList.drop 24 = dktX2_compareOf_1 := dk_seg dksX2_compareOf_0 24 rfl rfl
theorem dksX2_compareOf_2 : cX2_compareOf.data.toList.drop 46 = dktX2_compareOf_2 := dk_seg dksX2_compareOf_1 22 rfl rfl
theorem dksX2_compareOf_3 : cX2_compareOf.data.toList.drop 69 = dktX2_compareOf_3 := dk_seg dksX2_compareOf_2 23 rfl rfl
theorem dX2_compareOf_0 : decode cX2_compareOf 0 = .ok (.aload_n 0, 1) := dk_42 (dk_at dksX2_compareOf_0 0 rfl rfl)
theorem dX2_compareOf_1 : decode cX2_compareOf 1 = .ok (.getfield 111, 3) := dk_180 0 111 (dk_at dksX2_compareOf_0 1 rfl rfl)
theorem dX2_compareOf_4 : decode cX2_compareOf 4 = .ok (.bipush 60, 2) := dk_16 60 (dk_at dksX2_compareOf_0 4 rfl rfl)
theorem dX2_compareOf_6 : decode cX2_compareOf 6 = .ok (.if_icmp .ne 8, 3) := dk_160 0 8 (dk_at dksX2_compareOf_0 6 rfl rfl)
theorem dX2_compareOf_9 : decode cX2_compareOf 9 = .ok (.bipush 10, 2) := dk_16 10 (dk_at dksX2_compareOf_0 9 rfl rfl)
theorem dX2_compareOf_11 : decode cX2_compareOf 11 = .ok (.goto 72, 3) := dk_167 0 72 (dk_at dksX2_compareOf_0 11 rfl rfl)
theorem dX2_compareOf_14 : decode cX2_compareOf 14 = .ok (.aload_n 0, 1) := dk_42 (dk_at dksX2_compareOf_0 14 rfl rfl)
theorem dX2_compareOf_15 : decode cX2_compareOf 15 = .ok (.getfield 111, 3) := dk_180 0 111 (dk_at dksX2_compareOf_0 15 rfl rfl)
theorem dX2_compareOf_18 : decode cX2_compareOf 18 = .ok (.iconst 4, 1) := dk_7 (dk_at dksX2_compareOf_0 18 rfl rfl)
theorem dX2_compareOf_19 : decode cX2_compareOf 19 = .ok (.if_icmp .ne 8, 3) := dk_160 0 8 (dk_at dksX2_compareOf_0 19 rfl rfl)
theorem dX2_compareOf_22 : decode cX2_compareOf 22 = .ok (.bipush 11, 2) := dk_16 11 (dk_at dksX2_compareOf_0 22 rfl rfl)
theorem dX2_compareOf_24 : decode cX2_compareOf 24 = .ok (.goto 59, 3) := dk_167 0 59 (dk_at dksX2_compareOf_1 0 rfl rfl)
theorem dX2_compareOf_27 : decode cX2_compareOf 27 = .ok (.aload_n 0, 1) := dk_42 (dk_at dksX2_compareOf_1 3 rfl rfl)
theorem dX2_compareOf_28 : decode cX2_compareOf 28 = .ok (.getfield 111, 3) := dk_180 0 111 (dk_at dksX2_compareOf_1 4 rfl rfl)
theorem dX2_compareOf_31 : decode cX2_compareOf 31 = .ok (.bipush 62, 2) := dk_16 62 (dk_at dksX2_compareOf_1 7 rfl rfl)
theorem dX2_compareOf_33 : decode cX2_compareOf 33 = .ok (.if_icmp .ne 8, 3) := dk_160 0 8 (dk_at dksX2_compareOf_1 9 rfl rfl)
theorem dX2_compareOf_36 : decode cX2_compareOf 36 = .ok (.bipush 12, 2) := dk_16 12 (dk_at dksX2_compareOf_1 12 rfl rfl)
theorem dX2_compareOf_38 : decode cX2_compareOf 38 = .ok (.goto 45, 3) := dk_167 0 45 (dk_at dksX2_compareOf_1 14 rfl rfl)
theorem dX2_compareOf_41 : decode cX2_compareOf 41 = .ok (.aload_n 0, 1) := dk_42 (dk_at dksX2_compareOf_1 17 rfl rfl)
theorem dX2_compareOf_42 : decode cX2_compareOf 42 = .ok (.getfield 111, 3) := dk_180 0 111 (dk_at dksX2_compareOf_1 18 rfl rfl)
theorem dX2_compareOf_45 : decode cX2_compareOf 45 = .ok (.iconst 5, 1) := dk_8 (dk_at dksX2_compareOf_1 21 rfl rfl)
theorem dX2_compareOf_46 : decode cX2_compareOf 46 = .ok (.if_icmp .ne 8, 3) := dk_160 0 8 (dk_at dksX2_compareOf_2 0 rfl rfl)
theorem dX2_compareOf_49 : decode cX2_compareOf 49 = .ok (.bipush 13, 2) := dk_16 13 (dk_at dksX2_compareOf_2 3 rfl rfl)
theorem dX2_compareOf_51 : decode cX2_compareOf 51 = .ok (.goto 32, 3) := dk_167 0 32 (dk_at dksX2_compareOf_2 5 rfl rfl)
theorem dX2_compareOf_54 : decode cX2_compareOf 54 = .ok (.aload_n 0, 1) := dk_42 (dk_at dksX2_compareOf_2 8 rfl rfl)
theorem dX2_compareOf_55 : decode cX2_compareOf 55 = .ok (.getfield 111, 3) := dk_180 0 111 (dk_at dksX2_compareOf_2 9 rfl rfl)
theorem dX2_compareOf_58 : decode cX2_compareOf 58 = .ok (.bipush 61, 2) := dk_16 61 (dk_at dksX2_compareOf_2 12 rfl rfl)
theorem dX2_compareOf_60 : decode cX2_compareOf 60 = .ok (.if_icmp .ne 8, 3) := dk_160 0 8 (dk_at dksX2_compareOf_2 14 rfl rfl)
theorem dX2_compareOf_63 : decode cX2_compareOf 63 = .ok (.bipush 14, 2) := dk_16 14 (dk_at dksX2_compareOf_2 17 rfl rfl)
theorem dX2_compareOf_65 : decode cX2_compareOf 65 = .ok (.goto 18, 3) := dk_167 0 18 (dk_at dksX2_compareOf_2 19 rfl rfl)
theorem dX2_compareOf_68 : decode cX2_compareOf 68 = .ok (.aload_n 0, 1) := dk_42 (dk_at dksX2_compareOf_2 22 rfl rfl)
theorem dX2_compareOf_69 : decode cX2_compareOf 69 = .ok (.getfield 111, 3) := dk_180 0 111 (dk_at dksX2_compareOf_3 0 rfl rfl)
theorem dX2_compareOf_72 : decode cX2_compareOf 72 = .ok (.bipush 35, 2) := dk_16 35 (dk_at dksX2_compareOf_3 3 rfl rfl)
theorem dX2_compareOf_74 : decode cX2_compareOf 74 = .ok (.if_icmp .ne 8, 3) := dk_160 0 8 (dk_at dksX2_compareOf_3 5 rfl rfl)
theorem dX2_compareOf_77 : decode cX2_compareOf 77 = .ok (.bipush 15, 2) := dk_16 15 (dk_at dksX2_compareOf_3 8 rfl rfl)
theorem dX2_compareOf_79 : decode cX2_compareOf 79 = .ok (.goto 4, 3) := dk_167 0 4 (dk_at dksX2_compareOf_3 10 rfl rfl)
theorem dX2_compareOf_82 : decode cX2_compareOf 82 = .ok (.iconst (-1), 1) := dk_2 (dk_at dksX2_compareOf_3 13 rfl rfl)
theorem dX2_compareOf_83 : decode cX2_compareOf 83 = .ok (.ireturn, 1) := dk_172 (dk_at dksX2_compareOf_3 14 rfl rfl)
abbrev cX2_settle : ByteArray := prog_20_method_34_code
def yX2_settle : MethodName := ⟨RX2, "settle", "(I)V"⟩
def dkwX2_settle_3 : List UInt8 := [42, 180, 0, 162, 46, 16, 20, 160, 255, 179, 42, 89, 180, 0, 172, 4, 100, 181, 0, 172, 167, 255, 166, 177]
abbrev dktX2_settle_3 : List UInt8 := dkwX2_settle_3 ++ []
def dkwX2_settle_2 : List UInt8 := [182, 0, 168, 42, 180, 0, 29, 42, 180, 0, 162, 46, 184, 0, 165, 16, 7, 159, 0, 17, 42, 180, 0, 29]
abbrev dktX2_settle_2 : List UInt8 := dkwX2_settle_2 ++ dktX2_settle_3
def dkwX2_settle_1 : List UInt8 := [161, 0, 71, 42, 89, 180, 0, 162, 4, 100, 181, 0, 162, 42, 42, 180, 0, 29, 42, 180, 0, 162, 46, 3]
abbrev dktX2_settle_1 : List UInt8 := dkwX2_settle_1 ++ dktX2_settle_2
def dkwX2_settle_0 : List UInt8 := [42, 180, 0, 162, 158, 0, 89, 42, 180, 0, 29, 42, 180, 0, 162, 4, 100, 46, 184, 0, 165, 27]
abbrev dktX2_settle_0 : List UInt8 := dkwX2_settle_0 ++ dktX2_settle_1
theorem dksX2_settle_0 : cX2_settle.data.toList.drop 0 = dktX2_settle_0 := by decide +kernel
theorem dksX2_settle_1 : cX2_settle.data.toList.drop 22 = dktX2_settle_1 := dk_seg dksX2_settle_0 22 rfl rfl
theorem dksX2_settle_2 : cX2_settle.data.toList.drop 46 = dktX2_settle_2 := dk_seg dksX2_settle_1 24 rfl rfl
theorem dksX2_settle_3 : cX2_settle.data.toList.drop 70 = dktX2_settle_3 := dk_seg dksX2_settle_2 24 rfl rfl
theorem dX2_settle_0 : decode cX2_settle 0 = .ok (.aload_n 0, 1) := dk_42 (dk_at dksX2_settle_0 0 rfl rfl)
theorem dX2_settle_1 : decode cX2_settle 1 = .ok (.getfield 162, 3) := dk_180 0 162 (dk_at dksX2_settle_0 1 rfl rfl)
theorem dX2_settle_4 : decode cX2_settle 4 = .ok (.ifCond .le 89, 3) := dk_158 0 89 (dk_at dksX2_settle_0 4 rfl rfl)
theorem dX2_settle_7 : decode cX2_settle 7 = .ok (.aload_n 0, 1) := dk_42 (dk_at dksX2_settle_0 7 rfl rfl)
theorem dX2_settle_8 : decode cX2_settle 8 = .ok (.getfield 29, 3) := dk_180 0 29 (dk_at dksX2_settle_0 8 rfl rfl)
theorem dX2_settle_11 : decode cX2_settle 11 = .ok (.aload_n 0, 1) := dk_42 (dk_at dksX2_settle_0 11 rfl rfl)
theorem dX2_settle_12 : decode cX2_settle 12 = .ok (.getfield 162, 3) := dk_180 0 162 (dk_at dksX2_settle_0 12 rfl rfl)
theorem dX2_settle_15 : decode cX2_settle 15 = .ok (.iconst 1, 1) := dk_4 (dk_at dksX2_settle_0 15 rfl rfl)
theorem dX2_settle_16 : decode cX2_settle 16 = .ok (.isub, 1) := dk_100 (dk_at dksX2_settle_0 16 rfl rfl)
theorem dX2_settle_17 : decode cX2_settle 17 = .ok (.iaload, 1) := dk_46 (dk_at dksX2_settle_0 17 rfl rfl)
theorem dX2_settle_18 : decode cX2_settle 18 = .ok (.invokestatic 165, 3) := dk_184 0 165 (dk_at dksX2_settle_0 18 rfl rfl)
theorem dX2_settle_21 : decode cX2_settle 21 = .ok (.iload_n 1, 1) := dk_27 (dk_at dksX2_settle_0 21 rfl rfl)
theorem dX2_settle_22 : decode cX2_settle 22 = .ok (.if_icmp .lt 71, 3) := dk_161 0 71 (dk_at dksX2_settle_1 0 rfl rfl)
theorem dX2_settle_25 : decode cX2_settle 25 = .ok (.aload_n 0, 1) := dk_42 (dk_at dksX2_settle_1 3 rfl rfl)
theorem dX2_settle_26 : decode cX2_settle 26 = .ok (.dup, 1) := dk_89 (dk_at dksX2_settle_1 4 rfl rfl)
theorem dX2_settle_27 : decode cX2_settle 27 = .ok (.getfield 162, 3) := dk_180 0 162 (dk_at dksX2_settle_1 5 rfl rfl)
theorem dX2_settle_30 : decode cX2_settle 30 = .ok (.iconst 1, 1) := dk_4 (dk_at dksX2_settle_1 8 rfl rfl)
theorem dX2_settle_31 : decode cX2_settle 31 = .ok (.isub, 1) := dk_100 (dk_at dksX2_settle_1 9 rfl rfl)
theorem dX2_settle_32 : decode cX2_settle 32 = .ok (.putfield 162, 3) := dk_181 0 162 (dk_at dksX2_settle_1 10 rfl rfl)
theorem dX2_settle_35 : decode cX2_settle 35 = .ok (.aload_n 0, 1) := dk_42 (dk_at dksX2_settle_1 13 rfl rfl)
theorem dX2_settle_36 : decode cX2_settle 36 = .ok (.aload_n 0, 1) := dk_42 (dk_at dksX2_settle_1 14 rfl rfl)
theorem dX2_settle_37 : decode cX2_settle 37 = .ok (.getfield 29, 3) := dk_180 0 29 (dk_at dksX2_settle_1 15 rfl rfl)
theorem dX2_settle_40 : decode cX2_settle 40 = .ok (.aload_n 0, 1) := dk_42 (dk_at dksX2_settle_1 18 rfl rfl)
theorem dX2_settle_41 : decode cX2_settle 41 = .ok (.getfield 162, 3) := dk_180 0 162 (dk_at dksX2_settle_1 19 rfl rfl)
theorem dX2_settle_44 : decode cX2_settle 44 = .ok (.iaload, 1) := dk_46 (dk_at dksX2_settle_1 22 rfl rfl)
theorem dX2_settle_45 : decode cX2_settle 45 = .ok (.iconst 0, 1) := dk_3 (dk_at dksX2_settle_1 23 rfl rfl)
theorem dX2_settle_46 : decode cX2_settle 46 = .ok (.invokevirtual 168, 3) := dk_182 0 168 (dk_at dksX2_settle_2 0 rfl rfl)
theorem dX2_settle_49 : decode cX2_settle 49 = .ok (.aload_n 0, 1) := dk_42 (dk_at dksX2_settle_2 3 rfl rfl)
theorem dX2_settle_50 : decode cX2_settle 50 = .ok (.getfield 29, 3) := dk_180 0 29 (dk_at dksX2_settle_2 4 rfl rfl)
theorem dX2_settle_53 : decode cX2_settle 53 = .ok (.aload_n 0, 1) := dk_42 (dk_at dksX2_settle_2 7 rfl rfl)
theorem dX2_settle_54 : decode cX2_settle 54 = .ok (.getfield 162, 3) := dk_180 0 162 (dk_at dksX2_settle_2 8 rfl rfl)
theorem dX2_settle_57 : decode cX2_settle 57 = .ok (.iaload, 1) := dk_46 (dk_at dksX2_settle_2 11 rfl rfl)
theorem dX2_settle_58 : decode cX2_settle 58 = .ok (.invokestatic 165, 3) := dk_184 0 165 (dk_at dksX2_settle_2 12 rfl rfl)
theorem dX2_settle_61 : decode cX2_settle 61 = .ok (.bipush 7, 2) := dk_16 7 (dk_at dksX2_settle_2 15 rfl rfl)
theorem dX2_settle_63 : decode cX2_settle 63 = .ok (.if_icmp .eq 17, 3) := dk_159 0 17 (dk_at dksX2_settle_2 17 rfl rfl)
theorem dX2_settle_66 : decode cX2_settle 66 = .ok (.aload_n 0, 1) := dk_42 (dk_at dksX2_settle_2 20 rfl rfl)
theorem dX2_settle_67 : decode cX2_settle 67 = .ok (.getfield 29, 3) := dk_180 0 29 (dk_at dksX2_settle_2 21 rfl rfl)
theorem dX2_settle_70 : decode cX2_settle 70 = .ok (.aload_n 0, 1) := dk_42 (dk_at dksX2_settle_3 0 rfl rfl)
theorem dX2_settle_71 : decode cX2_settle 71 = .ok (.getfield 162, 3) := dk_180 0 162 (dk_at dksX2_settle_3 1 rfl rfl)
theorem dX2_settle_74 : decode cX2_settle 74 = .ok (.iaload, 1) := dk_46 (dk_at dksX2_settle_3 4 rfl rfl)
theorem dX2_settle_75 : decode cX2_settle 75 = .ok (.bipush 20, 2) := dk_16 20 (dk_at dksX2_settle_3 5 rfl rfl)
theorem dX2_settle_77 : decode cX2_settle 77 = .ok (.if_icmp .ne (-77), 3) := dk_160 255 179 (dk_at dksX2_settle_3 7 rfl rfl)
theorem dX2_settle_80 : decode cX2_settle 80 = .ok (.aload_n 0, 1) := dk_42 (dk_at dksX2_settle_3 10 rfl rfl)
theorem dX2_settle_81 : decode cX2_settle 81 = .ok (.dup, 1) := dk_89 (dk_at dksX2_settle_3 11 rfl rfl)
theorem dX2_settle_82 : decode cX2_settle 82 = .ok (.getfield 172, 3) := dk_180 0 172 (dk_at dksX2_settle_3 12 rfl rfl)
theorem dX2_settle_85 : decode cX2_settle 85 = .ok (.iconst 1, 1) := dk_4 (dk_at dksX2_settle_3 15 rfl rfl)
theorem dX2_settle_86 : decode cX2_settle 86 = .ok (.isub, 1) := dk_100 (dk_at dksX2_settle_3 16 rfl rfl)
theorem dX2_settle_87 : decode cX2_settle 87 = .ok (.putfield 172, 3) := dk_181 0 172 (dk_at dksX2_settle_3 17 rfl rfl)
theorem dX2_settle_90 : decode cX2_settle 90 = .ok (.goto (-90), 3) := dk_167 255 166 (dk_at dksX2_settle_3 20 rfl rfl)
theorem dX2_settle_93 : decode cX2_settle 93 = .ok (.return_, 1) := dk_177 (dk_at dksX2_settle_3 23 rfl rfl)
abbrev cX2_emit : ByteArray := prog_20_method_29_code
def yX2_emit : MethodName := ⟨RX2, "emit", "(II)V"⟩
def dkwX2_emit_2 : List UInt8 := [96, 181, 0, 152, 177]
abbrev dktX2_emit_2 : List UInt8 := dkwX2_emit_2 ++ []
def dkwX2_emit_1 : List UInt8 := [42, 180, 0, 149, 16, 73, 96, 5, 42, 180, 0, 152, 104, 96, 4, 96, 28, 79, 42, 89, 180, 0, 152, 4]
abbrev dktX2_emit_1 : List UInt8 := dkwX2_emit_1 ++ dktX2_emit_2
def dkwX2_emit_0 : List UInt8 := [42, 180, 0, 16, 42, 180, 0, 149, 16, 73, 96, 5, 42, 180, 0, 152, 104, 96, 27, 79, 42, 180, 0, 16]
abbrev dktX2_emit_0 : List UInt8 := dkwX2_emit_0 ++ dktX2_emit_1
theorem dksX2_emit_0 : cX2_emit.data.toList.drop 0 = dktX2_emit_0 := by decide +kernel
theorem dksX2_emit_1 : cX2_emit.data.toList.drop 24 = dktX2_emit_1 := dk_seg dksX2_emit_0 24 rfl rfl
theorem dksX2_emit_2 : cX2_emit.data.toList.drop 48 = dktX2_emit_2 := dk_seg dksX2_emit_1 24 rfl rfl
theorem dX2_emit_0 : decode cX2_emit 0 = .ok (.aload_n 0, 1) := dk_42 (dk_at dksX2_emit_0 0 rfl rfl)
theorem dX2_emit_1 : decode cX2_emit 1 = .ok (.getfield 16, 3) := dk_180 0 16 (dk_at dksX2_emit_0 1 rfl rfl)
theorem dX2_emit_4 : decode cX2_emit 4 = .ok (.aload_n 0, 1) := dk_42 (dk_at dksX2_emit_0 4 rfl rfl)
theorem dX2_emit_5 : decode cX2_emit 5 = .ok (.getfield 149, 3) := dk_180 0 149 (dk_at dksX2_emit_0 5 rfl rfl)
theorem dX2_emit_8 : decode cX2_emit 8 = .ok (.bipush 73, 2) := dk_16 73 (dk_at dksX2_emit_0 8 rfl rfl)
theorem dX2_emit_10 : decode cX2_emit 10 = .ok (.iadd, 1) := dk_96 (dk_at dksX2_emit_0 10 rfl rfl)
theorem dX2_emit_11 : decode cX2_emit 11 = .ok (.iconst 2, 1) := dk_5 (dk_at dksX2_emit_0 11 rfl rfl)
theorem dX2_emit_12 : decode cX2_emit 12 = .ok (.aload_n 0, 1) := dk_42 (dk_at dksX2_emit_0 12 rfl rfl)
theorem dX2_emit_13 : decode cX2_emit 13 = .ok (.getfield 152, 3) := dk_180 0 152 (dk_at dksX2_emit_0 13 rfl rfl)
theorem dX2_emit_16 : decode cX2_emit 16 = .ok (.imul, 1) := dk_104 (dk_at dksX2_emit_0 16 rfl rfl)
theorem dX2_emit_17 : decode cX2_emit 17 = .ok (.iadd, 1) := dk_96 (dk_at dksX2_emit_0 17 rfl rfl)
theorem dX2_emit_18 : decode cX2_emit 18 = .ok (.iload_n 1, 1) := dk_27 (dk_at dksX2_emit_0 18 rfl rfl)
theorem dX2_emit_19 : decode cX2_emit 19 = .ok (.iastore, 1) := dk_79 (dk_at dksX2_emit_0 19 rfl rfl)
theorem dX2_emit_20 : decode cX2_emit 20 = .ok (.aload_n 0, 1) := dk_42 (dk_at dksX2_emit_0 20 rfl rfl)
theorem dX2_emit_21 : decode cX2_emit 21 = .ok (.getfield 16, 3) := dk_180 0 16 (dk_at dksX2_emit_0 21 rfl rfl)
theorem dX2_emit_24 : decode cX2_emit 24 = .ok (.aload_n 0, 1) := dk_42 (dk_at dksX2_emit_1 0 rfl rfl)
theorem dX2_emit_25 : decode cX2_emit 25 = .ok (.getfield 149, 3) := dk_180 0 149 (dk_at dksX2_emit_1 1 rfl rfl)
theorem dX2_emit_28 : decode cX2_emit 28 = .ok (.bipush 73, 2) := dk_16 73 (dk_at dksX2_emit_1 4 rfl rfl)
theorem dX2_emit_30 : decode cX2_emit 30 = .ok (.iadd, 1) := dk_96 (dk_at dksX2_emit_1 6 rfl rfl)
theorem dX2_emit_31 : decode cX2_emit 31 = .ok (.iconst 2, 1) := dk_5 (dk_at dksX2_emit_1 7 rfl rfl)
theorem dX2_emit_32 : decode cX2_emit 32 = .ok (.aload_n 0, 1) := dk_42 (dk_at dksX2_emit_1 8 rfl rfl)
theorem dX2_emit_33 : decode cX2_emit 33 = .ok (.getfield 152, 3) := dk_180 0 152 (dk_at dksX2_emit_1 9 rfl rfl)
theorem dX2_emit_36 : decode cX2_emit 36 = .ok (.imul, 1) := dk_104 (dk_at dksX2_emit_1 12 rfl rfl)
theorem dX2_emit_37 : decode cX2_emit 37 = .ok (.iadd, 1) := dk_96 (dk_at dksX2_emit_1 13 rfl rfl)
theorem dX2_emit_38 : decode cX2_emit 38 = .ok (.iconst 1, 1) := dk_4 (dk_at dksX2_emit_1 14 rfl rfl)
theorem dX2_emit_39 : decode cX2_emit 39 = .ok (.iadd, 1) := dk_96 (dk_at dksX2_emit_1 15 rfl rfl)
theorem dX2_emit_40 : decode cX2_emit 40 = .ok (.iload_n 2, 1) := dk_28 (dk_at dksX2_emit_1 16 rfl rfl)
theorem dX2_emit_41 : decode cX2_emit 41 = .ok (.iastore, 1) := dk_79 (dk_at dksX2_emit_1 17 rfl rfl)
theorem dX2_emit_42 : decode cX2_emit 42 = .ok (.aload_n 0, 1) := dk_42 (dk_at dksX2_emit_1 18 rfl rfl)
theorem dX2_emit_43 : decode cX2_emit 43 = .ok (.dup, 1) := dk_89 (dk_at dksX2_emit_1 19 rfl rfl)
theorem dX2_emit_44 : decode cX2_emit 44 = .ok (.getfield 152, 3) := dk_180 0 152 (dk_at dksX2_emit_1 20 rfl rfl)
theorem dX2_emit_47 : decode cX2_emit 47 = .ok (.iconst 1, 1) := dk_4 (dk_at dksX2_emit_1 23 rfl rfl)
theorem dX2_emit_48 : decode cX2_emit 48 = .ok (.iadd, 1) := dk_96 (dk_at dksX2_emit_2 0 rfl rfl)
theorem dX2_emit_49 : decode cX2_emit 49 = .ok (.putfield 152, 3) := dk_181 0 152 (dk_at dksX2_emit_2 1 rfl rfl)
theorem dX2_emit_52 : decode cX2_emit 52 = .ok (.return_, 1) := dk_177 (dk_at dksX2_emit_2 4 rfl rfl)
abbrev cX2_partOf : ByteArray := prog_20_method_43_code
def yX2_partOf : MethodName := ⟨RX2, "partOf", "(I)I"⟩
def dkwX2_partOf_5 : List UInt8 := [42, 16, 101, 16, 110, 16, 100, 184, 0, 137, 182, 0, 200, 153, 0, 7, 3, 167, 0, 4, 2, 172, 2, 172]
abbrev dktX2_partOf_5 : List UInt8 := dkwX2_partOf_5 ++ []
def dkwX2_partOf_4 : List UInt8 := [16, 101, 16, 108, 16, 115, 16, 101, 184, 0, 141, 182, 0, 200, 153, 0, 8, 16, 43, 167, 0, 4, 2, 172]
abbrev dktX2_partOf_4 : List UInt8 := dkwX2_partOf_4 ++ dktX2_partOf_5
def dkwX2_partOf_3 : List UInt8 := [184, 0, 141, 182, 0, 200, 153, 0, 15, 42, 182, 0, 208, 153, 0, 8, 16, 42, 167, 0, 4, 2, 172, 42]
abbrev dktX2_partOf_3 : List UInt8 := dkwX2_partOf_3 ++ dktX2_partOf_4
def dkwX2_partOf_2 : List UInt8 := [42, 180, 0, 111, 16, 41, 160, 0, 7, 3, 167, 0, 4, 2, 172, 42, 16, 116, 16, 104, 16, 101, 16, 110]
abbrev dktX2_partOf_2 : List UInt8 := dkwX2_partOf_2 ++ dktX2_partOf_3
def dkwX2_partOf_1 : List UInt8 := [170, 0, 0, 0, 0, 0, 125, 0, 0, 0, 40, 0, 0, 0, 43, 0, 0, 0, 31, 0, 0, 0, 46, 0, 0, 0, 78, 0, 0, 0, 103]
abbrev dktX2_partOf_1 : List UInt8 := dkwX2_partOf_1 ++ dktX2_partOf_2
def dkwX2_partOf_0 : List UInt8 := [27]
abbrev dktX2_partOf_0 : List UInt8 := dkwX2_partOf_0 ++ dktX2_partOf_1
theorem dksX2_partOf_0 : cX2_partOf.data.toList.drop 0 = dktX2_partOf_0 := by decide +kernel
theorem dksX2_partOf_1 : cX2_partOf.data.toList.drop 1 = dktX2_partOf_1 := dk_seg dksX2_partOf_0 1 rfl rfl
theorem dksX2_partOf_2 : cX2_partOf.data.toList.drop 32 = dktX2_partOf_2 := dk_seg dksX2_partOf_1 31 rfl rfl
theorem dksX2_partOf_3 : cX2_partOf.data.toList.drop 56 = dktX2_partOf_3 := dk_seg dksX2_partOf_2 24 rfl rfl
theorem dksX2_partOf_4 : cX2_partOf.data.toList.drop 80 = dktX2_partOf_4 := dk_seg dksX2_partOf_3 24 rfl rfl
theorem dksX2_partOf_5 : cX2_partOf.data.toList.drop 104 = dktX2_partOf_5 := dk_seg dksX2_partOf_4 24 rfl rfl
theorem dX2_partOf_0 : decode cX2_partOf 0 = .ok (.iload_n 1, 1) := dk_27 (dk_at dksX2_partOf_0 0 rfl rfl)
theorem dX2_partOf_1 : decode cX2_partOf 1 = .ok (.tableswitch 125 40 43 #[31, 46, 78, 103], 31) := by decide +kernel
theorem dX2_partOf_32 : decode cX2_partOf 32 = .ok (.aload_n 0, 1) := dk_42 (dk_at dksX2_partOf_2 0 rfl rfl)
theorem dX2_partOf_33 : decode cX2_partOf 33 = .ok (.getfield 111, 3) := dk_180 0 111 (dk_at dksX2_partOf_2 1 rfl rfl)
theorem dX2_partOf_36 : decode cX2_partOf 36 = .ok (.bipush 41, 2) := dk_16 41 (dk_at dksX2_partOf_2 4 rfl rfl)
theorem dX2_partOf_38 : decode cX2_partOf 38 = .ok (.if_icmp .ne 7, 3) := dk_160 0 7 (dk_at dksX2_partOf_2 6 rfl rfl)
theorem dX2_partOf_41 : decode cX2_partOf 41 = .ok (.iconst 0, 1) := dk_3 (dk_at dksX2_partOf_2 9 rfl rfl)
theorem dX2_partOf_42 : decode cX2_partOf 42 = .ok (.goto 4, 3) := dk_167 0 4 (dk_at dksX2_partOf_2 10 rfl rfl)
theorem dX2_partOf_45 : decode cX2_partOf 45 = .ok (.iconst (-1), 1) := dk_2 (dk_at dksX2_partOf_2 13 rfl rfl)
theorem dX2_partOf_46 : decode cX2_partOf 46 = .ok (.ireturn, 1) := dk_172 (dk_at dksX2_partOf_2 14 rfl rfl)
theorem dX2_partOf_47 : decode cX2_partOf 47 = .ok (.aload_n 0, 1) := dk_42 (dk_at dksX2_partOf_2 15 rfl rfl)
theorem dX2_partOf_48 : decode cX2_partOf 48 = .ok (.bipush 116, 2) := dk_16 116 (dk_at dksX2_partOf_2 16 rfl rfl)
theorem dX2_partOf_50 : decode cX2_partOf 50 = .ok (.bipush 104, 2) := dk_16 104 (dk_at dksX2_partOf_2 18 rfl rfl)
theorem dX2_partOf_52 : decode cX2_partOf 52 = .ok (.bipush 101, 2) := dk_16 101 (dk_at dksX2_partOf_2 20 rfl rfl)
theorem dX2_partOf_54 : decode cX2_partOf 54 = .ok (.bipush 110, 2) := dk_16 110 (dk_at dksX2_partOf_2 22 rfl rfl)
theorem dX2_partOf_56 : decode cX2_partOf 56 = .ok (.invokestatic 141, 3) := dk_184 0 141 (dk_at dksX2_partOf_3 0 rfl rfl)
theorem dX2_partOf_59 : decode cX2_partOf 59 = .ok (.invokevirtual 200, 3) := dk_182 0 200 (dk_at dksX2_partOf_3 3 rfl rfl)
theorem dX2_partOf_62 : decode cX2_partOf 62 = .ok (.ifCond .eq 15, 3) := dk_153 0 15 (dk_at dksX2_partOf_3 6 rfl rfl)
theorem dX2_partOf_65 : decode cX2_partOf 65 = .ok (.aload_n 0, 1) := dk_42 (dk_at dksX2_partOf_3 9 rfl rfl)
theorem dX2_partOf_66 : decode cX2_partOf 66 = .ok (.invokevirtual 208, 3) := dk_182 0 208 (dk_at dksX2_partOf_3 10 rfl rfl)
theorem dX2_partOf_69 : decode cX2_partOf 69 = .ok (.ifCond .eq 8, 3) := dk_153 0 8 (dk_at dksX2_partOf_3 13 rfl rfl)
theorem dX2_partOf_72 : decode cX2_partOf 72 = .ok (.bipush 42, 2) := dk_16 42 (dk_at dksX2_partOf_3 16 rfl rfl)
theorem dX2_partOf_74 : decode cX2_partOf 74 = .ok (.goto 4, 3) := dk_167 0 4 (dk_at dksX2_partOf_3 18 rfl rfl)
theorem dX2_partOf_77 : decode cX2_partOf 77 = .ok (.iconst (-1), 1) := dk_2 (dk_at dksX2_partOf_3 21 rfl rfl)
theorem dX2_partOf_78 : decode cX2_partOf 78 = .ok (.ireturn, 1) := dk_172 (dk_at dksX2_partOf_3 22 rfl rfl)
theorem dX2_partOf_79 : decode cX2_partOf 79 = .ok (.aload_n 0, 1) := dk_42 (dk_at dksX2_partOf_3 23 rfl rfl)
theorem dX2_partOf_80 : decode cX2_partOf 80 = .ok (.bipush 101, 2) := dk_16 101 (dk_at dksX2_partOf_4 0 rfl rfl)
theorem dX2_partOf_82 : decode cX2_partOf 82 = .ok (.bipush 108, 2) := dk_16 108 (dk_at dksX2_partOf_4 2 rfl rfl)
theorem dX2_partOf_84 : decode cX2_partOf 84 = .ok (.bipush 115, 2) := dk_16 115 (dk_at dksX2_partOf_4 4 rfl rfl)
theorem dX2_partOf_86 : decode cX2_partOf 86 = .ok (.bipush 101, 2) := dk_16 101 (dk_at dksX2_partOf_4 6 rfl rfl)
theorem dX2_partOf_88 : decode cX2_partOf 88 = .ok (.invokestatic 141, 3) := dk_184 0 141 (dk_at dksX2_partOf_4 8 rfl rfl)
theorem dX2_partOf_91 : decode cX2_partOf 91 = .ok (.invokevirtual 200, 3) := dk_182 0 200 (dk_at dksX2_partOf_4 11 rfl rfl)
theorem dX2_partOf_94 : decode cX2_partOf 94 = .ok (.ifCond .eq 8, 3) := dk_153 0 8 (dk_at dksX2_partOf_4 14 rfl rfl)
theorem dX2_partOf_97 : decode cX2_partOf 97 = .ok (.bipush 43, 2) := dk_16 43 (dk_at dksX2_partOf_4 17 rfl rfl)
theorem dX2_partOf_99 : decode cX2_partOf 99 = .ok (.goto 4, 3) := dk_167 0 4 (dk_at dksX2_partOf_4 19 rfl rfl)
theorem dX2_partOf_102 : decode cX2_partOf 102 = .ok (.iconst (-1), 1) := dk_2 (dk_at dksX2_partOf_4 22 rfl rfl)
theorem dX2_partOf_103 : decode cX2_partOf 103 = .ok (.ireturn, 1) := dk_172 (dk_at dksX2_partOf_4 23 rfl rfl)
theorem dX2_partOf_104 : decode cX2_partOf 104 = .ok (.aload_n 0, 1) := dk_42 (dk_at dksX2_partOf_5 0 rfl rfl)
theorem dX2_partOf_105 : decode cX2_partOf 105 = .ok (.bipush 101, 2) := dk_16 101 (dk_at dksX2_partOf_5 1 rfl rfl)
theorem dX2_partOf_107 : decode cX2_partOf 107 = .ok (.bipush 110, 2) := dk_16 110 (dk_at dksX2_partOf_5 3 rfl rfl)
theorem dX2_partOf_109 : decode cX2_partOf 109 = .ok (.bipush 100, 2) := dk_16 100 (dk_at dksX2_partOf_5 5 rfl rfl)
theorem dX2_partOf_111 : decode cX2_partOf 111 = .ok (.invokestatic 137, 3) := dk_184 0 137 (dk_at dksX2_partOf_5 7 rfl rfl)
theorem dX2_partOf_114 : decode cX2_partOf 114 = .ok (.invokevirtual 200, 3) := dk_182 0 200 (dk_at dksX2_partOf_5 10 rfl rfl)
theorem dX2_partOf_117 : decode cX2_partOf 117 = .ok (.ifCond .eq 7, 3) := dk_153 0 7 (dk_at dksX2_partOf_5 13 rfl rfl)
theorem dX2_partOf_120 : decode cX2_partOf 120 = .ok (.iconst 0, 1) := dk_3 (dk_at dksX2_partOf_5 16 rfl rfl)
theorem dX2_partOf_121 : decode cX2_partOf 121 = .ok (.goto 4, 3) := dk_167 0 4 (dk_at dksX2_partOf_5 17 rfl rfl)
theorem dX2_partOf_124 : decode cX2_partOf 124 = .ok (.iconst (-1), 1) := dk_2 (dk_at dksX2_partOf_5 20 rfl rfl)
theorem dX2_partOf_125 : decode cX2_partOf 125 = .ok (.ireturn, 1) := dk_172 (dk_at dksX2_partOf_5 21 rfl rfl)
theorem dX2_partOf_126 : decode cX2_partOf 126 = .ok (.iconst (-1), 1) := dk_2 (dk_at dksX2_partOf_5 22 rfl rfl)
theorem dX2_partOf_127 : decode cX2_partOf 127 = .ok (.ireturn, 1) := dk_172 (dk_at dksX2_partOf_5 23 rfl rfl)
abbrev cX2_beginOne : ByteArray := prog_20_method_40_code
def yX2_beginOne : MethodName := ⟨RX2, "beginOne", "()I"⟩
def dkwX2_beginOne_10 : List UInt8 := [182, 0, 197, 167, 0, 4, 4, 172]
abbrev dktX2_beginOne_10 : List UInt8 := dkwX2_beginOne_10 ++ []
def dkwX2_beginOne_9 : List UInt8 := [16, 111, 16, 116, 184, 0, 137, 182, 0, 200, 153, 0, 19, 42, 182, 0, 204, 153, 0, 12, 42, 16, 20]
abbrev dktX2_beginOne_9 : List UInt8 := dkwX2_beginOne_9 ++ dktX2_beginOne_10
def dkwX2_beginOne_8 : List UInt8 := [16, 105, 16, 102, 184, 0, 133, 182, 0, 200, 153, 0, 10, 42, 16, 41, 182, 0, 197, 172, 42, 16, 110]
abbrev dktX2_beginOne_8 : List UInt8 := dkwX2_beginOne_8 ++ dktX2_beginOne_9
def dkwX2_beginOne_7 : List UInt8 := [16, 105, 16, 118, 16, 101, 16, 114, 184, 0, 155, 182, 0, 200, 153, 0, 9, 42, 7, 182, 0, 197, 172, 42]
abbrev dktX2_beginOne_7 : List UInt8 := dkwX2_beginOne_7 ++ dktX2_beginOne_8
def dkwX2_beginOne_6 : List UInt8 := [16, 115, 16, 115, 184, 0, 155, 182, 0, 200, 153, 0, 9, 42, 5, 182, 0, 197, 172, 42, 16, 113, 16, 117]
abbrev dktX2_beginOne_6 : List UInt8 := dkwX2_beginOne_6 ++ dktX2_beginOne_7
def dkwX2_beginOne_5 : List UInt8 := [180, 0, 111, 16, 45, 160, 0, 9, 42, 8, 182, 0, 197, 172, 42, 16, 97, 16, 99, 16, 114, 16, 111]
abbrev dktX2_beginOne_5 : List UInt8 := dkwX2_beginOne_5 ++ dktX2_beginOne_6
def dkwX2_beginOne_4 : List UInt8 := [16, 7, 182, 0, 194, 3, 172, 42, 180, 0, 111, 16, 40, 160, 0, 10, 42, 16, 40, 182, 0, 197, 172, 42]
abbrev dktX2_beginOne_4 : List UInt8 := dkwX2_beginOne_4 ++ dktX2_beginOne_5
def dkwX2_beginOne_3 : List UInt8 := [160, 0, 10, 42, 180, 0, 117, 167, 0, 4, 27, 182, 0, 168, 42, 182, 0, 182, 42, 4, 181, 0, 191, 42]
abbrev dktX2_beginOne_3 : List UInt8 := dkwX2_beginOne_3 ++ dktX2_beginOne_4
def dkwX2_beginOne_2 : List UInt8 := [155, 0, 53, 42, 42, 180, 0, 111, 4, 160, 0, 7, 3, 167, 0, 4, 4, 42, 180, 0, 111, 4]
abbrev dktX2_beginOne_2 : List UInt8 := dkwX2_beginOne_2 ++ dktX2_beginOne_3
def dkwX2_beginOne_1 : List UInt8 := [60, 27, 155, 0, 13, 42, 27, 182, 0, 188, 154, 0, 5, 8, 172, 42, 180, 0, 111, 4, 159, 0, 7, 27]
abbrev dktX2_beginOne_1 : List UInt8 := dkwX2_beginOne_1 ++ dktX2_beginOne_2
def dkwX2_beginOne_0 : List UInt8 := [42, 180, 0, 111, 4, 160, 0, 15, 42, 180, 0, 117, 17, 39, 15, 164, 0, 5, 5, 172, 42, 182, 0, 185]
abbrev dktX2_beginOne_0 : List UInt8 := dkwX2_beginOne_0 ++ dktX2_beginOne_1
theorem dksX2_beginOne_0 : cX2_beginOne.data.toList.drop 0 = dktX2_beginOne_0 := by decide +kernel
theorem dksX2_beginOne_1 : cX2_beginOne.data.toList.drop 24 = dktX2_beginOne_1 := dk_seg dksX2_beginOne_0 24 rfl rfl
theorem dksX2_beginOne_2 : cX2_beginOne.data.toList.drop 48 = dktX2_beginOne_2 := dk_seg dksX2_beginOne_1 24 rfl rfl
theorem dksX2_beginOne_3 : cX2_beginOne.data.toList.drop 70 = dktX2_beginOne_3 := dk_seg dksX2_beginOne_2 22 rfl rfl
theorem dksX2_beginOne_4 : cX2_beginOne.data.toList.drop 94 = dktX2_beginOne_4 := dk_seg dksX2_beginOne_3 24 rfl rfl
theorem dksX2_beginOne_5 : cX2_beginOne.data.toList.drop 118 = dktX2_beginOne_5 := dk_seg dksX2_beginOne_4 24 rfl rfl
theorem dksX2_beginOne_6 : cX2_beginOne.data.toList.drop 141 = dktX2_beginOne_6 := dk_seg dksX2_beginOne_5 23 rfl rfl
theorem dksX2_beginOne_7 : cX2_beginOne.data.toList.drop 165 = dktX2_beginOne_7 := dk_seg dksX2_beginOne_6 24 rfl rfl
theorem dksX2_beginOne_8 : cX2_beginOne.data.toList.drop 189 = dktX2_beginOne_8 := dk_seg dksX2_beginOne_7 24 rfl rfl
theorem dksX2_beginOne_9 : cX2_beginOne.data.toList.drop 212 = dktX2_beginOne_9 := dk_seg dksX2_beginOne_8 23 rfl rfl
theorem dksX2_beginOne_10 : cX2_beginOne.data.toList.drop 235 = dktX2_beginOne_10 := dk_seg dksX2_beginOne_9 23 rfl rfl
theorem dX2_beginOne_0 : decode cX2_beginOne 0 = .ok (.aload_n 0, 1) := dk_42 (dk_at dksX2_beginOne_0 0 rfl rfl)
theorem dX2_beginOne_1 : decode cX2_beginOne 1 = .ok (.getfield 111, 3) := dk_180 0 111 (dk_at dksX2_beginOne_0 1 rfl rfl)
theorem dX2_beginOne_4 : decode cX2_beginOne 4 = .ok (.iconst 1, 1) := dk_4 (dk_at dksX2_beginOne_0 4 rfl rfl)
theorem dX2_beginOne_5 : decode cX2_beginOne 5 = .ok (.if_icmp .ne 15, 3) := dk_160 0 15 (dk_at dksX2_beginOne_0 5 rfl rfl)
theorem dX2_beginOne_8 : decode cX2_beginOne 8 = .ok (.aload_n 0, 1) := dk_42 (dk_at dksX2_beginOne_0 8 rfl rfl)
theorem dX2_beginOne_9 : decode cX2_beginOne 9 = .ok (.getfield 117, 3) := dk_180 0 117 (dk_at dksX2_beginOne_0 9 rfl rfl)
theorem dX2_beginOne_12 : decode cX2_beginOne 12 = .ok (.sipush 9999, 3) := dk_17 39 15 (dk_at dksX2_beginOne_0 12 rfl rfl)
theorem dX2_beginOne_15 : decode cX2_beginOne 15 = .ok (.if_icmp .le 5, 3) := dk_164 0 5 (dk_at dksX2_beginOne_0 15 rfl rfl)
theorem dX2_beginOne_18 : decode cX2_beginOne 18 = .ok (.iconst 2, 1) := dk_5 (dk_at dksX2_beginOne_0 18 rfl rfl)
theorem dX2_beginOne_19 : decode cX2_beginOne 19 = .ok (.ireturn, 1) := dk_172 (dk_at dksX2_beginOne_0 19 rfl rfl)
theorem dX2_beginOne_20 : decode cX2_beginOne 20 = .ok (.aload_n 0, 1) := dk_42 (dk_at dksX2_beginOne_0 20 rfl rfl)
theorem dX2_beginOne_21 : decode cX2_beginOne 21 = .ok (.invokevirtual 185, 3) := dk_182 0 185 (dk_at dksX2_beginOne_0 21 rfl rfl)
theorem dX2_beginOne_24 : decode cX2_beginOne 24 = .ok (.istore_n 1, 1) := dk_60 (dk_at dksX2_beginOne_1 0 rfl rfl)
theorem dX2_beginOne_25 : decode cX2_beginOne 25 = .ok (.iload_n 1, 1) := dk_27 (dk_at dksX2_beginOne_1 1 rfl rfl)
theorem dX2_beginOne_26 : decode cX2_beginOne 26 = .ok (.ifCond .lt 13, 3) := dk_155 0 13 (dk_at dksX2_beginOne_1 2 rfl rfl)
theorem dX2_beginOne_29 : decode cX2_beginOne 29 = .ok (.aload_n 0, 1) := dk_42 (dk_at dksX2_beginOne_1 5 rfl rfl)
theorem dX2_beginOne_30 : decode cX2_beginOne 30 = .ok (.iload_n 1, 1) := dk_27 (dk_at dksX2_beginOne_1 6 rfl rfl)
theorem dX2_beginOne_31 : decode cX2_beginOne 31 = .ok (.invokevirtual 188, 3) := dk_182 0 188 (dk_at dksX2_beginOne_1 7 rfl rfl)
theorem dX2_beginOne_34 : decode cX2_beginOne 34 = .ok (.ifCond .ne 5, 3) := dk_154 0 5 (dk_at dksX2_beginOne_1 10 rfl rfl)
theorem dX2_beginOne_37 : decode cX2_beginOne 37 = .ok (.iconst 5, 1) := dk_8 (dk_at dksX2_beginOne_1 13 rfl rfl)
theorem dX2_beginOne_38 : decode cX2_beginOne 38 = .ok (.ireturn, 1) := dk_172 (dk_at dksX2_beginOne_1 14 rfl rfl)
theorem dX2_beginOne_39 : decode cX2_beginOne 39 = .ok (.aload_n 0, 1) := dk_42 (dk_at dksX2_beginOne_1 15 rfl rfl)
theorem dX2_beginOne_40 : decode cX2_beginOne 40 = .ok (.getfield 111, 3) := dk_180 0 111 (dk_at dksX2_beginOne_1 16 rfl rfl)
theorem dX2_beginOne_43 : decode cX2_beginOne 43 = .ok (.iconst 1, 1) := dk_4 (dk_at dksX2_beginOne_1 19 rfl rfl)
theorem dX2_beginOne_44 : decode cX2_beginOne 44 = .ok (.if_icmp .eq 7, 3) := dk_159 0 7 (dk_at dksX2_beginOne_1 20 rfl rfl)
theorem dX2_beginOne_47 : decode cX2_beginOne 47 = .ok (.iload_n 1, 1) := dk_27 (dk_at dksX2_beginOne_1 23 rfl rfl)
theorem dX2_beginOne_48 : decode cX2_beginOne 48 = .ok (.ifCond .lt 53, 3) := dk_155 0 53 (dk_at dksX2_beginOne_2 0 rfl rfl)
theorem dX2_beginOne_51 : decode cX2_beginOne 51 = .ok (.aload_n 0, 1) := dk_42 (dk_at dksX2_beginOne_2 3 rfl rfl)
theorem dX2_beginOne_52 : decode cX2_beginOne 52 = .ok (.aload_n 0, 1) := dk_42 (dk_at dksX2_beginOne_2 4 rfl rfl)
theorem dX2_beginOne_53 : decode cX2_beginOne 53 = .ok (.getfield 111, 3) := dk_180 0 111 (dk_at dksX2_beginOne_2 5 rfl rfl)
theorem dX2_beginOne_56 : decode cX2_beginOne 56 = .ok (.iconst 1, 1) := dk_4 (dk_at dksX2_beginOne_2 8 rfl rfl)
theorem dX2_beginOne_57 : decode cX2_beginOne 57 = .ok (.if_icmp .ne 7, 3) := dk_160 0 7 (dk_at dksX2_beginOne_2 9 rfl rfl)
theorem dX2_beginOne_60 : decode cX2_beginOne 60 = .ok (.iconst 0, 1) := dk_3 (dk_at dksX2_beginOne_2 12 rfl rfl)
theorem dX2_beginOne_61 : decode cX2_beginOne 61 = .ok (.goto 4, 3) := dk_167 0 4 (dk_at dksX2_beginOne_2 13 rfl rfl)
theorem dX2_beginOne_64 : decode cX2_beginOne 64 = .ok (.iconst 1, 1) := dk_4 (dk_at dksX2_beginOne_2 16 rfl rfl)
theorem dX2_beginOne_65 : decode cX2_beginOne 65 = .ok (.aload_n 0, 1) := dk_42 (dk_at dksX2_beginOne_2 17 rfl rfl)
theorem dX2_beginOne_66 : decode cX2_beginOne 66 = .ok (.getfield 111, 3) := dk_180 0 111 (dk_at dksX2_beginOne_2 18 rfl rfl)
theorem dX2_beginOne_69 : decode cX2_beginOne 69 = .ok (.iconst 1, 1) := dk_4 (dk_at dksX2_beginOne_2 21 rfl rfl)
theorem dX2_beginOne_70 : decode cX2_beginOne 70 = .ok (.if_icmp .ne 10, 3) := dk_160 0 10 (dk_at dksX2_beginOne_3 0 rfl rfl)
theorem dX2_beginOne_73 : decode cX2_beginOne 73 = .ok (.aload_n 0, 1) := dk_42 (dk_at dksX2_beginOne_3 3 rfl rfl)
theorem dX2_beginOne_74 : decode cX2_beginOne 74 = .ok (.getfield 117, 3) := dk_180 0 117 (dk_at dksX2_beginOne_3 4 rfl rfl)
theorem dX2_beginOne_77 : decode cX2_beginOne 77 = .ok (.goto 4, 3) := dk_167 0 4 (dk_at dksX2_beginOne_3 7 rfl rfl)
theorem dX2_beginOne_80 : decode cX2_beginOne 80 = .ok (.iload_n 1, 1) := dk_27 (dk_at dksX2_beginOne_3 10 rfl rfl)
theorem dX2_beginOne_81 : decode cX2_beginOne 81 = .ok (.invokevirtual 168, 3) := dk_182 0 168 (dk_at dksX2_beginOne_3 11 rfl rfl)
theorem dX2_beginOne_84 : decode cX2_beginOne 84 = .ok (.aload_n 0, 1) := dk_42 (dk_at dksX2_beginOne_3 14 rfl rfl)
theorem dX2_beginOne_85 : decode cX2_beginOne 85 = .ok (.invokevirtual 182, 3) := dk_182 0 182 (dk_at dksX2_beginOne_3 15 rfl rfl)
theorem dX2_beginOne_88 : decode cX2_beginOne 88 = .ok (.aload_n 0, 1) := dk_42 (dk_at dksX2_beginOne_3 18 rfl rfl)
theorem dX2_beginOne_89 : decode cX2_beginOne 89 = .ok (.iconst 1, 1) := dk_4 (dk_at dksX2_beginOne_3 19 rfl rfl)
theorem dX2_beginOne_90 : decode cX2_beginOne 90 = .ok (.putfield 191, 3) := dk_181 0 191 (dk_at dksX2_beginOne_3 20 rfl rfl)
theorem dX2_beginOne_93 : decode cX2_beginOne 93 = .ok (.aload_n 0, 1) := dk_42 (dk_at dksX2_beginOne_3 23 rfl rfl)
theorem dX2_beginOne_94 : decode cX2_beginOne 94 = .ok (.bipush 7, 2) := dk_16 7 (dk_at dksX2_beginOne_4 0 rfl rfl)
theorem dX2_beginOne_96 : decode cX2_beginOne 96 = .ok (.invokevirtual 194, 3) := dk_182 0 194 (dk_at dksX2_beginOne_4 2 rfl rfl)
theorem dX2_beginOne_99 : decode cX2_beginOne 99 = .ok (.iconst 0, 1) := dk_3 (dk_at dksX2_beginOne_4 5 rfl rfl)
theorem dX2_beginOne_100 : decode cX2_beginOne 100 = .ok (.ireturn, 1) := dk_172 (dk_at dksX2_beginOne_4 6 rfl rfl)
theorem dX2_beginOne_101 : decode cX2_beginOne 101 = .ok (.aload_n 0, 1) := dk_42 (dk_at dksX2_beginOne_4 7 rfl rfl)
theorem dX2_beginOne_102 : decode cX2_beginOne 102 = .ok (.getfield 111, 3) := dk_180 0 111 (dk_at dksX2_beginOne_4 8 rfl rfl)
theorem dX2_beginOne_105 : decode cX2_beginOne 105 = .ok (.bipush 40, 2) := dk_16 40 (dk_at dksX2_beginOne_4 11 rfl rfl)
theorem dX2_beginOne_107 : decode cX2_beginOne 107 = .ok (.if_icmp .ne 10, 3) := dk_160 0 10 (dk_at dksX2_beginOne_4 13 rfl rfl)
theorem dX2_beginOne_110 : decode cX2_beginOne 110 = .ok (.aload_n 0, 1) := dk_42 (dk_at dksX2_beginOne_4 16 rfl rfl)
theorem dX2_beginOne_111 : decode cX2_beginOne 111 = .ok (.bipush 40, 2) := dk_16 40 (dk_at dksX2_beginOne_4 17 rfl rfl)
theorem dX2_beginOne_113 : decode cX2_beginOne 113 = .ok (.invokevirtual 197, 3) := dk_182 0 197 (dk_at dksX2_beginOne_4 19 rfl rfl)
theorem dX2_beginOne_116 : decode cX2_beginOne 116 = .ok (.ireturn, 1) := dk_172 (dk_at dksX2_beginOne_4 22 rfl rfl)
theorem dX2_beginOne_117 : decode cX2_beginOne 117 = .ok (.aload_n 0, 1) := dk_42 (dk_at dksX2_beginOne_4 23 rfl rfl)
theorem dX2_beginOne_118 : decode cX2_beginOne 118 = .ok (.getfield 111, 3) := dk_180 0 111 (dk_at dksX2_beginOne_5 0 rfl rfl)
theorem dX2_beginOne_121 : decode cX2_beginOne 121 = .ok (.bipush 45, 2) := dk_16 45 (dk_at dksX2_beginOne_5 3 rfl rfl)
theorem dX2_beginOne_123 : decode cX2_beginOne 123 = .ok (.if_icmp .ne 9, 3) := dk_160 0 9 (dk_at dksX2_beginOne_5 5 rfl rfl)
theorem dX2_beginOne_126 : decode cX2_beginOne 126 = .ok (.aload_n 0, 1) := dk_42 (dk_at dksX2_beginOne_5 8 rfl rfl)
theorem dX2_beginOne_127 : decode cX2_beginOne 127 = .ok (.iconst 5, 1) := dk_8 (dk_at dksX2_beginOne_5 9 rfl rfl)
theorem dX2_beginOne_128 : decode cX2_beginOne 128 = .ok (.invokevirtual 197, 3) := dk_182 0 197 (dk_at dksX2_beginOne_5 10 rfl rfl)
theorem dX2_beginOne_131 : decode cX2_beginOne 131 = .ok (.ireturn, 1) := dk_172 (dk_at dksX2_beginOne_5 13 rfl rfl)
theorem dX2_beginOne_132 : decode cX2_beginOne 132 = .ok (.aload_n 0, 1) := dk_42 (dk_at dksX2_beginOne_5 14 rfl rfl)
theorem dX2_beginOne_133 : decode cX2_beginOne 133 = .ok (.bipush 97, 2) := dk_16 97 (dk_at dksX2_beginOne_5 15 rfl rfl)
theorem dX2_beginOne_135 : decode cX2_beginOne 135 = .ok (.bipush 99, 2) := dk_16 99 (dk_at dksX2_beginOne_5 17 rfl rfl)
theorem dX2_beginOne_137 : decode cX2_beginOne 137 = .ok (.bipush 114, 2) := dk_16 114 (dk_at dksX2_beginOne_5 19 rfl rfl)
theorem dX2_beginOne_139 : decode cX2_beginOne 139 = .ok (.bipush 111, 2) := dk_16 111 (dk_at dksX2_beginOne_5 21 rfl rfl)
theorem dX2_beginOne_141 : decode cX2_beginOne 141 = .ok (.bipush 115, 2) := dk_16 115 (dk_at dksX2_beginOne_6 0 rfl rfl)
theorem dX2_beginOne_143 : decode cX2_beginOne 143 = .ok (.bipush 115, 2) := dk_16 115 (dk_at dksX2_beginOne_6 2 rfl rfl)
theorem dX2_beginOne_145 : decode cX2_beginOne 145 = .ok (.invokestatic 155, 3) := dk_184 0 155 (dk_at dksX2_beginOne_6 4 rfl rfl)
theorem dX2_beginOne_148 : decode cX2_beginOne 148 = .ok (.invokevirtual 200, 3) := dk_182 0 200 (dk_at dksX2_beginOne_6 7 rfl rfl)
theorem dX2_beginOne_151 : decode cX2_beginOne 151 = .ok (.ifCond .eq 9, 3) := dk_153 0 9 (dk_at dksX2_beginOne_6 10 rfl rfl)
theorem dX2_beginOne_154 : decode cX2_beginOne 154 = .ok (.aload_n 0, 1) := dk_42 (dk_at dksX2_beginOne_6 13 rfl rfl)
theorem dX2_beginOne_155 : decode cX2_beginOne 155 = .ok (.iconst 2, 1) := dk_5 (dk_at dksX2_beginOne_6 14 rfl rfl)
theorem dX2_beginOne_156 : decode cX2_beginOne 156 = .ok (.invokevirtual 197, 3) := dk_182 0 197 (dk_at dksX2_beginOne_6 15 rfl rfl)
theorem dX2_beginOne_159 : decode cX2_beginOne 159 = .ok (.ireturn, 1) := dk_172 (dk_at dksX2_beginOne_6 18 rfl rfl)
theorem dX2_beginOne_160 : decode cX2_beginOne 160 = .ok (.aload_n 0, 1) := dk_42 (dk_at dksX2_beginOne_6 19 rfl rfl)
theorem dX2_beginOne_161 : decode cX2_beginOne 161 = .ok (.bipush 113, 2) := dk_16 113 (dk_at dksX2_beginOne_6 20 rfl rfl)
theorem dX2_beginOne_163 : decode cX2_beginOne 163 = .ok (.bipush 117, 2) := dk_16 117 (dk_at dksX2_beginOne_6 22 rfl rfl)
theorem dX2_beginOne_165 : decode cX2_beginOne 165 = .ok (.bipush 105, 2) := dk_16 105 (dk_at dksX2_beginOne_7 0 rfl rfl)
theorem dX2_beginOne_167 : decode cX2_beginOne 167 = .ok (.bipush 118, 2) := dk_16 118 (dk_at dksX2_beginOne_7 2 rfl rfl)
theorem dX2_beginOne_169 : decode cX2_beginOne 169 = .ok (.bipush 101, 2) := dk_16 101 (dk_at dksX2_beginOne_7 4 rfl rfl)
theorem dX2_beginOne_171 : decode cX2_beginOne 171 = .ok (.bipush 114, 2) := dk_16 114 (dk_at dksX2_beginOne_7 6 rfl rfl)
theorem dX2_beginOne_173 : decode cX2_beginOne 173 = .ok (.invokestatic 155, 3) := dk_184 0 155 (dk_at dksX2_beginOne_7 8 rfl rfl)
theorem dX2_beginOne_176 : decode cX2_beginOne 176 = .ok (.invokevirtual 200, 3) := dk_182 0 200 (dk_at dksX2_beginOne_7 11 rfl rfl)
theorem dX2_beginOne_179 : decode cX2_beginOne 179 = .ok (.ifCond .eq 9, 3) := dk_153 0 9 (dk_at dksX2_beginOne_7 14 rfl rfl)
theorem dX2_beginOne_182 : decode cX2_beginOne 182 = .ok (.aload_n 0, 1) := dk_42 (dk_at dksX2_beginOne_7 17 rfl rfl)
theorem dX2_beginOne_183 : decode cX2_beginOne 183 = .ok (.iconst 4, 1) := dk_7 (dk_at dksX2_beginOne_7 18 rfl rfl)
theorem dX2_beginOne_184 : decode cX2_beginOne 184 = .ok (.invokevirtual 197, 3) := dk_182 0 197 (dk_at dksX2_beginOne_7 19 rfl rfl)
theorem dX2_beginOne_187 : decode cX2_beginOne 187 = .ok (.ireturn, 1) := dk_172 (dk_at dksX2_beginOne_7 22 rfl rfl)
theorem dX2_beginOne_188 : decode cX2_beginOne 188 = .ok (.aload_n 0, 1) := dk_42 (dk_at dksX2_beginOne_7 23 rfl rfl)
theorem dX2_beginOne_189 : decode cX2_beginOne 189 = .ok (.bipush 105, 2) := dk_16 105 (dk_at dksX2_beginOne_8 0 rfl rfl)
theorem dX2_beginOne_191 : decode cX2_beginOne 191 = .ok (.bipush 102, 2) := dk_16 102 (dk_at dksX2_beginOne_8 2 rfl rfl)
theorem dX2_beginOne_193 : decode cX2_beginOne 193 = .ok (.invokestatic 133, 3) := dk_184 0 133 (dk_at dksX2_beginOne_8 4 rfl rfl)
theorem dX2_beginOne_196 : decode cX2_beginOne 196 = .ok (.invokevirtual 200, 3) := dk_182 0 200 (dk_at dksX2_beginOne_8 7 rfl rfl)
theorem dX2_beginOne_199 : decode cX2_beginOne 199 = .ok (.ifCond .eq 10, 3) := dk_153 0 10 (dk_at dksX2_beginOne_8 10 rfl rfl)
theorem dX2_beginOne_202 : decode cX2_beginOne 202 = .ok (.aload_n 0, 1) := dk_42 (dk_at dksX2_beginOne_8 13 rfl rfl)
theorem dX2_beginOne_203 : decode cX2_beginOne 203 = .ok (.bipush 41, 2) := dk_16 41 (dk_at dksX2_beginOne_8 14 rfl rfl)
theorem dX2_beginOne_205 : decode cX2_beginOne 205 = .ok (.invokevirtual 197, 3) := dk_182 0 197 (dk_at dksX2_beginOne_8 16 rfl rfl)
theorem dX2_beginOne_208 : decode cX2_beginOne 208 = .ok (.ireturn, 1) := dk_172 (dk_at dksX2_beginOne_8 19 rfl rfl)
theorem dX2_beginOne_209 : decode cX2_beginOne 209 = .ok (.aload_n 0, 1) := dk_42 (dk_at dksX2_beginOne_8 20 rfl rfl)
theorem dX2_beginOne_210 : decode cX2_beginOne 210 = .ok (.bipush 110, 2) := dk_16 110 (dk_at dksX2_beginOne_8 21 rfl rfl)
theorem dX2_beginOne_212 : decode cX2_beginOne 212 = .ok (.bipush 111, 2) := dk_16 111 (dk_at dksX2_beginOne_9 0 rfl rfl)
theorem dX2_beginOne_214 : decode cX2_beginOne 214 = .ok (.bipush 116, 2) := dk_16 116 (dk_at dksX2_beginOne_9 2 rfl rfl)
theorem dX2_beginOne_216 : decode cX2_beginOne 216 = .ok (.invokestatic 137, 3) := dk_184 0 137 (dk_at dksX2_beginOne_9 4 rfl rfl)
theorem dX2_beginOne_219 : decode cX2_beginOne 219 = .ok (.invokevirtual 200, 3) := dk_182 0 200 (dk_at dksX2_beginOne_9 7 rfl rfl)
theorem dX2_beginOne_222 : decode cX2_beginOne 222 = .ok (.ifCond .eq 19, 3) := dk_153 0 19 (dk_at dksX2_beginOne_9 10 rfl rfl)
theorem dX2_beginOne_225 : decode cX2_beginOne 225 = .ok (.aload_n 0, 1) := dk_42 (dk_at dksX2_beginOne_9 13 rfl rfl)
theorem dX2_beginOne_226 : decode cX2_beginOne 226 = .ok (.invokevirtual 204, 3) := dk_182 0 204 (dk_at dksX2_beginOne_9 14 rfl rfl)
theorem dX2_beginOne_229 : decode cX2_beginOne 229 = .ok (.ifCond .eq 12, 3) := dk_153 0 12 (dk_at dksX2_beginOne_9 17 rfl rfl)
theorem dX2_beginOne_232 : decode cX2_beginOne 232 = .ok (.aload_n 0, 1) := dk_42 (dk_at dksX2_beginOne_9 20 rfl rfl)
theorem dX2_beginOne_233 : decode cX2_beginOne 233 = .ok (.bipush 20, 2) := dk_16 20 (dk_at dksX2_beginOne_9 21 rfl rfl)
theorem dX2_beginOne_235 : decode cX2_beginOne 235 = .ok (.invokevirtual 197, 3) := dk_182 0 197 (dk_at dksX2_beginOne_10 0 rfl rfl)
theorem dX2_beginOne_238 : decode cX2_beginOne 238 = .ok (.goto 4, 3) := dk_167 0 4 (dk_at dksX2_beginOne_10 3 rfl rfl)
theorem dX2_beginOne_241 : decode cX2_beginOne 241 = .ok (.iconst 1, 1) := dk_4 (dk_at dksX2_beginOne_10 6 rfl rfl)
theorem dX2_beginOne_242 : decode cX2_beginOne 242 = .ok (.ireturn, 1) := dk_172 (dk_at dksX2_beginOne_10 7 rfl rfl)
abbrev cX2_nameOf : ByteArray := prog_20_method_31_code
def yX2_nameOf : MethodName := ⟨RX2, "nameOf", "()I"⟩
def dkwX2_nameOf_7 : List UInt8 := [184, 0, 145, 148, 154, 0, 8, 16, 6, 167, 0, 4, 2, 172]
abbrev dktX2_nameOf_7 : List UInt8 := dkwX2_nameOf_7 ++ []
def dkwX2_nameOf_6 : List UInt8 := [148, 154, 0, 7, 8, 167, 0, 30, 42, 180, 0, 124, 16, 108, 16, 111, 16, 111, 16, 115, 16, 101]
abbrev dktX2_nameOf_6 : List UInt8 := dkwX2_nameOf_6 ++ dktX2_nameOf_7
def dkwX2_nameOf_5 : List UInt8 := [154, 0, 5, 7, 172, 42, 180, 0, 124, 16, 98, 16, 101, 16, 115, 16, 105, 16, 100, 16, 101, 184, 0, 155]
abbrev dktX2_nameOf_5 : List UInt8 := dkwX2_nameOf_5 ++ dktX2_nameOf_6
def dkwX2_nameOf_4 : List UInt8 := [148, 154, 0, 5, 6, 172, 42, 180, 0, 124, 16, 115, 16, 101, 16, 97, 16, 116, 184, 0, 141, 148]
abbrev dktX2_nameOf_4 : List UInt8 := dkwX2_nameOf_4 ++ dktX2_nameOf_5
def dkwX2_nameOf_3 : List UInt8 := [184, 0, 155, 148, 154, 0, 5, 5, 172, 42, 180, 0, 124, 16, 107, 16, 101, 16, 112, 16, 116, 184, 0, 141]
abbrev dktX2_nameOf_3 : List UInt8 := dkwX2_nameOf_3 ++ dktX2_nameOf_4
def dkwX2_nameOf_2 : List UInt8 := [148, 154, 0, 5, 4, 172, 42, 180, 0, 124, 16, 116, 16, 101, 16, 109, 16, 112, 16, 101, 16, 114]
abbrev dktX2_nameOf_2 : List UInt8 := dkwX2_nameOf_2 ++ dktX2_nameOf_3
def dkwX2_nameOf_1 : List UInt8 := [16, 114, 184, 0, 155, 148, 154, 0, 5, 3, 172, 42, 180, 0, 124, 16, 119, 16, 104, 16, 111, 184, 0, 137]
abbrev dktX2_nameOf_1 : List UInt8 := dkwX2_nameOf_1 ++ dktX2_nameOf_2
def dkwX2_nameOf_0 : List UInt8 := [42, 180, 0, 111, 5, 159, 0, 5, 2, 172, 42, 180, 0, 124, 16, 100, 16, 105, 16, 110, 16, 110, 16, 101]
abbrev dktX2_nameOf_0 : List UInt8 := dkwX2_nameOf_0 ++ dktX2_nameOf_1
theorem dksX2_nameOf_0 : cX2_nameOf.data.toList.drop 0 = dktX2_nameOf_0 := by decide +kernel
theorem dksX2_nameOf_1 : cX2_nameOf.data.toList.drop 24 = dktX2_nameOf_1 := dk_seg dksX2_nameOf_0 24 rfl rfl
theorem dksX2_nameOf_2 : cX2_nameOf.data.toList.drop 48 = dktX2_nameOf_2 := dk_seg dksX2_nameOf_1 24 rfl rfl
theorem dksX2_nameOf_3 : cX2_nameOf.data.toList.drop 70 = dktX2_nameOf_3 := dk_seg dksX2_nameOf_2 22 rfl rfl
theorem dksX2_nameOf_4 : cX2_nameOf.data.toList.drop 94 = dktX2_nameOf_4 := dk_seg dksX2_nameOf_3 24 rfl rfl
theorem dksX2_nameOf_5 : cX2_nameOf.data.toList.drop 116 = dktX2_nameOf_5 := dk_seg dksX2_nameOf_4 22 rfl rfl
theorem dksX2_nameOf_6 : cX2_nameOf.data.toList.drop 140 = dktX2_nameOf_6 := dk_seg dksX2_nameOf_5 24 rfl rfl
theorem dksX2_nameOf_7 : cX2_nameOf.data.toList.drop 162 = dktX2_nameOf_7 := dk_seg dksX2_nameOf_6 22 rfl rfl
theorem dX2_nameOf_0 : decode cX2_nameOf 0 = .ok (.aload_n 0, 1) := dk_42 (dk_at dksX2_nameOf_0 0 rfl rfl)
theorem dX2_nameOf_1 : decode cX2_nameOf 1 = .ok (.getfield 111, 3) := dk_180 0 111 (dk_at dksX2_nameOf_0 1 rfl rfl)
theorem dX2_nameOf_4 : decode cX2_nameOf 4 = .ok (.iconst 2, 1) := dk_5 (dk_at dksX2_nameOf_0 4 rfl rfl)
theorem dX2_nameOf_5 : decode cX2_nameOf 5 = .ok (.if_icmp .eq 5, 3) := dk_159 0 5 (dk_at dksX2_nameOf_0 5 rfl rfl)
theorem dX2_nameOf_8 : decode cX2_nameOf 8 = .ok (.iconst (-1), 1) := dk_2 (dk_at dksX2_nameOf_0 8 rfl rfl)
theorem dX2_nameOf_9 : decode cX2_nameOf 9 = .ok (.ireturn, 1) := dk_172 (dk_at dksX2_nameOf_0 9 rfl rfl)
theorem dX2_nameOf_10 : decode cX2_nameOf 10 = .ok (.aload_n 0, 1) := dk_42 (dk_at dksX2_nameOf_0 10 rfl rfl)
theorem dX2_nameOf_11 : decode cX2_nameOf 11 = .ok (.getfield 124, 3) := dk_180 0 124 (dk_at dksX2_nameOf_0 11 rfl rfl)
theorem dX2_nameOf_14 : decode cX2_nameOf 14 = .ok (.bipush 100, 2) := dk_16 100 (dk_at dksX2_nameOf_0 14 rfl rfl)
theorem dX2_nameOf_16 : decode cX2_nameOf 16 = .ok (.bipush 105, 2) := dk_16 105 (dk_at dksX2_nameOf_0 16 rfl rfl)
theorem dX2_nameOf_18 : decode cX2_nameOf 18 = .ok (.bipush 110, 2) := dk_16 110 (dk_at dksX2_nameOf_0 18 rfl rfl)
theorem dX2_nameOf_20 : decode cX2_nameOf 20 = .ok (.bipush 110, 2) := dk_16 110 (dk_at dksX2_nameOf_0 20 rfl rfl)
theorem dX2_nameOf_22 : decode cX2_nameOf 22 = .ok (.bipush 101, 2) := dk_16 101 (dk_at dksX2_nameOf_0 22 rfl rfl)
theorem dX2_nameOf_24 : decode cX2_nameOf 24 = .ok (.bipush 114, 2) := dk_16 114 (dk_at dksX2_nameOf_1 0 rfl rfl)
theorem dX2_nameOf_26 : decode cX2_nameOf 26 = .ok (.invokestatic 155, 3) := dk_184 0 155 (dk_at dksX2_nameOf_1 2 rfl rfl)
theorem dX2_nameOf_29 : decode cX2_nameOf 29 = .ok (.lcmp, 1) := dk_148 (dk_at dksX2_nameOf_1 5 rfl rfl)
theorem dX2_nameOf_30 : decode cX2_nameOf 30 = .ok (.ifCond .ne 5, 3) := dk_154 0 5 (dk_at dksX2_nameOf_1 6 rfl rfl)
theorem dX2_nameOf_33 : decode cX2_nameOf 33 = .ok (.iconst 0, 1) := dk_3 (dk_at dksX2_nameOf_1 9 rfl rfl)
theorem dX2_nameOf_34 : decode cX2_nameOf 34 = .ok (.ireturn, 1) := dk_172 (dk_at dksX2_nameOf_1 10 rfl rfl)
theorem dX2_nameOf_35 : decode cX2_nameOf 35 = .ok (.aload_n 0, 1) := dk_42 (dk_at dksX2_nameOf_1 11 rfl rfl)
theorem dX2_nameOf_36 : decode cX2_nameOf 36 = .ok (.getfield 124, 3) := dk_180 0 124 (dk_at dksX2_nameOf_1 12 rfl rfl)
theorem dX2_nameOf_39 : decode cX2_nameOf 39 = .ok (.bipush 119, 2) := dk_16 119 (dk_at dksX2_nameOf_1 15 rfl rfl)
theorem dX2_nameOf_41 : decode cX2_nameOf 41 = .ok (.bipush 104, 2) := dk_16 104 (dk_at dksX2_nameOf_1 17 rfl rfl)
theorem dX2_nameOf_43 : decode cX2_nameOf 43 = .ok (.bipush 111, 2) := dk_16 111 (dk_at dksX2_nameOf_1 19 rfl rfl)
theorem dX2_nameOf_45 : decode cX2_nameOf 45 = .ok (.invokestatic 137, 3) := dk_184 0 137 (dk_at dksX2_nameOf_1 21 rfl rfl)
theorem dX2_nameOf_48 : decode cX2_nameOf 48 = .ok (.lcmp, 1) := dk_148 (dk_at dksX2_nameOf_2 0 rfl rfl)
theorem dX2_nameOf_49 : decode cX2_nameOf 49 = .ok (.ifCond .ne 5, 3) := dk_154 0 5 (dk_at dksX2_nameOf_2 1 rfl rfl)
theorem dX2_nameOf_52 : decode cX2_nameOf 52 = .ok (.iconst 1, 1) := dk_4 (dk_at dksX2_nameOf_2 4 rfl rfl)
theorem dX2_nameOf_53 : decode cX2_nameOf 53 = .ok (.ireturn, 1) := dk_172 (dk_at dksX2_nameOf_2 5 rfl rfl)
theorem dX2_nameOf_54 : decode cX2_nameOf 54 = .ok (.aload_n 0, 1) := dk_42 (dk_at dksX2_nameOf_2 6 rfl rfl)
theorem dX2_nameOf_55 : decode cX2_nameOf 55 = .ok (.getfield 124, 3) := dk_180 0 124 (dk_at dksX2_nameOf_2 7 rfl rfl)
theorem dX2_nameOf_58 : decode cX2_nameOf 58 = .ok (.bipush 116, 2) := dk_16 116 (dk_at dksX2_nameOf_2 10 rfl rfl)
theorem dX2_nameOf_60 : decode cX2_nameOf 60 = .ok (.bipush 101, 2) := dk_16 101 (dk_at dksX2_nameOf_2 12 rfl rfl)
theorem dX2_nameOf_62 : decode cX2_nameOf 62 = .ok (.bipush 109, 2) := dk_16 109 (dk_at dksX2_nameOf_2 14 rfl rfl)
theorem dX2_nameOf_64 : decode cX2_nameOf 64 = .ok (.bipush 112, 2) := dk_16 112 (dk_at dksX2_nameOf_2 16 rfl rfl)
theorem dX2_nameOf_66 : decode cX2_nameOf 66 = .ok (.bipush 101, 2) := dk_16 101 (dk_at dksX2_nameOf_2 18 rfl rfl)
theorem dX2_nameOf_68 : decode cX2_nameOf 68 = .ok (.bipush 114, 2) := dk_16 114 (dk_at dksX2_nameOf_2 20 rfl rfl)
theorem dX2_nameOf_70 : decode cX2_nameOf 70 = .ok (.invokestatic 155, 3) := dk_184 0 155 (dk_at dksX2_nameOf_3 0 rfl rfl)
theorem dX2_nameOf_73 : decode cX2_nameOf 73 = .ok (.lcmp, 1) := dk_148 (dk_at dksX2_nameOf_3 3 rfl rfl)
theorem dX2_nameOf_74 : decode cX2_nameOf 74 = .ok (.ifCond .ne 5, 3) := dk_154 0 5 (dk_at dksX2_nameOf_3 4 rfl rfl)
theorem dX2_nameOf_77 : decode cX2_nameOf 77 = .ok (.iconst 2, 1) := dk_5 (dk_at dksX2_nameOf_3 7 rfl rfl)
theorem dX2_nameOf_78 : decode cX2_nameOf 78 = .ok (.ireturn, 1) := dk_172 (dk_at dksX2_nameOf_3 8 rfl rfl)
theorem dX2_nameOf_79 : decode cX2_nameOf 79 = .ok (.aload_n 0, 1) := dk_42 (dk_at dksX2_nameOf_3 9 rfl rfl)
theorem dX2_nameOf_80 : decode cX2_nameOf 80 = .ok (.getfield 124, 3) := dk_180 0 124 (dk_at dksX2_nameOf_3 10 rfl rfl)
theorem dX2_nameOf_83 : decode cX2_nameOf 83 = .ok (.bipush 107, 2) := dk_16 107 (dk_at dksX2_nameOf_3 13 rfl rfl)
theorem dX2_nameOf_85 : decode cX2_nameOf 85 = .ok (.bipush 101, 2) := dk_16 101 (dk_at dksX2_nameOf_3 15 rfl rfl)
theorem dX2_nameOf_87 : decode cX2_nameOf 87 = .ok (.bipush 112, 2) := dk_16 112 (dk_at dksX2_nameOf_3 17 rfl rfl)
theorem dX2_nameOf_89 : decode cX2_nameOf 89 = .ok (.bipush 116, 2) := dk_16 116 (dk_at dksX2_nameOf_3 19 rfl rfl)
theorem dX2_nameOf_91 : decode cX2_nameOf 91 = .ok (.invokestatic 141, 3) := dk_184 0 141 (dk_at dksX2_nameOf_3 21 rfl rfl)
theorem dX2_nameOf_94 : decode cX2_nameOf 94 = .ok (.lcmp, 1) := dk_148 (dk_at dksX2_nameOf_4 0 rfl rfl)
theorem dX2_nameOf_95 : decode cX2_nameOf 95 = .ok (.ifCond .ne 5, 3) := dk_154 0 5 (dk_at dksX2_nameOf_4 1 rfl rfl)
theorem dX2_nameOf_98 : decode cX2_nameOf 98 = .ok (.iconst 3, 1) := dk_6 (dk_at dksX2_nameOf_4 4 rfl rfl)
theorem dX2_nameOf_99 : decode cX2_nameOf 99 = .ok (.ireturn, 1) := dk_172 (dk_at dksX2_nameOf_4 5 rfl rfl)
theorem dX2_nameOf_100 : decode cX2_nameOf 100 = .ok (.aload_n 0, 1) := dk_42 (dk_at dksX2_nameOf_4 6 rfl rfl)
theorem dX2_nameOf_101 : decode cX2_nameOf 101 = .ok (.getfield 124, 3) := dk_180 0 124 (dk_at dksX2_nameOf_4 7 rfl rfl)
theorem dX2_nameOf_104 : decode cX2_nameOf 104 = .ok (.bipush 115, 2) := dk_16 115 (dk_at dksX2_nameOf_4 10 rfl rfl)
theorem dX2_nameOf_106 : decode cX2_nameOf 106 = .ok (.bipush 101, 2) := dk_16 101 (dk_at dksX2_nameOf_4 12 rfl rfl)
theorem dX2_nameOf_108 : decode cX2_nameOf 108 = .ok (.bipush 97, 2) := dk_16 97 (dk_at dksX2_nameOf_4 14 rfl rfl)
theorem dX2_nameOf_110 : decode cX2_nameOf 110 = .ok (.bipush 116, 2) := dk_16 116 (dk_at dksX2_nameOf_4 16 rfl rfl)
theorem dX2_nameOf_112 : decode cX2_nameOf 112 = .ok (.invokestatic 141, 3) := dk_184 0 141 (dk_at dksX2_nameOf_4 18 rfl rfl)
theorem dX2_nameOf_115 : decode cX2_nameOf 115 = .ok (.lcmp, 1) := dk_148 (dk_at dksX2_nameOf_4 21 rfl rfl)
theorem dX2_nameOf_116 : decode cX2_nameOf 116 = .ok (.ifCond .ne 5, 3) := dk_154 0 5 (dk_at dksX2_nameOf_5 0 rfl rfl)
theorem dX2_nameOf_119 : decode cX2_nameOf 119 = .ok (.iconst 4, 1) := dk_7 (dk_at dksX2_nameOf_5 3 rfl rfl)
theorem dX2_nameOf_120 : decode cX2_nameOf 120 = .ok (.ireturn, 1) := dk_172 (dk_at dksX2_nameOf_5 4 rfl rfl)
theorem dX2_nameOf_121 : decode cX2_nameOf 121 = .ok (.aload_n 0, 1) := dk_42 (dk_at dksX2_nameOf_5 5 rfl rfl)
theorem dX2_nameOf_122 : decode cX2_nameOf 122 = .ok (.getfield 124, 3) := dk_180 0 124 (dk_at dksX2_nameOf_5 6 rfl rfl)
theorem dX2_nameOf_125 : decode cX2_nameOf 125 = .ok (.bipush 98, 2) := dk_16 98 (dk_at dksX2_nameOf_5 9 rfl rfl)
theorem dX2_nameOf_127 : decode cX2_nameOf 127 = .ok (.bipush 101, 2) := dk_16 101 (dk_at dksX2_nameOf_5 11 rfl rfl)
theorem dX2_nameOf_129 : decode cX2_nameOf 129 = .ok (.bipush 115, 2) := dk_16 115 (dk_at dksX2_nameOf_5 13 rfl rfl)
theorem dX2_nameOf_131 : decode cX2_nameOf 131 = .ok (.bipush 105, 2) := dk_16 105 (dk_at dksX2_nameOf_5 15 rfl rfl)
theorem dX2_nameOf_133 : decode cX2_nameOf 133 = .ok (.bipush 100, 2) := dk_16 100 (dk_at dksX2_nameOf_5 17 rfl rfl)
theorem dX2_nameOf_135 : decode cX2_nameOf 135 = .ok (.bipush 101, 2) := dk_16 101 (dk_at dksX2_nameOf_5 19 rfl rfl)
theorem dX2_nameOf_137 : decode cX2_nameOf 137 = .ok (.invokestatic 155, 3) := dk_184 0 155 (dk_at dksX2_nameOf_5 21 rfl rfl)
theorem dX2_nameOf_140 : decode cX2_nameOf 140 = .ok (.lcmp, 1) := dk_148 (dk_at dksX2_nameOf_6 0 rfl rfl)
theorem dX2_nameOf_141 : decode cX2_nameOf 141 = .ok (.ifCond .ne 7, 3) := dk_154 0 7 (dk_at dksX2_nameOf_6 1 rfl rfl)
theorem dX2_nameOf_144 : decode cX2_nameOf 144 = .ok (.iconst 5, 1) := dk_8 (dk_at dksX2_nameOf_6 4 rfl rfl)
theorem dX2_nameOf_145 : decode cX2_nameOf 145 = .ok (.goto 30, 3) := dk_167 0 30 (dk_at dksX2_nameOf_6 5 rfl rfl)
theorem dX2_nameOf_148 : decode cX2_nameOf 148 = .ok (.aload_n 0, 1) := dk_42 (dk_at dksX2_nameOf_6 8 rfl rfl)
theorem dX2_nameOf_149 : decode cX2_nameOf 149 = .ok (.getfield 124, 3) := dk_180 0 124 (dk_at dksX2_nameOf_6 9 rfl rfl)
theorem dX2_nameOf_152 : decode cX2_nameOf 152 = .ok (.bipush 108, 2) := dk_16 108 (dk_at dksX2_nameOf_6 12 rfl rfl)
theorem dX2_nameOf_154 : decode cX2_nameOf 154 = .ok (.bipush 111, 2) := dk_16 111 (dk_at dksX2_nameOf_6 14 rfl rfl)
theorem dX2_nameOf_156 : decode cX2_nameOf 156 = .ok (.bipush 111, 2) := dk_16 111 (dk_at dksX2_nameOf_6 16 rfl rfl)
theorem dX2_nameOf_158 : decode cX2_nameOf 158 = .ok (.bipush 115, 2) := dk_16 115 (dk_at dksX2_nameOf_6 18 rfl rfl)
theorem dX2_nameOf_160 : decode cX2_nameOf 160 = .ok (.bipush 101, 2) := dk_16 101 (dk_at dksX2_nameOf_6 20 rfl rfl)
theorem dX2_nameOf_162 : decode cX2_nameOf 162 = .ok (.invokestatic 145, 3) := dk_184 0 145 (dk_at dksX2_nameOf_7 0 rfl rfl)
theorem dX2_nameOf_165 : decode cX2_nameOf 165 = .ok (.lcmp, 1) := dk_148 (dk_at dksX2_nameOf_7 3 rfl rfl)
theorem dX2_nameOf_166 : decode cX2_nameOf 166 = .ok (.ifCond .ne 8, 3) := dk_154 0 8 (dk_at dksX2_nameOf_7 4 rfl rfl)
theorem dX2_nameOf_169 : decode cX2_nameOf 169 = .ok (.bipush 6, 2) := dk_16 6 (dk_at dksX2_nameOf_7 7 rfl rfl)
theorem dX2_nameOf_171 : decode cX2_nameOf 171 = .ok (.goto 4, 3) := dk_167 0 4 (dk_at dksX2_nameOf_7 9 rfl rfl)
theorem dX2_nameOf_174 : decode cX2_nameOf 174 = .ok (.iconst (-1), 1) := dk_2 (dk_at dksX2_nameOf_7 12 rfl rfl)
theorem dX2_nameOf_175 : decode cX2_nameOf 175 = .ok (.ireturn, 1) := dk_172 (dk_at dksX2_nameOf_7 13 rfl rfl)
abbrev cX2_isOf : ByteArray := prog_20_method_32_code
def yX2_isOf : MethodName := ⟨RX2, "isOf", "(I)Z"⟩
def dkwX2_isOf_1 : List UInt8 := [4, 160, 0, 7, 4, 167, 0, 4, 3, 172]
abbrev dktX2_isOf_1 : List UInt8 := dkwX2_isOf_1 ++ []
def dkwX2_isOf_0 : List UInt8 := [27, 8, 161, 0, 26, 27, 8, 160, 0, 13, 42, 180, 0, 159, 154, 0, 18, 167, 0, 11, 42, 180, 0, 159]
abbrev dktX2_isOf_0 : List UInt8 := dkwX2_isOf_0 ++ dktX2_isOf_1
theorem dksX2_isOf_0 : cX2_isOf.data.toList.drop 0 = dktX2_isOf_0 := by decide +kernel
theorem dksX2_isOf_1 : cX2_isOf.data.toList.drop 24 = dktX2_isOf_1 := dk_seg dksX2_isOf_0 24 rfl rfl
theorem dX2_isOf_0 : decode cX2_isOf 0 = .ok (.iload_n 1, 1) := dk_27 (dk_at dksX2_isOf_0 0 rfl rfl)
theorem dX2_isOf_1 : decode cX2_isOf 1 = .ok (.iconst 5, 1) := dk_8 (dk_at dksX2_isOf_0 1 rfl rfl)
theorem dX2_isOf_2 : decode cX2_isOf 2 = .ok (.if_icmp .lt 26, 3) := dk_161 0 26 (dk_at dksX2_isOf_0 2 rfl rfl)
theorem dX2_isOf_5 : decode cX2_isOf 5 = .ok (.iload_n 1, 1) := dk_27 (dk_at dksX2_isOf_0 5 rfl rfl)
theorem dX2_isOf_6 : decode cX2_isOf 6 = .ok (.iconst 5, 1) := dk_8 (dk_at dksX2_isOf_0 6 rfl rfl)
theorem dX2_isOf_7 : decode cX2_isOf 7 = .ok (.if_icmp .ne 13, 3) := dk_160 0 13 (dk_at dksX2_isOf_0 7 rfl rfl)
theorem dX2_isOf_10 : decode cX2_isOf 10 = .ok (.aload_n 0, 1) := dk_42 (dk_at dksX2_isOf_0 10 rfl rfl)
theorem dX2_isOf_11 : decode cX2_isOf 11 = .ok (.getfield 159, 3) := dk_180 0 159 (dk_at dksX2_isOf_0 11 rfl rfl)
theorem dX2_isOf_14 : decode cX2_isOf 14 = .ok (.ifCond .ne 18, 3) := dk_154 0 18 (dk_at dksX2_isOf_0 14 rfl rfl)
theorem dX2_isOf_17 : decode cX2_isOf 17 = .ok (.goto 11, 3) := dk_167 0 11 (dk_at dksX2_isOf_0 17 rfl rfl)
theorem dX2_isOf_20 : decode cX2_isOf 20 = .ok (.aload_n 0, 1) := dk_42 (dk_at dksX2_isOf_0 20 rfl rfl)
theorem dX2_isOf_21 : decode cX2_isOf 21 = .ok (.getfield 159, 3) := dk_180 0 159 (dk_at dksX2_isOf_0 21 rfl rfl)
theorem dX2_isOf_24 : decode cX2_isOf 24 = .ok (.iconst 1, 1) := dk_4 (dk_at dksX2_isOf_1 0 rfl rfl)
theorem dX2_isOf_25 : decode cX2_isOf 25 = .ok (.if_icmp .ne 7, 3) := dk_160 0 7 (dk_at dksX2_isOf_1 1 rfl rfl)
theorem dX2_isOf_28 : decode cX2_isOf 28 = .ok (.iconst 1, 1) := dk_4 (dk_at dksX2_isOf_1 4 rfl rfl)
theorem dX2_isOf_29 : decode cX2_isOf 29 = .ok (.goto 4, 3) := dk_167 0 4 (dk_at dksX2_isOf_1 5 rfl rfl)
theorem dX2_isOf_32 : decode cX2_isOf 32 = .ok (.iconst 0, 1) := dk_3 (dk_at dksX2_isOf_1 8 rfl rfl)
theorem dX2_isOf_33 : decode cX2_isOf 33 = .ok (.ireturn, 1) := dk_172 (dk_at dksX2_isOf_1 9 rfl rfl)
abbrev cX2_opened : ByteArray := prog_20_method_39_code
def yX2_opened : MethodName := ⟨RX2, "opened", "(I)I"⟩
def dkwX2_opened_2 : List UInt8 := [172]
abbrev dktX2_opened_2 : List UInt8 := dkwX2_opened_2 ++ []
def dkwX2_opened_1 : List UInt8 := [180, 0, 29, 42, 180, 0, 162, 27, 79, 42, 89, 180, 0, 162, 4, 96, 181, 0, 162, 42, 182, 0, 182, 3]
abbrev dktX2_opened_1 : List UInt8 := dkwX2_opened_1 ++ dktX2_opened_2
def dkwX2_opened_0 : List UInt8 := [42, 180, 0, 172, 16, 8, 160, 0, 5, 6, 172, 42, 89, 180, 0, 172, 4, 96, 181, 0, 172, 42]
abbrev dktX2_opened_0 : List UInt8 := dkwX2_opened_0 ++ dktX2_opened_1
theorem dksX2_opened_0 : cX2_opened.data.toList.drop 0 = dktX2_opened_0 := by decide +kernel
theorem dksX2_opened_1 : cX2_opened.data.toList.drop 22 = dktX2_opened_1 := dk_seg dksX2_opened_0 22 rfl rfl
theorem dksX2_opened_2 : cX2_opened.data.toList.drop 46 = dktX2_opened_2 := dk_seg dksX2_opened_1 24 rfl rfl
theorem dX2_opened_0 : decode cX2_opened 0 = .ok (.aload_n 0, 1) := dk_42 (dk_at dksX2_opened_0 0 rfl rfl)
theorem dX2_opened_1 : decode cX2_opened 1 = .ok (.getfield 172, 3) := dk_180 0 172 (dk_at dksX2_opened_0 1 rfl rfl)
theorem dX2_opened_4 : decode cX2_opened 4 = .ok (.bipush 8, 2) := dk_16 8 (dk_at dksX2_opened_0 4 rfl rfl)
theorem dX2_opened_6 : decode cX2_opened 6 = .ok (.if_icmp .ne 5, 3) := dk_160 0 5 (dk_at dksX2_opened_0 6 rfl rfl)
theorem dX2_opened_9 : decode cX2_opened 9 = .ok (.iconst 3, 1) := dk_6 (dk_at dksX2_opened_0 9 rfl rfl)
theorem dX2_opened_10 : decode cX2_opened 10 = .ok (.ireturn, 1) := dk_172 (dk_at dksX2_opened_0 10 rfl rfl)
theorem dX2_opened_11 : decode cX2_opened 11 = .ok (.aload_n 0, 1) := dk_42 (dk_at dksX2_opened_0 11 rfl rfl)
theorem dX2_opened_12 : decode cX2_opened 12 = .ok (.dup, 1) := dk_89 (dk_at dksX2_opened_0 12 rfl rfl)
theorem dX2_opened_13 : decode cX2_opened 13 = .ok (.getfield 172, 3) := dk_180 0 172 (dk_at dksX2_opened_0 13 rfl rfl)
theorem dX2_opened_16 : decode cX2_opened 16 = .ok (.iconst 1, 1) := dk_4 (dk_at dksX2_opened_0 16 rfl rfl)
theorem dX2_opened_17 : decode cX2_opened 17 = .ok (.iadd, 1) := dk_96 (dk_at dksX2_opened_0 17 rfl rfl)
theorem dX2_opened_18 : decode cX2_opened 18 = .ok (.putfield 172, 3) := dk_181 0 172 (dk_at dksX2_opened_0 18 rfl rfl)
theorem dX2_opened_21 : decode cX2_opened 21 = .ok (.aload_n 0, 1) := dk_42 (dk_at dksX2_opened_0 21 rfl rfl)
theorem dX2_opened_22 : decode cX2_opened 22 = .ok (.getfield 29, 3) := dk_180 0 29 (dk_at dksX2_opened_1 0 rfl rfl)
theorem dX2_opened_25 : decode cX2_opened 25 = .ok (.aload_n 0, 1) := dk_42 (dk_at dksX2_opened_1 3 rfl rfl)
theorem dX2_opened_26 : decode cX2_opened 26 = .ok (.getfield 162, 3) := dk_180 0 162 (dk_at dksX2_opened_1 4 rfl rfl)
theorem dX2_opened_29 : decode cX2_opened 29 = .ok (.iload_n 1, 1) := dk_27 (dk_at dksX2_opened_1 7 rfl rfl)
theorem dX2_opened_30 : decode cX2_opened 30 = .ok (.iastore, 1) := dk_79 (dk_at dksX2_opened_1 8 rfl rfl)
theorem dX2_opened_31 : decode cX2_opened 31 = .ok (.aload_n 0, 1) := dk_42 (dk_at dksX2_opened_1 9 rfl rfl)
theorem dX2_opened_32 : decode cX2_opened 32 = .ok (.dup, 1) := dk_89 (dk_at dksX2_opened_1 10 rfl rfl)
theorem dX2_opened_33 : decode cX2_opened 33 = .ok (.getfield 162, 3) := dk_180 0 162 (dk_at dksX2_opened_1 11 rfl rfl)
theorem dX2_opened_36 : decode cX2_opened 36 = .ok (.iconst 1, 1) := dk_4 (dk_at dksX2_opened_1 14 rfl rfl)
theorem dX2_opened_37 : decode cX2_opened 37 = .ok (.iadd, 1) := dk_96 (dk_at dksX2_opened_1 15 rfl rfl)
theorem dX2_opened_38 : decode cX2_opened 38 = .ok (.putfield 162, 3) := dk_181 0 162 (dk_at dksX2_opened_1 16 rfl rfl)
theorem dX2_opened_41 : decode cX2_opened 41 = .ok (.aload_n 0, 1) := dk_42 (dk_at dksX2_opened_1 19 rfl rfl)
theorem dX2_opened_42 : decode cX2_opened 42 = .ok (.invokevirtual 182, 3) := dk_182 0 182 (dk_at dksX2_opened_1 20 rfl rfl)
theorem dX2_opened_45 : decode cX2_opened 45 = .ok (.iconst 0, 1) := dk_3 (dk_at dksX2_opened_1 23 rfl rfl)
theorem dX2_opened_46 : decode cX2_opened 46 = .ok (.ireturn, 1) := dk_172 (dk_at dksX2_opened_2 0 rfl rfl)
abbrev cX2_isAskAhead : ByteArray := prog_20_method_38_code
def yX2_isAskAhead : MethodName := ⟨RX2, "isAskAhead", "()Z"⟩
def dkwX2_isAskAhead_2 : List UInt8 := [153, 0, 7, 4, 167, 0, 4, 3, 172]
abbrev dktX2_isAskAhead_2 : List UInt8 := dkwX2_isAskAhead_2 ++ []
def dkwX2_isAskAhead_1 : List UInt8 := [162, 0, 25, 42, 180, 0, 29, 42, 180, 0, 162, 4, 100, 46, 184, 0, 165, 4, 6, 184, 0, 72]
abbrev dktX2_isAskAhead_1 : List UInt8 := dkwX2_isAskAhead_1 ++ dktX2_isAskAhead_2
def dkwX2_isAskAhead_0 : List UInt8 := [42, 182, 0, 179, 16, 41, 160, 0, 45, 42, 180, 0, 29, 42, 180, 0, 162, 4, 100, 46, 16, 40]
abbrev dktX2_isAskAhead_0 : List UInt8 := dkwX2_isAskAhead_0 ++ dktX2_isAskAhead_1
theorem dksX2_isAskAhead_0 : cX2_isAskAhead.data.toList.drop 0 = dktX2_isAskAhead_0 := by decide +kernel
theorem dksX2_isAskAhead_1 : cX2_isAskAhead.data.toList.drop 22 = dktX2_isAskAhead_1 := dk_seg dksX2_isAskAhead_0 22 rfl rfl
theorem dksX2_isAskAhead_2 : cX2_isAskAhead.data.toList.drop 44 = dktX2_isAskAhead_2 := dk_seg dksX2_isAskAhead_1 22 rfl rfl
theorem dX2_isAskAhead_0 : decode cX2_isAskAhead 0 = .ok (.aload_n 0, 1) := dk_42 (dk_at dksX2_isAskAhead_0 0 rfl rfl)
theorem dX2_isAskAhead_1 : decode cX2_isAskAhead 1 = .ok (.invokevirtual 179, 3) := dk_182 0 179 (dk_at dksX2_isAskAhead_0 1 rfl rfl)
theorem dX2_isAskAhead_4 : decode cX2_isAskAhead 4 = .ok (.bipush 41, 2) := dk_16 41 (dk_at dksX2_isAskAhead_0 4 rfl rfl)
theorem dX2_isAskAhead_6 : decode cX2_isAskAhead 6 = .ok (.if_icmp .ne 45, 3) := dk_160 0 45 (dk_at dksX2_isAskAhead_0 6 rfl rfl)
theorem dX2_isAskAhead_9 : decode cX2_isAskAhead 9 = .ok (.aload_n 0, 1) := dk_42 (dk_at dksX2_isAskAhead_0 9 rfl rfl)
theorem dX2_isAskAhead_10 : decode cX2_isAskAhead 10 = .ok (.getfield 29, 3) := dk_180 0 29 (dk_at dksX2_isAskAhead_0 10 rfl rfl)
theorem dX2_isAskAhead_13 : decode cX2_isAskAhead 13 = .ok (.aload_n 0, 1) := dk_42 (dk_at dksX2_isAskAhead_0 13 rfl rfl)
theorem dX2_isAskAhead_14 : decode cX2_isAskAhead 14 = .ok (.getfield 162, 3) := dk_180 0 162 (dk_at dksX2_isAskAhead_0 14 rfl rfl)
theorem dX2_isAskAhead_17 : decode cX2_isAskAhead 17 = .ok (.iconst 1, 1) := dk_4 (dk_at dksX2_isAskAhead_0 17 rfl rfl)
theorem dX2_isAskAhead_18 : decode cX2_isAskAhead 18 = .ok (.isub, 1) := dk_100 (dk_at dksX2_isAskAhead_0 18 rfl rfl)
theorem dX2_isAskAhead_19 : decode cX2_isAskAhead 19 = .ok (.iaload, 1) := dk_46 (dk_at dksX2_isAskAhead_0 19 rfl rfl)
theorem dX2_isAskAhead_20 : decode cX2_isAskAhead 20 = .ok (.bipush 40, 2) := dk_16 40 (dk_at dksX2_isAskAhead_0 20 rfl rfl)
theorem dX2_isAskAhead_22 : decode cX2_isAskAhead 22 = .ok (.if_icmp .ge 25, 3) := dk_162 0 25 (dk_at dksX2_isAskAhead_1 0 rfl rfl)
theorem dX2_isAskAhead_25 : decode cX2_isAskAhead 25 = .ok (.aload_n 0, 1) := dk_42 (dk_at dksX2_isAskAhead_1 3 rfl rfl)
theorem dX2_isAskAhead_26 : decode cX2_isAskAhead 26 = .ok (.getfield 29, 3) := dk_180 0 29 (dk_at dksX2_isAskAhead_1 4 rfl rfl)
theorem dX2_isAskAhead_29 : decode cX2_isAskAhead 29 = .ok (.aload_n 0, 1) := dk_42 (dk_at dksX2_isAskAhead_1 7 rfl rfl)
theorem dX2_isAskAhead_30 : decode cX2_isAskAhead 30 = .ok (.getfield 162, 3) := dk_180 0 162 (dk_at dksX2_isAskAhead_1 8 rfl rfl)
theorem dX2_isAskAhead_33 : decode cX2_isAskAhead 33 = .ok (.iconst 1, 1) := dk_4 (dk_at dksX2_isAskAhead_1 11 rfl rfl)
theorem dX2_isAskAhead_34 : decode cX2_isAskAhead 34 = .ok (.isub, 1) := dk_100 (dk_at dksX2_isAskAhead_1 12 rfl rfl)
theorem dX2_isAskAhead_35 : decode cX2_isAskAhead 35 = .ok (.iaload, 1) := dk_46 (dk_at dksX2_isAskAhead_1 13 rfl rfl)
theorem dX2_isAskAhead_36 : decode cX2_isAskAhead 36 = .ok (.invokestatic 165, 3) := dk_184 0 165 (dk_at dksX2_isAskAhead_1 14 rfl rfl)
theorem dX2_isAskAhead_39 : decode cX2_isAskAhead 39 = .ok (.iconst 1, 1) := dk_4 (dk_at dksX2_isAskAhead_1 17 rfl rfl)
theorem dX2_isAskAhead_40 : decode cX2_isAskAhead 40 = .ok (.iconst 3, 1) := dk_6 (dk_at dksX2_isAskAhead_1 18 rfl rfl)
theorem dX2_isAskAhead_41 : decode cX2_isAskAhead 41 = .ok (.invokestatic 72, 3) := dk_184 0 72 (dk_at dksX2_isAskAhead_1 19 rfl rfl)
theorem dX2_isAskAhead_44 : decode cX2_isAskAhead 44 = .ok (.ifCond .eq 7, 3) := dk_153 0 7 (dk_at dksX2_isAskAhead_2 0 rfl rfl)
theorem dX2_isAskAhead_47 : decode cX2_isAskAhead 47 = .ok (.iconst 1, 1) := dk_4 (dk_at dksX2_isAskAhead_2 3 rfl rfl)
theorem dX2_isAskAhead_48 : decode cX2_isAskAhead 48 = .ok (.goto 4, 3) := dk_167 0 4 (dk_at dksX2_isAskAhead_2 4 rfl rfl)
theorem dX2_isAskAhead_51 : decode cX2_isAskAhead 51 = .ok (.iconst 0, 1) := dk_3 (dk_at dksX2_isAskAhead_2 7 rfl rfl)
theorem dX2_isAskAhead_52 : decode cX2_isAskAhead 52 = .ok (.ireturn, 1) := dk_172 (dk_at dksX2_isAskAhead_2 8 rfl rfl)
abbrev cX2_fault : ByteArray := prog_20_method_54_code
def yX2_fault : MethodName := ⟨RX2, "fault", "(I)I"⟩
def dkwX2_fault_1 : List UInt8 := [172]
abbrev dktX2_fault_1 : List UInt8 := dkwX2_fault_1 ++ []
def dkwX2_fault_0 : List UInt8 := [27, 154, 0, 10, 42, 180, 0, 22, 167, 0, 16, 27, 4, 160, 0, 10, 42, 180, 0, 26, 167, 0, 4, 2]
abbrev dktX2_fault_0 : List UInt8 := dkwX2_fault_0 ++ dktX2_fault_1
theorem dksX2_fault_0 : cX2_fault.data.toList.drop 0 = dktX2_fault_0 := by decide +kernel
theorem dksX2_fault_1 : cX2_fault.data.toList.drop 24 = dktX2_fault_1 := dk_seg dksX2_fault_0 24 rfl rfl
theorem dX2_fault_0 : decode cX2_fault 0 = .ok (.iload_n 1, 1) := dk_27 (dk_at dksX2_fault_0 0 rfl rfl)
theorem dX2_fault_1 : decode cX2_fault 1 = .ok (.ifCond .ne 10, 3) := dk_154 0 10 (dk_at dksX2_fault_0 1 rfl rfl)
theorem dX2_fault_4 : decode cX2_fault 4 = .ok (.aload_n 0, 1) := dk_42 (dk_at dksX2_fault_0 4 rfl rfl)
theorem dX2_fault_5 : decode cX2_fault 5 = .ok (.getfield 22, 3) := dk_180 0 22 (dk_at dksX2_fault_0 5 rfl rfl)
theorem dX2_fault_8 : decode cX2_fault 8 = .ok (.goto 16, 3) := dk_167 0 16 (dk_at dksX2_fault_0 8 rfl rfl)
theorem dX2_fault_11 : decode cX2_fault 11 = .ok (.iload_n 1, 1) := dk_27 (dk_at dksX2_fault_0 11 rfl rfl)
theorem dX2_fault_12 : decode cX2_fault 12 = .ok (.iconst 1, 1) := dk_4 (dk_at dksX2_fault_0 12 rfl rfl)
theorem dX2_fault_13 : decode cX2_fault 13 = .ok (.if_icmp .ne 10, 3) := dk_160 0 10 (dk_at dksX2_fault_0 13 rfl rfl)
theorem dX2_fault_16 : decode cX2_fault 16 = .ok (.aload_n 0, 1) := dk_42 (dk_at dksX2_fault_0 16 rfl rfl)
theorem dX2_fault_17 : decode cX2_fault 17 = .ok (.getfield 26, 3) := dk_180 0 26 (dk_at dksX2_fault_0 17 rfl rfl)
theorem dX2_fault_20 : decode cX2_fault 20 = .ok (.goto 4, 3) := dk_167 0 4 (dk_at dksX2_fault_0 20 rfl rfl)
theorem dX2_fault_23 : decode cX2_fault 23 = .ok (.iconst (-1), 1) := dk_2 (dk_at dksX2_fault_0 23 rfl rfl)
theorem dX2_fault_24 : decode cX2_fault 24 = .ok (.ireturn, 1) := dk_172 (dk_at dksX2_fault_1 0 rfl rfl)
abbrev cX2_by : ByteArray := prog_20_method_55_code
def yX2_by : MethodName := ⟨RX2, "by", "(I)Z"⟩
def dkwX2_by_1 : List UInt8 := [79, 4, 172]
abbrev dktX2_by_1 : List UInt8 := dkwX2_by_1 ++ []
def dkwX2_by_0 : List UInt8 := [27, 2, 42, 180, 0, 7, 4, 46, 4, 100, 184, 0, 72, 154, 0, 5, 3, 172, 42, 180, 0, 7, 5, 27]
abbrev dktX2_by_0 : List UInt8 := dkwX2_by_0 ++ dktX2_by_1
theorem dksX2_by_0 : cX2_by.data.toList.drop 0 = dktX2_by_0 := by decide +kernel
theorem dksX2_by_1 : cX2_by.data.toList.drop 24 = dktX2_by_1 := dk_seg dksX2_by_0 24 rfl rfl
theorem dX2_by_0 : decode cX2_by 0 = .ok (.iload_n 1, 1) := dk_27 (dk_at dksX2_by_0 0 rfl rfl)
theorem dX2_by_1 : decode cX2_by 1 = .ok (.iconst (-1), 1) := dk_2 (dk_at dksX2_by_0 1 rfl rfl)
theorem dX2_by_2 : decode cX2_by 2 = .ok (.aload_n 0, 1) := dk_42 (dk_at dksX2_by_0 2 rfl rfl)
theorem dX2_by_3 : decode cX2_by 3 = .ok (.getfield 7, 3) := dk_180 0 7 (dk_at dksX2_by_0 3 rfl rfl)
theorem dX2_by_6 : decode cX2_by 6 = .ok (.iconst 1, 1) := dk_4 (dk_at dksX2_by_0 6 rfl rfl)
theorem dX2_by_7 : decode cX2_by 7 = .ok (.iaload, 1) := dk_46 (dk_at dksX2_by_0 7 rfl rfl)
theorem dX2_by_8 : decode cX2_by 8 = .ok (.iconst 1, 1) := dk_4 (dk_at dksX2_by_0 8 rfl rfl)
theorem dX2_by_9 : decode cX2_by 9 = .ok (.isub, 1) := dk_100 (dk_at dksX2_by_0 9 rfl rfl)
theorem dX2_by_10 : decode cX2_by 10 = .ok (.invokestatic 72, 3) := dk_184 0 72 (dk_at dksX2_by_0 10 rfl rfl)
theorem dX2_by_13 : decode cX2_by 13 = .ok (.ifCond .ne 5, 3) := dk_154 0 5 (dk_at dksX2_by_0 13 rfl rfl)
theorem dX2_by_16 : decode cX2_by 16 = .ok (.iconst 0, 1) := dk_3 (dk_at dksX2_by_0 16 rfl rfl)
theorem dX2_by_17 : decode cX2_by 17 = .ok (.ireturn, 1) := dk_172 (dk_at dksX2_by_0 17 rfl rfl)
theorem dX2_by_18 : decode cX2_by 18 = .ok (.aload_n 0, 1) := dk_42 (dk_at dksX2_by_0 18 rfl rfl)
theorem dX2_by_19 : decode cX2_by 19 = .ok (.getfield 7, 3) := dk_180 0 7 (dk_at dksX2_by_0 19 rfl rfl)
theorem dX2_by_22 : decode cX2_by 22 = .ok (.iconst 2, 1) := dk_5 (dk_at dksX2_by_0 22 rfl rfl)
theorem dX2_by_23 : decode cX2_by 23 = .ok (.iload_n 1, 1) := dk_27 (dk_at dksX2_by_0 23 rfl rfl)
theorem dX2_by_24 : decode cX2_by 24 = .ok (.iastore, 1) := dk_79 (dk_at dksX2_by_1 0 rfl rfl)
theorem dX2_by_25 : decode cX2_by 25 = .ok (.iconst 1, 1) := dk_4 (dk_at dksX2_by_1 1 rfl rfl)
theorem dX2_by_26 : decode cX2_by 26 = .ok (.ireturn, 1) := dk_172 (dk_at dksX2_by_1 2 rfl rfl)
abbrev cX2_undo : ByteArray := prog_20_method_75_code
def yX2_undo : MethodName := ⟨RX2, "undo", "()I"⟩
def dkwX2_undo_5 : List UInt8 := [27, 4, 96, 16, 16, 96, 28, 96, 46, 79, 132, 2, 1, 167, 255, 224, 42, 180, 0, 7, 6, 46, 172]
abbrev dktX2_undo_5 : List UInt8 := dkwX2_undo_5 ++ []
def dkwX2_undo_4 : List UInt8 := [167, 255, 238, 3, 61, 28, 16, 25, 162, 0, 32, 42, 180, 0, 7, 17, 5, 145, 28, 96, 42, 180, 0, 7]
abbrev dktX2_undo_4 : List UInt8 := dkwX2_undo_4 ++ dktX2_undo_5
def dkwX2_undo_3 : List UInt8 := [180, 0, 7, 27, 46, 61, 28, 42, 180, 0, 7, 3, 46, 162, 0, 14, 42, 28, 182, 0, 88, 132, 2, 1]
abbrev dktX2_undo_3 : List UInt8 := dkwX2_undo_3 ++ dktX2_undo_4
def dkwX2_undo_2 : List UInt8 := [16, 7, 28, 96, 42, 180, 0, 7, 27, 4, 96, 28, 96, 46, 79, 132, 2, 1, 167, 255, 228, 42]
abbrev dktX2_undo_2 : List UInt8 := dkwX2_undo_2 ++ dktX2_undo_3
def dkwX2_undo_1 : List UInt8 := [16, 42, 42, 180, 0, 7, 6, 46, 104, 96, 60, 3, 61, 28, 16, 16, 162, 0, 28, 42, 180, 0, 7]
abbrev dktX2_undo_1 : List UInt8 := dkwX2_undo_1 ++ dktX2_undo_2
def dkwX2_undo_0 : List UInt8 := [42, 180, 0, 7, 6, 46, 154, 0, 5, 2, 172, 42, 180, 0, 7, 6, 92, 46, 4, 100, 79, 17, 0, 165]
abbrev dktX2_undo_0 : List UInt8 := dkwX2_undo_0 ++ dktX2_undo_1
theorem dksX2_undo_0 : cX2_undo.data.toList.drop 0 = dktX2_undo_0 := by decide +kernel
theorem dksX2_undo_1 : cX2_undo.data.toList.drop 24 = dktX2_undo_1 := dk_seg dksX2_undo_0 24 rfl rfl
theorem dksX2_undo_2 : cX2_undo.data.toList.drop 47 = dktX2_undo_2 := dk_seg dksX2_undo_1 23 rfl rfl
theorem dksX2_undo_3 : cX2_undo.data.toList.drop 69 = dktX2_undo_3 := dk_seg dksX2_undo_2 22 rfl rfl
theorem dksX2_undo_4 : cX2_undo.data.toList.drop 93 = dktX2_undo_4 := dk_seg dksX2_undo_3 24 rfl rfl
theorem dksX2_undo_5 : cX2_undo.data.toList.drop 117 = dktX2_undo_5 := dk_seg dksX2_undo_4 24 rfl rfl
theorem dX2_undo_0 : decode cX2_undo 0 = .ok (.aload_n 0, 1) := dk_42 (dk_at dksX2_undo_0 0 rfl rfl)
theorem dX2_undo_1 : decode cX2_undo 1 = .ok (.getfield 7, 3) := dk_180 0 7 (dk_at dksX2_undo_0 1 rfl rfl)
theorem dX2_undo_4 : decode cX2_undo 4 = .ok (.iconst 3, 1) := dk_6 (dk_at dksX2_undo_0 4 rfl rfl)
theorem dX2_undo_5 : decode cX2_undo 5 = .ok (.iaload, 1) := dk_46 (dk_at dksX2_undo_0 5 rfl rfl)
theorem dX2_undo_6 : decode cX2_undo 6 = .ok (.ifCond .ne 5, 3) := dk_154 0 5 (dk_at dksX2_undo_0 6 rfl rfl)
theorem dX2_undo_9 : decode cX2_undo 9 = .ok (.iconst (-1), 1) := dk_2 (dk_at dksX2_undo_0 9 rfl rfl)
theorem dX2_undo_10 : decode cX2_undo 10 = .ok (.ireturn, 1) := dk_172 (dk_at dksX2_undo_0 10 rfl rfl)
theorem dX2_undo_11 : decode cX2_undo 11 = .ok (.aload_n 0, 1) := dk_42 (dk_at dksX2_undo_0 11 rfl rfl)
theorem dX2_undo_12 : decode cX2_undo 12 = .ok (.getfield 7, 3) := dk_180 0 7 (dk_at dksX2_undo_0 12 rfl rfl)
theorem dX2_undo_15 : decode cX2_undo 15 = .ok (.iconst 3, 1) := dk_6 (dk_at dksX2_undo_0 15 rfl rfl)
theorem dX2_undo_16 : decode cX2_undo 16 = .ok (.dup2, 1) := dk_92 (dk_at dksX2_undo_0 16 rfl rfl)
theorem dX2_undo_17 : decode cX2_undo 17 = .ok (.iaload, 1) := dk_46 (dk_at dksX2_undo_0 17 rfl rfl)
theorem dX2_undo_18 : decode cX2_undo 18 = .ok (.iconst 1, 1) := dk_4 (dk_at dksX2_undo_0 18 rfl rfl)
theorem dX2_undo_19 : decode cX2_undo 19 = .ok (.isub, 1) := dk_100 (dk_at dksX2_undo_0 19 rfl rfl)
theorem dX2_undo_20 : decode cX2_undo 20 = .ok (.iastore, 1) := dk_79 (dk_at dksX2_undo_0 20 rfl rfl)
theorem dX2_undo_21 : decode cX2_undo 21 = .ok (.sipush 165, 3) := dk_17 0 165 (dk_at dksX2_undo_0 21 rfl rfl)
theorem dX2_undo_24 : decode cX2_undo 24 = .ok (.bipush 42, 2) := dk_16 42 (dk_at dksX2_undo_1 0 rfl rfl)
theorem dX2_undo_26 : decode cX2_undo 26 = .ok (.aload_n 0, 1) := dk_42 (dk_at dksX2_undo_1 2 rfl rfl)
theorem dX2_undo_27 : decode cX2_undo 27 = .ok (.getfield 7, 3) := dk_180 0 7 (dk_at dksX2_undo_1 3 rfl rfl)
theorem dX2_undo_30 : decode cX2_undo 30 = .ok (.iconst 3, 1) := dk_6 (dk_at dksX2_undo_1 6 rfl rfl)
theorem dX2_undo_31 : decode cX2_undo 31 = .ok (.iaload, 1) := dk_46 (dk_at dksX2_undo_1 7 rfl rfl)
theorem dX2_undo_32 : decode cX2_undo 32 = .ok (.imul, 1) := dk_104 (dk_at dksX2_undo_1 8 rfl rfl)
theorem dX2_undo_33 : decode cX2_undo 33 = .ok (.iadd, 1) := dk_96 (dk_at dksX2_undo_1 9 rfl rfl)
theorem dX2_undo_34 : decode cX2_undo 34 = .ok (.istore_n 1, 1) := dk_60 (dk_at dksX2_undo_1 10 rfl rfl)
theorem dX2_undo_35 : decode cX2_undo 35 = .ok (.iconst 0, 1) := dk_3 (dk_at dksX2_undo_1 11 rfl rfl)
theorem dX2_undo_36 : decode cX2_undo 36 = .ok (.istore_n 2, 1) := dk_61 (dk_at dksX2_undo_1 12 rfl rfl)
theorem dX2_undo_37 : decode cX2_undo 37 = .ok (.iload_n 2, 1) := dk_28 (dk_at dksX2_undo_1 13 rfl rfl)
theorem dX2_undo_38 : decode cX2_undo 38 = .ok (.bipush 16, 2) := dk_16 16 (dk_at dksX2_undo_1 14 rfl rfl)
theorem dX2_undo_40 : decode cX2_undo 40 = .ok (.if_icmp .ge 28, 3) := dk_162 0 28 (dk_at dksX2_undo_1 16 rfl rfl)
theorem dX2_undo_43 : decode cX2_undo 43 = .ok (.aload_n 0, 1) := dk_42 (dk_at dksX2_undo_1 19 rfl rfl)
theorem dX2_undo_44 : decode cX2_undo 44 = .ok (.getfield 7, 3) := dk_180 0 7 (dk_at dksX2_undo_1 20 rfl rfl)
theorem dX2_undo_47 : decode cX2_undo 47 = .ok (.bipush 7, 2) := dk_16 7 (dk_at dksX2_undo_2 0 rfl rfl)
theorem dX2_undo_49 : decode cX2_undo 49 = .ok (.iload_n 2, 1) := dk_28 (dk_at dksX2_undo_2 2 rfl rfl)
theorem dX2_undo_50 : decode cX2_undo 50 = .ok (.iadd, 1) := dk_96 (dk_at dksX2_undo_2 3 rfl rfl)
theorem dX2_undo_51 : decode cX2_undo 51 = .ok (.aload_n 0, 1) := dk_42 (dk_at dksX2_undo_2 4 rfl rfl)
theorem dX2_undo_52 : decode cX2_undo 52 = .ok (.getfield 7, 3) := dk_180 0 7 (dk_at dksX2_undo_2 5 rfl rfl)
theorem dX2_undo_55 : decode cX2_undo 55 = .ok (.iload_n 1, 1) := dk_27 (dk_at dksX2_undo_2 8 rfl rfl)
theorem dX2_undo_56 : decode cX2_undo 56 = .ok (.iconst 1, 1) := dk_4 (dk_at dksX2_undo_2 9 rfl rfl)
theorem dX2_undo_57 : decode cX2_undo 57 = .ok (.iadd, 1) := dk_96 (dk_at dksX2_undo_2 10 rfl rfl)
theorem dX2_undo_58 : decode cX2_undo 58 = .ok (.iload_n 2, 1) := dk_28 (dk_at dksX2_undo_2 11 rfl rfl)
theorem dX2_undo_59 : decode cX2_undo 59 = .ok (.iadd, 1) := dk_96 (dk_at dksX2_undo_2 12 rfl rfl)
theorem dX2_undo_60 : decode cX2_undo 60 = .ok (.iaload, 1) := dk_46 (dk_at dksX2_undo_2 13 rfl rfl)
theorem dX2_undo_61 : decode cX2_undo 61 = .ok (.iastore, 1) := dk_79 (dk_at dksX2_undo_2 14 rfl rfl)
theorem dX2_undo_62 : decode cX2_undo 62 = .ok (.iinc 2 1, 3) := dk_132 2 1 (dk_at dksX2_undo_2 15 rfl rfl)
theorem dX2_undo_65 : decode cX2_undo 65 = .ok (.goto (-28), 3) := dk_167 255 228 (dk_at dksX2_undo_2 18 rfl rfl)
theorem dX2_undo_68 : decode cX2_undo 68 = .ok (.aload_n 0, 1) := dk_42 (dk_at dksX2_undo_2 21 rfl rfl)
theorem dX2_undo_69 : decode cX2_undo 69 = .ok (.getfield 7, 3) := dk_180 0 7 (dk_at dksX2_undo_3 0 rfl rfl)
theorem dX2_undo_72 : decode cX2_undo 72 = .ok (.iload_n 1, 1) := dk_27 (dk_at dksX2_undo_3 3 rfl rfl)
theorem dX2_undo_73 : decode cX2_undo 73 = .ok (.iaload, 1) := dk_46 (dk_at dksX2_undo_3 4 rfl rfl)
theorem dX2_undo_74 : decode cX2_undo 74 = .ok (.istore_n 2, 1) := dk_61 (dk_at dksX2_undo_3 5 rfl rfl)
theorem dX2_undo_75 : decode cX2_undo 75 = .ok (.iload_n 2, 1) := dk_28 (dk_at dksX2_undo_3 6 rfl rfl)
theorem dX2_undo_76 : decode cX2_undo 76 = .ok (.aload_n 0, 1) := dk_42 (dk_at dksX2_undo_3 7 rfl rfl)
theorem dX2_undo_77 : decode cX2_undo 77 = .ok (.getfield 7, 3) := dk_180 0 7 (dk_at dksX2_undo_3 8 rfl rfl)
theorem dX2_undo_80 : decode cX2_undo 80 = .ok (.iconst 0, 1) := dk_3 (dk_at dksX2_undo_3 11 rfl rfl)
theorem dX2_undo_81 : decode cX2_undo 81 = .ok (.iaload, 1) := dk_46 (dk_at dksX2_undo_3 12 rfl rfl)
theorem dX2_undo_82 : decode cX2_undo 82 = .ok (.if_icmp .ge 14, 3) := dk_162 0 14 (dk_at dksX2_undo_3 13 rfl rfl)
theorem dX2_undo_85 : decode cX2_undo 85 = .ok (.aload_n 0, 1) := dk_42 (dk_at dksX2_undo_3 16 rfl rfl)
theorem dX2_undo_86 : decode cX2_undo 86 = .ok (.iload_n 2, 1) := dk_28 (dk_at dksX2_undo_3 17 rfl rfl)
theorem dX2_undo_87 : decode cX2_undo 87 = .ok (.invokevirtual 88, 3) := dk_182 0 88 (dk_at dksX2_undo_3 18 rfl rfl)
theorem dX2_undo_90 : decode cX2_undo 90 = .ok (.iinc 2 1, 3) := dk_132 2 1 (dk_at dksX2_undo_3 21 rfl rfl)
theorem dX2_undo_93 : decode cX2_undo 93 = .ok (.goto (-18), 3) := dk_167 255 238 (dk_at dksX2_undo_4 0 rfl rfl)
theorem dX2_undo_96 : decode cX2_undo 96 = .ok (.iconst 0, 1) := dk_3 (dk_at dksX2_undo_4 3 rfl rfl)
theorem dX2_undo_97 : decode cX2_undo 97 = .ok (.istore_n 2, 1) := dk_61 (dk_at dksX2_undo_4 4 rfl rfl)
theorem dX2_undo_98 : decode cX2_undo 98 = .ok (.iload_n 2, 1) := dk_28 (dk_at dksX2_undo_4 5 rfl rfl)
theorem dX2_undo_99 : decode cX2_undo 99 = .ok (.bipush 25, 2) := dk_16 25 (dk_at dksX2_undo_4 6 rfl rfl)
theorem dX2_undo_101 : decode cX2_undo 101 = .ok (.if_icmp .ge 32, 3) := dk_162 0 32 (dk_at dksX2_undo_4 8 rfl rfl)
theorem dX2_undo_104 : decode cX2_undo 104 = .ok (.aload_n 0, 1) := dk_42 (dk_at dksX2_undo_4 11 rfl rfl)
theorem dX2_undo_105 : decode cX2_undo 105 = .ok (.getfield 7, 3) := dk_180 0 7 (dk_at dksX2_undo_4 12 rfl rfl)
theorem dX2_undo_108 : decode cX2_undo 108 = .ok (.sipush 1425, 3) := dk_17 5 145 (dk_at dksX2_undo_4 15 rfl rfl)
theorem dX2_undo_111 : decode cX2_undo 111 = .ok (.iload_n 2, 1) := dk_28 (dk_at dksX2_undo_4 18 rfl rfl)
theorem dX2_undo_112 : decode cX2_undo 112 = .ok (.iadd, 1) := dk_96 (dk_at dksX2_undo_4 19 rfl rfl)
theorem dX2_undo_113 : decode cX2_undo 113 = .ok (.aload_n 0, 1) := dk_42 (dk_at dksX2_undo_4 20 rfl rfl)
theorem dX2_undo_114 : decode cX2_undo 114 = .ok (.getfield 7, 3) := dk_180 0 7 (dk_at dksX2_undo_4 21 rfl rfl)
theorem dX2_undo_117 : decode cX2_undo 117 = .ok (.iload_n 1, 1) := dk_27 (dk_at dksX2_undo_5 0 rfl rfl)
theorem dX2_undo_118 : decode cX2_undo 118 = .ok (.iconst 1, 1) := dk_4 (dk_at dksX2_undo_5 1 rfl rfl)
theorem dX2_undo_119 : decode cX2_undo 119 = .ok (.iadd, 1) := dk_96 (dk_at dksX2_undo_5 2 rfl rfl)
theorem dX2_undo_120 : decode cX2_undo 120 = .ok (.bipush 16, 2) := dk_16 16 (dk_at dksX2_undo_5 3 rfl rfl)
theorem dX2_undo_122 : decode cX2_undo 122 = .ok (.iadd, 1) := dk_96 (dk_at dksX2_undo_5 5 rfl rfl)
theorem dX2_undo_123 : decode cX2_undo 123 = .ok (.iload_n 2, 1) := dk_28 (dk_at dksX2_undo_5 6 rfl rfl)
theorem dX2_undo_124 : decode cX2_undo 124 = .ok (.iadd, 1) := dk_96 (dk_at dksX2_undo_5 7 rfl rfl)
theorem dX2_undo_125 : decode cX2_undo 125 = .ok (.iaload, 1) := dk_46 (dk_at dksX2_undo_5 8 rfl rfl)
theorem dX2_undo_126 : decode cX2_undo 126 = .ok (.iastore, 1) := dk_79 (dk_at dksX2_undo_5 9 rfl rfl)
theorem dX2_undo_127 : decode cX2_undo 127 = .ok (.iinc 2 1, 3) := dk_132 2 1 (dk_at dksX2_undo_5 10 rfl rfl)
theorem dX2_undo_130 : decode cX2_undo 130 = .ok (.goto (-32), 3) := dk_167 255 224 (dk_at dksX2_undo_5 13 rfl rfl)
theorem dX2_undo_133 : decode cX2_undo 133 = .ok (.aload_n 0, 1) := dk_42 (dk_at dksX2_undo_5 16 rfl rfl)
theorem dX2_undo_134 : decode cX2_undo 134 = .ok (.getfield 7, 3) := dk_180 0 7 (dk_at dksX2_undo_5 17 rfl rfl)
theorem dX2_undo_137 : decode cX2_undo 137 = .ok (.iconst 3, 1) := dk_6 (dk_at dksX2_undo_5 20 rfl rfl)
theorem dX2_undo_138 : decode cX2_undo 138 = .ok (.iaload, 1) := dk_46 (dk_at dksX2_undo_5 21 rfl rfl)
theorem dX2_undo_139 : decode cX2_undo 139 = .ok (.ireturn, 1) := dk_172 (dk_at dksX2_undo_5 22 rfl rfl)
abbrev cX2_reach : ByteArray := prog_20_method_76_code
def yX2_reach : MethodName := ⟨RX2, "reach", "(I)I"⟩
def dkwX2_reach_1 : List UInt8 := [182, 1, 52, 42, 180, 0, 7, 16, 11, 27, 96, 46, 172]
abbrev dktX2_reach_1 : List UInt8 := dkwX2_reach_1 ++ []
def dkwX2_reach_0 : List UInt8 := [42, 27, 182, 0, 92, 153, 0, 11, 42, 27, 182, 1, 62, 153, 0, 5, 2, 172, 42, 182, 1, 77, 42, 27]
abbrev dktX2_reach_0 : List UInt8 := dkwX2_reach_0 ++ dktX2_reach_1
theorem dksX2_reach_0 : cX2_reach.data.toList.drop 0 = dktX2_reach_0 := by decide +kernel
theorem dksX2_reach_1 : cX2_reach.data.toList.drop 24 = dktX2_reach_1 := dk_seg dksX2_reach_0 24 rfl rfl
theorem dX2_reach_0 : decode cX2_reach 0 = .ok (.aload_n 0, 1) := dk_42 (dk_at dksX2_reach_0 0 rfl rfl)
theorem dX2_reach_1 : decode cX2_reach 1 = .ok (.iload_n 1, 1) := dk_27 (dk_at dksX2_reach_0 1 rfl rfl)
theorem dX2_reach_2 : decode cX2_reach 2 = .ok (.invokevirtual 92, 3) := dk_182 0 92 (dk_at dksX2_reach_0 2 rfl rfl)
theorem dX2_reach_5 : decode cX2_reach 5 = .ok (.ifCond .eq 11, 3) := dk_153 0 11 (dk_at dksX2_reach_0 5 rfl rfl)
theorem dX2_reach_8 : decode cX2_reach 8 = .ok (.aload_n 0, 1) := dk_42 (dk_at dksX2_reach_0 8 rfl rfl)
theorem dX2_reach_9 : decode cX2_reach 9 = .ok (.iload_n 1, 1) := dk_27 (dk_at dksX2_reach_0 9 rfl rfl)
theorem dX2_reach_10 : decode cX2_reach 10 = .ok (.invokevirtual 318, 3) := dk_182 1 62 (dk_at dksX2_reach_0 10 rfl rfl)
theorem dX2_reach_13 : decode cX2_reach 13 = .ok (.ifCond .eq 5, 3) := dk_153 0 5 (dk_at dksX2_reach_0 13 rfl rfl)
theorem dX2_reach_16 : decode cX2_reach 16 = .ok (.iconst (-1), 1) := dk_2 (dk_at dksX2_reach_0 16 rfl rfl)
theorem dX2_reach_17 : decode cX2_reach 17 = .ok (.ireturn, 1) := dk_172 (dk_at dksX2_reach_0 17 rfl rfl)
theorem dX2_reach_18 : decode cX2_reach 18 = .ok (.aload_n 0, 1) := dk_42 (dk_at dksX2_reach_0 18 rfl rfl)
theorem dX2_reach_19 : decode cX2_reach 19 = .ok (.invokevirtual 333, 3) := dk_182 1 77 (dk_at dksX2_reach_0 19 rfl rfl)
theorem dX2_reach_22 : decode cX2_reach 22 = .ok (.aload_n 0, 1) := dk_42 (dk_at dksX2_reach_0 22 rfl rfl)
theorem dX2_reach_23 : decode cX2_reach 23 = .ok (.iload_n 1, 1) := dk_27 (dk_at dksX2_reach_0 23 rfl rfl)
theorem dX2_reach_24 : decode cX2_reach 24 = .ok (.invokevirtual 308, 3) := dk_182 1 52 (dk_at dksX2_reach_1 0 rfl rfl)
theorem dX2_reach_27 : decode cX2_reach 27 = .ok (.aload_n 0, 1) := dk_42 (dk_at dksX2_reach_1 3 rfl rfl)
theorem dX2_reach_28 : decode cX2_reach 28 = .ok (.getfield 7, 3) := dk_180 0 7 (dk_at dksX2_reach_1 4 rfl rfl)
theorem dX2_reach_31 : decode cX2_reach 31 = .ok (.bipush 11, 2) := dk_16 11 (dk_at dksX2_reach_1 7 rfl rfl)
theorem dX2_reach_33 : decode cX2_reach 33 = .ok (.iload_n 1, 1) := dk_27 (dk_at dksX2_reach_1 9 rfl rfl)
theorem dX2_reach_34 : decode cX2_reach 34 = .ok (.iadd, 1) := dk_96 (dk_at dksX2_reach_1 10 rfl rfl)
theorem dX2_reach_35 : decode cX2_reach 35 = .ok (.iaload, 1) := dk_46 (dk_at dksX2_reach_1 11 rfl rfl)
theorem dX2_reach_36 : decode cX2_reach 36 = .ok (.ireturn, 1) := dk_172 (dk_at dksX2_reach_1 12 rfl rfl)
abbrev cX2_isStrapped : ByteArray := prog_20_method_8_code
def yX2_isStrapped : MethodName := ⟨RX2, "isStrapped", "(I)Z"⟩
def dkwX2_isStrapped_0 : List UInt8 := [42, 180, 0, 7, 16, 10, 46, 27, 184, 0, 76, 172]
abbrev dktX2_isStrapped_0 : List UInt8 := dkwX2_isStrapped_0 ++ []
theorem dksX2_isStrapped_0 : cX2_isStrapped.data.toList.drop 0 = dktX2_isStrapped_0 := by decide +kernel
theorem dX2_isStrapped_0 : decode cX2_isStrapped 0 = .ok (.aload_n 0, 1) := dk_42 (dk_at dksX2_isStrapped_0 0 rfl rfl)
theorem dX2_isStrapped_1 : decode cX2_isStrapped 1 = .ok (.getfield 7, 3) := dk_180 0 7 (dk_at dksX2_isStrapped_0 1 rfl rfl)
theorem dX2_isStrapped_4 : decode cX2_isStrapped 4 = .ok (.bipush 10, 2) := dk_16 10 (dk_at dksX2_isStrapped_0 4 rfl rfl)
theorem dX2_isStrapped_6 : decode cX2_isStrapped 6 = .ok (.iaload, 1) := dk_46 (dk_at dksX2_isStrapped_0 6 rfl rfl)
theorem dX2_isStrapped_7 : decode cX2_isStrapped 7 = .ok (.iload_n 1, 1) := dk_27 (dk_at dksX2_isStrapped_0 7 rfl rfl)
theorem dX2_isStrapped_8 : decode cX2_isStrapped 8 = .ok (.invokestatic 76, 3) := dk_184 0 76 (dk_at dksX2_isStrapped_0 8 rfl rfl)
theorem dX2_isStrapped_11 : decode cX2_isStrapped 11 = .ok (.ireturn, 1) := dk_172 (dk_at dksX2_isStrapped_0 11 rfl rfl)
abbrev cX2_keep : ByteArray := prog_20_method_74_code
def yX2_keep : MethodName := ⟨RX2, "keep", "()V"⟩
def dkwX2_keep_6 : List UInt8 := [28, 96, 46, 79, 132, 2, 1, 167, 255, 224, 42, 180, 0, 7, 6, 92, 46, 4, 96, 79, 177]
abbrev dktX2_keep_6 : List UInt8 := dkwX2_keep_6 ++ []
def dkwX2_keep_5 : List UInt8 := [16, 25, 162, 0, 32, 42, 180, 0, 7, 27, 4, 96, 16, 16, 96, 28, 96, 42, 180, 0, 7, 17, 5, 145]
abbrev dktX2_keep_5 : List UInt8 := dkwX2_keep_5 ++ dktX2_keep_6
def dkwX2_keep_4 : List UInt8 := [4, 96, 28, 96, 42, 180, 0, 7, 16, 7, 28, 96, 46, 79, 132, 2, 1, 167, 255, 228, 3, 61, 28]
abbrev dktX2_keep_4 : List UInt8 := dkwX2_keep_4 ++ dktX2_keep_5
def dkwX2_keep_3 : List UInt8 := [180, 0, 7, 27, 42, 180, 0, 7, 3, 46, 79, 3, 61, 28, 16, 16, 162, 0, 28, 42, 180, 0, 7, 27]
abbrev dktX2_keep_3 : List UInt8 := dkwX2_keep_3 ++ dktX2_keep_4
def dkwX2_keep_2 : List UInt8 := [180, 0, 7, 6, 92, 46, 4, 100, 79, 17, 0, 165, 16, 42, 42, 180, 0, 7, 6, 46, 104, 96, 60, 42]
abbrev dktX2_keep_2 : List UInt8 := dkwX2_keep_2 ++ dktX2_keep_3
def dkwX2_keep_1 : List UInt8 := [17, 0, 165, 27, 96, 42, 180, 0, 7, 17, 0, 207, 27, 96, 46, 79, 132, 1, 1, 167, 255, 226, 42]
abbrev dktX2_keep_1 : List UInt8 := dkwX2_keep_1 ++ dktX2_keep_2
def dkwX2_keep_0 : List UInt8 := [42, 180, 0, 7, 6, 46, 16, 30, 160, 0, 48, 3, 60, 27, 17, 4, 194, 162, 0, 29, 42, 180, 0, 7]
abbrev dktX2_keep_0 : List UInt8 := dkwX2_keep_0 ++ dktX2_keep_1
theorem dksX2_keep_0 : cX2_keep.data.toList.drop 0 = dktX2_keep_0 := by decide +kernel
theorem dksX2_keep_1 : cX2_keep.data.toList.drop 24 = dktX2_keep_1 := dk_seg dksX2_keep_0 24 rfl rfl
theorem dksX2_keep_2 : cX2_keep.data.toList.drop 47 = dktX2_keep_2 := dk_seg dksX2_keep_1 23 rfl rfl
theorem dksX2_keep_3 : cX2_keep.data.toList.drop 71 = dktX2_keep_3 := dk_seg dksX2_keep_2 24 rfl rfl
theorem dksX2_keep_4 : cX2_keep.data.toList.drop 95 = dktX2_keep_4 := dk_seg dksX2_keep_3 24 rfl rfl
theorem dksX2_keep_5 : cX2_keep.data.toList.drop 118 = dktX2_keep_5 := dk_seg dksX2_keep_4 23 rfl rfl
theorem dksX2_keep_6 : cX2_keep.data.toList.drop 142 = dktX2_keep_6 := dk_seg dksX2_keep_5 24 rfl rfl
theorem dX2_keep_0 : decode cX2_keep 0 = .ok (.aload_n 0, 1) := dk_42 (dk_at dksX2_keep_0 0 rfl rfl)
theorem dX2_keep_1 : decode cX2_keep 1 = .ok (.getfield 7, 3) := dk_180 0 7 (dk_at dksX2_keep_0 1 rfl rfl)
theorem dX2_keep_4 : decode cX2_keep 4 = .ok (.iconst 3, 1) := dk_6 (dk_at dksX2_keep_0 4 rfl rfl)
theorem dX2_keep_5 : decode cX2_keep 5 = .ok (.iaload, 1) := dk_46 (dk_at dksX2_keep_0 5 rfl rfl)
theorem dX2_keep_6 : decode cX2_keep 6 = .ok (.bipush 30, 2) := dk_16 30 (dk_at dksX2_keep_0 6 rfl rfl)
theorem dX2_keep_8 : decode cX2_keep 8 = .ok (.if_icmp .ne 48, 3) := dk_160 0 48 (dk_at dksX2_keep_0 8 rfl rfl)
theorem dX2_keep_11 : decode cX2_keep 11 = .ok (.iconst 0, 1) := dk_3 (dk_at dksX2_keep_0 11 rfl rfl)
theorem dX2_keep_12 : decode cX2_keep 12 = .ok (.istore_n 1, 1) := dk_60 (dk_at dksX2_keep_0 12 rfl rfl)
theorem dX2_keep_13 : decode cX2_keep 13 = .ok (.iload_n 1, 1) := dk_27 (dk_at dksX2_keep_0 13 rfl rfl)
theorem dX2_keep_14 : decode cX2_keep 14 = .ok (.sipush 1218, 3) := dk_17 4 194 (dk_at dksX2_keep_0 14 rfl rfl)
theorem dX2_keep_17 : decode cX2_keep 17 = .ok (.if_icmp .ge 29, 3) := dk_162 0 29 (dk_at dksX2_keep_0 17 rfl rfl)
theorem dX2_keep_20 : decode cX2_keep 20 = .ok (.aload_n 0, 1) := dk_42 (dk_at dksX2_keep_0 20 rfl rfl)
theorem dX2_keep_21 : decode cX2_keep 21 = .ok (.getfield 7, 3) := dk_180 0 7 (dk_at dksX2_keep_0 21 rfl rfl)
theorem dX2_keep_24 : decode cX2_keep 24 = .ok (.sipush 165, 3) := dk_17 0 165 (dk_at dksX2_keep_1 0 rfl rfl)
theorem dX2_keep_27 : decode cX2_keep 27 = .ok (.iload_n 1, 1) := dk_27 (dk_at dksX2_keep_1 3 rfl rfl)
theorem dX2_keep_28 : decode cX2_keep 28 = .ok (.iadd, 1) := dk_96 (dk_at dksX2_keep_1 4 rfl rfl)
theorem dX2_keep_29 : decode cX2_keep 29 = .ok (.aload_n 0, 1) := dk_42 (dk_at dksX2_keep_1 5 rfl rfl)
theorem dX2_keep_30 : decode cX2_keep 30 = .ok (.getfield 7, 3) := dk_180 0 7 (dk_at dksX2_keep_1 6 rfl rfl)
theorem dX2_keep_33 : decode cX2_keep 33 = .ok (.sipush 207, 3) := dk_17 0 207 (dk_at dksX2_keep_1 9 rfl rfl)
theorem dX2_keep_36 : decode cX2_keep 36 = .ok (.iload_n 1, 1) := dk_27 (dk_at dksX2_keep_1 12 rfl rfl)
theorem dX2_keep_37 : decode cX2_keep 37 = .ok (.iadd, 1) := dk_96 (dk_at dksX2_keep_1 13 rfl rfl)
theorem dX2_keep_38 : decode cX2_keep 38 = .ok (.iaload, 1) := dk_46 (dk_at dksX2_keep_1 14 rfl rfl)
theorem dX2_keep_39 : decode cX2_keep 39 = .ok (.iastore, 1) := dk_79 (dk_at dksX2_keep_1 15 rfl rfl)
theorem dX2_keep_40 : decode cX2_keep 40 = .ok (.iinc 1 1, 3) := dk_132 1 1 (dk_at dksX2_keep_1 16 rfl rfl)
theorem dX2_keep_43 : decode cX2_keep 43 = .ok (.goto (-30), 3) := dk_167 255 226 (dk_at dksX2_keep_1 19 rfl rfl)
theorem dX2_keep_46 : decode cX2_keep 46 = .ok (.aload_n 0, 1) := dk_42 (dk_at dksX2_keep_1 22 rfl rfl)
theorem dX2_keep_47 : decode cX2_keep 47 = .ok (.getfield 7, 3) := dk_180 0 7 (dk_at dksX2_keep_2 0 rfl rfl)
theorem dX2_keep_50 : decode cX2_keep 50 = .ok (.iconst 3, 1) := dk_6 (dk_at dksX2_keep_2 3 rfl rfl)
theorem dX2_keep_51 : decode cX2_keep 51 = .ok (.dup2, 1) := dk_92 (dk_at dksX2_keep_2 4 rfl rfl)
theorem dX2_keep_52 : decode cX2_keep 52 = .ok (.iaload, 1) := dk_46 (dk_at dksX2_keep_2 5 rfl rfl)
theorem dX2_keep_53 : decode cX2_keep 53 = .ok (.iconst 1, 1) := dk_4 (dk_at dksX2_keep_2 6 rfl rfl)
theorem dX2_keep_54 : decode cX2_keep 54 = .ok (.isub, 1) := dk_100 (dk_at dksX2_keep_2 7 rfl rfl)
theorem dX2_keep_55 : decode cX2_keep 55 = .ok (.iastore, 1) := dk_79 (dk_at dksX2_keep_2 8 rfl rfl)
theorem dX2_keep_56 : decode cX2_keep 56 = .ok (.sipush 165, 3) := dk_17 0 165 (dk_at dksX2_keep_2 9 rfl rfl)
theorem dX2_keep_59 : decode cX2_keep 59 = .ok (.bipush 42, 2) := dk_16 42 (dk_at dksX2_keep_2 12 rfl rfl)
theorem dX2_keep_61 : decode cX2_keep 61 = .ok (.aload_n 0, 1) := dk_42 (dk_at dksX2_keep_2 14 rfl rfl)
theorem dX2_keep_62 : decode cX2_keep 62 = .ok (.getfield 7, 3) := dk_180 0 7 (dk_at dksX2_keep_2 15 rfl rfl)
theorem dX2_keep_65 : decode cX2_keep 65 = .ok (.iconst 3, 1) := dk_6 (dk_at dksX2_keep_2 18 rfl rfl)
theorem dX2_keep_66 : decode cX2_keep 66 = .ok (.iaload, 1) := dk_46 (dk_at dksX2_keep_2 19 rfl rfl)
theorem dX2_keep_67 : decode cX2_keep 67 = .ok (.imul, 1) := dk_104 (dk_at dksX2_keep_2 20 rfl rfl)
theorem dX2_keep_68 : decode cX2_keep 68 = .ok (.iadd, 1) := dk_96 (dk_at dksX2_keep_2 21 rfl rfl)
theorem dX2_keep_69 : decode cX2_keep 69 = .ok (.istore_n 1, 1) := dk_60 (dk_at dksX2_keep_2 22 rfl rfl)
theorem dX2_keep_70 : decode cX2_keep 70 = .ok (.aload_n 0, 1) := dk_42 (dk_at dksX2_keep_2 23 rfl rfl)
theorem dX2_keep_71 : decode cX2_keep 71 = .ok (.getfield 7, 3) := dk_180 0 7 (dk_at dksX2_keep_3 0 rfl rfl)
theorem dX2_keep_74 : decode cX2_keep 74 = .ok (.iload_n 1, 1) := dk_27 (dk_at dksX2_keep_3 3 rfl rfl)
theorem dX2_keep_75 : decode cX2_keep 75 = .ok (.aload_n 0, 1) := dk_42 (dk_at dksX2_keep_3 4 rfl rfl)
theorem dX2_keep_76 : decode cX2_keep 76 = .ok (.getfield 7, 3) := dk_180 0 7 (dk_at dksX2_keep_3 5 rfl rfl)
theorem dX2_keep_79 : decode cX2_keep 79 = .ok (.iconst 0, 1) := dk_3 (dk_at dksX2_keep_3 8 rfl rfl)
theorem dX2_keep_80 : decode cX2_keep 80 = .ok (.iaload, 1) := dk_46 (dk_at dksX2_keep_3 9 rfl rfl)
theorem dX2_keep_81 : decode cX2_keep 81 = .ok (.iastore, 1) := dk_79 (dk_at dksX2_keep_3 10 rfl rfl)
theorem dX2_keep_82 : decode cX2_keep 82 = .ok (.iconst 0, 1) := dk_3 (dk_at dksX2_keep_3 11 rfl rfl)
theorem dX2_keep_83 : decode cX2_keep 83 = .ok (.istore_n 2, 1) := dk_61 (dk_at dksX2_keep_3 12 rfl rfl)
theorem dX2_keep_84 : decode cX2_keep 84 = .ok (.iload_n 2, 1) := dk_28 (dk_at dksX2_keep_3 13 rfl rfl)
theorem dX2_keep_85 : decode cX2_keep 85 = .ok (.bipush 16, 2) := dk_16 16 (dk_at dksX2_keep_3 14 rfl rfl)
theorem dX2_keep_87 : decode cX2_keep 87 = .ok (.if_icmp .ge 28, 3) := dk_162 0 28 (dk_at dksX2_keep_3 16 rfl rfl)
theorem dX2_keep_90 : decode cX2_keep 90 = .ok (.aload_n 0, 1) := dk_42 (dk_at dksX2_keep_3 19 rfl rfl)
theorem dX2_keep_91 : decode cX2_keep 91 = .ok (.getfield 7, 3) := dk_180 0 7 (dk_at dksX2_keep_3 20 rfl rfl)
theorem dX2_keep_94 : decode cX2_keep 94 = .ok (.iload_n 1, 1) := dk_27 (dk_at dksX2_keep_3 23 rfl rfl)
theorem dX2_keep_95 : decode cX2_keep 95 = .ok (.iconst 1, 1) := dk_4 (dk_at dksX2_keep_4 0 rfl rfl)
theorem dX2_keep_96 : decode cX2_keep 96 = .ok (.iadd, 1) := dk_96 (dk_at dksX2_keep_4 1 rfl rfl)
theorem dX2_keep_97 : decode cX2_keep 97 = .ok (.iload_n 2, 1) := dk_28 (dk_at dksX2_keep_4 2 rfl rfl)
theorem dX2_keep_98 : decode cX2_keep 98 = .ok (.iadd, 1) := dk_96 (dk_at dksX2_keep_4 3 rfl rfl)
theorem dX2_keep_99 : decode cX2_keep 99 = .ok (.aload_n 0, 1) := dk_42 (dk_at dksX2_keep_4 4 rfl rfl)
theorem dX2_keep_100 : decode cX2_keep 100 = .ok (.getfield 7, 3) := dk_180 0 7 (dk_at dksX2_keep_4 5 rfl rfl)
theorem dX2_keep_103 : decode cX2_keep 103 = .ok (.bipush 7, 2) := dk_16 7 (dk_at dksX2_keep_4 8 rfl rfl)
theorem dX2_keep_105 : decode cX2_keep 105 = .ok (.iload_n 2, 1) := dk_28 (dk_at dksX2_keep_4 10 rfl rfl)
theorem dX2_keep_106 : decode cX2_keep 106 = .ok (.iadd, 1) := dk_96 (dk_at dksX2_keep_4 11 rfl rfl)
theorem dX2_keep_107 : decode cX2_keep 107 = .ok (.iaload, 1) := dk_46 (dk_at dksX2_keep_4 12 rfl rfl)
theorem dX2_keep_108 : decode cX2_keep 108 = .ok (.iastore, 1) := dk_79 (dk_at dksX2_keep_4 13 rfl rfl)
theorem dX2_keep_109 : decode cX2_keep 109 = .ok (.iinc 2 1, 3) := dk_132 2 1 (dk_at dksX2_keep_4 14 rfl rfl)
theorem dX2_keep_112 : decode cX2_keep 112 = .ok (.goto (-28), 3) := dk_167 255 228 (dk_at dksX2_keep_4 17 rfl rfl)
theorem dX2_keep_115 : decode cX2_keep 115 = .ok (.iconst 0, 1) := dk_3 (dk_at dksX2_keep_4 20 rfl rfl)
theorem dX2_keep_116 : decode cX2_keep 116 = .ok (.istore_n 2, 1) := dk_61 (dk_at dksX2_keep_4 21 rfl rfl)
theorem dX2_keep_117 : decode cX2_keep 117 = .ok (.iload_n 2, 1) := dk_28 (dk_at dksX2_keep_4 22 rfl rfl)
theorem dX2_keep_118 : decode cX2_keep 118 = .ok (.bipush 25, 2) := dk_16 25 (dk_at dksX2_keep_5 0 rfl rfl)
theorem dX2_keep_120 : decode cX2_keep 120 = .ok (.if_icmp .ge 32, 3) := dk_162 0 32 (dk_at dksX2_keep_5 2 rfl rfl)
theorem dX2_keep_123 : decode cX2_keep 123 = .ok (.aload_n 0, 1) := dk_42 (dk_at dksX2_keep_5 5 rfl rfl)
theorem dX2_keep_124 : decode cX2_keep 124 = .ok (.getfield 7, 3) := dk_180 0 7 (dk_at dksX2_keep_5 6 rfl rfl)
theorem dX2_keep_127 : decode cX2_keep 127 = .ok (.iload_n 1, 1) := dk_27 (dk_at dksX2_keep_5 9 rfl rfl)
theorem dX2_keep_128 : decode cX2_keep 128 = .ok (.iconst 1, 1) := dk_4 (dk_at dksX2_keep_5 10 rfl rfl)
theorem dX2_keep_129 : decode cX2_keep 129 = .ok (.iadd, 1) := dk_96 (dk_at dksX2_keep_5 11 rfl rfl)
theorem dX2_keep_130 : decode cX2_keep 130 = .ok (.bipush 16, 2) := dk_16 16 (dk_at dksX2_keep_5 12 rfl rfl)
theorem dX2_keep_132 : decode cX2_keep 132 = .ok (.iadd, 1) := dk_96 (dk_at dksX2_keep_5 14 rfl rfl)
theorem dX2_keep_133 : decode cX2_keep 133 = .ok (.iload_n 2, 1) := dk_28 (dk_at dksX2_keep_5 15 rfl rfl)
theorem dX2_keep_134 : decode cX2_keep 134 = .ok (.iadd, 1) := dk_96 (dk_at dksX2_keep_5 16 rfl rfl)
theorem dX2_keep_135 : decode cX2_keep 135 = .ok (.aload_n 0, 1) := dk_42 (dk_at dksX2_keep_5 17 rfl rfl)
theorem dX2_keep_136 : decode cX2_keep 136 = .ok (.getfield 7, 3) := dk_180 0 7 (dk_at dksX2_keep_5 18 rfl rfl)
theorem dX2_keep_139 : decode cX2_keep 139 = .ok (.sipush 1425, 3) := dk_17 5 145 (dk_at dksX2_keep_5 21 rfl rfl)
theorem dX2_keep_142 : decode cX2_keep 142 = .ok (.iload_n 2, 1) := dk_28 (dk_at dksX2_keep_6 0 rfl rfl)
theorem dX2_keep_143 : decode cX2_keep 143 = .ok (.iadd, 1) := dk_96 (dk_at dksX2_keep_6 1 rfl rfl)
theorem dX2_keep_144 : decode cX2_keep 144 = .ok (.iaload, 1) := dk_46 (dk_at dksX2_keep_6 2 rfl rfl)
theorem dX2_keep_145 : decode cX2_keep 145 = .ok (.iastore, 1) := dk_79 (dk_at dksX2_keep_6 3 rfl rfl)
theorem dX2_keep_146 : decode cX2_keep 146 = .ok (.iinc 2 1, 3) := dk_132 2 1 (dk_at dksX2_keep_6 4 rfl rfl)
theorem dX2_keep_149 : decode cX2_keep 149 = .ok (.goto (-32), 3) := dk_167 255 224 (dk_at dksX2_keep_6 7 rfl rfl)
theorem dX2_keep_152 : decode cX2_keep 152 = .ok (.aload_n 0, 1) := dk_42 (dk_at dksX2_keep_6 10 rfl rfl)
theorem dX2_keep_153 : decode cX2_keep 153 = .ok (.getfield 7, 3) := dk_180 0 7 (dk_at dksX2_keep_6 11 rfl rfl)
theorem dX2_keep_156 : decode cX2_keep 156 = .ok (.iconst 3, 1) := dk_6 (dk_at dksX2_keep_6 14 rfl rfl)
theorem dX2_keep_157 : decode cX2_keep 157 = .ok (.dup2, 1) := dk_92 (dk_at dksX2_keep_6 15 rfl rfl)
theorem dX2_keep_158 : decode cX2_keep 158 = .ok (.iaload, 1) := dk_46 (dk_at dksX2_keep_6 16 rfl rfl)
theorem dX2_keep_159 : decode cX2_keep 159 = .ok (.iconst 1, 1) := dk_4 (dk_at dksX2_keep_6 17 rfl rfl)
theorem dX2_keep_160 : decode cX2_keep 160 = .ok (.iadd, 1) := dk_96 (dk_at dksX2_keep_6 18 rfl rfl)
theorem dX2_keep_161 : decode cX2_keep 161 = .ok (.iastore, 1) := dk_79 (dk_at dksX2_keep_6 19 rfl rfl)
theorem dX2_keep_162 : decode cX2_keep 162 = .ok (.return_, 1) := dk_177 (dk_at dksX2_keep_6 20 rfl rfl)
abbrev cX2_more : ByteArray := prog_20_method_69_code
def yX2_more : MethodName := ⟨RX2, "more", "(I)V"⟩
def dkwX2_more_1 : List UInt8 := [184, 1, 32, 79, 177]
abbrev dktX2_more_1 : List UInt8 := dkwX2_more_1 ++ []
def dkwX2_more_0 : List UInt8 := [42, 180, 0, 7, 16, 11, 27, 96, 42, 180, 0, 7, 16, 11, 27, 96, 46, 4, 96, 133, 3, 16, 99]
abbrev dktX2_more_0 : List UInt8 := dkwX2_more_0 ++ dktX2_more_1
theorem dksX2_more_0 : cX2_more.data.toList.drop 0 = dktX2_more_0 := by decide +kernel
theorem dksX2_more_1 : cX2_more.data.toList.drop 23 = dktX2_more_1 := dk_seg dksX2_more_0 23 rfl rfl
theorem dX2_more_0 : decode cX2_more 0 = .ok (.aload_n 0, 1) := dk_42 (dk_at dksX2_more_0 0 rfl rfl)
theorem dX2_more_1 : decode cX2_more 1 = .ok (.getfield 7, 3) := dk_180 0 7 (dk_at dksX2_more_0 1 rfl rfl)
theorem dX2_more_4 : decode cX2_more 4 = .ok (.bipush 11, 2) := dk_16 11 (dk_at dksX2_more_0 4 rfl rfl)
theorem dX2_more_6 : decode cX2_more 6 = .ok (.iload_n 1, 1) := dk_27 (dk_at dksX2_more_0 6 rfl rfl)
theorem dX2_more_7 : decode cX2_more 7 = .ok (.iadd, 1) := dk_96 (dk_at dksX2_more_0 7 rfl rfl)
theorem dX2_more_8 : decode cX2_more 8 = .ok (.aload_n 0, 1) := dk_42 (dk_at dksX2_more_0 8 rfl rfl)
theorem dX2_more_9 : decode cX2_more 9 = .ok (.getfield 7, 3) := dk_180 0 7 (dk_at dksX2_more_0 9 rfl rfl)
theorem dX2_more_12 : decode cX2_more 12 = .ok (.bipush 11, 2) := dk_16 11 (dk_at dksX2_more_0 12 rfl rfl)
theorem dX2_more_14 : decode cX2_more 14 = .ok (.iload_n 1, 1) := dk_27 (dk_at dksX2_more_0 14 rfl rfl)
theorem dX2_more_15 : decode cX2_more 15 = .ok (.iadd, 1) := dk_96 (dk_at dksX2_more_0 15 rfl rfl)
theorem dX2_more_16 : decode cX2_more 16 = .ok (.iaload, 1) := dk_46 (dk_at dksX2_more_0 16 rfl rfl)
theorem dX2_more_17 : decode cX2_more 17 = .ok (.iconst 1, 1) := dk_4 (dk_at dksX2_more_0 17 rfl rfl)
theorem dX2_more_18 : decode cX2_more 18 = .ok (.iadd, 1) := dk_96 (dk_at dksX2_more_0 18 rfl rfl)
theorem dX2_more_19 : decode cX2_more 19 = .ok (.i2l, 1) := dk_133 (dk_at dksX2_more_0 19 rfl rfl)
theorem dX2_more_20 : decode cX2_more 20 = .ok (.iconst 0, 1) := dk_3 (dk_at dksX2_more_0 20 rfl rfl)
theorem dX2_more_21 : decode cX2_more 21 = .ok (.bipush 99, 2) := dk_16 99 (dk_at dksX2_more_0 21 rfl rfl)
theorem dX2_more_23 : decode cX2_more 23 = .ok (.invokestatic 288, 3) := dk_184 1 32 (dk_at dksX2_more_1 0 rfl rfl)
theorem dX2_more_26 : decode cX2_more 26 = .ok (.iastore, 1) := dk_79 (dk_at dksX2_more_1 3 rfl rfl)
theorem dX2_more_27 : decode cX2_more 27 = .ok (.return_, 1) := dk_177 (dk_at dksX2_more_1 4 rfl rfl)
abbrev cX2_held : ByteArray := prog_20_method_4_code
def yX2_held : MethodName := ⟨RX2, "held", "(JII)I"⟩
def dkwX2_held_1 : List UInt8 := [172]
abbrev dktX2_held_1 : List UInt8 := dkwX2_held_1 ++ []
def dkwX2_held_0 : List UInt8 := [30, 28, 133, 148, 156, 0, 7, 28, 167, 0, 16, 30, 29, 133, 148, 158, 0, 7, 29, 167, 0, 5, 30, 136]
abbrev dktX2_held_0 : List UInt8 := dkwX2_held_0 ++ dktX2_held_1
theorem dksX2_held_0 : cX2_held.data.toList.drop 0 = dktX2_held_0 := by decide +kernel
theorem dksX2_held_1 : cX2_held.data.toList.drop 24 = dktX2_held_1 := dk_seg dksX2_held_0 24 rfl rfl
theorem dX2_held_0 : decode cX2_held 0 = .ok (.lload_n 0, 1) := dk_30 (dk_at dksX2_held_0 0 rfl rfl)
theorem dX2_held_1 : decode cX2_held 1 = .ok (.iload_n 2, 1) := dk_28 (dk_at dksX2_held_0 1 rfl rfl)
theorem dX2_held_2 : decode cX2_held 2 = .ok (.i2l, 1) := dk_133 (dk_at dksX2_held_0 2 rfl rfl)
theorem dX2_held_3 : decode cX2_held 3 = .ok (.lcmp, 1) := dk_148 (dk_at dksX2_held_0 3 rfl rfl)
theorem dX2_held_4 : decode cX2_held 4 = .ok (.ifCond .ge 7, 3) := dk_156 0 7 (dk_at dksX2_held_0 4 rfl rfl)
theorem dX2_held_7 : decode cX2_held 7 = .ok (.iload_n 2, 1) := dk_28 (dk_at dksX2_held_0 7 rfl rfl)
theorem dX2_held_8 : decode cX2_held 8 = .ok (.goto 16, 3) := dk_167 0 16 (dk_at dksX2_held_0 8 rfl rfl)
theorem dX2_held_11 : decode cX2_held 11 = .ok (.lload_n 0, 1) := dk_30 (dk_at dksX2_held_0 11 rfl rfl)
theorem dX2_held_12 : decode cX2_held 12 = .ok (.iload_n 3, 1) := dk_29 (dk_at dksX2_held_0 12 rfl rfl)
theorem dX2_held_13 : decode cX2_held 13 = .ok (.i2l, 1) := dk_133 (dk_at dksX2_held_0 13 rfl rfl)
theorem dX2_held_14 : decode cX2_held 14 = .ok (.lcmp, 1) := dk_148 (dk_at dksX2_held_0 14 rfl rfl)
theorem dX2_held_15 : decode cX2_held 15 = .ok (.ifCond .le 7, 3) := dk_158 0 7 (dk_at dksX2_held_0 15 rfl rfl)
theorem dX2_held_18 : decode cX2_held 18 = .ok (.iload_n 3, 1) := dk_29 (dk_at dksX2_held_0 18 rfl rfl)
theorem dX2_held_19 : decode cX2_held 19 = .ok (.goto 5, 3) := dk_167 0 5 (dk_at dksX2_held_0 19 rfl rfl)
theorem dX2_held_22 : decode cX2_held 22 = .ok (.lload_n 0, 1) := dk_30 (dk_at dksX2_held_0 22 rfl rfl)
theorem dX2_held_23 : decode cX2_held 23 = .ok (.l2i, 1) := dk_136 (dk_at dksX2_held_0 23 rfl rfl)
theorem dX2_held_24 : decode cX2_held 24 = .ok (.ireturn, 1) := dk_172 (dk_at dksX2_held_1 0 rfl rfl)
abbrev cX2_down : ByteArray := prog_20_method_77_code
def yX2_down : MethodName := ⟨RX2, "down", "(II)Z"⟩
def dkwX2_down_1 : List UInt8 := [46, 28, 100, 79, 4, 172]
abbrev dktX2_down_1 : List UInt8 := dkwX2_down_1 ++ []
def dkwX2_down_0 : List UInt8 := [42, 27, 28, 182, 1, 80, 154, 0, 5, 3, 172, 42, 182, 1, 77, 42, 180, 0, 7, 16, 11, 27, 96, 92]
abbrev dktX2_down_0 : List UInt8 := dkwX2_down_0 ++ dktX2_down_1
theorem dksX2_down_0 : cX2_down.data.toList.drop 0 = dktX2_down_0 := by decide +kernel
theorem dksX2_down_1 : cX2_down.data.toList.drop 24 = dktX2_down_1 := dk_seg dksX2_down_0 24 rfl rfl
theorem dX2_down_0 : decode cX2_down 0 = .ok (.aload_n 0, 1) := dk_42 (dk_at dksX2_down_0 0 rfl rfl)
theorem dX2_down_1 : decode cX2_down 1 = .ok (.iload_n 1, 1) := dk_27 (dk_at dksX2_down_0 1 rfl rfl)
theorem dX2_down_2 : decode cX2_down 2 = .ok (.iload_n 2, 1) := dk_28 (dk_at dksX2_down_0 2 rfl rfl)
theorem dX2_down_3 : decode cX2_down 3 = .ok (.invokevirtual 336, 3) := dk_182 1 80 (dk_at dksX2_down_0 3 rfl rfl)
theorem dX2_down_6 : decode cX2_down 6 = .ok (.ifCond .ne 5, 3) := dk_154 0 5 (dk_at dksX2_down_0 6 rfl rfl)
theorem dX2_down_9 : decode cX2_down 9 = .ok (.iconst 0, 1) := dk_3 (dk_at dksX2_down_0 9 rfl rfl)
theorem dX2_down_10 : decode cX2_down 10 = .ok (.ireturn, 1) := dk_172 (dk_at dksX2_down_0 10 rfl rfl)
theorem dX2_down_11 : decode cX2_down 11 = .ok (.aload_n 0, 1) := dk_42 (dk_at dksX2_down_0 11 rfl rfl)
theorem dX2_down_12 : decode cX2_down 12 = .ok (.invokevirtual 333, 3) := dk_182 1 77 (dk_at dksX2_down_0 12 rfl rfl)
theorem dX2_down_15 : decode cX2_down 15 = .ok (.aload_n 0, 1) := dk_42 (dk_at dksX2_down_0 15 rfl rfl)
theorem dX2_down_16 : decode cX2_down 16 = .ok (.getfield 7, 3) := dk_180 0 7 (dk_at dksX2_down_0 16 rfl rfl)
theorem dX2_down_19 : decode cX2_down 19 = .ok (.bipush 11, 2) := dk_16 11 (dk_at dksX2_down_0 19 rfl rfl)
theorem dX2_down_21 : decode cX2_down 21 = .ok (.iload_n 1, 1) := dk_27 (dk_at dksX2_down_0 21 rfl rfl)
theorem dX2_down_22 : decode cX2_down 22 = .ok (.iadd, 1) := dk_96 (dk_at dksX2_down_0 22 rfl rfl)
theorem dX2_down_23 : decode cX2_down 23 = .ok (.dup2, 1) := dk_92 (dk_at dksX2_down_0 23 rfl rfl)
theorem dX2_down_24 : decode cX2_down 24 = .ok (.iaload, 1) := dk_46 (dk_at dksX2_down_1 0 rfl rfl)
theorem dX2_down_25 : decode cX2_down 25 = .ok (.iload_n 2, 1) := dk_28 (dk_at dksX2_down_1 1 rfl rfl)
theorem dX2_down_26 : decode cX2_down 26 = .ok (.isub, 1) := dk_100 (dk_at dksX2_down_1 2 rfl rfl)
theorem dX2_down_27 : decode cX2_down 27 = .ok (.iastore, 1) := dk_79 (dk_at dksX2_down_1 3 rfl rfl)
theorem dX2_down_28 : decode cX2_down 28 = .ok (.iconst 1, 1) := dk_4 (dk_at dksX2_down_1 4 rfl rfl)
theorem dX2_down_29 : decode cX2_down 29 = .ok (.ireturn, 1) := dk_172 (dk_at dksX2_down_1 5 rfl rfl)
abbrev cX2_canDown : ByteArray := prog_20_method_70_code
def yX2_canDown : MethodName := ⟨RX2, "canDown", "(II)Z"⟩
def dkwX2_canDown_1 : List UInt8 := [27, 96, 46, 28, 161, 0, 7, 4, 167, 0, 4, 3, 172]
abbrev dktX2_canDown_1 : List UInt8 := dkwX2_canDown_1 ++ []
def dkwX2_canDown_0 : List UInt8 := [42, 27, 182, 0, 92, 153, 0, 30, 28, 4, 16, 99, 184, 0, 72, 153, 0, 20, 42, 180, 0, 7, 16, 11]
abbrev dktX2_canDown_0 : List UInt8 := dkwX2_canDown_0 ++ dktX2_canDown_1
theorem dksX2_canDown_0 : cX2_canDown.data.toList.drop 0 = dktX2_canDown_0 := by decide +kernel
theorem dksX2_canDown_1 : cX2_canDown.data.toList.drop 24 = dktX2_canDown_1 := dk_seg dksX2_canDown_0 24 rfl rfl
theorem dX2_canDown_0 : decode cX2_canDown 0 = .ok (.aload_n 0, 1) := dk_42 (dk_at dksX2_canDown_0 0 rfl rfl)
theorem dX2_canDown_1 : decode cX2_canDown 1 = .ok (.iload_n 1, 1) := dk_27 (dk_at dksX2_canDown_0 1 rfl rfl)
theorem dX2_canDown_2 : decode cX2_canDown 2 = .ok (.invokevirtual 92, 3) := dk_182 0 92 (dk_at dksX2_canDown_0 2 rfl rfl)
theorem dX2_canDown_5 : decode cX2_canDown 5 = .ok (.ifCond .eq 30, 3) := dk_153 0 30 (dk_at dksX2_canDown_0 5 rfl rfl)
theorem dX2_canDown_8 : decode cX2_canDown 8 = .ok (.iload_n 2, 1) := dk_28 (dk_at dksX2_canDown_0 8 rfl rfl)
theorem dX2_canDown_9 : decode cX2_canDown 9 = .ok (.iconst 1, 1) := dk_4 (dk_at dksX2_canDown_0 9 rfl rfl)
theorem dX2_canDown_10 : decode cX2_canDown 10 = .ok (.bipush 99, 2) := dk_16 99 (dk_at dksX2_canDown_0 10 rfl rfl)
theorem dX2_canDown_12 : decode cX2_canDown 12 = .ok (.invokestatic 72, 3) := dk_184 0 72 (dk_at dksX2_canDown_0 12 rfl rfl)
theorem dX2_canDown_15 : decode cX2_canDown 15 = .ok (.ifCond .eq 20, 3) := dk_153 0 20 (dk_at dksX2_canDown_0 15 rfl rfl)
theorem dX2_canDown_18 : decode cX2_canDown 18 = .ok (.aload_n 0, 1) := dk_42 (dk_at dksX2_canDown_0 18 rfl rfl)
theorem dX2_canDown_19 : decode cX2_canDown 19 = .ok (.getfield 7, 3) := dk_180 0 7 (dk_at dksX2_canDown_0 19 rfl rfl)
theorem dX2_canDown_22 : decode cX2_canDown 22 = .ok (.bipush 11, 2) := dk_16 11 (dk_at dksX2_canDown_0 22 rfl rfl)
theorem dX2_canDown_24 : decode cX2_canDown 24 = .ok (.iload_n 1, 1) := dk_27 (dk_at dksX2_canDown_1 0 rfl rfl)
theorem dX2_canDown_25 : decode cX2_canDown 25 = .ok (.iadd, 1) := dk_96 (dk_at dksX2_canDown_1 1 rfl rfl)
theorem dX2_canDown_26 : decode cX2_canDown 26 = .ok (.iaload, 1) := dk_46 (dk_at dksX2_canDown_1 2 rfl rfl)
theorem dX2_canDown_27 : decode cX2_canDown 27 = .ok (.iload_n 2, 1) := dk_28 (dk_at dksX2_canDown_1 3 rfl rfl)
theorem dX2_canDown_28 : decode cX2_canDown 28 = .ok (.if_icmp .lt 7, 3) := dk_161 0 7 (dk_at dksX2_canDown_1 4 rfl rfl)
theorem dX2_canDown_31 : decode cX2_canDown 31 = .ok (.iconst 1, 1) := dk_4 (dk_at dksX2_canDown_1 7 rfl rfl)
theorem dX2_canDown_32 : decode cX2_canDown 32 = .ok (.goto 4, 3) := dk_167 0 4 (dk_at dksX2_canDown_1 8 rfl rfl)
theorem dX2_canDown_35 : decode cX2_canDown 35 = .ok (.iconst 0, 1) := dk_3 (dk_at dksX2_canDown_1 11 rfl rfl)
theorem dX2_canDown_36 : decode cX2_canDown 36 = .ok (.ireturn, 1) := dk_172 (dk_at dksX2_canDown_1 12 rfl rfl)
abbrev cX2_strap : ByteArray := prog_20_method_78_code
def yX2_strap : MethodName := ⟨RX2, "strap", "(I)Z"⟩
def dkwX2_strap_1 : List UInt8 := [120, 130, 79, 4, 172]
abbrev dktX2_strap_1 : List UInt8 := dkwX2_strap_1 ++ []
def dkwX2_strap_0 : List UInt8 := [42, 27, 182, 0, 92, 154, 0, 5, 3, 172, 42, 182, 1, 77, 42, 180, 0, 7, 16, 10, 92, 46, 4, 27]
abbrev dktX2_strap_0 : List UInt8 := dkwX2_strap_0 ++ dktX2_strap_1
theorem dksX2_strap_0 : cX2_strap.data.toList.drop 0 = dktX2_strap_0 := by decide +kernel
theorem dksX2_strap_1 : cX2_strap.data.toList.drop 24 = dktX2_strap_1 := dk_seg dksX2_strap_0 24 rfl rfl
theorem dX2_strap_0 : decode cX2_strap 0 = .ok (.aload_n 0, 1) := dk_42 (dk_at dksX2_strap_0 0 rfl rfl)
theorem dX2_strap_1 : decode cX2_strap 1 = .ok (.iload_n 1, 1) := dk_27 (dk_at dksX2_strap_0 1 rfl rfl)
theorem dX2_strap_2 : decode cX2_strap 2 = .ok (.invokevirtual 92, 3) := dk_182 0 92 (dk_at dksX2_strap_0 2 rfl rfl)
theorem dX2_strap_5 : decode cX2_strap 5 = .ok (.ifCond .ne 5, 3) := dk_154 0 5 (dk_at dksX2_strap_0 5 rfl rfl)
theorem dX2_strap_8 : decode cX2_strap 8 = .ok (.iconst 0, 1) := dk_3 (dk_at dksX2_strap_0 8 rfl rfl)
theorem dX2_strap_9 : decode cX2_strap 9 = .ok (.ireturn, 1) := dk_172 (dk_at dksX2_strap_0 9 rfl rfl)
theorem dX2_strap_10 : decode cX2_strap 10 = .ok (.aload_n 0, 1) := dk_42 (dk_at dksX2_strap_0 10 rfl rfl)
theorem dX2_strap_11 : decode cX2_strap 11 = .ok (.invokevirtual 333, 3) := dk_182 1 77 (dk_at dksX2_strap_0 11 rfl rfl)
theorem dX2_strap_14 : decode cX2_strap 14 = .ok (.aload_n 0, 1) := dk_42 (dk_at dksX2_strap_0 14 rfl rfl)
theorem dX2_strap_15 : decode cX2_strap 15 = .ok (.getfield 7, 3) := dk_180 0 7 (dk_at dksX2_strap_0 15 rfl rfl)
theorem dX2_strap_18 : decode cX2_strap 18 = .ok (.bipush 10, 2) := dk_16 10 (dk_at dksX2_strap_0 18 rfl rfl)
theorem dX2_strap_20 : decode cX2_strap 20 = .ok (.dup2, 1) := dk_92 (dk_at dksX2_strap_0 20 rfl rfl)
theorem dX2_strap_21 : decode cX2_strap 21 = .ok (.iaload, 1) := dk_46 (dk_at dksX2_strap_0 21 rfl rfl)
theorem dX2_strap_22 : decode cX2_strap 22 = .ok (.iconst 1, 1) := dk_4 (dk_at dksX2_strap_0 22 rfl rfl)
theorem dX2_strap_23 : decode cX2_strap 23 = .ok (.iload_n 1, 1) := dk_27 (dk_at dksX2_strap_0 23 rfl rfl)
theorem dX2_strap_24 : decode cX2_strap 24 = .ok (.ishl, 1) := dk_120 (dk_at dksX2_strap_1 0 rfl rfl)
theorem dX2_strap_25 : decode cX2_strap 25 = .ok (.ixor, 1) := dk_130 (dk_at dksX2_strap_1 1 rfl rfl)
theorem dX2_strap_26 : decode cX2_strap 26 = .ok (.iastore, 1) := dk_79 (dk_at dksX2_strap_1 2 rfl rfl)
theorem dX2_strap_27 : decode cX2_strap 27 = .ok (.iconst 1, 1) := dk_4 (dk_at dksX2_strap_1 3 rfl rfl)
theorem dX2_strap_28 : decode cX2_strap 28 = .ok (.ireturn, 1) := dk_172 (dk_at dksX2_strap_1 4 rfl rfl)
abbrev cX2_swap : ByteArray := prog_20_method_79_code
def yX2_swap : MethodName := ⟨RX2, "swap", "(II)Z"⟩
def dkwX2_swap_1 : List UInt8 := [182, 1, 77, 42, 27, 28, 182, 1, 83, 4, 172]
abbrev dktX2_swap_1 : List UInt8 := dkwX2_swap_1 ++ []
def dkwX2_swap_0 : List UInt8 := [42, 27, 182, 0, 92, 153, 0, 16, 42, 28, 182, 0, 92, 153, 0, 8, 27, 28, 160, 0, 5, 3, 172, 42]
abbrev dktX2_swap_0 : List UInt8 := dkwX2_swap_0 ++ dktX2_swap_1
theorem dksX2_swap_0 : cX2_swap.data.toList.drop 0 = dktX2_swap_0 := by decide +kernel
theorem dksX2_swap_1 : cX2_swap.data.toList.drop 24 = dktX2_swap_1 := dk_seg dksX2_swap_0 24 rfl rfl
theorem dX2_swap_0 : decode cX2_swap 0 = .ok (.aload_n 0, 1) := dk_42 (dk_at dksX2_swap_0 0 rfl rfl)
theorem dX2_swap_1 : decode cX2_swap 1 = .ok (.iload_n 1, 1) := dk_27 (dk_at dksX2_swap_0 1 rfl rfl)
theorem dX2_swap_2 : decode cX2_swap 2 = .ok (.invokevirtual 92, 3) := dk_182 0 92 (dk_at dksX2_swap_0 2 rfl rfl)
theorem dX2_swap_5 : decode cX2_swap 5 = .ok (.ifCond .eq 16, 3) := dk_153 0 16 (dk_at dksX2_swap_0 5 rfl rfl)
theorem dX2_swap_8 : decode cX2_swap 8 = .ok (.aload_n 0, 1) := dk_42 (dk_at dksX2_swap_0 8 rfl rfl)
theorem dX2_swap_9 : decode cX2_swap 9 = .ok (.iload_n 2, 1) := dk_28 (dk_at dksX2_swap_0 9 rfl rfl)
theorem dX2_swap_10 : decode cX2_swap 10 = .ok (.invokevirtual 92, 3) := dk_182 0 92 (dk_at dksX2_swap_0 10 rfl rfl)
theorem dX2_swap_13 : decode cX2_swap 13 = .ok (.ifCond .eq 8, 3) := dk_153 0 8 (dk_at dksX2_swap_0 13 rfl rfl)
theorem dX2_swap_16 : decode cX2_swap 16 = .ok (.iload_n 1, 1) := dk_27 (dk_at dksX2_swap_0 16 rfl rfl)
theorem dX2_swap_17 : decode cX2_swap 17 = .ok (.iload_n 2, 1) := dk_28 (dk_at dksX2_swap_0 17 rfl rfl)
theorem dX2_swap_18 : decode cX2_swap 18 = .ok (.if_icmp .ne 5, 3) := dk_160 0 5 (dk_at dksX2_swap_0 18 rfl rfl)
theorem dX2_swap_21 : decode cX2_swap 21 = .ok (.iconst 0, 1) := dk_3 (dk_at dksX2_swap_0 21 rfl rfl)
theorem dX2_swap_22 : decode cX2_swap 22 = .ok (.ireturn, 1) := dk_172 (dk_at dksX2_swap_0 22 rfl rfl)
theorem dX2_swap_23 : decode cX2_swap 23 = .ok (.aload_n 0, 1) := dk_42 (dk_at dksX2_swap_0 23 rfl rfl)
theorem dX2_swap_24 : decode cX2_swap 24 = .ok (.invokevirtual 333, 3) := dk_182 1 77 (dk_at dksX2_swap_1 0 rfl rfl)
theorem dX2_swap_27 : decode cX2_swap 27 = .ok (.aload_n 0, 1) := dk_42 (dk_at dksX2_swap_1 3 rfl rfl)
theorem dX2_swap_28 : decode cX2_swap 28 = .ok (.iload_n 1, 1) := dk_27 (dk_at dksX2_swap_1 4 rfl rfl)
theorem dX2_swap_29 : decode cX2_swap 29 = .ok (.iload_n 2, 1) := dk_28 (dk_at dksX2_swap_1 5 rfl rfl)
theorem dX2_swap_30 : decode cX2_swap 30 = .ok (.invokevirtual 339, 3) := dk_182 1 83 (dk_at dksX2_swap_1 6 rfl rfl)
theorem dX2_swap_33 : decode cX2_swap 33 = .ok (.iconst 1, 1) := dk_4 (dk_at dksX2_swap_1 9 rfl rfl)
theorem dX2_swap_34 : decode cX2_swap 34 = .ok (.ireturn, 1) := dk_172 (dk_at dksX2_swap_1 10 rfl rfl)
abbrev cX2_swapNow : ByteArray := prog_20_method_71_code
def yX2_swapNow : MethodName := ⟨RX2, "swapNow", "(II)V"⟩
def dkwX2_swapNow_1 : List UInt8 := [28, 96, 46, 79, 42, 180, 0, 7, 16, 17, 28, 96, 29, 79, 177]
abbrev dktX2_swapNow_1 : List UInt8 := dkwX2_swapNow_1 ++ []
def dkwX2_swapNow_0 : List UInt8 := [42, 180, 0, 7, 16, 17, 27, 96, 46, 62, 42, 180, 0, 7, 16, 17, 27, 96, 42, 180, 0, 7, 16, 17]
abbrev dktX2_swapNow_0 : List UInt8 := dkwX2_swapNow_0 ++ dktX2_swapNow_1
theorem dksX2_swapNow_0 : cX2_swapNow.data.toList.drop 0 = dktX2_swapNow_0 := by decide +kernel
theorem dksX2_swapNow_1 : cX2_swapNow.data.toList.drop 24 = dktX2_swapNow_1 := dk_seg dksX2_swapNow_0 24 rfl rfl
theorem dX2_swapNow_0 : decode cX2_swapNow 0 = .ok (.aload_n 0, 1) := dk_42 (dk_at dksX2_swapNow_0 0 rfl rfl)
theorem dX2_swapNow_1 : decode cX2_swapNow 1 = .ok (.getfield 7, 3) := dk_180 0 7 (dk_at dksX2_swapNow_0 1 rfl rfl)
theorem dX2_swapNow_4 : decode cX2_swapNow 4 = .ok (.bipush 17, 2) := dk_16 17 (dk_at dksX2_swapNow_0 4 rfl rfl)
theorem dX2_swapNow_6 : decode cX2_swapNow 6 = .ok (.iload_n 1, 1) := dk_27 (dk_at dksX2_swapNow_0 6 rfl rfl)
theorem dX2_swapNow_7 : decode cX2_swapNow 7 = .ok (.iadd, 1) := dk_96 (dk_at dksX2_swapNow_0 7 rfl rfl)
theorem dX2_swapNow_8 : decode cX2_swapNow 8 = .ok (.iaload, 1) := dk_46 (dk_at dksX2_swapNow_0 8 rfl rfl)
theorem dX2_swapNow_9 : decode cX2_swapNow 9 = .ok (.istore_n 3, 1) := dk_62 (dk_at dksX2_swapNow_0 9 rfl rfl)
theorem dX2_swapNow_10 : decode cX2_swapNow 10 = .ok (.aload_n 0, 1) := dk_42 (dk_at dksX2_swapNow_0 10 rfl rfl)
theorem dX2_swapNow_11 : decode cX2_swapNow 11 = .ok (.getfield 7, 3) := dk_180 0 7 (dk_at dksX2_swapNow_0 11 rfl rfl)
theorem dX2_swapNow_14 : decode cX2_swapNow 14 = .ok (.bipush 17, 2) := dk_16 17 (dk_at dksX2_swapNow_0 14 rfl rfl)
theorem dX2_swapNow_16 : decode cX2_swapNow 16 = .ok (.iload_n 1, 1) := dk_27 (dk_at dksX2_swapNow_0 16 rfl rfl)
theorem dX2_swapNow_17 : decode cX2_swapNow 17 = .ok (.iadd, 1) := dk_96 (dk_at dksX2_swapNow_0 17 rfl rfl)
theorem dX2_swapNow_18 : decode cX2_swapNow 18 = .ok (.aload_n 0, 1) := dk_42 (dk_at dksX2_swapNow_0 18 rfl rfl)
theorem dX2_swapNow_19 : decode cX2_swapNow 19 = .ok (.getfield 7, 3) := dk_180 0 7 (dk_at dksX2_swapNow_0 19 rfl rfl)
theorem dX2_swapNow_22 : decode cX2_swapNow 22 = .ok (.bipush 17, 2) := dk_16 17 (dk_at dksX2_swapNow_0 22 rfl rfl)
theorem dX2_swapNow_24 : decode cX2_swapNow 24 = .ok (.iload_n 2, 1) := dk_28 (dk_at dksX2_swapNow_1 0 rfl rfl)
theorem dX2_swapNow_25 : decode cX2_swapNow 25 = .ok (.iadd, 1) := dk_96 (dk_at dksX2_swapNow_1 1 rfl rfl)
theorem dX2_swapNow_26 : decode cX2_swapNow 26 = .ok (.iaload, 1) := dk_46 (dk_at dksX2_swapNow_1 2 rfl rfl)
theorem dX2_swapNow_27 : decode cX2_swapNow 27 = .ok (.iastore, 1) := dk_79 (dk_at dksX2_swapNow_1 3 rfl rfl)
theorem dX2_swapNow_28 : decode cX2_swapNow 28 = .ok (.aload_n 0, 1) := dk_42 (dk_at dksX2_swapNow_1 4 rfl rfl)
theorem dX2_swapNow_29 : decode cX2_swapNow 29 = .ok (.getfield 7, 3) := dk_180 0 7 (dk_at dksX2_swapNow_1 5 rfl rfl)
theorem dX2_swapNow_32 : decode cX2_swapNow 32 = .ok (.bipush 17, 2) := dk_16 17 (dk_at dksX2_swapNow_1 8 rfl rfl)
theorem dX2_swapNow_34 : decode cX2_swapNow 34 = .ok (.iload_n 2, 1) := dk_28 (dk_at dksX2_swapNow_1 10 rfl rfl)
theorem dX2_swapNow_35 : decode cX2_swapNow 35 = .ok (.iadd, 1) := dk_96 (dk_at dksX2_swapNow_1 11 rfl rfl)
theorem dX2_swapNow_36 : decode cX2_swapNow 36 = .ok (.iload_n 3, 1) := dk_29 (dk_at dksX2_swapNow_1 12 rfl rfl)
theorem dX2_swapNow_37 : decode cX2_swapNow 37 = .ok (.iastore, 1) := dk_79 (dk_at dksX2_swapNow_1 13 rfl rfl)
theorem dX2_swapNow_38 : decode cX2_swapNow 38 = .ok (.return_, 1) := dk_177 (dk_at dksX2_swapNow_1 14 rfl rfl)
abbrev cX2_dinner : ByteArray := prog_20_method_81_code
def yX2_dinner : MethodName := ⟨RX2, "dinner", "(I)I"⟩
def dkwX2_dinner_1 : List UInt8 := [163, 0, 18, 42, 27, 182, 1, 89, 153, 0, 10, 42, 180, 1, 55, 167, 0, 4, 2, 172]
abbrev dktX2_dinner_1 : List UInt8 := dkwX2_dinner_1 ++ []
def dkwX2_dinner_0 : List UInt8 := [27, 4, 16, 60, 184, 0, 72, 153, 0, 33, 42, 180, 0, 7, 16, 7, 46, 27, 96, 17, 39, 15]
abbrev dktX2_dinner_0 : List UInt8 := dkwX2_dinner_0 ++ dktX2_dinner_1
theorem dksX2_dinner_0 : cX2_dinner.data.toList.drop 0 = dktX2_dinner_0 := by decide +kernel
theorem dksX2_dinner_1 : cX2_dinner.data.toList.drop 22 = dktX2_dinner_1 := dk_seg dksX2_dinner_0 22 rfl rfl
theorem dX2_dinner_0 : decode cX2_dinner 0 = .ok (.iload_n 1, 1) := dk_27 (dk_at dksX2_dinner_0 0 rfl rfl)
theorem dX2_dinner_1 : decode cX2_dinner 1 = .ok (.iconst 1, 1) := dk_4 (dk_at dksX2_dinner_0 1 rfl rfl)
theorem dX2_dinner_2 : decode cX2_dinner 2 = .ok (.bipush 60, 2) := dk_16 60 (dk_at dksX2_dinner_0 2 rfl rfl)
theorem dX2_dinner_4 : decode cX2_dinner 4 = .ok (.invokestatic 72, 3) := dk_184 0 72 (dk_at dksX2_dinner_0 4 rfl rfl)
theorem dX2_dinner_7 : decode cX2_dinner 7 = .ok (.ifCond .eq 33, 3) := dk_153 0 33 (dk_at dksX2_dinner_0 7 rfl rfl)
theorem dX2_dinner_10 : decode cX2_dinner 10 = .ok (.aload_n 0, 1) := dk_42 (dk_at dksX2_dinner_0 10 rfl rfl)
theorem dX2_dinner_11 : decode cX2_dinner 11 = .ok (.getfield 7, 3) := dk_180 0 7 (dk_at dksX2_dinner_0 11 rfl rfl)
theorem dX2_dinner_14 : decode cX2_dinner 14 = .ok (.bipush 7, 2) := dk_16 7 (dk_at dksX2_dinner_0 14 rfl rfl)
theorem dX2_dinner_16 : decode cX2_dinner 16 = .ok (.iaload, 1) := dk_46 (dk_at dksX2_dinner_0 16 rfl rfl)
theorem dX2_dinner_17 : decode cX2_dinner 17 = .ok (.iload_n 1, 1) := dk_27 (dk_at dksX2_dinner_0 17 rfl rfl)
theorem dX2_dinner_18 : decode cX2_dinner 18 = .ok (.iadd, 1) := dk_96 (dk_at dksX2_dinner_0 18 rfl rfl)
theorem dX2_dinner_19 : decode cX2_dinner 19 = .ok (.sipush 9999, 3) := dk_17 39 15 (dk_at dksX2_dinner_0 19 rfl rfl)
theorem dX2_dinner_22 : decode cX2_dinner 22 = .ok (.if_icmp .gt 18, 3) := dk_163 0 18 (dk_at dksX2_dinner_1 0 rfl rfl)
theorem dX2_dinner_25 : decode cX2_dinner 25 = .ok (.aload_n 0, 1) := dk_42 (dk_at dksX2_dinner_1 3 rfl rfl)
theorem dX2_dinner_26 : decode cX2_dinner 26 = .ok (.iload_n 1, 1) := dk_27 (dk_at dksX2_dinner_1 4 rfl rfl)
theorem dX2_dinner_27 : decode cX2_dinner 27 = .ok (.invokevirtual 345, 3) := dk_182 1 89 (dk_at dksX2_dinner_1 5 rfl rfl)
theorem dX2_dinner_30 : decode cX2_dinner 30 = .ok (.ifCond .eq 10, 3) := dk_153 0 10 (dk_at dksX2_dinner_1 8 rfl rfl)
theorem dX2_dinner_33 : decode cX2_dinner 33 = .ok (.aload_n 0, 1) := dk_42 (dk_at dksX2_dinner_1 11 rfl rfl)
theorem dX2_dinner_34 : decode cX2_dinner 34 = .ok (.getfield 311, 3) := dk_180 1 55 (dk_at dksX2_dinner_1 12 rfl rfl)
theorem dX2_dinner_37 : decode cX2_dinner 37 = .ok (.goto 4, 3) := dk_167 0 4 (dk_at dksX2_dinner_1 15 rfl rfl)
theorem dX2_dinner_40 : decode cX2_dinner 40 = .ok (.iconst (-1), 1) := dk_2 (dk_at dksX2_dinner_1 18 rfl rfl)
theorem dX2_dinner_41 : decode cX2_dinner 41 = .ok (.ireturn, 1) := dk_172 (dk_at dksX2_dinner_1 19 rfl rfl)
abbrev cX2_arePassed : ByteArray := prog_20_method_80_code
def yX2_arePassed : MethodName := ⟨RX2, "arePassed", "(I)Z"⟩
def dkwX2_arePassed_1 : List UInt8 := [160, 0, 5, 3, 172, 42, 182, 1, 77, 42, 182, 1, 86, 132, 2, 1, 167, 255, 225, 4, 172]
abbrev dktX2_arePassed_1 : List UInt8 := dkwX2_arePassed_1 ++ []
def dkwX2_arePassed_0 : List UInt8 := [42, 3, 181, 1, 55, 3, 61, 28, 27, 162, 0, 32, 42, 180, 0, 7, 16, 7, 46, 17, 39, 15]
abbrev dktX2_arePassed_0 : List UInt8 := dkwX2_arePassed_0 ++ dktX2_arePassed_1
theorem dksX2_arePassed_0 : cX2_arePassed.data.toList.drop 0 = dktX2_arePassed_0 := by decide +kernel
theorem dksX2_arePassed_1 : cX2_arePassed.data.toList.drop 22 = dktX2_arePassed_1 := dk_seg dksX2_arePassed_0 22 rfl rfl
theorem dX2_arePassed_0 : decode cX2_arePassed 0 = .ok (.aload_n 0, 1) := dk_42 (dk_at dksX2_arePassed_0 0 rfl rfl)
theorem dX2_arePassed_1 : decode cX2_arePassed 1 = .ok (.iconst 0, 1) := dk_3 (dk_at dksX2_arePassed_0 1 rfl rfl)
theorem dX2_arePassed_2 : decode cX2_arePassed 2 = .ok (.putfield 311, 3) := dk_181 1 55 (dk_at dksX2_arePassed_0 2 rfl rfl)
theorem dX2_arePassed_5 : decode cX2_arePassed 5 = .ok (.iconst 0, 1) := dk_3 (dk_at dksX2_arePassed_0 5 rfl rfl)
theorem dX2_arePassed_6 : decode cX2_arePassed 6 = .ok (.istore_n 2, 1) := dk_61 (dk_at dksX2_arePassed_0 6 rfl rfl)
theorem dX2_arePassed_7 : decode cX2_arePassed 7 = .ok (.iload_n 2, 1) := dk_28 (dk_at dksX2_arePassed_0 7 rfl rfl)
theorem dX2_arePassed_8 : decode cX2_arePassed 8 = .ok (.iload_n 1, 1) := dk_27 (dk_at dksX2_arePassed_0 8 rfl rfl)
theorem dX2_arePassed_9 : decode cX2_arePassed 9 = .ok (.if_icmp .ge 32, 3) := dk_162 0 32 (dk_at dksX2_arePassed_0 9 rfl rfl)
theorem dX2_arePassed_12 : decode cX2_arePassed 12 = .ok (.aload_n 0, 1) := dk_42 (dk_at dksX2_arePassed_0 12 rfl rfl)
theorem dX2_arePassed_13 : decode cX2_arePassed 13 = .ok (.getfield 7, 3) := dk_180 0 7 (dk_at dksX2_arePassed_0 13 rfl rfl)
theorem dX2_arePassed_16 : decode cX2_arePassed 16 = .ok (.bipush 7, 2) := dk_16 7 (dk_at dksX2_arePassed_0 16 rfl rfl)
theorem dX2_arePassed_18 : decode cX2_arePassed 18 = .ok (.iaload, 1) := dk_46 (dk_at dksX2_arePassed_0 18 rfl rfl)
theorem dX2_arePassed_19 : decode cX2_arePassed 19 = .ok (.sipush 9999, 3) := dk_17 39 15 (dk_at dksX2_arePassed_0 19 rfl rfl)
theorem dX2_arePassed_22 : decode cX2_arePassed 22 = .ok (.if_icmp .ne 5, 3) := dk_160 0 5 (dk_at dksX2_arePassed_1 0 rfl rfl)
theorem dX2_arePassed_25 : decode cX2_arePassed 25 = .ok (.iconst 0, 1) := dk_3 (dk_at dksX2_arePassed_1 3 rfl rfl)
theorem dX2_arePassed_26 : decode cX2_arePassed 26 = .ok (.ireturn, 1) := dk_172 (dk_at dksX2_arePassed_1 4 rfl rfl)
theorem dX2_arePassed_27 : decode cX2_arePassed 27 = .ok (.aload_n 0, 1) := dk_42 (dk_at dksX2_arePassed_1 5 rfl rfl)
theorem dX2_arePassed_28 : decode cX2_arePassed 28 = .ok (.invokevirtual 333, 3) := dk_182 1 77 (dk_at dksX2_arePassed_1 6 rfl rfl)
theorem dX2_arePassed_31 : decode cX2_arePassed 31 = .ok (.aload_n 0, 1) := dk_42 (dk_at dksX2_arePassed_1 9 rfl rfl)
theorem dX2_arePassed_32 : decode cX2_arePassed 32 = .ok (.invokevirtual 342, 3) := dk_182 1 86 (dk_at dksX2_arePassed_1 10 rfl rfl)
theorem dX2_arePassed_35 : decode cX2_arePassed 35 = .ok (.iinc 2 1, 3) := dk_132 2 1 (dk_at dksX2_arePassed_1 13 rfl rfl)
theorem dX2_arePassed_38 : decode cX2_arePassed 38 = .ok (.goto (-31), 3) := dk_167 255 225 (dk_at dksX2_arePassed_1 16 rfl rfl)
theorem dX2_arePassed_41 : decode cX2_arePassed 41 = .ok (.iconst 1, 1) := dk_4 (dk_at dksX2_arePassed_1 19 rfl rfl)
theorem dX2_arePassed_42 : decode cX2_arePassed 42 = .ok (.ireturn, 1) := dk_172 (dk_at dksX2_arePassed_1 20 rfl rfl)
abbrev cX2_pass : ByteArray := prog_20_method_73_code
def yX2_pass : MethodName := ⟨RX2, "pass", "()V"⟩
def dkwX2_pass_5 : List UInt8 := [46, 4, 96, 79, 177]
abbrev dktX2_pass_5 : List UInt8 := dkwX2_pass_5 ++ []
def dkwX2_pass_4 : List UInt8 := [182, 1, 71, 164, 0, 8, 42, 28, 182, 1, 74, 132, 1, 1, 167, 255, 207, 42, 180, 0, 7, 16, 7, 92]
abbrev dktX2_pass_4 : List UInt8 := dkwX2_pass_4 ++ dktX2_pass_5
def dkwX2_pass_3 : List UInt8 := [182, 0, 80, 61, 42, 28, 182, 1, 62, 154, 0, 25, 42, 180, 0, 7, 16, 11, 28, 96, 46, 42, 28]
abbrev dktX2_pass_3 : List UInt8 := dkwX2_pass_3 ++ dktX2_pass_4
def dkwX2_pass_2 : List UInt8 := [28, 182, 1, 52, 132, 1, 1, 167, 255, 204, 3, 60, 27, 42, 180, 0, 7, 3, 46, 162, 0, 45, 42, 27]
abbrev dktX2_pass_2 : List UInt8 := dkwX2_pass_2 ++ dktX2_pass_3
def dkwX2_pass_1 : List UInt8 := [154, 0, 28, 42, 16, 10, 182, 1, 65, 42, 42, 180, 0, 7, 5, 46, 28, 182, 1, 68, 162, 0, 8, 42]
abbrev dktX2_pass_1 : List UInt8 := dkwX2_pass_1 ++ dktX2_pass_2
def dkwX2_pass_0 : List UInt8 := [3, 60, 27, 42, 180, 0, 7, 3, 46, 162, 0, 48, 42, 27, 182, 0, 80, 61, 42, 28, 182, 1, 62]
abbrev dktX2_pass_0 : List UInt8 := dkwX2_pass_0 ++ dktX2_pass_1
theorem dksX2_pass_0 : cX2_pass.data.toList.drop 0 = dktX2_pass_0 := by decide +kernel
theorem dksX2_pass_1 : cX2_pass.data.toList.drop 23 = dktX2_pass_1 := dk_seg dksX2_pass_0 23 rfl rfl
theorem dksX2_pass_2 : cX2_pass.data.toList.drop 47 = dktX2_pass_2 := dk_seg dksX2_pass_1 24 rfl rfl
theorem dksX2_pass_3 : cX2_pass.data.toList.drop 71 = dktX2_pass_3 := dk_seg dksX2_pass_2 24 rfl rfl
theorem dksX2_pass_4 : cX2_pass.data.toList.drop 94 = dktX2_pass_4 := dk_seg dksX2_pass_3 23 rfl rfl
theorem dksX2_pass_5 : cX2_pass.data.toList.drop 118 = dktX2_pass_5 := dk_seg dksX2_pass_4 24 rfl rfl
theorem dX2_pass_0 : decode cX2_pass 0 = .ok (.iconst 0, 1) := dk_3 (dk_at dksX2_pass_0 0 rfl rfl)
theorem dX2_pass_1 : decode cX2_pass 1 = .ok (.istore_n 1, 1) := dk_60 (dk_at dksX2_pass_0 1 rfl rfl)
theorem dX2_pass_2 : decode cX2_pass 2 = .ok (.iload_n 1, 1) := dk_27 (dk_at dksX2_pass_0 2 rfl rfl)
theorem dX2_pass_3 : decode cX2_pass 3 = .ok (.aload_n 0, 1) := dk_42 (dk_at dksX2_pass_0 3 rfl rfl)
theorem dX2_pass_4 : decode cX2_pass 4 = .ok (.getfield 7, 3) := dk_180 0 7 (dk_at dksX2_pass_0 4 rfl rfl)
theorem dX2_pass_7 : decode cX2_pass 7 = .ok (.iconst 0, 1) := dk_3 (dk_at dksX2_pass_0 7 rfl rfl)
theorem dX2_pass_8 : decode cX2_pass 8 = .ok (.iaload, 1) := dk_46 (dk_at dksX2_pass_0 8 rfl rfl)
theorem dX2_pass_9 : decode cX2_pass 9 = .ok (.if_icmp .ge 48, 3) := dk_162 0 48 (dk_at dksX2_pass_0 9 rfl rfl)
theorem dX2_pass_12 : decode cX2_pass 12 = .ok (.aload_n 0, 1) := dk_42 (dk_at dksX2_pass_0 12 rfl rfl)
theorem dX2_pass_13 : decode cX2_pass 13 = .ok (.iload_n 1, 1) := dk_27 (dk_at dksX2_pass_0 13 rfl rfl)
theorem dX2_pass_14 : decode cX2_pass 14 = .ok (.invokevirtual 80, 3) := dk_182 0 80 (dk_at dksX2_pass_0 14 rfl rfl)
theorem dX2_pass_17 : decode cX2_pass 17 = .ok (.istore_n 2, 1) := dk_61 (dk_at dksX2_pass_0 17 rfl rfl)
theorem dX2_pass_18 : decode cX2_pass 18 = .ok (.aload_n 0, 1) := dk_42 (dk_at dksX2_pass_0 18 rfl rfl)
theorem dX2_pass_19 : decode cX2_pass 19 = .ok (.iload_n 2, 1) := dk_28 (dk_at dksX2_pass_0 19 rfl rfl)
theorem dX2_pass_20 : decode cX2_pass 20 = .ok (.invokevirtual 318, 3) := dk_182 1 62 (dk_at dksX2_pass_0 20 rfl rfl)
theorem dX2_pass_23 : decode cX2_pass 23 = .ok (.ifCond .ne 28, 3) := dk_154 0 28 (dk_at dksX2_pass_1 0 rfl rfl)
theorem dX2_pass_26 : decode cX2_pass 26 = .ok (.aload_n 0, 1) := dk_42 (dk_at dksX2_pass_1 3 rfl rfl)
theorem dX2_pass_27 : decode cX2_pass 27 = .ok (.bipush 10, 2) := dk_16 10 (dk_at dksX2_pass_1 4 rfl rfl)
theorem dX2_pass_29 : decode cX2_pass 29 = .ok (.invokevirtual 321, 3) := dk_182 1 65 (dk_at dksX2_pass_1 6 rfl rfl)
theorem dX2_pass_32 : decode cX2_pass 32 = .ok (.aload_n 0, 1) := dk_42 (dk_at dksX2_pass_1 9 rfl rfl)
theorem dX2_pass_33 : decode cX2_pass 33 = .ok (.aload_n 0, 1) := dk_42 (dk_at dksX2_pass_1 10 rfl rfl)
theorem dX2_pass_34 : decode cX2_pass 34 = .ok (.getfield 7, 3) := dk_180 0 7 (dk_at dksX2_pass_1 11 rfl rfl)
theorem dX2_pass_37 : decode cX2_pass 37 = .ok (.iconst 2, 1) := dk_5 (dk_at dksX2_pass_1 14 rfl rfl)
theorem dX2_pass_38 : decode cX2_pass 38 = .ok (.iaload, 1) := dk_46 (dk_at dksX2_pass_1 15 rfl rfl)
theorem dX2_pass_39 : decode cX2_pass 39 = .ok (.iload_n 2, 1) := dk_28 (dk_at dksX2_pass_1 16 rfl rfl)
theorem dX2_pass_40 : decode cX2_pass 40 = .ok (.invokevirtual 324, 3) := dk_182 1 68 (dk_at dksX2_pass_1 17 rfl rfl)
theorem dX2_pass_43 : decode cX2_pass 43 = .ok (.if_icmp .ge 8, 3) := dk_162 0 8 (dk_at dksX2_pass_1 20 rfl rfl)
theorem dX2_pass_46 : decode cX2_pass 46 = .ok (.aload_n 0, 1) := dk_42 (dk_at dksX2_pass_1 23 rfl rfl)
theorem dX2_pass_47 : decode cX2_pass 47 = .ok (.iload_n 2, 1) := dk_28 (dk_at dksX2_pass_2 0 rfl rfl)
theorem dX2_pass_48 : decode cX2_pass 48 = .ok (.invokevirtual 308, 3) := dk_182 1 52 (dk_at dksX2_pass_2 1 rfl rfl)
theorem dX2_pass_51 : decode cX2_pass 51 = .ok (.iinc 1 1, 3) := dk_132 1 1 (dk_at dksX2_pass_2 4 rfl rfl)
theorem dX2_pass_54 : decode cX2_pass 54 = .ok (.goto (-52), 3) := dk_167 255 204 (dk_at dksX2_pass_2 7 rfl rfl)
theorem dX2_pass_57 : decode cX2_pass 57 = .ok (.iconst 0, 1) := dk_3 (dk_at dksX2_pass_2 10 rfl rfl)
theorem dX2_pass_58 : decode cX2_pass 58 = .ok (.istore_n 1, 1) := dk_60 (dk_at dksX2_pass_2 11 rfl rfl)
theorem dX2_pass_59 : decode cX2_pass 59 = .ok (.iload_n 1, 1) := dk_27 (dk_at dksX2_pass_2 12 rfl rfl)
theorem dX2_pass_60 : decode cX2_pass 60 = .ok (.aload_n 0, 1) := dk_42 (dk_at dksX2_pass_2 13 rfl rfl)
theorem dX2_pass_61 : decode cX2_pass 61 = .ok (.getfield 7, 3) := dk_180 0 7 (dk_at dksX2_pass_2 14 rfl rfl)
theorem dX2_pass_64 : decode cX2_pass 64 = .ok (.iconst 0, 1) := dk_3 (dk_at dksX2_pass_2 17 rfl rfl)
theorem dX2_pass_65 : decode cX2_pass 65 = .ok (.iaload, 1) := dk_46 (dk_at dksX2_pass_2 18 rfl rfl)
theorem dX2_pass_66 : decode cX2_pass 66 = .ok (.if_icmp .ge 45, 3) := dk_162 0 45 (dk_at dksX2_pass_2 19 rfl rfl)
theorem dX2_pass_69 : decode cX2_pass 69 = .ok (.aload_n 0, 1) := dk_42 (dk_at dksX2_pass_2 22 rfl rfl)
theorem dX2_pass_70 : decode cX2_pass 70 = .ok (.iload_n 1, 1) := dk_27 (dk_at dksX2_pass_2 23 rfl rfl)
theorem dX2_pass_71 : decode cX2_pass 71 = .ok (.invokevirtual 80, 3) := dk_182 0 80 (dk_at dksX2_pass_3 0 rfl rfl)
theorem dX2_pass_74 : decode cX2_pass 74 = .ok (.istore_n 2, 1) := dk_61 (dk_at dksX2_pass_3 3 rfl rfl)
theorem dX2_pass_75 : decode cX2_pass 75 = .ok (.aload_n 0, 1) := dk_42 (dk_at dksX2_pass_3 4 rfl rfl)
theorem dX2_pass_76 : decode cX2_pass 76 = .ok (.iload_n 2, 1) := dk_28 (dk_at dksX2_pass_3 5 rfl rfl)
theorem dX2_pass_77 : decode cX2_pass 77 = .ok (.invokevirtual 318, 3) := dk_182 1 62 (dk_at dksX2_pass_3 6 rfl rfl)
theorem dX2_pass_80 : decode cX2_pass 80 = .ok (.ifCond .ne 25, 3) := dk_154 0 25 (dk_at dksX2_pass_3 9 rfl rfl)
theorem dX2_pass_83 : decode cX2_pass 83 = .ok (.aload_n 0, 1) := dk_42 (dk_at dksX2_pass_3 12 rfl rfl)
theorem dX2_pass_84 : decode cX2_pass 84 = .ok (.getfield 7, 3) := dk_180 0 7 (dk_at dksX2_pass_3 13 rfl rfl)
theorem dX2_pass_87 : decode cX2_pass 87 = .ok (.bipush 11, 2) := dk_16 11 (dk_at dksX2_pass_3 16 rfl rfl)
theorem dX2_pass_89 : decode cX2_pass 89 = .ok (.iload_n 2, 1) := dk_28 (dk_at dksX2_pass_3 18 rfl rfl)
theorem dX2_pass_90 : decode cX2_pass 90 = .ok (.iadd, 1) := dk_96 (dk_at dksX2_pass_3 19 rfl rfl)
theorem dX2_pass_91 : decode cX2_pass 91 = .ok (.iaload, 1) := dk_46 (dk_at dksX2_pass_3 20 rfl rfl)
theorem dX2_pass_92 : decode cX2_pass 92 = .ok (.aload_n 0, 1) := dk_42 (dk_at dksX2_pass_3 21 rfl rfl)
theorem dX2_pass_93 : decode cX2_pass 93 = .ok (.iload_n 2, 1) := dk_28 (dk_at dksX2_pass_3 22 rfl rfl)
theorem dX2_pass_94 : decode cX2_pass 94 = .ok (.invokevirtual 327, 3) := dk_182 1 71 (dk_at dksX2_pass_4 0 rfl rfl)
theorem dX2_pass_97 : decode cX2_pass 97 = .ok (.if_icmp .le 8, 3) := dk_164 0 8 (dk_at dksX2_pass_4 3 rfl rfl)
theorem dX2_pass_100 : decode cX2_pass 100 = .ok (.aload_n 0, 1) := dk_42 (dk_at dksX2_pass_4 6 rfl rfl)
theorem dX2_pass_101 : decode cX2_pass 101 = .ok (.iload_n 2, 1) := dk_28 (dk_at dksX2_pass_4 7 rfl rfl)
theorem dX2_pass_102 : decode cX2_pass 102 = .ok (.invokevirtual 330, 3) := dk_182 1 74 (dk_at dksX2_pass_4 8 rfl rfl)
theorem dX2_pass_105 : decode cX2_pass 105 = .ok (.iinc 1 1, 3) := dk_132 1 1 (dk_at dksX2_pass_4 11 rfl rfl)
theorem dX2_pass_108 : decode cX2_pass 108 = .ok (.goto (-49), 3) := dk_167 255 207 (dk_at dksX2_pass_4 14 rfl rfl)
theorem dX2_pass_111 : decode cX2_pass 111 = .ok (.aload_n 0, 1) := dk_42 (dk_at dksX2_pass_4 17 rfl rfl)
theorem dX2_pass_112 : decode cX2_pass 112 = .ok (.getfield 7, 3) := dk_180 0 7 (dk_at dksX2_pass_4 18 rfl rfl)
theorem dX2_pass_115 : decode cX2_pass 115 = .ok (.bipush 7, 2) := dk_16 7 (dk_at dksX2_pass_4 21 rfl rfl)
theorem dX2_pass_117 : decode cX2_pass 117 = .ok (.dup2, 1) := dk_92 (dk_at dksX2_pass_4 23 rfl rfl)
theorem dX2_pass_118 : decode cX2_pass 118 = .ok (.iaload, 1) := dk_46 (dk_at dksX2_pass_5 0 rfl rfl)
theorem dX2_pass_119 : decode cX2_pass 119 = .ok (.iconst 1, 1) := dk_4 (dk_at dksX2_pass_5 1 rfl rfl)
theorem dX2_pass_120 : decode cX2_pass 120 = .ok (.iadd, 1) := dk_96 (dk_at dksX2_pass_5 2 rfl rfl)
theorem dX2_pass_121 : decode cX2_pass 121 = .ok (.iastore, 1) := dk_79 (dk_at dksX2_pass_5 3 rfl rfl)
theorem dX2_pass_122 : decode cX2_pass 122 = .ok (.return_, 1) := dk_177 (dk_at dksX2_pass_5 4 rfl rfl)
abbrev cX2_whoAt : ByteArray := prog_20_method_9_code
def yX2_whoAt : MethodName := ⟨RX2, "whoAt", "(I)I"⟩
def dkwX2_whoAt_0 : List UInt8 := [3, 61, 42, 180, 0, 7, 16, 17, 28, 96, 46, 27, 159, 0, 9, 132, 2, 1, 167, 255, 240, 28, 172]
abbrev dktX2_whoAt_0 : List UInt8 := dkwX2_whoAt_0 ++ []
theorem dksX2_whoAt_0 : cX2_whoAt.data.toList.drop 0 = dktX2_whoAt_0 := by decide +kernel
theorem dX2_whoAt_0 : decode cX2_whoAt 0 = .ok (.iconst 0, 1) := dk_3 (dk_at dksX2_whoAt_0 0 rfl rfl)
theorem dX2_whoAt_1 : decode cX2_whoAt 1 = .ok (.istore_n 2, 1) := dk_61 (dk_at dksX2_whoAt_0 1 rfl rfl)
theorem dX2_whoAt_2 : decode cX2_whoAt 2 = .ok (.aload_n 0, 1) := dk_42 (dk_at dksX2_whoAt_0 2 rfl rfl)
theorem dX2_whoAt_3 : decode cX2_whoAt 3 = .ok (.getfield 7, 3) := dk_180 0 7 (dk_at dksX2_whoAt_0 3 rfl rfl)
theorem dX2_whoAt_6 : decode cX2_whoAt 6 = .ok (.bipush 17, 2) := dk_16 17 (dk_at dksX2_whoAt_0 6 rfl rfl)
theorem dX2_whoAt_8 : decode cX2_whoAt 8 = .ok (.iload_n 2, 1) := dk_28 (dk_at dksX2_whoAt_0 8 rfl rfl)
theorem dX2_whoAt_9 : decode cX2_whoAt 9 = .ok (.iadd, 1) := dk_96 (dk_at dksX2_whoAt_0 9 rfl rfl)
theorem dX2_whoAt_10 : decode cX2_whoAt 10 = .ok (.iaload, 1) := dk_46 (dk_at dksX2_whoAt_0 10 rfl rfl)
theorem dX2_whoAt_11 : decode cX2_whoAt 11 = .ok (.iload_n 1, 1) := dk_27 (dk_at dksX2_whoAt_0 11 rfl rfl)
theorem dX2_whoAt_12 : decode cX2_whoAt 12 = .ok (.if_icmp .eq 9, 3) := dk_159 0 9 (dk_at dksX2_whoAt_0 12 rfl rfl)
theorem dX2_whoAt_15 : decode cX2_whoAt 15 = .ok (.iinc 2 1, 3) := dk_132 2 1 (dk_at dksX2_whoAt_0 15 rfl rfl)
theorem dX2_whoAt_18 : decode cX2_whoAt 18 = .ok (.goto (-16), 3) := dk_167 255 240 (dk_at dksX2_whoAt_0 18 rfl rfl)
theorem dX2_whoAt_21 : decode cX2_whoAt 21 = .ok (.iload_n 2, 1) := dk_28 (dk_at dksX2_whoAt_0 21 rfl rfl)
theorem dX2_whoAt_22 : decode cX2_whoAt 22 = .ok (.ireturn, 1) := dk_172 (dk_at dksX2_whoAt_0 22 rfl rfl)
abbrev cX2_drawnBy : ByteArray := prog_20_method_67_code
def yX2_drawnBy : MethodName := ⟨RX2, "drawnBy", "(I)I"⟩
def dkwX2_drawnBy_0 : List UInt8 := [42, 180, 0, 7, 16, 8, 46, 27, 112, 61, 42, 182, 1, 43, 28, 172]
abbrev dktX2_drawnBy_0 : List UInt8 := dkwX2_drawnBy_0 ++ []
theorem dksX2_drawnBy_0 : cX2_drawnBy.data.toList.drop 0 = dktX2_drawnBy_0 := by decide +kernel
theorem dX2_drawnBy_0 : decode cX2_drawnBy 0 = .ok (.aload_n 0, 1) := dk_42 (dk_at dksX2_drawnBy_0 0 rfl rfl)
theorem dX2_drawnBy_1 : decode cX2_drawnBy 1 = .ok (.getfield 7, 3) := dk_180 0 7 (dk_at dksX2_drawnBy_0 1 rfl rfl)
theorem dX2_drawnBy_4 : decode cX2_drawnBy 4 = .ok (.bipush 8, 2) := dk_16 8 (dk_at dksX2_drawnBy_0 4 rfl rfl)
theorem dX2_drawnBy_6 : decode cX2_drawnBy 6 = .ok (.iaload, 1) := dk_46 (dk_at dksX2_drawnBy_0 6 rfl rfl)
theorem dX2_drawnBy_7 : decode cX2_drawnBy 7 = .ok (.iload_n 1, 1) := dk_27 (dk_at dksX2_drawnBy_0 7 rfl rfl)
theorem dX2_drawnBy_8 : decode cX2_drawnBy 8 = .ok (.irem, 1) := dk_112 (dk_at dksX2_drawnBy_0 8 rfl rfl)
theorem dX2_drawnBy_9 : decode cX2_drawnBy 9 = .ok (.istore_n 2, 1) := dk_61 (dk_at dksX2_drawnBy_0 9 rfl rfl)
theorem dX2_drawnBy_10 : decode cX2_drawnBy 10 = .ok (.aload_n 0, 1) := dk_42 (dk_at dksX2_drawnBy_0 10 rfl rfl)
theorem dX2_drawnBy_11 : decode cX2_drawnBy 11 = .ok (.invokevirtual 299, 3) := dk_182 1 43 (dk_at dksX2_drawnBy_0 11 rfl rfl)
theorem dX2_drawnBy_14 : decode cX2_drawnBy 14 = .ok (.iload_n 2, 1) := dk_28 (dk_at dksX2_drawnBy_0 14 rfl rfl)
theorem dX2_drawnBy_15 : decode cX2_drawnBy 15 = .ok (.ireturn, 1) := dk_172 (dk_at dksX2_drawnBy_0 15 rfl rfl)
abbrev cX2_anew : ByteArray := prog_20_method_68_code
def yX2_anew : MethodName := ⟨RX2, "anew", "()V"⟩
def dkwX2_anew_1 : List UInt8 := [20, 1, 50, 113, 136, 79, 177]
abbrev dktX2_anew_1 : List UInt8 := dkwX2_anew_1 ++ []
def dkwX2_anew_0 : List UInt8 := [42, 180, 0, 7, 16, 8, 42, 180, 0, 7, 16, 8, 46, 133, 20, 1, 46, 105, 20, 1, 48, 97]
abbrev dktX2_anew_0 : List UInt8 := dkwX2_anew_0 ++ dktX2_anew_1
theorem dksX2_anew_0 : cX2_anew.data.toList.drop 0 = dktX2_anew_0 := by decide +kernel
theorem dksX2_anew_1 : cX2_anew.data.toList.drop 22 = dktX2_anew_1 := dk_seg dksX2_anew_0 22 rfl rfl
theorem dX2_anew_0 : decode cX2_anew 0 = .ok (.aload_n 0, 1) := dk_42 (dk_at dksX2_anew_0 0 rfl rfl)
theorem dX2_anew_1 : decode cX2_anew 1 = .ok (.getfield 7, 3) := dk_180 0 7 (dk_at dksX2_anew_0 1 rfl rfl)
theorem dX2_anew_4 : decode cX2_anew 4 = .ok (.bipush 8, 2) := dk_16 8 (dk_at dksX2_anew_0 4 rfl rfl)
theorem dX2_anew_6 : decode cX2_anew 6 = .ok (.aload_n 0, 1) := dk_42 (dk_at dksX2_anew_0 6 rfl rfl)
theorem dX2_anew_7 : decode cX2_anew 7 = .ok (.getfield 7, 3) := dk_180 0 7 (dk_at dksX2_anew_0 7 rfl rfl)
theorem dX2_anew_10 : decode cX2_anew 10 = .ok (.bipush 8, 2) := dk_16 8 (dk_at dksX2_anew_0 10 rfl rfl)
theorem dX2_anew_12 : decode cX2_anew 12 = .ok (.iaload, 1) := dk_46 (dk_at dksX2_anew_0 12 rfl rfl)
theorem dX2_anew_13 : decode cX2_anew 13 = .ok (.i2l, 1) := dk_133 (dk_at dksX2_anew_0 13 rfl rfl)
theorem dX2_anew_14 : decode cX2_anew 14 = .ok (.ldc2_w 302, 3) := dk_20 1 46 (dk_at dksX2_anew_0 14 rfl rfl)
theorem dX2_anew_17 : decode cX2_anew 17 = .ok (.lmul, 1) := dk_105 (dk_at dksX2_anew_0 17 rfl rfl)
theorem dX2_anew_18 : decode cX2_anew 18 = .ok (.ldc2_w 304, 3) := dk_20 1 48 (dk_at dksX2_anew_0 18 rfl rfl)
theorem dX2_anew_21 : decode cX2_anew 21 = .ok (.ladd, 1) := dk_97 (dk_at dksX2_anew_0 21 rfl rfl)
theorem dX2_anew_22 : decode cX2_anew 22 = .ok (.ldc2_w 306, 3) := dk_20 1 50 (dk_at dksX2_anew_1 0 rfl rfl)
theorem dX2_anew_25 : decode cX2_anew 25 = .ok (.lrem, 1) := dk_113 (dk_at dksX2_anew_1 3 rfl rfl)
theorem dX2_anew_26 : decode cX2_anew 26 = .ok (.l2i, 1) := dk_136 (dk_at dksX2_anew_1 4 rfl rfl)
theorem dX2_anew_27 : decode cX2_anew 27 = .ok (.iastore, 1) := dk_79 (dk_at dksX2_anew_1 5 rfl rfl)
theorem dX2_anew_28 : decode cX2_anew 28 = .ok (.return_, 1) := dk_177 (dk_at dksX2_anew_1 6 rfl rfl)
abbrev cX2_reachesOf : ByteArray := prog_20_method_64_code
def yX2_reachesOf : MethodName := ⟨RX2, "reachesOf", "(II)I"⟩
def dkwX2_reachesOf_0 : List UInt8 := [42, 28, 182, 1, 36, 42, 27, 3, 42, 180, 0, 7, 16, 23, 28, 96, 46, 16, 10, 182, 1, 39, 172]
abbrev dktX2_reachesOf_0 : List UInt8 := dkwX2_reachesOf_0 ++ []
theorem dksX2_reachesOf_0 : cX2_reachesOf.data.toList.drop 0 = dktX2_reachesOf_0 := by decide +kernel
theorem dX2_reachesOf_0 : decode cX2_reachesOf 0 = .ok (.aload_n 0, 1) := dk_42 (dk_at dksX2_reachesOf_0 0 rfl rfl)
theorem dX2_reachesOf_1 : decode cX2_reachesOf 1 = .ok (.iload_n 2, 1) := dk_28 (dk_at dksX2_reachesOf_0 1 rfl rfl)
theorem dX2_reachesOf_2 : decode cX2_reachesOf 2 = .ok (.invokevirtual 292, 3) := dk_182 1 36 (dk_at dksX2_reachesOf_0 2 rfl rfl)
theorem dX2_reachesOf_5 : decode cX2_reachesOf 5 = .ok (.aload_n 0, 1) := dk_42 (dk_at dksX2_reachesOf_0 5 rfl rfl)
theorem dX2_reachesOf_6 : decode cX2_reachesOf 6 = .ok (.iload_n 1, 1) := dk_27 (dk_at dksX2_reachesOf_0 6 rfl rfl)
theorem dX2_reachesOf_7 : decode cX2_reachesOf 7 = .ok (.iconst 0, 1) := dk_3 (dk_at dksX2_reachesOf_0 7 rfl rfl)
theorem dX2_reachesOf_8 : decode cX2_reachesOf 8 = .ok (.aload_n 0, 1) := dk_42 (dk_at dksX2_reachesOf_0 8 rfl rfl)
theorem dX2_reachesOf_9 : decode cX2_reachesOf 9 = .ok (.getfield 7, 3) := dk_180 0 7 (dk_at dksX2_reachesOf_0 9 rfl rfl)
theorem dX2_reachesOf_12 : decode cX2_reachesOf 12 = .ok (.bipush 23, 2) := dk_16 23 (dk_at dksX2_reachesOf_0 12 rfl rfl)
theorem dX2_reachesOf_14 : decode cX2_reachesOf 14 = .ok (.iload_n 2, 1) := dk_28 (dk_at dksX2_reachesOf_0 14 rfl rfl)
theorem dX2_reachesOf_15 : decode cX2_reachesOf 15 = .ok (.iadd, 1) := dk_96 (dk_at dksX2_reachesOf_0 15 rfl rfl)
theorem dX2_reachesOf_16 : decode cX2_reachesOf 16 = .ok (.iaload, 1) := dk_46 (dk_at dksX2_reachesOf_0 16 rfl rfl)
theorem dX2_reachesOf_17 : decode cX2_reachesOf 17 = .ok (.bipush 10, 2) := dk_16 10 (dk_at dksX2_reachesOf_0 17 rfl rfl)
theorem dX2_reachesOf_19 : decode cX2_reachesOf 19 = .ok (.invokevirtual 295, 3) := dk_182 1 39 (dk_at dksX2_reachesOf_0 19 rfl rfl)
theorem dX2_reachesOf_22 : decode cX2_reachesOf 22 = .ok (.ireturn, 1) := dk_172 (dk_at dksX2_reachesOf_0 22 rfl rfl)
abbrev cX2_name : ByteArray := prog_20_method_63_code
def yX2_name : MethodName := ⟨RX2, "name", "(I)V"⟩
def dkwX2_name_5 : List UInt8 := [16, 9, 46, 79, 177]
abbrev dktX2_name_5 : List UInt8 := dkwX2_name_5 ++ []
def dkwX2_name_4 : List UInt8 := [180, 0, 7, 3, 46, 4, 100, 182, 0, 84, 96, 46, 96, 79, 42, 180, 0, 32, 16, 6, 42, 180, 0, 7]
abbrev dktX2_name_4 : List UInt8 := dkwX2_name_4 ++ dktX2_name_5
def dkwX2_name_3 : List UInt8 := [180, 0, 7, 16, 11, 42, 27, 4, 182, 0, 84, 96, 46, 42, 180, 0, 7, 16, 11, 42, 27, 42]
abbrev dktX2_name_3 : List UInt8 := dkwX2_name_3 ++ dktX2_name_4
def dkwX2_name_2 : List UInt8 := [46, 79, 42, 180, 0, 32, 7, 42, 180, 0, 7, 16, 17, 27, 96, 46, 79, 42, 180, 0, 32, 8, 42]
abbrev dktX2_name_2 : List UInt8 := dkwX2_name_2 ++ dktX2_name_3
def dkwX2_name_1 : List UInt8 := [5, 42, 180, 0, 7, 16, 23, 27, 96, 46, 79, 42, 180, 0, 32, 6, 42, 180, 0, 7, 16, 11, 27, 96]
abbrev dktX2_name_1 : List UInt8 := dkwX2_name_1 ++ dktX2_name_2
def dkwX2_name_0 : List UInt8 := [42, 180, 0, 32, 3, 42, 180, 0, 7, 16, 7, 46, 79, 42, 180, 0, 32, 4, 27, 79, 42, 180, 0, 32]
abbrev dktX2_name_0 : List UInt8 := dkwX2_name_0 ++ dktX2_name_1
theorem dksX2_name_0 : cX2_name.data.toList.drop 0 = dktX2_name_0 := by decide +kernel
theorem dksX2_name_1 : cX2_name.data.toList.drop 24 = dktX2_name_1 := dk_seg dksX2_name_0 24 rfl rfl
theorem dksX2_name_2 : cX2_name.data.toList.drop 48 = dktX2_name_2 := dk_seg dksX2_name_1 24 rfl rfl
theorem dksX2_name_3 : cX2_name.data.toList.drop 71 = dktX2_name_3 := dk_seg dksX2_name_2 23 rfl rfl
theorem dksX2_name_4 : cX2_name.data.toList.drop 93 = dktX2_name_4 := dk_seg dksX2_name_3 22 rfl rfl
theorem dksX2_name_5 : cX2_name.data.toList.drop 117 = dktX2_name_5 := dk_seg dksX2_name_4 24 rfl rfl
theorem dX2_name_0 : decode cX2_name 0 = .ok (.aload_n 0, 1) := dk_42 (dk_at dksX2_name_0 0 rfl rfl)
theorem dX2_name_1 : decode cX2_name 1 = .ok (.getfield 32, 3) := dk_180 0 32 (dk_at dksX2_name_0 1 rfl rfl)
theorem dX2_name_4 : decode cX2_name 4 = .ok (.iconst 0, 1) := dk_3 (dk_at dksX2_name_0 4 rfl rfl)
theorem dX2_name_5 : decode cX2_name 5 = .ok (.aload_n 0, 1) := dk_42 (dk_at dksX2_name_0 5 rfl rfl)
theorem dX2_name_6 : decode cX2_name 6 = .ok (.getfield 7, 3) := dk_180 0 7 (dk_at dksX2_name_0 6 rfl rfl)
theorem dX2_name_9 : decode cX2_name 9 = .ok (.bipush 7, 2) := dk_16 7 (dk_at dksX2_name_0 9 rfl rfl)
theorem dX2_name_11 : decode cX2_name 11 = .ok (.iaload, 1) := dk_46 (dk_at dksX2_name_0 11 rfl rfl)
theorem dX2_name_12 : decode cX2_name 12 = .ok (.iastore, 1) := dk_79 (dk_at dksX2_name_0 12 rfl rfl)
theorem dX2_name_13 : decode cX2_name 13 = .ok (.aload_n 0, 1) := dk_42 (dk_at dksX2_name_0 13 rfl rfl)
theorem dX2_name_14 : decode cX2_name 14 = .ok (.getfield 32, 3) := dk_180 0 32 (dk_at dksX2_name_0 14 rfl rfl)
theorem dX2_name_17 : decode cX2_name 17 = .ok (.iconst 1, 1) := dk_4 (dk_at dksX2_name_0 17 rfl rfl)
theorem dX2_name_18 : decode cX2_name 18 = .ok (.iload_n 1, 1) := dk_27 (dk_at dksX2_name_0 18 rfl rfl)
theorem dX2_name_19 : decode cX2_name 19 = .ok (.iastore, 1) := dk_79 (dk_at dksX2_name_0 19 rfl rfl)
theorem dX2_name_20 : decode cX2_name 20 = .ok (.aload_n 0, 1) := dk_42 (dk_at dksX2_name_0 20 rfl rfl)
theorem dX2_name_21 : decode cX2_name 21 = .ok (.getfield 32, 3) := dk_180 0 32 (dk_at dksX2_name_0 21 rfl rfl)
theorem dX2_name_24 : decode cX2_name 24 = .ok (.iconst 2, 1) := dk_5 (dk_at dksX2_name_1 0 rfl rfl)
theorem dX2_name_25 : decode cX2_name 25 = .ok (.aload_n 0, 1) := dk_42 (dk_at dksX2_name_1 1 rfl rfl)
theorem dX2_name_26 : decode cX2_name 26 = .ok (.getfield 7, 3) := dk_180 0 7 (dk_at dksX2_name_1 2 rfl rfl)
theorem dX2_name_29 : decode cX2_name 29 = .ok (.bipush 23, 2) := dk_16 23 (dk_at dksX2_name_1 5 rfl rfl)
theorem dX2_name_31 : decode cX2_name 31 = .ok (.iload_n 1, 1) := dk_27 (dk_at dksX2_name_1 7 rfl rfl)
theorem dX2_name_32 : decode cX2_name 32 = .ok (.iadd, 1) := dk_96 (dk_at dksX2_name_1 8 rfl rfl)
theorem dX2_name_33 : decode cX2_name 33 = .ok (.iaload, 1) := dk_46 (dk_at dksX2_name_1 9 rfl rfl)
theorem dX2_name_34 : decode cX2_name 34 = .ok (.iastore, 1) := dk_79 (dk_at dksX2_name_1 10 rfl rfl)
theorem dX2_name_35 : decode cX2_name 35 = .ok (.aload_n 0, 1) := dk_42 (dk_at dksX2_name_1 11 rfl rfl)
theorem dX2_name_36 : decode cX2_name 36 = .ok (.getfield 32, 3) := dk_180 0 32 (dk_at dksX2_name_1 12 rfl rfl)
theorem dX2_name_39 : decode cX2_name 39 = .ok (.iconst 3, 1) := dk_6 (dk_at dksX2_name_1 15 rfl rfl)
theorem dX2_name_40 : decode cX2_name 40 = .ok (.aload_n 0, 1) := dk_42 (dk_at dksX2_name_1 16 rfl rfl)
theorem dX2_name_41 : decode cX2_name 41 = .ok (.getfield 7, 3) := dk_180 0 7 (dk_at dksX2_name_1 17 rfl rfl)
theorem dX2_name_44 : decode cX2_name 44 = .ok (.bipush 11, 2) := dk_16 11 (dk_at dksX2_name_1 20 rfl rfl)
theorem dX2_name_46 : decode cX2_name 46 = .ok (.iload_n 1, 1) := dk_27 (dk_at dksX2_name_1 22 rfl rfl)
theorem dX2_name_47 : decode cX2_name 47 = .ok (.iadd, 1) := dk_96 (dk_at dksX2_name_1 23 rfl rfl)
theorem dX2_name_48 : decode cX2_name 48 = .ok (.iaload, 1) := dk_46 (dk_at dksX2_name_2 0 rfl rfl)
theorem dX2_name_49 : decode cX2_name 49 = .ok (.iastore, 1) := dk_79 (dk_at dksX2_name_2 1 rfl rfl)
theorem dX2_name_50 : decode cX2_name 50 = .ok (.aload_n 0, 1) := dk_42 (dk_at dksX2_name_2 2 rfl rfl)
theorem dX2_name_51 : decode cX2_name 51 = .ok (.getfield 32, 3) := dk_180 0 32 (dk_at dksX2_name_2 3 rfl rfl)
theorem dX2_name_54 : decode cX2_name 54 = .ok (.iconst 4, 1) := dk_7 (dk_at dksX2_name_2 6 rfl rfl)
theorem dX2_name_55 : decode cX2_name 55 = .ok (.aload_n 0, 1) := dk_42 (dk_at dksX2_name_2 7 rfl rfl)
theorem dX2_name_56 : decode cX2_name 56 = .ok (.getfield 7, 3) := dk_180 0 7 (dk_at dksX2_name_2 8 rfl rfl)
theorem dX2_name_59 : decode cX2_name 59 = .ok (.bipush 17, 2) := dk_16 17 (dk_at dksX2_name_2 11 rfl rfl)
theorem dX2_name_61 : decode cX2_name 61 = .ok (.iload_n 1, 1) := dk_27 (dk_at dksX2_name_2 13 rfl rfl)
theorem dX2_name_62 : decode cX2_name 62 = .ok (.iadd, 1) := dk_96 (dk_at dksX2_name_2 14 rfl rfl)
theorem dX2_name_63 : decode cX2_name 63 = .ok (.iaload, 1) := dk_46 (dk_at dksX2_name_2 15 rfl rfl)
theorem dX2_name_64 : decode cX2_name 64 = .ok (.iastore, 1) := dk_79 (dk_at dksX2_name_2 16 rfl rfl)
theorem dX2_name_65 : decode cX2_name 65 = .ok (.aload_n 0, 1) := dk_42 (dk_at dksX2_name_2 17 rfl rfl)
theorem dX2_name_66 : decode cX2_name 66 = .ok (.getfield 32, 3) := dk_180 0 32 (dk_at dksX2_name_2 18 rfl rfl)
theorem dX2_name_69 : decode cX2_name 69 = .ok (.iconst 5, 1) := dk_8 (dk_at dksX2_name_2 21 rfl rfl)
theorem dX2_name_70 : decode cX2_name 70 = .ok (.aload_n 0, 1) := dk_42 (dk_at dksX2_name_2 22 rfl rfl)
theorem dX2_name_71 : decode cX2_name 71 = .ok (.getfield 7, 3) := dk_180 0 7 (dk_at dksX2_name_3 0 rfl rfl)
theorem dX2_name_74 : decode cX2_name 74 = .ok (.bipush 11, 2) := dk_16 11 (dk_at dksX2_name_3 3 rfl rfl)
theorem dX2_name_76 : decode cX2_name 76 = .ok (.aload_n 0, 1) := dk_42 (dk_at dksX2_name_3 5 rfl rfl)
theorem dX2_name_77 : decode cX2_name 77 = .ok (.iload_n 1, 1) := dk_27 (dk_at dksX2_name_3 6 rfl rfl)
theorem dX2_name_78 : decode cX2_name 78 = .ok (.iconst 1, 1) := dk_4 (dk_at dksX2_name_3 7 rfl rfl)
theorem dX2_name_79 : decode cX2_name 79 = .ok (.invokevirtual 84, 3) := dk_182 0 84 (dk_at dksX2_name_3 8 rfl rfl)
theorem dX2_name_82 : decode cX2_name 82 = .ok (.iadd, 1) := dk_96 (dk_at dksX2_name_3 11 rfl rfl)
theorem dX2_name_83 : decode cX2_name 83 = .ok (.iaload, 1) := dk_46 (dk_at dksX2_name_3 12 rfl rfl)
theorem dX2_name_84 : decode cX2_name 84 = .ok (.aload_n 0, 1) := dk_42 (dk_at dksX2_name_3 13 rfl rfl)
theorem dX2_name_85 : decode cX2_name 85 = .ok (.getfield 7, 3) := dk_180 0 7 (dk_at dksX2_name_3 14 rfl rfl)
theorem dX2_name_88 : decode cX2_name 88 = .ok (.bipush 11, 2) := dk_16 11 (dk_at dksX2_name_3 17 rfl rfl)
theorem dX2_name_90 : decode cX2_name 90 = .ok (.aload_n 0, 1) := dk_42 (dk_at dksX2_name_3 19 rfl rfl)
theorem dX2_name_91 : decode cX2_name 91 = .ok (.iload_n 1, 1) := dk_27 (dk_at dksX2_name_3 20 rfl rfl)
theorem dX2_name_92 : decode cX2_name 92 = .ok (.aload_n 0, 1) := dk_42 (dk_at dksX2_name_3 21 rfl rfl)
theorem dX2_name_93 : decode cX2_name 93 = .ok (.getfield 7, 3) := dk_180 0 7 (dk_at dksX2_name_4 0 rfl rfl)
theorem dX2_name_96 : decode cX2_name 96 = .ok (.iconst 0, 1) := dk_3 (dk_at dksX2_name_4 3 rfl rfl)
theorem dX2_name_97 : decode cX2_name 97 = .ok (.iaload, 1) := dk_46 (dk_at dksX2_name_4 4 rfl rfl)
theorem dX2_name_98 : decode cX2_name 98 = .ok (.iconst 1, 1) := dk_4 (dk_at dksX2_name_4 5 rfl rfl)
theorem dX2_name_99 : decode cX2_name 99 = .ok (.isub, 1) := dk_100 (dk_at dksX2_name_4 6 rfl rfl)
theorem dX2_name_100 : decode cX2_name 100 = .ok (.invokevirtual 84, 3) := dk_182 0 84 (dk_at dksX2_name_4 7 rfl rfl)
theorem dX2_name_103 : decode cX2_name 103 = .ok (.iadd, 1) := dk_96 (dk_at dksX2_name_4 10 rfl rfl)
theorem dX2_name_104 : decode cX2_name 104 = .ok (.iaload, 1) := dk_46 (dk_at dksX2_name_4 11 rfl rfl)
theorem dX2_name_105 : decode cX2_name 105 = .ok (.iadd, 1) := dk_96 (dk_at dksX2_name_4 12 rfl rfl)
theorem dX2_name_106 : decode cX2_name 106 = .ok (.iastore, 1) := dk_79 (dk_at dksX2_name_4 13 rfl rfl)
theorem dX2_name_107 : decode cX2_name 107 = .ok (.aload_n 0, 1) := dk_42 (dk_at dksX2_name_4 14 rfl rfl)
theorem dX2_name_108 : decode cX2_name 108 = .ok (.getfield 32, 3) := dk_180 0 32 (dk_at dksX2_name_4 15 rfl rfl)
theorem dX2_name_111 : decode cX2_name 111 = .ok (.bipush 6, 2) := dk_16 6 (dk_at dksX2_name_4 18 rfl rfl)
theorem dX2_name_113 : decode cX2_name 113 = .ok (.aload_n 0, 1) := dk_42 (dk_at dksX2_name_4 20 rfl rfl)
theorem dX2_name_114 : decode cX2_name 114 = .ok (.getfield 7, 3) := dk_180 0 7 (dk_at dksX2_name_4 21 rfl rfl)
theorem dX2_name_117 : decode cX2_name 117 = .ok (.bipush 9, 2) := dk_16 9 (dk_at dksX2_name_5 0 rfl rfl)
theorem dX2_name_119 : decode cX2_name 119 = .ok (.iaload, 1) := dk_46 (dk_at dksX2_name_5 2 rfl rfl)
theorem dX2_name_120 : decode cX2_name 120 = .ok (.iastore, 1) := dk_79 (dk_at dksX2_name_5 3 rfl rfl)
theorem dX2_name_121 : decode cX2_name 121 = .ok (.return_, 1) := dk_177 (dk_at dksX2_name_5 4 rfl rfl)
abbrev cX2_further : ByteArray := prog_20_method_10_code
def yX2_further : MethodName := ⟨RX2, "further", "(II)I"⟩
def dkwX2_further_0 : List UInt8 := [42, 42, 180, 0, 7, 16, 17, 27, 96, 46, 28, 96, 42, 180, 0, 7, 3, 46, 112, 182, 0, 80, 172]
abbrev dktX2_further_0 : List UInt8 := dkwX2_further_0 ++ []
theorem dksX2_further_0 : cX2_further.data.toList.drop 0 = dktX2_further_0 := by decide +kernel
theorem dX2_further_0 : decode cX2_further 0 = .ok (.aload_n 0, 1) := dk_42 (dk_at dksX2_further_0 0 rfl rfl)
theorem dX2_further_1 : decode cX2_further 1 = .ok (.aload_n 0, 1) := dk_42 (dk_at dksX2_further_0 1 rfl rfl)
theorem dX2_further_2 : decode cX2_further 2 = .ok (.getfield 7, 3) := dk_180 0 7 (dk_at dksX2_further_0 2 rfl rfl)
theorem dX2_further_5 : decode cX2_further 5 = .ok (.bipush 17, 2) := dk_16 17 (dk_at dksX2_further_0 5 rfl rfl)
theorem dX2_further_7 : decode cX2_further 7 = .ok (.iload_n 1, 1) := dk_27 (dk_at dksX2_further_0 7 rfl rfl)
theorem dX2_further_8 : decode cX2_further 8 = .ok (.iadd, 1) := dk_96 (dk_at dksX2_further_0 8 rfl rfl)
theorem dX2_further_9 : decode cX2_further 9 = .ok (.iaload, 1) := dk_46 (dk_at dksX2_further_0 9 rfl rfl)
theorem dX2_further_10 : decode cX2_further 10 = .ok (.iload_n 2, 1) := dk_28 (dk_at dksX2_further_0 10 rfl rfl)
theorem dX2_further_11 : decode cX2_further 11 = .ok (.iadd, 1) := dk_96 (dk_at dksX2_further_0 11 rfl rfl)
theorem dX2_further_12 : decode cX2_further 12 = .ok (.aload_n 0, 1) := dk_42 (dk_at dksX2_further_0 12 rfl rfl)
theorem dX2_further_13 : decode cX2_further 13 = .ok (.getfield 7, 3) := dk_180 0 7 (dk_at dksX2_further_0 13 rfl rfl)
theorem dX2_further_16 : decode cX2_further 16 = .ok (.iconst 0, 1) := dk_3 (dk_at dksX2_further_0 16 rfl rfl)
theorem dX2_further_17 : decode cX2_further 17 = .ok (.iaload, 1) := dk_46 (dk_at dksX2_further_0 17 rfl rfl)
theorem dX2_further_18 : decode cX2_further 18 = .ok (.irem, 1) := dk_112 (dk_at dksX2_further_0 18 rfl rfl)
theorem dX2_further_19 : decode cX2_further 19 = .ok (.invokevirtual 80, 3) := dk_182 0 80 (dk_at dksX2_further_0 19 rfl rfl)
theorem dX2_further_22 : decode cX2_further 22 = .ok (.ireturn, 1) := dk_172 (dk_at dksX2_further_0 22 rfl rfl)
abbrev cX2_says : ByteArray := prog_20_method_62_code
def yX2_says : MethodName := ⟨RX2, "says", "(IIII)I"⟩
def dkwX2_says_2 : List UInt8 := [182, 1, 29, 3, 21, 4, 184, 1, 32, 172, 132, 5, 1, 167, 255, 199, 29, 172]
abbrev dktX2_says_2 : List UInt8 := dkwX2_says_2 ++ []
def dkwX2_says_1 : List UInt8 := [180, 0, 16, 17, 2, 169, 27, 104, 4, 96, 6, 21, 5, 104, 96, 46, 28, 160, 0, 17, 42, 27, 21, 5]
abbrev dktX2_says_1 : List UInt8 := dkwX2_says_1 ++ dktX2_says_2
def dkwX2_says_0 : List UInt8 := [3, 54, 5, 27, 155, 0, 59, 21, 5, 42, 180, 0, 16, 17, 2, 169, 27, 104, 46, 162, 0, 44, 42]
abbrev dktX2_says_0 : List UInt8 := dkwX2_says_0 ++ dktX2_says_1
theorem dksX2_says_0 : cX2_says.data.toList.drop 0 = dktX2_says_0 := by decide +kernel
theorem dksX2_says_1 : cX2_says.data.toList.drop 23 = dktX2_says_1 := dk_seg dksX2_says_0 23 rfl rfl
theorem dksX2_says_2 : cX2_says.data.toList.drop 47 = dktX2_says_2 := dk_seg dksX2_says_1 24 rfl rfl
theorem dX2_says_0 : decode cX2_says 0 = .ok (.iconst 0, 1) := dk_3 (dk_at dksX2_says_0 0 rfl rfl)
theorem dX2_says_1 : decode cX2_says 1 = .ok (.istore 5, 2) := dk_54 5 (dk_at dksX2_says_0 1 rfl rfl)
theorem dX2_says_3 : decode cX2_says 3 = .ok (.iload_n 1, 1) := dk_27 (dk_at dksX2_says_0 3 rfl rfl)
theorem dX2_says_4 : decode cX2_says 4 = .ok (.ifCond .lt 59, 3) := dk_155 0 59 (dk_at dksX2_says_0 4 rfl rfl)
theorem dX2_says_7 : decode cX2_says 7 = .ok (.iload 5, 2) := dk_21 5 (dk_at dksX2_says_0 7 rfl rfl)
theorem dX2_says_9 : decode cX2_says 9 = .ok (.aload_n 0, 1) := dk_42 (dk_at dksX2_says_0 9 rfl rfl)
theorem dX2_says_10 : decode cX2_says 10 = .ok (.getfield 16, 3) := dk_180 0 16 (dk_at dksX2_says_0 10 rfl rfl)
theorem dX2_says_13 : decode cX2_says 13 = .ok (.sipush 681, 3) := dk_17 2 169 (dk_at dksX2_says_0 13 rfl rfl)
theorem dX2_says_16 : decode cX2_says 16 = .ok (.iload_n 1, 1) := dk_27 (dk_at dksX2_says_0 16 rfl rfl)
theorem dX2_says_17 : decode cX2_says 17 = .ok (.imul, 1) := dk_104 (dk_at dksX2_says_0 17 rfl rfl)
theorem dX2_says_18 : decode cX2_says 18 = .ok (.iaload, 1) := dk_46 (dk_at dksX2_says_0 18 rfl rfl)
theorem dX2_says_19 : decode cX2_says 19 = .ok (.if_icmp .ge 44, 3) := dk_162 0 44 (dk_at dksX2_says_0 19 rfl rfl)
theorem dX2_says_22 : decode cX2_says 22 = .ok (.aload_n 0, 1) := dk_42 (dk_at dksX2_says_0 22 rfl rfl)
theorem dX2_says_23 : decode cX2_says 23 = .ok (.getfield 16, 3) := dk_180 0 16 (dk_at dksX2_says_1 0 rfl rfl)
theorem dX2_says_26 : decode cX2_says 26 = .ok (.sipush 681, 3) := dk_17 2 169 (dk_at dksX2_says_1 3 rfl rfl)
theorem dX2_says_29 : decode cX2_says 29 = .ok (.iload_n 1, 1) := dk_27 (dk_at dksX2_says_1 6 rfl rfl)
theorem dX2_says_30 : decode cX2_says 30 = .ok (.imul, 1) := dk_104 (dk_at dksX2_says_1 7 rfl rfl)
theorem dX2_says_31 : decode cX2_says 31 = .ok (.iconst 1, 1) := dk_4 (dk_at dksX2_says_1 8 rfl rfl)
theorem dX2_says_32 : decode cX2_says 32 = .ok (.iadd, 1) := dk_96 (dk_at dksX2_says_1 9 rfl rfl)
theorem dX2_says_33 : decode cX2_says 33 = .ok (.iconst 3, 1) := dk_6 (dk_at dksX2_says_1 10 rfl rfl)
theorem dX2_says_34 : decode cX2_says 34 = .ok (.iload 5, 2) := dk_21 5 (dk_at dksX2_says_1 11 rfl rfl)
theorem dX2_says_36 : decode cX2_says 36 = .ok (.imul, 1) := dk_104 (dk_at dksX2_says_1 13 rfl rfl)
theorem dX2_says_37 : decode cX2_says 37 = .ok (.iadd, 1) := dk_96 (dk_at dksX2_says_1 14 rfl rfl)
theorem dX2_says_38 : decode cX2_says 38 = .ok (.iaload, 1) := dk_46 (dk_at dksX2_says_1 15 rfl rfl)
theorem dX2_says_39 : decode cX2_says 39 = .ok (.iload_n 2, 1) := dk_28 (dk_at dksX2_says_1 16 rfl rfl)
theorem dX2_says_40 : decode cX2_says 40 = .ok (.if_icmp .ne 17, 3) := dk_160 0 17 (dk_at dksX2_says_1 17 rfl rfl)
theorem dX2_says_43 : decode cX2_says 43 = .ok (.aload_n 0, 1) := dk_42 (dk_at dksX2_says_1 20 rfl rfl)
theorem dX2_says_44 : decode cX2_says 44 = .ok (.iload_n 1, 1) := dk_27 (dk_at dksX2_says_1 21 rfl rfl)
theorem dX2_says_45 : decode cX2_says 45 = .ok (.iload 5, 2) := dk_21 5 (dk_at dksX2_says_1 22 rfl rfl)
theorem dX2_says_47 : decode cX2_says 47 = .ok (.invokevirtual 285, 3) := dk_182 1 29 (dk_at dksX2_says_2 0 rfl rfl)
theorem dX2_says_50 : decode cX2_says 50 = .ok (.iconst 0, 1) := dk_3 (dk_at dksX2_says_2 3 rfl rfl)
theorem dX2_says_51 : decode cX2_says 51 = .ok (.iload 4, 2) := dk_21 4 (dk_at dksX2_says_2 4 rfl rfl)
theorem dX2_says_53 : decode cX2_says 53 = .ok (.invokestatic 288, 3) := dk_184 1 32 (dk_at dksX2_says_2 6 rfl rfl)
theorem dX2_says_56 : decode cX2_says 56 = .ok (.ireturn, 1) := dk_172 (dk_at dksX2_says_2 9 rfl rfl)
theorem dX2_says_57 : decode cX2_says 57 = .ok (.iinc 5 1, 3) := dk_132 5 1 (dk_at dksX2_says_2 10 rfl rfl)
theorem dX2_says_60 : decode cX2_says 60 = .ok (.goto (-57), 3) := dk_167 255 199 (dk_at dksX2_says_2 13 rfl rfl)
theorem dX2_says_63 : decode cX2_says 63 = .ok (.iload_n 3, 1) := dk_29 (dk_at dksX2_says_2 16 rfl rfl)
theorem dX2_says_64 : decode cX2_says 64 = .ok (.ireturn, 1) := dk_172 (dk_at dksX2_says_2 17 rfl rfl)
abbrev cX2_summedUp : ByteArray := prog_20_method_61_code
def yX2_summedUp : MethodName := ⟨RX2, "summedUp", "(II)J"⟩
def dkwX2_summedUp_15 : List UInt8 := [167, 254, 198, 42, 180, 0, 35, 3, 47, 173]
abbrev dktX2_summedUp_15 : List UInt8 := dkwX2_summedUp_15 ++ []
def dkwX2_summedUp_14 : List UInt8 := [180, 0, 39, 21, 6, 4, 100, 51, 42, 180, 0, 39, 21, 6, 51, 184, 1, 25, 84, 132, 7, 1]
abbrev dktX2_summedUp_14 : List UInt8 := dkwX2_summedUp_14 ++ dktX2_summedUp_15
def dkwX2_summedUp_13 : List UInt8 := [167, 0, 4, 3, 84, 167, 0, 36, 132, 6, 255, 42, 180, 0, 39, 21, 6, 4, 100, 21, 8, 42]
abbrev dktX2_summedUp_13 : List UInt8 := dkwX2_summedUp_13 ++ dktX2_summedUp_14
def dkwX2_summedUp_12 : List UInt8 := [160, 0, 32, 42, 180, 0, 39, 21, 6, 4, 100, 42, 180, 0, 39, 21, 6, 4, 100, 51, 154, 0, 7, 4]
abbrev dktX2_summedUp_12 : List UInt8 := dkwX2_summedUp_12 ++ dktX2_summedUp_13
def dkwX2_summedUp_11 : List UInt8 := [180, 0, 35, 21, 5, 4, 96, 47, 184, 1, 21, 84, 132, 6, 1, 167, 0, 72, 21, 8, 16, 20]
abbrev dktX2_summedUp_11 : List UInt8 := dkwX2_summedUp_11 ++ dktX2_summedUp_12
def dkwX2_summedUp_10 : List UInt8 := [16, 20, 162, 0, 40, 132, 5, 254, 42, 180, 0, 39, 21, 6, 21, 8, 42, 180, 0, 35, 21, 5, 47, 42]
abbrev dktX2_summedUp_10 : List UInt8 := dkwX2_summedUp_10 ++ dktX2_summedUp_11
def dkwX2_summedUp_9 : List UInt8 := [180, 0, 35, 21, 5, 4, 100, 47, 42, 180, 0, 35, 21, 5, 47, 184, 1, 17, 80, 167, 0, 116, 21, 8]
abbrev dktX2_summedUp_9 : List UInt8 := dkwX2_summedUp_9 ++ dktX2_summedUp_10
def dkwX2_summedUp_8 : List UInt8 := [167, 0, 159, 21, 8, 16, 10, 162, 0, 39, 132, 5, 255, 42, 180, 0, 35, 21, 5, 4, 100, 21, 8, 42]
abbrev dktX2_summedUp_8 : List UInt8 := dkwX2_summedUp_8 ++ dktX2_summedUp_9
def dkwX2_summedUp_7 : List UInt8 := [42, 180, 0, 35, 21, 5, 4, 100, 42, 21, 8, 42, 180, 0, 35, 21, 5, 4, 100, 47, 182, 1, 13, 80]
abbrev dktX2_summedUp_7 : List UInt8 := dkwX2_summedUp_7 ++ dktX2_summedUp_8
def dkwX2_summedUp_6 : List UInt8 := [180, 0, 35, 21, 5, 4, 100, 42, 180, 0, 35, 21, 5, 47, 80, 167, 0, 192, 21, 8, 8, 163, 0, 30]
abbrev dktX2_summedUp_6 : List UInt8 := dkwX2_summedUp_6 ++ dktX2_summedUp_7
def dkwX2_summedUp_5 : List UInt8 := [21, 8, 6, 160, 0, 38, 132, 5, 255, 132, 6, 255, 42, 180, 0, 39, 21, 6, 51, 154, 0, 211, 42]
abbrev dktX2_summedUp_5 : List UInt8 := dkwX2_summedUp_5 ++ dktX2_summedUp_6
def dkwX2_summedUp_4 : List UInt8 := [154, 0, 9, 21, 9, 133, 167, 0, 11, 42, 180, 0, 32, 21, 9, 46, 133, 80, 132, 5, 1, 167, 0, 233]
abbrev dktX2_summedUp_4 : List UInt8 := dkwX2_summedUp_4 ++ dktX2_summedUp_5
def dkwX2_summedUp_3 : List UInt8 := [5, 21, 7, 104, 96, 4, 96, 46, 54, 9, 21, 8, 4, 163, 0, 35, 42, 180, 0, 35, 21, 5, 21, 8]
abbrev dktX2_summedUp_3 : List UInt8 := dkwX2_summedUp_3 ++ dktX2_summedUp_4
def dkwX2_summedUp_2 : List UInt8 := [46, 162, 1, 51, 42, 180, 0, 16, 21, 4, 5, 21, 7, 104, 96, 46, 54, 8, 42, 180, 0, 16, 21, 4]
abbrev dktX2_summedUp_2 : List UInt8 := dkwX2_summedUp_2 ++ dktX2_summedUp_3
def dkwX2_summedUp_1 : List UInt8 := [54, 5, 3, 54, 6, 42, 180, 0, 16, 29, 4, 96, 46, 54, 7, 21, 7, 42, 180, 0, 16, 29, 5, 96]
abbrev dktX2_summedUp_1 : List UInt8 := dkwX2_summedUp_1 ++ dktX2_summedUp_2
def dkwX2_summedUp_0 : List UInt8 := [17, 2, 169, 27, 104, 4, 96, 6, 28, 104, 96, 62, 17, 2, 169, 27, 104, 16, 73, 96, 54, 4, 3]
abbrev dktX2_summedUp_0 : List UInt8 := dkwX2_summedUp_0 ++ dktX2_summedUp_1
theorem dksX2_summedUp_0 : cX2_summedUp.data.toList.drop 0 = dktX2_summedUp_0 := by decide +kernel
theorem dksX2_summedUp_1 : cX2_summedUp.data.toList.drop 23 = dktX2_summedUp_1 := dk_seg dksX2_summedUp_0 23 rfl rfl
theorem dksX2_summedUp_2 : cX2_summedUp.data.toList.drop 47 = dktX2_summedUp_2 := dk_seg dksX2_summedUp_1 24 rfl rfl
theorem dksX2_summedUp_3 : cX2_summedUp.data.toList.drop 71 = dktX2_summedUp_3 := dk_seg dksX2_summedUp_2 24 rfl rfl
theorem dksX2_summedUp_4 : cX2_summedUp.data.toList.drop 95 = dktX2_summedUp_4 := dk_seg dksX2_summedUp_3 24 rfl rfl
theorem dksX2_summedUp_5 : cX2_summedUp.data.toList.drop 119 = dktX2_summedUp_5 := dk_seg dksX2_summedUp_4 24 rfl rfl
theorem dksX2_summedUp_6 : cX2_summedUp.data.toList.drop 142 = dktX2_summedUp_6 := dk_seg dksX2_summedUp_5 23 rfl rfl
theorem dksX2_summedUp_7 : cX2_summedUp.data.toList.drop 166 = dktX2_summedUp_7 := dk_seg dksX2_summedUp_6 24 rfl rfl
theorem dksX2_summedUp_8 : cX2_summedUp.data.toList.drop 190 = dktX2_summedUp_8 := dk_seg dksX2_summedUp_7 24 rfl rfl
theorem dksX2_summedUp_9 : cX2_summedUp.data.toList.drop 214 = dktX2_summedUp_9 := dk_seg dksX2_summedUp_8 24 rfl rfl
theorem dksX2_summedUp_10 : cX2_summedUp.data.toList.drop 238 = dktX2_summedUp_10 := dk_seg dksX2_summedUp_9 24 rfl rfl
theorem dksX2_summedUp_11 : cX2_summedUp.data.toList.drop 262 = dktX2_summedUp_11 := dk_seg dksX2_summedUp_10 24 rfl rfl
theorem dksX2_summedUp_12 : cX2_summedUp.data.toList.drop 284 = dktX2_summedUp_12 := dk_seg dksX2_summedUp_11 22 rfl rfl
theorem dksX2_summedUp_13 : cX2_summedUp.data.toList.drop 308 = dktX2_summedUp_13 := dk_seg dksX2_summedUp_12 24 rfl rfl
theorem dksX2_summedUp_14 : cX2_summedUp.data.toList.drop 330 = dktX2_summedUp_14 := dk_seg dksX2_summedUp_13 22 rfl rfl
theorem dksX2_summedUp_15 : cX2_summedUp.data.toList.drop 352 = dktX2_summedUp_15 := dk_seg dksX2_summedUp_14 22 rfl rfl
theorem dX2_summedUp_0 : decode cX2_summedUp 0 = .ok (.sipush 681, 3) := dk_17 2 169 (dk_at dksX2_summedUp_0 0 rfl rfl)
theorem dX2_summedUp_3 : decode cX2_summedUp 3 = .ok (.iload_n 1, 1) := dk_27 (dk_at dksX2_summedUp_0 3 rfl rfl)
theorem dX2_summedUp_4 : decode cX2_summedUp 4 = .ok (.imul, 1) := dk_104 (dk_at dksX2_summedUp_0 4 rfl rfl)
theorem dX2_summedUp_5 : decode cX2_summedUp 5 = .ok (.iconst 1, 1) := dk_4 (dk_at dksX2_summedUp_0 5 rfl rfl)
theorem dX2_summedUp_6 : decode cX2_summedUp 6 = .ok (.iadd, 1) := dk_96 (dk_at dksX2_summedUp_0 6 rfl rfl)
theorem dX2_summedUp_7 : decode cX2_summedUp 7 = .ok (.iconst 3, 1) := dk_6 (dk_at dksX2_summedUp_0 7 rfl rfl)
theorem dX2_summedUp_8 : decode cX2_summedUp 8 = .ok (.iload_n 2, 1) := dk_28 (dk_at dksX2_summedUp_0 8 rfl rfl)
theorem dX2_summedUp_9 : decode cX2_summedUp 9 = .ok (.imul, 1) := dk_104 (dk_at dksX2_summedUp_0 9 rfl rfl)
theorem dX2_summedUp_10 : decode cX2_summedUp 10 = .ok (.iadd, 1) := dk_96 (dk_at dksX2_summedUp_0 10 rfl rfl)
theorem dX2_summedUp_11 : decode cX2_summedUp 11 = .ok (.istore_n 3, 1) := dk_62 (dk_at dksX2_summedUp_0 11 rfl rfl)
theorem dX2_summedUp_12 : decode cX2_summedUp 12 = .ok (.sipush 681, 3) := dk_17 2 169 (dk_at dksX2_summedUp_0 12 rfl rfl)
theorem dX2_summedUp_15 : decode cX2_summedUp 15 = .ok (.iload_n 1, 1) := dk_27 (dk_at dksX2_summedUp_0 15 rfl rfl)
theorem dX2_summedUp_16 : decode cX2_summedUp 16 = .ok (.imul, 1) := dk_104 (dk_at dksX2_summedUp_0 16 rfl rfl)
theorem dX2_summedUp_17 : decode cX2_summedUp 17 = .ok (.bipush 73, 2) := dk_16 73 (dk_at dksX2_summedUp_0 17 rfl rfl)
theorem dX2_summedUp_19 : decode cX2_summedUp 19 = .ok (.iadd, 1) := dk_96 (dk_at dksX2_summedUp_0 19 rfl rfl)
theorem dX2_summedUp_20 : decode cX2_summedUp 20 = .ok (.istore 4, 2) := dk_54 4 (dk_at dksX2_summedUp_0 20 rfl rfl)
theorem dX2_summedUp_22 : decode cX2_summedUp 22 = .ok (.iconst 0, 1) := dk_3 (dk_at dksX2_summedUp_0 22 rfl rfl)
theorem dX2_summedUp_23 : decode cX2_summedUp 23 = .ok (.istore 5, 2) := dk_54 5 (dk_at dksX2_summedUp_1 0 rfl rfl)
theorem dX2_summedUp_25 : decode cX2_summedUp 25 = .ok (.iconst 0, 1) := dk_3 (dk_at dksX2_summedUp_1 2 rfl rfl)
theorem dX2_summedUp_26 : decode cX2_summedUp 26 = .ok (.istore 6, 2) := dk_54 6 (dk_at dksX2_summedUp_1 3 rfl rfl)
theorem dX2_summedUp_28 : decode cX2_summedUp 28 = .ok (.aload_n 0, 1) := dk_42 (dk_at dksX2_summedUp_1 5 rfl rfl)
theorem dX2_summedUp_29 : decode cX2_summedUp 29 = .ok (.getfield 16, 3) := dk_180 0 16 (dk_at dksX2_summedUp_1 6 rfl rfl)
theorem dX2_summedUp_32 : decode cX2_summedUp 32 = .ok (.iload_n 3, 1) := dk_29 (dk_at dksX2_summedUp_1 9 rfl rfl)
theorem dX2_summedUp_33 : decode cX2_summedUp 33 = .ok (.iconst 1, 1) := dk_4 (dk_at dksX2_summedUp_1 10 rfl rfl)
theorem dX2_summedUp_34 : decode cX2_summedUp 34 = .ok (.iadd, 1) := dk_96 (dk_at dksX2_summedUp_1 11 rfl rfl)
theorem dX2_summedUp_35 : decode cX2_summedUp 35 = .ok (.iaload, 1) := dk_46 (dk_at dksX2_summedUp_1 12 rfl rfl)
theorem dX2_summedUp_36 : decode cX2_summedUp 36 = .ok (.istore 7, 2) := dk_54 7 (dk_at dksX2_summedUp_1 13 rfl rfl)
theorem dX2_summedUp_38 : decode cX2_summedUp 38 = .ok (.iload 7, 2) := dk_21 7 (dk_at dksX2_summedUp_1 15 rfl rfl)
theorem dX2_summedUp_40 : decode cX2_summedUp 40 = .ok (.aload_n 0, 1) := dk_42 (dk_at dksX2_summedUp_1 17 rfl rfl)
theorem dX2_summedUp_41 : decode cX2_summedUp 41 = .ok (.getfield 16, 3) := dk_180 0 16 (dk_at dksX2_summedUp_1 18 rfl rfl)
theorem dX2_summedUp_44 : decode cX2_summedUp 44 = .ok (.iload_n 3, 1) := dk_29 (dk_at dksX2_summedUp_1 21 rfl rfl)
theorem dX2_summedUp_45 : decode cX2_summedUp 45 = .ok (.iconst 2, 1) := dk_5 (dk_at dksX2_summedUp_1 22 rfl rfl)
theorem dX2_summedUp_46 : decode cX2_summedUp 46 = .ok (.iadd, 1) := dk_96 (dk_at dksX2_summedUp_1 23 rfl rfl)
theorem dX2_summedUp_47 : decode cX2_summedUp 47 = .ok (.iaload, 1) := dk_46 (dk_at dksX2_summedUp_2 0 rfl rfl)
theorem dX2_summedUp_48 : decode cX2_summedUp 48 = .ok (.if_icmp .ge 307, 3) := dk_162 1 51 (dk_at dksX2_summedUp_2 1 rfl rfl)
theorem dX2_summedUp_51 : decode cX2_summedUp 51 = .ok (.aload_n 0, 1) := dk_42 (dk_at dksX2_summedUp_2 4 rfl rfl)
theorem dX2_summedUp_52 : decode cX2_summedUp 52 = .ok (.getfield 16, 3) := dk_180 0 16 (dk_at dksX2_summedUp_2 5 rfl rfl)
theorem dX2_summedUp_55 : decode cX2_summedUp 55 = .ok (.iload 4, 2) := dk_21 4 (dk_at dksX2_summedUp_2 8 rfl rfl)
theorem dX2_summedUp_57 : decode cX2_summedUp 57 = .ok (.iconst 2, 1) := dk_5 (dk_at dksX2_summedUp_2 10 rfl rfl)
theorem dX2_summedUp_58 : decode cX2_summedUp 58 = .ok (.iload 7, 2) := dk_21 7 (dk_at dksX2_summedUp_2 11 rfl rfl)
theorem dX2_summedUp_60 : decode cX2_summedUp 60 = .ok (.imul, 1) := dk_104 (dk_at dksX2_summedUp_2 13 rfl rfl)
theorem dX2_summedUp_61 : decode cX2_summedUp 61 = .ok (.iadd, 1) := dk_96 (dk_at dksX2_summedUp_2 14 rfl rfl)
theorem dX2_summedUp_62 : decode cX2_summedUp 62 = .ok (.iaload, 1) := dk_46 (dk_at dksX2_summedUp_2 15 rfl rfl)
theorem dX2_summedUp_63 : decode cX2_summedUp 63 = .ok (.istore 8, 2) := dk_54 8 (dk_at dksX2_summedUp_2 16 rfl rfl)
theorem dX2_summedUp_65 : decode cX2_summedUp 65 = .ok (.aload_n 0, 1) := dk_42 (dk_at dksX2_summedUp_2 18 rfl rfl)
theorem dX2_summedUp_66 : decode cX2_summedUp 66 = .ok (.getfield 16, 3) := dk_180 0 16 (dk_at dksX2_summedUp_2 19 rfl rfl)
theorem dX2_summedUp_69 : decode cX2_summedUp 69 = .ok (.iload 4, 2) := dk_21 4 (dk_at dksX2_summedUp_2 22 rfl rfl)
theorem dX2_summedUp_71 : decode cX2_summedUp 71 = .ok (.iconst 2, 1) := dk_5 (dk_at dksX2_summedUp_3 0 rfl rfl)
theorem dX2_summedUp_72 : decode cX2_summedUp 72 = .ok (.iload 7, 2) := dk_21 7 (dk_at dksX2_summedUp_3 1 rfl rfl)
theorem dX2_summedUp_74 : decode cX2_summedUp 74 = .ok (.imul, 1) := dk_104 (dk_at dksX2_summedUp_3 3 rfl rfl)
theorem dX2_summedUp_75 : decode cX2_summedUp 75 = .ok (.iadd, 1) := dk_96 (dk_at dksX2_summedUp_3 4 rfl rfl)
theorem dX2_summedUp_76 : decode cX2_summedUp 76 = .ok (.iconst 1, 1) := dk_4 (dk_at dksX2_summedUp_3 5 rfl rfl)
theorem dX2_summedUp_77 : decode cX2_summedUp 77 = .ok (.iadd, 1) := dk_96 (dk_at dksX2_summedUp_3 6 rfl rfl)
theorem dX2_summedUp_78 : decode cX2_summedUp 78 = .ok (.iaload, 1) := dk_46 (dk_at dksX2_summedUp_3 7 rfl rfl)
theorem dX2_summedUp_79 : decode cX2_summedUp 79 = .ok (.istore 9, 2) := dk_54 9 (dk_at dksX2_summedUp_3 8 rfl rfl)
theorem dX2_summedUp_81 : decode cX2_summedUp 81 = .ok (.iload 8, 2) := dk_21 8 (dk_at dksX2_summedUp_3 10 rfl rfl)
theorem dX2_summedUp_83 : decode cX2_summedUp 83 = .ok (.iconst 1, 1) := dk_4 (dk_at dksX2_summedUp_3 12 rfl rfl)
theorem dX2_summedUp_84 : decode cX2_summedUp 84 = .ok (.if_icmp .gt 35, 3) := dk_163 0 35 (dk_at dksX2_summedUp_3 13 rfl rfl)
theorem dX2_summedUp_87 : decode cX2_summedUp 87 = .ok (.aload_n 0, 1) := dk_42 (dk_at dksX2_summedUp_3 16 rfl rfl)
theorem dX2_summedUp_88 : decode cX2_summedUp 88 = .ok (.getfield 35, 3) := dk_180 0 35 (dk_at dksX2_summedUp_3 17 rfl rfl)
theorem dX2_summedUp_91 : decode cX2_summedUp 91 = .ok (.iload 5, 2) := dk_21 5 (dk_at dksX2_summedUp_3 20 rfl rfl)
theorem dX2_summedUp_93 : decode cX2_summedUp 93 = .ok (.iload 8, 2) := dk_21 8 (dk_at dksX2_summedUp_3 22 rfl rfl)
theorem dX2_summedUp_95 : decode cX2_summedUp 95 = .ok (.ifCond .ne 9, 3) := dk_154 0 9 (dk_at dksX2_summedUp_4 0 rfl rfl)
theorem dX2_summedUp_98 : decode cX2_summedUp 98 = .ok (.iload 9, 2) := dk_21 9 (dk_at dksX2_summedUp_4 3 rfl rfl)
theorem dX2_summedUp_100 : decode cX2_summedUp 100 = .ok (.i2l, 1) := dk_133 (dk_at dksX2_summedUp_4 5 rfl rfl)
theorem dX2_summedUp_101 : decode cX2_summedUp 101 = .ok (.goto 11, 3) := dk_167 0 11 (dk_at dksX2_summedUp_4 6 rfl rfl)
theorem dX2_summedUp_104 : decode cX2_summedUp 104 = .ok (.aload_n 0, 1) := dk_42 (dk_at dksX2_summedUp_4 9 rfl rfl)
theorem dX2_summedUp_105 : decode cX2_summedUp 105 = .ok (.getfield 32, 3) := dk_180 0 32 (dk_at dksX2_summedUp_4 10 rfl rfl)
theorem dX2_summedUp_108 : decode cX2_summedUp 108 = .ok (.iload 9, 2) := dk_21 9 (dk_at dksX2_summedUp_4 13 rfl rfl)
theorem dX2_summedUp_110 : decode cX2_summedUp 110 = .ok (.iaload, 1) := dk_46 (dk_at dksX2_summedUp_4 15 rfl rfl)
theorem dX2_summedUp_111 : decode cX2_summedUp 111 = .ok (.i2l, 1) := dk_133 (dk_at dksX2_summedUp_4 16 rfl rfl)
theorem dX2_summedUp_112 : decode cX2_summedUp 112 = .ok (.lastore, 1) := dk_80 (dk_at dksX2_summedUp_4 17 rfl rfl)
theorem dX2_summedUp_113 : decode cX2_summedUp 113 = .ok (.iinc 5 1, 3) := dk_132 5 1 (dk_at dksX2_summedUp_4 18 rfl rfl)
theorem dX2_summedUp_116 : decode cX2_summedUp 116 = .ok (.goto 233, 3) := dk_167 0 233 (dk_at dksX2_summedUp_4 21 rfl rfl)
theorem dX2_summedUp_119 : decode cX2_summedUp 119 = .ok (.iload 8, 2) := dk_21 8 (dk_at dksX2_summedUp_5 0 rfl rfl)
theorem dX2_summedUp_121 : decode cX2_summedUp 121 = .ok (.iconst 3, 1) := dk_6 (dk_at dksX2_summedUp_5 2 rfl rfl)
theorem dX2_summedUp_122 : decode cX2_summedUp 122 = .ok (.if_icmp .ne 38, 3) := dk_160 0 38 (dk_at dksX2_summedUp_5 3 rfl rfl)
theorem dX2_summedUp_125 : decode cX2_summedUp 125 = .ok (.iinc 5 (-1), 3) := dk_132 5 255 (dk_at dksX2_summedUp_5 6 rfl rfl)
theorem dX2_summedUp_128 : decode cX2_summedUp 128 = .ok (.iinc 6 (-1), 3) := dk_132 6 255 (dk_at dksX2_summedUp_5 9 rfl rfl)
theorem dX2_summedUp_131 : decode cX2_summedUp 131 = .ok (.aload_n 0, 1) := dk_42 (dk_at dksX2_summedUp_5 12 rfl rfl)
theorem dX2_summedUp_132 : decode cX2_summedUp 132 = .ok (.getfield 39, 3) := dk_180 0 39 (dk_at dksX2_summedUp_5 13 rfl rfl)
theorem dX2_summedUp_135 : decode cX2_summedUp 135 = .ok (.iload 6, 2) := dk_21 6 (dk_at dksX2_summedUp_5 16 rfl rfl)
theorem dX2_summedUp_137 : decode cX2_summedUp 137 = .ok (.baload, 1) := dk_51 (dk_at dksX2_summedUp_5 18 rfl rfl)
theorem dX2_summedUp_138 : decode cX2_summedUp 138 = .ok (.ifCond .ne 211, 3) := dk_154 0 211 (dk_at dksX2_summedUp_5 19 rfl rfl)
theorem dX2_summedUp_141 : decode cX2_summedUp 141 = .ok (.aload_n 0, 1) := dk_42 (dk_at dksX2_summedUp_5 22 rfl rfl)
theorem dX2_summedUp_142 : decode cX2_summedUp 142 = .ok (.getfield 35, 3) := dk_180 0 35 (dk_at dksX2_summedUp_6 0 rfl rfl)
theorem dX2_summedUp_145 : decode cX2_summedUp 145 = .ok (.iload 5, 2) := dk_21 5 (dk_at dksX2_summedUp_6 3 rfl rfl)
theorem dX2_summedUp_147 : decode cX2_summedUp 147 = .ok (.iconst 1, 1) := dk_4 (dk_at dksX2_summedUp_6 5 rfl rfl)
theorem dX2_summedUp_148 : decode cX2_summedUp 148 = .ok (.isub, 1) := dk_100 (dk_at dksX2_summedUp_6 6 rfl rfl)
theorem dX2_summedUp_149 : decode cX2_summedUp 149 = .ok (.aload_n 0, 1) := dk_42 (dk_at dksX2_summedUp_6 7 rfl rfl)
theorem dX2_summedUp_150 : decode cX2_summedUp 150 = .ok (.getfield 35, 3) := dk_180 0 35 (dk_at dksX2_summedUp_6 8 rfl rfl)
theorem dX2_summedUp_153 : decode cX2_summedUp 153 = .ok (.iload 5, 2) := dk_21 5 (dk_at dksX2_summedUp_6 11 rfl rfl)
theorem dX2_summedUp_155 : decode cX2_summedUp 155 = .ok (.laload, 1) := dk_47 (dk_at dksX2_summedUp_6 13 rfl rfl)
theorem dX2_summedUp_156 : decode cX2_summedUp 156 = .ok (.lastore, 1) := dk_80 (dk_at dksX2_summedUp_6 14 rfl rfl)
theorem dX2_summedUp_157 : decode cX2_summedUp 157 = .ok (.goto 192, 3) := dk_167 0 192 (dk_at dksX2_summedUp_6 15 rfl rfl)
theorem dX2_summedUp_160 : decode cX2_summedUp 160 = .ok (.iload 8, 2) := dk_21 8 (dk_at dksX2_summedUp_6 18 rfl rfl)
theorem dX2_summedUp_162 : decode cX2_summedUp 162 = .ok (.iconst 5, 1) := dk_8 (dk_at dksX2_summedUp_6 20 rfl rfl)
theorem dX2_summedUp_163 : decode cX2_summedUp 163 = .ok (.if_icmp .gt 30, 3) := dk_163 0 30 (dk_at dksX2_summedUp_6 21 rfl rfl)
theorem dX2_summedUp_166 : decode cX2_summedUp 166 = .ok (.aload_n 0, 1) := dk_42 (dk_at dksX2_summedUp_7 0 rfl rfl)
theorem dX2_summedUp_167 : decode cX2_summedUp 167 = .ok (.getfield 35, 3) := dk_180 0 35 (dk_at dksX2_summedUp_7 1 rfl rfl)
theorem dX2_summedUp_170 : decode cX2_summedUp 170 = .ok (.iload 5, 2) := dk_21 5 (dk_at dksX2_summedUp_7 4 rfl rfl)
theorem dX2_summedUp_172 : decode cX2_summedUp 172 = .ok (.iconst 1, 1) := dk_4 (dk_at dksX2_summedUp_7 6 rfl rfl)
theorem dX2_summedUp_173 : decode cX2_summedUp 173 = .ok (.isub, 1) := dk_100 (dk_at dksX2_summedUp_7 7 rfl rfl)
theorem dX2_summedUp_174 : decode cX2_summedUp 174 = .ok (.aload_n 0, 1) := dk_42 (dk_at dksX2_summedUp_7 8 rfl rfl)
theorem dX2_summedUp_175 : decode cX2_summedUp 175 = .ok (.iload 8, 2) := dk_21 8 (dk_at dksX2_summedUp_7 9 rfl rfl)
theorem dX2_summedUp_177 : decode cX2_summedUp 177 = .ok (.aload_n 0, 1) := dk_42 (dk_at dksX2_summedUp_7 11 rfl rfl)
theorem dX2_summedUp_178 : decode cX2_summedUp 178 = .ok (.getfield 35, 3) := dk_180 0 35 (dk_at dksX2_summedUp_7 12 rfl rfl)
theorem dX2_summedUp_181 : decode cX2_summedUp 181 = .ok (.iload 5, 2) := dk_21 5 (dk_at dksX2_summedUp_7 15 rfl rfl)
theorem dX2_summedUp_183 : decode cX2_summedUp 183 = .ok (.iconst 1, 1) := dk_4 (dk_at dksX2_summedUp_7 17 rfl rfl)
theorem dX2_summedUp_184 : decode cX2_summedUp 184 = .ok (.isub, 1) := dk_100 (dk_at dksX2_summedUp_7 18 rfl rfl)
theorem dX2_summedUp_185 : decode cX2_summedUp 185 = .ok (.laload, 1) := dk_47 (dk_at dksX2_summedUp_7 19 rfl rfl)
theorem dX2_summedUp_186 : decode cX2_summedUp 186 = .ok (.invokevirtual 269, 3) := dk_182 1 13 (dk_at dksX2_summedUp_7 20 rfl rfl)
theorem dX2_summedUp_189 : decode cX2_summedUp 189 = .ok (.lastore, 1) := dk_80 (dk_at dksX2_summedUp_7 23 rfl rfl)
theorem dX2_summedUp_190 : decode cX2_summedUp 190 = .ok (.goto 159, 3) := dk_167 0 159 (dk_at dksX2_summedUp_8 0 rfl rfl)
theorem dX2_summedUp_193 : decode cX2_summedUp 193 = .ok (.iload 8, 2) := dk_21 8 (dk_at dksX2_summedUp_8 3 rfl rfl)
theorem dX2_summedUp_195 : decode cX2_summedUp 195 = .ok (.bipush 10, 2) := dk_16 10 (dk_at dksX2_summedUp_8 5 rfl rfl)
theorem dX2_summedUp_197 : decode cX2_summedUp 197 = .ok (.if_icmp .ge 39, 3) := dk_162 0 39 (dk_at dksX2_summedUp_8 7 rfl rfl)
theorem dX2_summedUp_200 : decode cX2_summedUp 200 = .ok (.iinc 5 (-1), 3) := dk_132 5 255 (dk_at dksX2_summedUp_8 10 rfl rfl)
theorem dX2_summedUp_203 : decode cX2_summedUp 203 = .ok (.aload_n 0, 1) := dk_42 (dk_at dksX2_summedUp_8 13 rfl rfl)
theorem dX2_summedUp_204 : decode cX2_summedUp 204 = .ok (.getfield 35, 3) := dk_180 0 35 (dk_at dksX2_summedUp_8 14 rfl rfl)
theorem dX2_summedUp_207 : decode cX2_summedUp 207 = .ok (.iload 5, 2) := dk_21 5 (dk_at dksX2_summedUp_8 17 rfl rfl)
theorem dX2_summedUp_209 : decode cX2_summedUp 209 = .ok (.iconst 1, 1) := dk_4 (dk_at dksX2_summedUp_8 19 rfl rfl)
theorem dX2_summedUp_210 : decode cX2_summedUp 210 = .ok (.isub, 1) := dk_100 (dk_at dksX2_summedUp_8 20 rfl rfl)
theorem dX2_summedUp_211 : decode cX2_summedUp 211 = .ok (.iload 8, 2) := dk_21 8 (dk_at dksX2_summedUp_8 21 rfl rfl)
theorem dX2_summedUp_213 : decode cX2_summedUp 213 = .ok (.aload_n 0, 1) := dk_42 (dk_at dksX2_summedUp_8 23 rfl rfl)
theorem dX2_summedUp_214 : decode cX2_summedUp 214 = .ok (.getfield 35, 3) := dk_180 0 35 (dk_at dksX2_summedUp_9 0 rfl rfl)
theorem dX2_summedUp_217 : decode cX2_summedUp 217 = .ok (.iload 5, 2) := dk_21 5 (dk_at dksX2_summedUp_9 3 rfl rfl)
theorem dX2_summedUp_219 : decode cX2_summedUp 219 = .ok (.iconst 1, 1) := dk_4 (dk_at dksX2_summedUp_9 5 rfl rfl)
theorem dX2_summedUp_220 : decode cX2_summedUp 220 = .ok (.isub, 1) := dk_100 (dk_at dksX2_summedUp_9 6 rfl rfl)
theorem dX2_summedUp_221 : decode cX2_summedUp 221 = .ok (.laload, 1) := dk_47 (dk_at dksX2_summedUp_9 7 rfl rfl)
theorem dX2_summedUp_222 : decode cX2_summedUp 222 = .ok (.aload_n 0, 1) := dk_42 (dk_at dksX2_summedUp_9 8 rfl rfl)
theorem dX2_summedUp_223 : decode cX2_summedUp 223 = .ok (.getfield 35, 3) := dk_180 0 35 (dk_at dksX2_summedUp_9 9 rfl rfl)
theorem dX2_summedUp_226 : decode cX2_summedUp 226 = .ok (.iload 5, 2) := dk_21 5 (dk_at dksX2_summedUp_9 12 rfl rfl)
theorem dX2_summedUp_228 : decode cX2_summedUp 228 = .ok (.laload, 1) := dk_47 (dk_at dksX2_summedUp_9 14 rfl rfl)
theorem dX2_summedUp_229 : decode cX2_summedUp 229 = .ok (.invokestatic 273, 3) := dk_184 1 17 (dk_at dksX2_summedUp_9 15 rfl rfl)
theorem dX2_summedUp_232 : decode cX2_summedUp 232 = .ok (.lastore, 1) := dk_80 (dk_at dksX2_summedUp_9 18 rfl rfl)
theorem dX2_summedUp_233 : decode cX2_summedUp 233 = .ok (.goto 116, 3) := dk_167 0 116 (dk_at dksX2_summedUp_9 19 rfl rfl)
theorem dX2_summedUp_236 : decode cX2_summedUp 236 = .ok (.iload 8, 2) := dk_21 8 (dk_at dksX2_summedUp_9 22 rfl rfl)
theorem dX2_summedUp_238 : decode cX2_summedUp 238 = .ok (.bipush 20, 2) := dk_16 20 (dk_at dksX2_summedUp_10 0 rfl rfl)
theorem dX2_summedUp_240 : decode cX2_summedUp 240 = .ok (.if_icmp .ge 40, 3) := dk_162 0 40 (dk_at dksX2_summedUp_10 2 rfl rfl)
theorem dX2_summedUp_243 : decode cX2_summedUp 243 = .ok (.iinc 5 (-2), 3) := dk_132 5 254 (dk_at dksX2_summedUp_10 5 rfl rfl)
theorem dX2_summedUp_246 : decode cX2_summedUp 246 = .ok (.aload_n 0, 1) := dk_42 (dk_at dksX2_summedUp_10 8 rfl rfl)
theorem dX2_summedUp_247 : decode cX2_summedUp 247 = .ok (.getfield 39, 3) := dk_180 0 39 (dk_at dksX2_summedUp_10 9 rfl rfl)
theorem dX2_summedUp_250 : decode cX2_summedUp 250 = .ok (.iload 6, 2) := dk_21 6 (dk_at dksX2_summedUp_10 12 rfl rfl)
theorem dX2_summedUp_252 : decode cX2_summedUp 252 = .ok (.iload 8, 2) := dk_21 8 (dk_at dksX2_summedUp_10 14 rfl rfl)
theorem dX2_summedUp_254 : decode cX2_summedUp 254 = .ok (.aload_n 0, 1) := dk_42 (dk_at dksX2_summedUp_10 16 rfl rfl)
theorem dX2_summedUp_255 : decode cX2_summedUp 255 = .ok (.getfield 35, 3) := dk_180 0 35 (dk_at dksX2_summedUp_10 17 rfl rfl)
theorem dX2_summedUp_258 : decode cX2_summedUp 258 = .ok (.iload 5, 2) := dk_21 5 (dk_at dksX2_summedUp_10 20 rfl rfl)
theorem dX2_summedUp_260 : decode cX2_summedUp 260 = .ok (.laload, 1) := dk_47 (dk_at dksX2_summedUp_10 22 rfl rfl)
theorem dX2_summedUp_261 : decode cX2_summedUp 261 = .ok (.aload_n 0, 1) := dk_42 (dk_at dksX2_summedUp_10 23 rfl rfl)
theorem dX2_summedUp_262 : decode cX2_summedUp 262 = .ok (.getfield 35, 3) := dk_180 0 35 (dk_at dksX2_summedUp_11 0 rfl rfl)
theorem dX2_summedUp_265 : decode cX2_summedUp 265 = .ok (.iload 5, 2) := dk_21 5 (dk_at dksX2_summedUp_11 3 rfl rfl)
theorem dX2_summedUp_267 : decode cX2_summedUp 267 = .ok (.iconst 1, 1) := dk_4 (dk_at dksX2_summedUp_11 5 rfl rfl)
theorem dX2_summedUp_268 : decode cX2_summedUp 268 = .ok (.iadd, 1) := dk_96 (dk_at dksX2_summedUp_11 6 rfl rfl)
theorem dX2_summedUp_269 : decode cX2_summedUp 269 = .ok (.laload, 1) := dk_47 (dk_at dksX2_summedUp_11 7 rfl rfl)
theorem dX2_summedUp_270 : decode cX2_summedUp 270 = .ok (.invokestatic 277, 3) := dk_184 1 21 (dk_at dksX2_summedUp_11 8 rfl rfl)
theorem dX2_summedUp_273 : decode cX2_summedUp 273 = .ok (.bastore, 1) := dk_84 (dk_at dksX2_summedUp_11 11 rfl rfl)
theorem dX2_summedUp_274 : decode cX2_summedUp 274 = .ok (.iinc 6 1, 3) := dk_132 6 1 (dk_at dksX2_summedUp_11 12 rfl rfl)
theorem dX2_summedUp_277 : decode cX2_summedUp 277 = .ok (.goto 72, 3) := dk_167 0 72 (dk_at dksX2_summedUp_11 15 rfl rfl)
theorem dX2_summedUp_280 : decode cX2_summedUp 280 = .ok (.iload 8, 2) := dk_21 8 (dk_at dksX2_summedUp_11 18 rfl rfl)
theorem dX2_summedUp_282 : decode cX2_summedUp 282 = .ok (.bipush 20, 2) := dk_16 20 (dk_at dksX2_summedUp_11 20 rfl rfl)
theorem dX2_summedUp_284 : decode cX2_summedUp 284 = .ok (.if_icmp .ne 32, 3) := dk_160 0 32 (dk_at dksX2_summedUp_12 0 rfl rfl)
theorem dX2_summedUp_287 : decode cX2_summedUp 287 = .ok (.aload_n 0, 1) := dk_42 (dk_at dksX2_summedUp_12 3 rfl rfl)
theorem dX2_summedUp_288 : decode cX2_summedUp 288 = .ok (.getfield 39, 3) := dk_180 0 39 (dk_at dksX2_summedUp_12 4 rfl rfl)
theorem dX2_summedUp_291 : decode cX2_summedUp 291 = .ok (.iload 6, 2) := dk_21 6 (dk_at dksX2_summedUp_12 7 rfl rfl)
theorem dX2_summedUp_293 : decode cX2_summedUp 293 = .ok (.iconst 1, 1) := dk_4 (dk_at dksX2_summedUp_12 9 rfl rfl)
theorem dX2_summedUp_294 : decode cX2_summedUp 294 = .ok (.isub, 1) := dk_100 (dk_at dksX2_summedUp_12 10 rfl rfl)
theorem dX2_summedUp_295 : decode cX2_summedUp 295 = .ok (.aload_n 0, 1) := dk_42 (dk_at dksX2_summedUp_12 11 rfl rfl)
theorem dX2_summedUp_296 : decode cX2_summedUp 296 = .ok (.getfield 39, 3) := dk_180 0 39 (dk_at dksX2_summedUp_12 12 rfl rfl)
theorem dX2_summedUp_299 : decode cX2_summedUp 299 = .ok (.iload 6, 2) := dk_21 6 (dk_at dksX2_summedUp_12 15 rfl rfl)
theorem dX2_summedUp_301 : decode cX2_summedUp 301 = .ok (.iconst 1, 1) := dk_4 (dk_at dksX2_summedUp_12 17 rfl rfl)
theorem dX2_summedUp_302 : decode cX2_summedUp 302 = .ok (.isub, 1) := dk_100 (dk_at dksX2_summedUp_12 18 rfl rfl)
theorem dX2_summedUp_303 : decode cX2_summedUp 303 = .ok (.baload, 1) := dk_51 (dk_at dksX2_summedUp_12 19 rfl rfl)
theorem dX2_summedUp_304 : decode cX2_summedUp 304 = .ok (.ifCond .ne 7, 3) := dk_154 0 7 (dk_at dksX2_summedUp_12 20 rfl rfl)
theorem dX2_summedUp_307 : decode cX2_summedUp 307 = .ok (.iconst 1, 1) := dk_4 (dk_at dksX2_summedUp_12 23 rfl rfl)
theorem dX2_summedUp_308 : decode cX2_summedUp 308 = .ok (.goto 4, 3) := dk_167 0 4 (dk_at dksX2_summedUp_13 0 rfl rfl)
theorem dX2_summedUp_311 : decode cX2_summedUp 311 = .ok (.iconst 0, 1) := dk_3 (dk_at dksX2_summedUp_13 3 rfl rfl)
theorem dX2_summedUp_312 : decode cX2_summedUp 312 = .ok (.bastore, 1) := dk_84 (dk_at dksX2_summedUp_13 4 rfl rfl)
theorem dX2_summedUp_313 : decode cX2_summedUp 313 = .ok (.goto 36, 3) := dk_167 0 36 (dk_at dksX2_summedUp_13 5 rfl rfl)
theorem dX2_summedUp_316 : decode cX2_summedUp 316 = .ok (.iinc 6 (-1), 3) := dk_132 6 255 (dk_at dksX2_summedUp_13 8 rfl rfl)
theorem dX2_summedUp_319 : decode cX2_summedUp 319 = .ok (.aload_n 0, 1) := dk_42 (dk_at dksX2_summedUp_13 11 rfl rfl)
theorem dX2_summedUp_320 : decode cX2_summedUp 320 = .ok (.getfield 39, 3) := dk_180 0 39 (dk_at dksX2_summedUp_13 12 rfl rfl)
theorem dX2_summedUp_323 : decode cX2_summedUp 323 = .ok (.iload 6, 2) := dk_21 6 (dk_at dksX2_summedUp_13 15 rfl rfl)
theorem dX2_summedUp_325 : decode cX2_summedUp 325 = .ok (.iconst 1, 1) := dk_4 (dk_at dksX2_summedUp_13 17 rfl rfl)
theorem dX2_summedUp_326 : decode cX2_summedUp 326 = .ok (.isub, 1) := dk_100 (dk_at dksX2_summedUp_13 18 rfl rfl)
theorem dX2_summedUp_327 : decode cX2_summedUp 327 = .ok (.iload 8, 2) := dk_21 8 (dk_at dksX2_summedUp_13 19 rfl rfl)
theorem dX2_summedUp_329 : decode cX2_summedUp 329 = .ok (.aload_n 0, 1) := dk_42 (dk_at dksX2_summedUp_13 21 rfl rfl)
theorem dX2_summedUp_330 : decode cX2_summedUp 330 = .ok (.getfield 39, 3) := dk_180 0 39 (dk_at dksX2_summedUp_14 0 rfl rfl)
theorem dX2_summedUp_333 : decode cX2_summedUp 333 = .ok (.iload 6, 2) := dk_21 6 (dk_at dksX2_summedUp_14 3 rfl rfl)
theorem dX2_summedUp_335 : decode cX2_summedUp 335 = .ok (.iconst 1, 1) := dk_4 (dk_at dksX2_summedUp_14 5 rfl rfl)
theorem dX2_summedUp_336 : decode cX2_summedUp 336 = .ok (.isub, 1) := dk_100 (dk_at dksX2_summedUp_14 6 rfl rfl)
theorem dX2_summedUp_337 : decode cX2_summedUp 337 = .ok (.baload, 1) := dk_51 (dk_at dksX2_summedUp_14 7 rfl rfl)
theorem dX2_summedUp_338 : decode cX2_summedUp 338 = .ok (.aload_n 0, 1) := dk_42 (dk_at dksX2_summedUp_14 8 rfl rfl)
theorem dX2_summedUp_339 : decode cX2_summedUp 339 = .ok (.getfield 39, 3) := dk_180 0 39 (dk_at dksX2_summedUp_14 9 rfl rfl)
theorem dX2_summedUp_342 : decode cX2_summedUp 342 = .ok (.iload 6, 2) := dk_21 6 (dk_at dksX2_summedUp_14 12 rfl rfl)
theorem dX2_summedUp_344 : decode cX2_summedUp 344 = .ok (.baload, 1) := dk_51 (dk_at dksX2_summedUp_14 14 rfl rfl)
theorem dX2_summedUp_345 : decode cX2_summedUp 345 = .ok (.invokestatic 281, 3) := dk_184 1 25 (dk_at dksX2_summedUp_14 15 rfl rfl)
theorem dX2_summedUp_348 : decode cX2_summedUp 348 = .ok (.bastore, 1) := dk_84 (dk_at dksX2_summedUp_14 18 rfl rfl)
theorem dX2_summedUp_349 : decode cX2_summedUp 349 = .ok (.iinc 7 1, 3) := dk_132 7 1 (dk_at dksX2_summedUp_14 19 rfl rfl)
theorem dX2_summedUp_352 : decode cX2_summedUp 352 = .ok (.goto (-314), 3) := dk_167 254 198 (dk_at dksX2_summedUp_15 0 rfl rfl)
theorem dX2_summedUp_355 : decode cX2_summedUp 355 = .ok (.aload_n 0, 1) := dk_42 (dk_at dksX2_summedUp_15 3 rfl rfl)
theorem dX2_summedUp_356 : decode cX2_summedUp 356 = .ok (.getfield 35, 3) := dk_180 0 35 (dk_at dksX2_summedUp_15 4 rfl rfl)
theorem dX2_summedUp_359 : decode cX2_summedUp 359 = .ok (.iconst 0, 1) := dk_3 (dk_at dksX2_summedUp_15 7 rfl rfl)
theorem dX2_summedUp_360 : decode cX2_summedUp 360 = .ok (.laload, 1) := dk_47 (dk_at dksX2_summedUp_15 8 rfl rfl)
theorem dX2_summedUp_361 : decode cX2_summedUp 361 = .ok (.lreturn, 1) := dk_173 (dk_at dksX2_summedUp_15 9 rfl rfl)
abbrev cX2_ofOne : ByteArray := prog_20_method_59_code
def yX2_ofOne : MethodName := ⟨RX2, "ofOne", "(IJ)J"⟩
def dkwX2_ofOne_2 : List UInt8 := [16, 11, 32, 136, 96, 46, 133, 173]
abbrev dktX2_ofOne_2 : List UInt8 := dkwX2_ofOne_2 ++ []
def dkwX2_ofOne_1 : List UInt8 := [155, 0, 5, 9, 173, 27, 5, 160, 0, 13, 42, 32, 136, 182, 1, 10, 133, 167, 0, 14, 42, 180, 0, 7]
abbrev dktX2_ofOne_1 : List UInt8 := dkwX2_ofOne_1 ++ dktX2_ofOne_2
def dkwX2_ofOne_0 : List UInt8 := [27, 8, 160, 0, 6, 32, 117, 173, 32, 9, 148, 155, 0, 15, 32, 42, 180, 0, 7, 3, 46, 133, 148]
abbrev dktX2_ofOne_0 : List UInt8 := dkwX2_ofOne_0 ++ dktX2_ofOne_1
theorem dksX2_ofOne_0 : cX2_ofOne.data.toList.drop 0 = dktX2_ofOne_0 := by decide +kernel
theorem dksX2_ofOne_1 : cX2_ofOne.data.toList.drop 23 = dktX2_ofOne_1 := dk_seg dksX2_ofOne_0 23 rfl rfl
theorem dksX2_ofOne_2 : cX2_ofOne.data.toList.drop 47 = dktX2_ofOne_2 := dk_seg dksX2_ofOne_1 24 rfl rfl
theorem dX2_ofOne_0 : decode cX2_ofOne 0 = .ok (.iload_n 1, 1) := dk_27 (dk_at dksX2_ofOne_0 0 rfl rfl)
theorem dX2_ofOne_1 : decode cX2_ofOne 1 = .ok (.iconst 5, 1) := dk_8 (dk_at dksX2_ofOne_0 1 rfl rfl)
theorem dX2_ofOne_2 : decode cX2_ofOne 2 = .ok (.if_icmp .ne 6, 3) := dk_160 0 6 (dk_at dksX2_ofOne_0 2 rfl rfl)
theorem dX2_ofOne_5 : decode cX2_ofOne 5 = .ok (.lload_n 2, 1) := dk_32 (dk_at dksX2_ofOne_0 5 rfl rfl)
theorem dX2_ofOne_6 : decode cX2_ofOne 6 = .ok (.lneg, 1) := dk_117 (dk_at dksX2_ofOne_0 6 rfl rfl)
theorem dX2_ofOne_7 : decode cX2_ofOne 7 = .ok (.lreturn, 1) := dk_173 (dk_at dksX2_ofOne_0 7 rfl rfl)
theorem dX2_ofOne_8 : decode cX2_ofOne 8 = .ok (.lload_n 2, 1) := dk_32 (dk_at dksX2_ofOne_0 8 rfl rfl)
theorem dX2_ofOne_9 : decode cX2_ofOne 9 = .ok (.lconst 0, 1) := dk_9 (dk_at dksX2_ofOne_0 9 rfl rfl)
theorem dX2_ofOne_10 : decode cX2_ofOne 10 = .ok (.lcmp, 1) := dk_148 (dk_at dksX2_ofOne_0 10 rfl rfl)
theorem dX2_ofOne_11 : decode cX2_ofOne 11 = .ok (.ifCond .lt 15, 3) := dk_155 0 15 (dk_at dksX2_ofOne_0 11 rfl rfl)
theorem dX2_ofOne_14 : decode cX2_ofOne 14 = .ok (.lload_n 2, 1) := dk_32 (dk_at dksX2_ofOne_0 14 rfl rfl)
theorem dX2_ofOne_15 : decode cX2_ofOne 15 = .ok (.aload_n 0, 1) := dk_42 (dk_at dksX2_ofOne_0 15 rfl rfl)
theorem dX2_ofOne_16 : decode cX2_ofOne 16 = .ok (.getfield 7, 3) := dk_180 0 7 (dk_at dksX2_ofOne_0 16 rfl rfl)
theorem dX2_ofOne_19 : decode cX2_ofOne 19 = .ok (.iconst 0, 1) := dk_3 (dk_at dksX2_ofOne_0 19 rfl rfl)
theorem dX2_ofOne_20 : decode cX2_ofOne 20 = .ok (.iaload, 1) := dk_46 (dk_at dksX2_ofOne_0 20 rfl rfl)
theorem dX2_ofOne_21 : decode cX2_ofOne 21 = .ok (.i2l, 1) := dk_133 (dk_at dksX2_ofOne_0 21 rfl rfl)
theorem dX2_ofOne_22 : decode cX2_ofOne 22 = .ok (.lcmp, 1) := dk_148 (dk_at dksX2_ofOne_0 22 rfl rfl)
theorem dX2_ofOne_23 : decode cX2_ofOne 23 = .ok (.ifCond .lt 5, 3) := dk_155 0 5 (dk_at dksX2_ofOne_1 0 rfl rfl)
theorem dX2_ofOne_26 : decode cX2_ofOne 26 = .ok (.lconst 0, 1) := dk_9 (dk_at dksX2_ofOne_1 3 rfl rfl)
theorem dX2_ofOne_27 : decode cX2_ofOne 27 = .ok (.lreturn, 1) := dk_173 (dk_at dksX2_ofOne_1 4 rfl rfl)
theorem dX2_ofOne_28 : decode cX2_ofOne 28 = .ok (.iload_n 1, 1) := dk_27 (dk_at dksX2_ofOne_1 5 rfl rfl)
theorem dX2_ofOne_29 : decode cX2_ofOne 29 = .ok (.iconst 2, 1) := dk_5 (dk_at dksX2_ofOne_1 6 rfl rfl)
theorem dX2_ofOne_30 : decode cX2_ofOne 30 = .ok (.if_icmp .ne 13, 3) := dk_160 0 13 (dk_at dksX2_ofOne_1 7 rfl rfl)
theorem dX2_ofOne_33 : decode cX2_ofOne 33 = .ok (.aload_n 0, 1) := dk_42 (dk_at dksX2_ofOne_1 10 rfl rfl)
theorem dX2_ofOne_34 : decode cX2_ofOne 34 = .ok (.lload_n 2, 1) := dk_32 (dk_at dksX2_ofOne_1 11 rfl rfl)
theorem dX2_ofOne_35 : decode cX2_ofOne 35 = .ok (.l2i, 1) := dk_136 (dk_at dksX2_ofOne_1 12 rfl rfl)
theorem dX2_ofOne_36 : decode cX2_ofOne 36 = .ok (.invokevirtual 266, 3) := dk_182 1 10 (dk_at dksX2_ofOne_1 13 rfl rfl)
theorem dX2_ofOne_39 : decode cX2_ofOne 39 = .ok (.i2l, 1) := dk_133 (dk_at dksX2_ofOne_1 16 rfl rfl)
theorem dX2_ofOne_40 : decode cX2_ofOne 40 = .ok (.goto 14, 3) := dk_167 0 14 (dk_at dksX2_ofOne_1 17 rfl rfl)
theorem dX2_ofOne_43 : decode cX2_ofOne 43 = .ok (.aload_n 0, 1) := dk_42 (dk_at dksX2_ofOne_1 20 rfl rfl)
theorem dX2_ofOne_44 : decode cX2_ofOne 44 = .ok (.getfield 7, 3) := dk_180 0 7 (dk_at dksX2_ofOne_1 21 rfl rfl)
theorem dX2_ofOne_47 : decode cX2_ofOne 47 = .ok (.bipush 11, 2) := dk_16 11 (dk_at dksX2_ofOne_2 0 rfl rfl)
theorem dX2_ofOne_49 : decode cX2_ofOne 49 = .ok (.lload_n 2, 1) := dk_32 (dk_at dksX2_ofOne_2 2 rfl rfl)
theorem dX2_ofOne_50 : decode cX2_ofOne 50 = .ok (.l2i, 1) := dk_136 (dk_at dksX2_ofOne_2 3 rfl rfl)
theorem dX2_ofOne_51 : decode cX2_ofOne 51 = .ok (.iadd, 1) := dk_96 (dk_at dksX2_ofOne_2 4 rfl rfl)
theorem dX2_ofOne_52 : decode cX2_ofOne 52 = .ok (.iaload, 1) := dk_46 (dk_at dksX2_ofOne_2 5 rfl rfl)
theorem dX2_ofOne_53 : decode cX2_ofOne 53 = .ok (.i2l, 1) := dk_133 (dk_at dksX2_ofOne_2 6 rfl rfl)
theorem dX2_ofOne_54 : decode cX2_ofOne 54 = .ok (.lreturn, 1) := dk_173 (dk_at dksX2_ofOne_2 7 rfl rfl)
abbrev cX2_acrossOf : ByteArray := prog_20_method_11_code
def yX2_acrossOf : MethodName := ⟨RX2, "acrossOf", "(I)I"⟩
def dkwX2_acrossOf_0 : List UInt8 := [42, 27, 42, 180, 0, 7, 3, 46, 5, 108, 182, 0, 84, 172]
abbrev dktX2_acrossOf_0 : List UInt8 := dkwX2_acrossOf_0 ++ []
theorem dksX2_acrossOf_0 : cX2_acrossOf.data.toList.drop 0 = dktX2_acrossOf_0 := by decide +kernel
theorem dX2_acrossOf_0 : decode cX2_acrossOf 0 = .ok (.aload_n 0, 1) := dk_42 (dk_at dksX2_acrossOf_0 0 rfl rfl)
theorem dX2_acrossOf_1 : decode cX2_acrossOf 1 = .ok (.iload_n 1, 1) := dk_27 (dk_at dksX2_acrossOf_0 1 rfl rfl)
theorem dX2_acrossOf_2 : decode cX2_acrossOf 2 = .ok (.aload_n 0, 1) := dk_42 (dk_at dksX2_acrossOf_0 2 rfl rfl)
theorem dX2_acrossOf_3 : decode cX2_acrossOf 3 = .ok (.getfield 7, 3) := dk_180 0 7 (dk_at dksX2_acrossOf_0 3 rfl rfl)
theorem dX2_acrossOf_6 : decode cX2_acrossOf 6 = .ok (.iconst 0, 1) := dk_3 (dk_at dksX2_acrossOf_0 6 rfl rfl)
theorem dX2_acrossOf_7 : decode cX2_acrossOf 7 = .ok (.iaload, 1) := dk_46 (dk_at dksX2_acrossOf_0 7 rfl rfl)
theorem dX2_acrossOf_8 : decode cX2_acrossOf 8 = .ok (.iconst 2, 1) := dk_5 (dk_at dksX2_acrossOf_0 8 rfl rfl)
theorem dX2_acrossOf_9 : decode cX2_acrossOf 9 = .ok (.idiv, 1) := dk_108 (dk_at dksX2_acrossOf_0 9 rfl rfl)
theorem dX2_acrossOf_10 : decode cX2_acrossOf 10 = .ok (.invokevirtual 84, 3) := dk_182 0 84 (dk_at dksX2_acrossOf_0 10 rfl rfl)
theorem dX2_acrossOf_13 : decode cX2_acrossOf 13 = .ok (.ireturn, 1) := dk_172 (dk_at dksX2_acrossOf_0 13 rfl rfl)
abbrev cX2_two : ByteArray := prog_20_method_57_code
def yX2_two : MethodName := ⟨RX2, "two", "(IJJ)J"⟩
def dkwX2_two_3 : List UInt8 := [154, 0, 7, 9, 167, 0, 9, 31, 33, 109, 184, 1, 6, 173]
abbrev dktX2_two_3 : List UInt8 := dkwX2_two_3 ++ []
def dkwX2_two_2 : List UInt8 := [31, 33, 97, 184, 1, 6, 173, 31, 33, 101, 184, 1, 6, 173, 31, 33, 105, 184, 1, 6, 173, 33, 9, 148]
abbrev dktX2_two_2 : List UInt8 := dkwX2_two_2 ++ dktX2_two_3
def dkwX2_two_1 : List UInt8 := [170, 0, 0, 0, 0, 0, 48, 0, 0, 0, 6, 0, 0, 0, 8, 0, 0, 0, 27, 0, 0, 0, 34, 0, 0, 0, 41]
abbrev dktX2_two_1 : List UInt8 := dkwX2_two_1 ++ dktX2_two_2
def dkwX2_two_0 : List UInt8 := [26]
abbrev dktX2_two_0 : List UInt8 := dkwX2_two_0 ++ dktX2_two_1
theorem dksX2_two_0 : cX2_two.data.toList.drop 0 = dktX2_two_0 := by decide +kernel
theorem dksX2_two_1 : cX2_two.data.toList.drop 1 = dktX2_two_1 := dk_seg dksX2_two_0 1 rfl rfl
theorem dksX2_two_2 : cX2_two.data.toList.drop 28 = dktX2_two_2 := dk_seg dksX2_two_1 27 rfl rfl
theorem dksX2_two_3 : cX2_two.data.toList.drop 52 = dktX2_two_3 := dk_seg dksX2_two_2 24 rfl rfl
theorem dX2_two_0 : decode cX2_two 0 = .ok (.iload_n 0, 1) := dk_26 (dk_at dksX2_two_0 0 rfl rfl)
theorem dX2_two_1 : decode cX2_two 1 = .ok (.tableswitch 48 6 8 #[27, 34, 41], 27) := by decide +kernel
theorem dX2_two_28 : decode cX2_two 28 = .ok (.lload_n 1, 1) := dk_31 (dk_at dksX2_two_2 0 rfl rfl)
theorem dX2_two_29 : decode cX2_two 29 = .ok (.lload_n 3, 1) := dk_33 (dk_at dksX2_two_2 1 rfl rfl)
theorem dX2_two_30 : decode cX2_two 30 = .ok (.ladd, 1) := dk_97 (dk_at dksX2_two_2 2 rfl rfl)
theorem dX2_two_31 : decode cX2_two 31 = .ok (.invokestatic 262, 3) := dk_184 1 6 (dk_at dksX2_two_2 3 rfl rfl)
theorem dX2_two_34 : decode cX2_two 34 = .ok (.lreturn, 1) := dk_173 (dk_at dksX2_two_2 6 rfl rfl)
theorem dX2_two_35 : decode cX2_two 35 = .ok (.lload_n 1, 1) := dk_31 (dk_at dksX2_two_2 7 rfl rfl)
theorem dX2_two_36 : decode cX2_two 36 = .ok (.lload_n 3, 1) := dk_33 (dk_at dksX2_two_2 8 rfl rfl)
theorem dX2_two_37 : decode cX2_two 37 = .ok (.lsub, 1) := dk_101 (dk_at dksX2_two_2 9 rfl rfl)
theorem dX2_two_38 : decode cX2_two 38 = .ok (.invokestatic 262, 3) := dk_184 1 6 (dk_at dksX2_two_2 10 rfl rfl)
theorem dX2_two_41 : decode cX2_two 41 = .ok (.lreturn, 1) := dk_173 (dk_at dksX2_two_2 13 rfl rfl)
theorem dX2_two_42 : decode cX2_two 42 = .ok (.lload_n 1, 1) := dk_31 (dk_at dksX2_two_2 14 rfl rfl)
theorem dX2_two_43 : decode cX2_two 43 = .ok (.lload_n 3, 1) := dk_33 (dk_at dksX2_two_2 15 rfl rfl)
theorem dX2_two_44 : decode cX2_two 44 = .ok (.lmul, 1) := dk_105 (dk_at dksX2_two_2 16 rfl rfl)
theorem dX2_two_45 : decode cX2_two 45 = .ok (.invokestatic 262, 3) := dk_184 1 6 (dk_at dksX2_two_2 17 rfl rfl)
theorem dX2_two_48 : decode cX2_two 48 = .ok (.lreturn, 1) := dk_173 (dk_at dksX2_two_2 20 rfl rfl)
theorem dX2_two_49 : decode cX2_two 49 = .ok (.lload_n 3, 1) := dk_33 (dk_at dksX2_two_2 21 rfl rfl)
theorem dX2_two_50 : decode cX2_two 50 = .ok (.lconst 0, 1) := dk_9 (dk_at dksX2_two_2 22 rfl rfl)
theorem dX2_two_51 : decode cX2_two 51 = .ok (.lcmp, 1) := dk_148 (dk_at dksX2_two_2 23 rfl rfl)
theorem dX2_two_52 : decode cX2_two 52 = .ok (.ifCond .ne 7, 3) := dk_154 0 7 (dk_at dksX2_two_3 0 rfl rfl)
theorem dX2_two_55 : decode cX2_two 55 = .ok (.lconst 0, 1) := dk_9 (dk_at dksX2_two_3 3 rfl rfl)
theorem dX2_two_56 : decode cX2_two 56 = .ok (.goto 9, 3) := dk_167 0 9 (dk_at dksX2_two_3 4 rfl rfl)
theorem dX2_two_59 : decode cX2_two 59 = .ok (.lload_n 1, 1) := dk_31 (dk_at dksX2_two_3 7 rfl rfl)
theorem dX2_two_60 : decode cX2_two 60 = .ok (.lload_n 3, 1) := dk_33 (dk_at dksX2_two_3 8 rfl rfl)
theorem dX2_two_61 : decode cX2_two 61 = .ok (.ldiv, 1) := dk_109 (dk_at dksX2_two_3 9 rfl rfl)
theorem dX2_two_62 : decode cX2_two 62 = .ok (.invokestatic 262, 3) := dk_184 1 6 (dk_at dksX2_two_3 10 rfl rfl)
theorem dX2_two_65 : decode cX2_two 65 = .ok (.lreturn, 1) := dk_173 (dk_at dksX2_two_3 13 rfl rfl)
abbrev cX2_clip : ByteArray := prog_20_method_56_code
def yX2_clip : MethodName := ⟨RX2, "clip", "(J)J"⟩
def dkwX2_clip_1 : List UInt8 := [20, 1, 4, 167, 0, 4, 30, 173]
abbrev dktX2_clip_1 : List UInt8 := dkwX2_clip_1 ++ []
def dkwX2_clip_0 : List UInt8 := [30, 20, 1, 2, 148, 158, 0, 9, 20, 1, 2, 167, 0, 18, 30, 20, 1, 4, 148, 156, 0, 9]
abbrev dktX2_clip_0 : List UInt8 := dkwX2_clip_0 ++ dktX2_clip_1
theorem dksX2_clip_0 : cX2_clip.data.toList.drop 0 = dktX2_clip_0 := by decide +kernel
theorem dksX2_clip_1 : cX2_clip.data.toList.drop 22 = dktX2_clip_1 := dk_seg dksX2_clip_0 22 rfl rfl
theorem dX2_clip_0 : decode cX2_clip 0 = .ok (.lload_n 0, 1) := dk_30 (dk_at dksX2_clip_0 0 rfl rfl)
theorem dX2_clip_1 : decode cX2_clip 1 = .ok (.ldc2_w 258, 3) := dk_20 1 2 (dk_at dksX2_clip_0 1 rfl rfl)
theorem dX2_clip_4 : decode cX2_clip 4 = .ok (.lcmp, 1) := dk_148 (dk_at dksX2_clip_0 4 rfl rfl)
theorem dX2_clip_5 : decode cX2_clip 5 = .ok (.ifCond .le 9, 3) := dk_158 0 9 (dk_at dksX2_clip_0 5 rfl rfl)
theorem dX2_clip_8 : decode cX2_clip 8 = .ok (.ldc2_w 258, 3) := dk_20 1 2 (dk_at dksX2_clip_0 8 rfl rfl)
theorem dX2_clip_11 : decode cX2_clip 11 = .ok (.goto 18, 3) := dk_167 0 18 (dk_at dksX2_clip_0 11 rfl rfl)
theorem dX2_clip_14 : decode cX2_clip 14 = .ok (.lload_n 0, 1) := dk_30 (dk_at dksX2_clip_0 14 rfl rfl)
theorem dX2_clip_15 : decode cX2_clip 15 = .ok (.ldc2_w 260, 3) := dk_20 1 4 (dk_at dksX2_clip_0 15 rfl rfl)
theorem dX2_clip_18 : decode cX2_clip 18 = .ok (.lcmp, 1) := dk_148 (dk_at dksX2_clip_0 18 rfl rfl)
theorem dX2_clip_19 : decode cX2_clip 19 = .ok (.ifCond .ge 9, 3) := dk_156 0 9 (dk_at dksX2_clip_0 19 rfl rfl)
theorem dX2_clip_22 : decode cX2_clip 22 = .ok (.ldc2_w 260, 3) := dk_20 1 4 (dk_at dksX2_clip_1 0 rfl rfl)
theorem dX2_clip_25 : decode cX2_clip 25 = .ok (.goto 4, 3) := dk_167 0 4 (dk_at dksX2_clip_1 3 rfl rfl)
theorem dX2_clip_28 : decode cX2_clip 28 = .ok (.lload_n 0, 1) := dk_30 (dk_at dksX2_clip_1 6 rfl rfl)
theorem dX2_clip_29 : decode cX2_clip 29 = .ok (.lreturn, 1) := dk_173 (dk_at dksX2_clip_1 7 rfl rfl)
abbrev cX2_isAsked : ByteArray := prog_20_method_58_code
def yX2_isAsked : MethodName := ⟨RX2, "isAsked", "(IJJ)Z"⟩
def dkwX2_isAsked_4 : List UInt8 := [167, 0, 18, 3, 167, 0, 14, 31, 33, 148, 153, 0, 7, 4, 167, 0, 4, 3, 172]
abbrev dktX2_isAsked_4 : List UInt8 := dkwX2_isAsked_4 ++ []
def dkwX2_isAsked_3 : List UInt8 := [155, 0, 7, 4, 167, 0, 38, 3, 167, 0, 34, 26, 16, 14, 160, 0, 17, 31, 33, 148, 154, 0, 7, 4]
abbrev dktX2_isAsked_3 : List UInt8 := dkwX2_isAsked_3 ++ dktX2_isAsked_4
def dkwX2_isAsked_2 : List UInt8 := [33, 148, 158, 0, 7, 4, 167, 0, 58, 3, 167, 0, 54, 26, 16, 13, 160, 0, 17, 31, 33, 148]
abbrev dktX2_isAsked_2 : List UInt8 := dkwX2_isAsked_2 ++ dktX2_isAsked_3
def dkwX2_isAsked_1 : List UInt8 := [160, 0, 17, 31, 33, 148, 157, 0, 7, 4, 167, 0, 78, 3, 167, 0, 74, 26, 16, 12, 160, 0, 17, 31]
abbrev dktX2_isAsked_1 : List UInt8 := dkwX2_isAsked_1 ++ dktX2_isAsked_2
def dkwX2_isAsked_0 : List UInt8 := [26, 16, 10, 160, 0, 17, 31, 33, 148, 156, 0, 7, 4, 167, 0, 98, 3, 167, 0, 94, 26, 16, 11]
abbrev dktX2_isAsked_0 : List UInt8 := dkwX2_isAsked_0 ++ dktX2_isAsked_1
theorem dksX2_isAsked_0 : cX2_isAsked.data.toList.drop 0 = dktX2_isAsked_0 := by decide +kernel
theorem dksX2_isAsked_1 : cX2_isAsked.data.toList.drop 23 = dktX2_isAsked_1 := dk_seg dksX2_isAsked_0 23 rfl rfl
theorem dksX2_isAsked_2 : cX2_isAsked.data.toList.drop 47 = dktX2_isAsked_2 := dk_seg dksX2_isAsked_1 24 rfl rfl
theorem dksX2_isAsked_3 : cX2_isAsked.data.toList.drop 69 = dktX2_isAsked_3 := dk_seg dksX2_isAsked_2 22 rfl rfl
theorem dksX2_isAsked_4 : cX2_isAsked.data.toList.drop 93 = dktX2_isAsked_4 := dk_seg dksX2_isAsked_3 24 rfl rfl
theorem dX2_isAsked_0 : decode cX2_isAsked 0 = .ok (.iload_n 0, 1) := dk_26 (dk_at dksX2_isAsked_0 0 rfl rfl)
theorem dX2_isAsked_1 : decode cX2_isAsked 1 = .ok (.bipush 10, 2) := dk_16 10 (dk_at dksX2_isAsked_0 1 rfl rfl)
theorem dX2_isAsked_3 : decode cX2_isAsked 3 = .ok (.if_icmp .ne 17, 3) := dk_160 0 17 (dk_at dksX2_isAsked_0 3 rfl rfl)
theorem dX2_isAsked_6 : decode cX2_isAsked 6 = .ok (.lload_n 1, 1) := dk_31 (dk_at dksX2_isAsked_0 6 rfl rfl)
theorem dX2_isAsked_7 : decode cX2_isAsked 7 = .ok (.lload_n 3, 1) := dk_33 (dk_at dksX2_isAsked_0 7 rfl rfl)
theorem dX2_isAsked_8 : decode cX2_isAsked 8 = .ok (.lcmp, 1) := dk_148 (dk_at dksX2_isAsked_0 8 rfl rfl)
theorem dX2_isAsked_9 : decode cX2_isAsked 9 = .ok (.ifCond .ge 7, 3) := dk_156 0 7 (dk_at dksX2_isAsked_0 9 rfl rfl)
theorem dX2_isAsked_12 : decode cX2_isAsked 12 = .ok (.iconst 1, 1) := dk_4 (dk_at dksX2_isAsked_0 12 rfl rfl)
theorem dX2_isAsked_13 : decode cX2_isAsked 13 = .ok (.goto 98, 3) := dk_167 0 98 (dk_at dksX2_isAsked_0 13 rfl rfl)
theorem dX2_isAsked_16 : decode cX2_isAsked 16 = .ok (.iconst 0, 1) := dk_3 (dk_at dksX2_isAsked_0 16 rfl rfl)
theorem dX2_isAsked_17 : decode cX2_isAsked 17 = .ok (.goto 94, 3) := dk_167 0 94 (dk_at dksX2_isAsked_0 17 rfl rfl)
theorem dX2_isAsked_20 : decode cX2_isAsked 20 = .ok (.iload_n 0, 1) := dk_26 (dk_at dksX2_isAsked_0 20 rfl rfl)
theorem dX2_isAsked_21 : decode cX2_isAsked 21 = .ok (.bipush 11, 2) := dk_16 11 (dk_at dksX2_isAsked_0 21 rfl rfl)
theorem dX2_isAsked_23 : decode cX2_isAsked 23 = .ok (.if_icmp .ne 17, 3) := dk_160 0 17 (dk_at dksX2_isAsked_1 0 rfl rfl)
theorem dX2_isAsked_26 : decode cX2_isAsked 26 = .ok (.lload_n 1, 1) := dk_31 (dk_at dksX2_isAsked_1 3 rfl rfl)
theorem dX2_isAsked_27 : decode cX2_isAsked 27 = .ok (.lload_n 3, 1) := dk_33 (dk_at dksX2_isAsked_1 4 rfl rfl)
theorem dX2_isAsked_28 : decode cX2_isAsked 28 = .ok (.lcmp, 1) := dk_148 (dk_at dksX2_isAsked_1 5 rfl rfl)
theorem dX2_isAsked_29 : decode cX2_isAsked 29 = .ok (.ifCond .gt 7, 3) := dk_157 0 7 (dk_at dksX2_isAsked_1 6 rfl rfl)
theorem dX2_isAsked_32 : decode cX2_isAsked 32 = .ok (.iconst 1, 1) := dk_4 (dk_at dksX2_isAsked_1 9 rfl rfl)
theorem dX2_isAsked_33 : decode cX2_isAsked 33 = .ok (.goto 78, 3) := dk_167 0 78 (dk_at dksX2_isAsked_1 10 rfl rfl)
theorem dX2_isAsked_36 : decode cX2_isAsked 36 = .ok (.iconst 0, 1) := dk_3 (dk_at dksX2_isAsked_1 13 rfl rfl)
theorem dX2_isAsked_37 : decode cX2_isAsked 37 = .ok (.goto 74, 3) := dk_167 0 74 (dk_at dksX2_isAsked_1 14 rfl rfl)
theorem dX2_isAsked_40 : decode cX2_isAsked 40 = .ok (.iload_n 0, 1) := dk_26 (dk_at dksX2_isAsked_1 17 rfl rfl)
theorem dX2_isAsked_41 : decode cX2_isAsked 41 = .ok (.bipush 12, 2) := dk_16 12 (dk_at dksX2_isAsked_1 18 rfl rfl)
theorem dX2_isAsked_43 : decode cX2_isAsked 43 = .ok (.if_icmp .ne 17, 3) := dk_160 0 17 (dk_at dksX2_isAsked_1 20 rfl rfl)
theorem dX2_isAsked_46 : decode cX2_isAsked 46 = .ok (.lload_n 1, 1) := dk_31 (dk_at dksX2_isAsked_1 23 rfl rfl)
theorem dX2_isAsked_47 : decode cX2_isAsked 47 = .ok (.lload_n 3, 1) := dk_33 (dk_at dksX2_isAsked_2 0 rfl rfl)
theorem dX2_isAsked_48 : decode cX2_isAsked 48 = .ok (.lcmp, 1) := dk_148 (dk_at dksX2_isAsked_2 1 rfl rfl)
theorem dX2_isAsked_49 : decode cX2_isAsked 49 = .ok (.ifCond .le 7, 3) := dk_158 0 7 (dk_at dksX2_isAsked_2 2 rfl rfl)
theorem dX2_isAsked_52 : decode cX2_isAsked 52 = .ok (.iconst 1, 1) := dk_4 (dk_at dksX2_isAsked_2 5 rfl rfl)
theorem dX2_isAsked_53 : decode cX2_isAsked 53 = .ok (.goto 58, 3) := dk_167 0 58 (dk_at dksX2_isAsked_2 6 rfl rfl)
theorem dX2_isAsked_56 : decode cX2_isAsked 56 = .ok (.iconst 0, 1) := dk_3 (dk_at dksX2_isAsked_2 9 rfl rfl)
theorem dX2_isAsked_57 : decode cX2_isAsked 57 = .ok (.goto 54, 3) := dk_167 0 54 (dk_at dksX2_isAsked_2 10 rfl rfl)
theorem dX2_isAsked_60 : decode cX2_isAsked 60 = .ok (.iload_n 0, 1) := dk_26 (dk_at dksX2_isAsked_2 13 rfl rfl)
theorem dX2_isAsked_61 : decode cX2_isAsked 61 = .ok (.bipush 13, 2) := dk_16 13 (dk_at dksX2_isAsked_2 14 rfl rfl)
theorem dX2_isAsked_63 : decode cX2_isAsked 63 = .ok (.if_icmp .ne 17, 3) := dk_160 0 17 (dk_at dksX2_isAsked_2 16 rfl rfl)
theorem dX2_isAsked_66 : decode cX2_isAsked 66 = .ok (.lload_n 1, 1) := dk_31 (dk_at dksX2_isAsked_2 19 rfl rfl)
theorem dX2_isAsked_67 : decode cX2_isAsked 67 = .ok (.lload_n 3, 1) := dk_33 (dk_at dksX2_isAsked_2 20 rfl rfl)
theorem dX2_isAsked_68 : decode cX2_isAsked 68 = .ok (.lcmp, 1) := dk_148 (dk_at dksX2_isAsked_2 21 rfl rfl)
theorem dX2_isAsked_69 : decode cX2_isAsked 69 = .ok (.ifCond .lt 7, 3) := dk_155 0 7 (dk_at dksX2_isAsked_3 0 rfl rfl)
theorem dX2_isAsked_72 : decode cX2_isAsked 72 = .ok (.iconst 1, 1) := dk_4 (dk_at dksX2_isAsked_3 3 rfl rfl)
theorem dX2_isAsked_73 : decode cX2_isAsked 73 = .ok (.goto 38, 3) := dk_167 0 38 (dk_at dksX2_isAsked_3 4 rfl rfl)
theorem dX2_isAsked_76 : decode cX2_isAsked 76 = .ok (.iconst 0, 1) := dk_3 (dk_at dksX2_isAsked_3 7 rfl rfl)
theorem dX2_isAsked_77 : decode cX2_isAsked 77 = .ok (.goto 34, 3) := dk_167 0 34 (dk_at dksX2_isAsked_3 8 rfl rfl)
theorem dX2_isAsked_80 : decode cX2_isAsked 80 = .ok (.iload_n 0, 1) := dk_26 (dk_at dksX2_isAsked_3 11 rfl rfl)
theorem dX2_isAsked_81 : decode cX2_isAsked 81 = .ok (.bipush 14, 2) := dk_16 14 (dk_at dksX2_isAsked_3 12 rfl rfl)
theorem dX2_isAsked_83 : decode cX2_isAsked 83 = .ok (.if_icmp .ne 17, 3) := dk_160 0 17 (dk_at dksX2_isAsked_3 14 rfl rfl)
theorem dX2_isAsked_86 : decode cX2_isAsked 86 = .ok (.lload_n 1, 1) := dk_31 (dk_at dksX2_isAsked_3 17 rfl rfl)
theorem dX2_isAsked_87 : decode cX2_isAsked 87 = .ok (.lload_n 3, 1) := dk_33 (dk_at dksX2_isAsked_3 18 rfl rfl)
theorem dX2_isAsked_88 : decode cX2_isAsked 88 = .ok (.lcmp, 1) := dk_148 (dk_at dksX2_isAsked_3 19 rfl rfl)
theorem dX2_isAsked_89 : decode cX2_isAsked 89 = .ok (.ifCond .ne 7, 3) := dk_154 0 7 (dk_at dksX2_isAsked_3 20 rfl rfl)
theorem dX2_isAsked_92 : decode cX2_isAsked 92 = .ok (.iconst 1, 1) := dk_4 (dk_at dksX2_isAsked_3 23 rfl rfl)
theorem dX2_isAsked_93 : decode cX2_isAsked 93 = .ok (.goto 18, 3) := dk_167 0 18 (dk_at dksX2_isAsked_4 0 rfl rfl)
theorem dX2_isAsked_96 : decode cX2_isAsked 96 = .ok (.iconst 0, 1) := dk_3 (dk_at dksX2_isAsked_4 3 rfl rfl)
theorem dX2_isAsked_97 : decode cX2_isAsked 97 = .ok (.goto 14, 3) := dk_167 0 14 (dk_at dksX2_isAsked_4 4 rfl rfl)
theorem dX2_isAsked_100 : decode cX2_isAsked 100 = .ok (.lload_n 1, 1) := dk_31 (dk_at dksX2_isAsked_4 7 rfl rfl)
theorem dX2_isAsked_101 : decode cX2_isAsked 101 = .ok (.lload_n 3, 1) := dk_33 (dk_at dksX2_isAsked_4 8 rfl rfl)
theorem dX2_isAsked_102 : decode cX2_isAsked 102 = .ok (.lcmp, 1) := dk_148 (dk_at dksX2_isAsked_4 9 rfl rfl)
theorem dX2_isAsked_103 : decode cX2_isAsked 103 = .ok (.ifCond .eq 7, 3) := dk_153 0 7 (dk_at dksX2_isAsked_4 10 rfl rfl)
theorem dX2_isAsked_106 : decode cX2_isAsked 106 = .ok (.iconst 1, 1) := dk_4 (dk_at dksX2_isAsked_4 13 rfl rfl)
theorem dX2_isAsked_107 : decode cX2_isAsked 107 = .ok (.goto 4, 3) := dk_167 0 4 (dk_at dksX2_isAsked_4 14 rfl rfl)
theorem dX2_isAsked_110 : decode cX2_isAsked 110 = .ok (.iconst 0, 1) := dk_3 (dk_at dksX2_isAsked_4 17 rfl rfl)
theorem dX2_isAsked_111 : decode cX2_isAsked 111 = .ok (.ireturn, 1) := dk_172 (dk_at dksX2_isAsked_4 18 rfl rfl)
abbrev cX2_joined : ByteArray := prog_20_method_60_code
def yX2_joined : MethodName := ⟨RX2, "joined", "(IZZ)Z"⟩
def dkwX2_joined_1 : List UInt8 := [154, 0, 7, 28, 153, 0, 7, 4, 167, 0, 4, 3, 172]
abbrev dktX2_joined_1 : List UInt8 := dkwX2_joined_1 ++ []
def dkwX2_joined_0 : List UInt8 := [26, 16, 21, 160, 0, 19, 27, 153, 0, 11, 28, 153, 0, 7, 4, 167, 0, 20, 3, 167, 0, 16, 27]
abbrev dktX2_joined_0 : List UInt8 := dkwX2_joined_0 ++ dktX2_joined_1
theorem dksX2_joined_0 : cX2_joined.data.toList.drop 0 = dktX2_joined_0 := by decide +kernel
theorem dksX2_joined_1 : cX2_joined.data.toList.drop 23 = dktX2_joined_1 := dk_seg dksX2_joined_0 23 rfl rfl
theorem dX2_joined_0 : decode cX2_joined 0 = .ok (.iload_n 0, 1) := dk_26 (dk_at dksX2_joined_0 0 rfl rfl)
theorem dX2_joined_1 : decode cX2_joined 1 = .ok (.bipush 21, 2) := dk_16 21 (dk_at dksX2_joined_0 1 rfl rfl)
theorem dX2_joined_3 : decode cX2_joined 3 = .ok (.if_icmp .ne 19, 3) := dk_160 0 19 (dk_at dksX2_joined_0 3 rfl rfl)
theorem dX2_joined_6 : decode cX2_joined 6 = .ok (.iload_n 1, 1) := dk_27 (dk_at dksX2_joined_0 6 rfl rfl)
theorem dX2_joined_7 : decode cX2_joined 7 = .ok (.ifCond .eq 11, 3) := dk_153 0 11 (dk_at dksX2_joined_0 7 rfl rfl)
theorem dX2_joined_10 : decode cX2_joined 10 = .ok (.iload_n 2, 1) := dk_28 (dk_at dksX2_joined_0 10 rfl rfl)
theorem dX2_joined_11 : decode cX2_joined 11 = .ok (.ifCond .eq 7, 3) := dk_153 0 7 (dk_at dksX2_joined_0 11 rfl rfl)
theorem dX2_joined_14 : decode cX2_joined 14 = .ok (.iconst 1, 1) := dk_4 (dk_at dksX2_joined_0 14 rfl rfl)
theorem dX2_joined_15 : decode cX2_joined 15 = .ok (.goto 20, 3) := dk_167 0 20 (dk_at dksX2_joined_0 15 rfl rfl)
theorem dX2_joined_18 : decode cX2_joined 18 = .ok (.iconst 0, 1) := dk_3 (dk_at dksX2_joined_0 18 rfl rfl)
theorem dX2_joined_19 : decode cX2_joined 19 = .ok (.goto 16, 3) := dk_167 0 16 (dk_at dksX2_joined_0 19 rfl rfl)
theorem dX2_joined_22 : decode cX2_joined 22 = .ok (.iload_n 1, 1) := dk_27 (dk_at dksX2_joined_0 22 rfl rfl)
theorem dX2_joined_23 : decode cX2_joined 23 = .ok (.ifCond .ne 7, 3) := dk_154 0 7 (dk_at dksX2_joined_1 0 rfl rfl)
theorem dX2_joined_26 : decode cX2_joined 26 = .ok (.iload_n 2, 1) := dk_28 (dk_at dksX2_joined_1 3 rfl rfl)
theorem dX2_joined_27 : decode cX2_joined 27 = .ok (.ifCond .eq 7, 3) := dk_153 0 7 (dk_at dksX2_joined_1 4 rfl rfl)
theorem dX2_joined_30 : decode cX2_joined 30 = .ok (.iconst 1, 1) := dk_4 (dk_at dksX2_joined_1 7 rfl rfl)
theorem dX2_joined_31 : decode cX2_joined 31 = .ok (.goto 4, 3) := dk_167 0 4 (dk_at dksX2_joined_1 8 rfl rfl)
theorem dX2_joined_34 : decode cX2_joined 34 = .ok (.iconst 0, 1) := dk_3 (dk_at dksX2_joined_1 11 rfl rfl)
theorem dX2_joined_35 : decode cX2_joined 35 = .ok (.ireturn, 1) := dk_172 (dk_at dksX2_joined_1 12 rfl rfl)
abbrev cX2_bearsOf : ByteArray := prog_20_method_65_code
def yX2_bearsOf : MethodName := ⟨RX2, "bearsOf", "(I)I"⟩
def dkwX2_bearsOf_0 : List UInt8 := [42, 27, 182, 1, 36, 42, 42, 180, 0, 7, 5, 46, 4, 8, 16, 99, 182, 1, 39, 172]
abbrev dktX2_bearsOf_0 : List UInt8 := dkwX2_bearsOf_0 ++ []
theorem dksX2_bearsOf_0 : cX2_bearsOf.data.toList.drop 0 = dktX2_bearsOf_0 := by decide +kernel
theorem dX2_bearsOf_0 : decode cX2_bearsOf 0 = .ok (.aload_n 0, 1) := dk_42 (dk_at dksX2_bearsOf_0 0 rfl rfl)
theorem dX2_bearsOf_1 : decode cX2_bearsOf 1 = .ok (.iload_n 1, 1) := dk_27 (dk_at dksX2_bearsOf_0 1 rfl rfl)
theorem dX2_bearsOf_2 : decode cX2_bearsOf 2 = .ok (.invokevirtual 292, 3) := dk_182 1 36 (dk_at dksX2_bearsOf_0 2 rfl rfl)
theorem dX2_bearsOf_5 : decode cX2_bearsOf 5 = .ok (.aload_n 0, 1) := dk_42 (dk_at dksX2_bearsOf_0 5 rfl rfl)
theorem dX2_bearsOf_6 : decode cX2_bearsOf 6 = .ok (.aload_n 0, 1) := dk_42 (dk_at dksX2_bearsOf_0 6 rfl rfl)
theorem dX2_bearsOf_7 : decode cX2_bearsOf 7 = .ok (.getfield 7, 3) := dk_180 0 7 (dk_at dksX2_bearsOf_0 7 rfl rfl)
theorem dX2_bearsOf_10 : decode cX2_bearsOf 10 = .ok (.iconst 2, 1) := dk_5 (dk_at dksX2_bearsOf_0 10 rfl rfl)
theorem dX2_bearsOf_11 : decode cX2_bearsOf 11 = .ok (.iaload, 1) := dk_46 (dk_at dksX2_bearsOf_0 11 rfl rfl)
theorem dX2_bearsOf_12 : decode cX2_bearsOf 12 = .ok (.iconst 1, 1) := dk_4 (dk_at dksX2_bearsOf_0 12 rfl rfl)
theorem dX2_bearsOf_13 : decode cX2_bearsOf 13 = .ok (.iconst 5, 1) := dk_8 (dk_at dksX2_bearsOf_0 13 rfl rfl)
theorem dX2_bearsOf_14 : decode cX2_bearsOf 14 = .ok (.bipush 99, 2) := dk_16 99 (dk_at dksX2_bearsOf_0 14 rfl rfl)
theorem dX2_bearsOf_16 : decode cX2_bearsOf 16 = .ok (.invokevirtual 295, 3) := dk_182 1 39 (dk_at dksX2_bearsOf_0 16 rfl rfl)
theorem dX2_bearsOf_19 : decode cX2_bearsOf 19 = .ok (.ireturn, 1) := dk_172 (dk_at dksX2_bearsOf_0 19 rfl rfl)
abbrev cX2_looseNow : ByteArray := prog_20_method_72_code
def yX2_looseNow : MethodName := ⟨RX2, "looseNow", "(I)V"⟩
def dkwX2_looseNow_3 : List UInt8 := [181, 1, 55, 42, 27, 28, 29, 27, 160, 0, 7, 2, 167, 0, 4, 29, 182, 1, 58, 177]
abbrev dktX2_looseNow_3 : List UInt8 := dkwX2_looseNow_3 ++ []
def dkwX2_looseNow_2 : List UInt8 := [182, 0, 84, 62, 167, 255, 226, 29, 27, 159, 0, 8, 42, 29, 182, 1, 52, 42, 89, 180, 1, 55, 4, 96]
abbrev dktX2_looseNow_2 : List UInt8 := dkwX2_looseNow_2 ++ dktX2_looseNow_3
def dkwX2_looseNow_1 : List UInt8 := [159, 0, 31, 42, 180, 0, 7, 16, 11, 29, 96, 46, 154, 0, 19, 28, 4, 29, 120, 128, 61, 42, 29, 4]
abbrev dktX2_looseNow_1 : List UInt8 := dkwX2_looseNow_1 ++ dktX2_looseNow_2
def dkwX2_looseNow_0 : List UInt8 := [42, 180, 0, 7, 16, 11, 27, 96, 92, 46, 5, 108, 79, 3, 61, 42, 27, 182, 1, 10, 62, 29, 27]
abbrev dktX2_looseNow_0 : List UInt8 := dkwX2_looseNow_0 ++ dktX2_looseNow_1
theorem dksX2_looseNow_0 : cX2_looseNow.data.toList.drop 0 = dktX2_looseNow_0 := by decide +kernel
theorem dksX2_looseNow_1 : cX2_looseNow.data.toList.drop 23 = dktX2_looseNow_1 := dk_seg dksX2_looseNow_0 23 rfl rfl
theorem dksX2_looseNow_2 : cX2_looseNow.data.toList.drop 47 = dktX2_looseNow_2 := dk_seg dksX2_looseNow_1 24 rfl rfl
theorem dksX2_looseNow_3 : cX2_looseNow.data.toList.drop 71 = dktX2_looseNow_3 := dk_seg dksX2_looseNow_2 24 rfl rfl
theorem dX2_looseNow_0 : decode cX2_looseNow 0 = .ok (.aload_n 0, 1) := dk_42 (dk_at dksX2_looseNow_0 0 rfl rfl)
theorem dX2_looseNow_1 : decode cX2_looseNow 1 = .ok (.getfield 7, 3) := dk_180 0 7 (dk_at dksX2_looseNow_0 1 rfl rfl)
theorem dX2_looseNow_4 : decode cX2_looseNow 4 = .ok (.bipush 11, 2) := dk_16 11 (dk_at dksX2_looseNow_0 4 rfl rfl)
theorem dX2_looseNow_6 : decode cX2_looseNow 6 = .ok (.iload_n 1, 1) := dk_27 (dk_at dksX2_looseNow_0 6 rfl rfl)
theorem dX2_looseNow_7 : decode cX2_looseNow 7 = .ok (.iadd, 1) := dk_96 (dk_at dksX2_looseNow_0 7 rfl rfl)
theorem dX2_looseNow_8 : decode cX2_looseNow 8 = .ok (.dup2, 1) := dk_92 (dk_at dksX2_looseNow_0 8 rfl rfl)
theorem dX2_looseNow_9 : decode cX2_looseNow 9 = .ok (.iaload, 1) := dk_46 (dk_at dksX2_looseNow_0 9 rfl rfl)
theorem dX2_looseNow_10 : decode cX2_looseNow 10 = .ok (.iconst 2, 1) := dk_5 (dk_at dksX2_looseNow_0 10 rfl rfl)
theorem dX2_looseNow_11 : decode cX2_looseNow 11 = .ok (.idiv, 1) := dk_108 (dk_at dksX2_looseNow_0 11 rfl rfl)
theorem dX2_looseNow_12 : decode cX2_looseNow 12 = .ok (.iastore, 1) := dk_79 (dk_at dksX2_looseNow_0 12 rfl rfl)
theorem dX2_looseNow_13 : decode cX2_looseNow 13 = .ok (.iconst 0, 1) := dk_3 (dk_at dksX2_looseNow_0 13 rfl rfl)
theorem dX2_looseNow_14 : decode cX2_looseNow 14 = .ok (.istore_n 2, 1) := dk_61 (dk_at dksX2_looseNow_0 14 rfl rfl)
theorem dX2_looseNow_15 : decode cX2_looseNow 15 = .ok (.aload_n 0, 1) := dk_42 (dk_at dksX2_looseNow_0 15 rfl rfl)
theorem dX2_looseNow_16 : decode cX2_looseNow 16 = .ok (.iload_n 1, 1) := dk_27 (dk_at dksX2_looseNow_0 16 rfl rfl)
theorem dX2_looseNow_17 : decode cX2_looseNow 17 = .ok (.invokevirtual 266, 3) := dk_182 1 10 (dk_at dksX2_looseNow_0 17 rfl rfl)
theorem dX2_looseNow_20 : decode cX2_looseNow 20 = .ok (.istore_n 3, 1) := dk_62 (dk_at dksX2_looseNow_0 20 rfl rfl)
theorem dX2_looseNow_21 : decode cX2_looseNow 21 = .ok (.iload_n 3, 1) := dk_29 (dk_at dksX2_looseNow_0 21 rfl rfl)
theorem dX2_looseNow_22 : decode cX2_looseNow 22 = .ok (.iload_n 1, 1) := dk_27 (dk_at dksX2_looseNow_0 22 rfl rfl)
theorem dX2_looseNow_23 : decode cX2_looseNow 23 = .ok (.if_icmp .eq 31, 3) := dk_159 0 31 (dk_at dksX2_looseNow_1 0 rfl rfl)
theorem dX2_looseNow_26 : decode cX2_looseNow 26 = .ok (.aload_n 0, 1) := dk_42 (dk_at dksX2_looseNow_1 3 rfl rfl)
theorem dX2_looseNow_27 : decode cX2_looseNow 27 = .ok (.getfield 7, 3) := dk_180 0 7 (dk_at dksX2_looseNow_1 4 rfl rfl)
theorem dX2_looseNow_30 : decode cX2_looseNow 30 = .ok (.bipush 11, 2) := dk_16 11 (dk_at dksX2_looseNow_1 7 rfl rfl)
theorem dX2_looseNow_32 : decode cX2_looseNow 32 = .ok (.iload_n 3, 1) := dk_29 (dk_at dksX2_looseNow_1 9 rfl rfl)
theorem dX2_looseNow_33 : decode cX2_looseNow 33 = .ok (.iadd, 1) := dk_96 (dk_at dksX2_looseNow_1 10 rfl rfl)
theorem dX2_looseNow_34 : decode cX2_looseNow 34 = .ok (.iaload, 1) := dk_46 (dk_at dksX2_looseNow_1 11 rfl rfl)
theorem dX2_looseNow_35 : decode cX2_looseNow 35 = .ok (.ifCond .ne 19, 3) := dk_154 0 19 (dk_at dksX2_looseNow_1 12 rfl rfl)
theorem dX2_looseNow_38 : decode cX2_looseNow 38 = .ok (.iload_n 2, 1) := dk_28 (dk_at dksX2_looseNow_1 15 rfl rfl)
theorem dX2_looseNow_39 : decode cX2_looseNow 39 = .ok (.iconst 1, 1) := dk_4 (dk_at dksX2_looseNow_1 16 rfl rfl)
theorem dX2_looseNow_40 : decode cX2_looseNow 40 = .ok (.iload_n 3, 1) := dk_29 (dk_at dksX2_looseNow_1 17 rfl rfl)
theorem dX2_looseNow_41 : decode cX2_looseNow 41 = .ok (.ishl, 1) := dk_120 (dk_at dksX2_looseNow_1 18 rfl rfl)
theorem dX2_looseNow_42 : decode cX2_looseNow 42 = .ok (.ior, 1) := dk_128 (dk_at dksX2_looseNow_1 19 rfl rfl)
theorem dX2_looseNow_43 : decode cX2_looseNow 43 = .ok (.istore_n 2, 1) := dk_61 (dk_at dksX2_looseNow_1 20 rfl rfl)
theorem dX2_looseNow_44 : decode cX2_looseNow 44 = .ok (.aload_n 0, 1) := dk_42 (dk_at dksX2_looseNow_1 21 rfl rfl)
theorem dX2_looseNow_45 : decode cX2_looseNow 45 = .ok (.iload_n 3, 1) := dk_29 (dk_at dksX2_looseNow_1 22 rfl rfl)
theorem dX2_looseNow_46 : decode cX2_looseNow 46 = .ok (.iconst 1, 1) := dk_4 (dk_at dksX2_looseNow_1 23 rfl rfl)
theorem dX2_looseNow_47 : decode cX2_looseNow 47 = .ok (.invokevirtual 84, 3) := dk_182 0 84 (dk_at dksX2_looseNow_2 0 rfl rfl)
theorem dX2_looseNow_50 : decode cX2_looseNow 50 = .ok (.istore_n 3, 1) := dk_62 (dk_at dksX2_looseNow_2 3 rfl rfl)
theorem dX2_looseNow_51 : decode cX2_looseNow 51 = .ok (.goto (-30), 3) := dk_167 255 226 (dk_at dksX2_looseNow_2 4 rfl rfl)
theorem dX2_looseNow_54 : decode cX2_looseNow 54 = .ok (.iload_n 3, 1) := dk_29 (dk_at dksX2_looseNow_2 7 rfl rfl)
theorem dX2_looseNow_55 : decode cX2_looseNow 55 = .ok (.iload_n 1, 1) := dk_27 (dk_at dksX2_looseNow_2 8 rfl rfl)
theorem dX2_looseNow_56 : decode cX2_looseNow 56 = .ok (.if_icmp .eq 8, 3) := dk_159 0 8 (dk_at dksX2_looseNow_2 9 rfl rfl)
theorem dX2_looseNow_59 : decode cX2_looseNow 59 = .ok (.aload_n 0, 1) := dk_42 (dk_at dksX2_looseNow_2 12 rfl rfl)
theorem dX2_looseNow_60 : decode cX2_looseNow 60 = .ok (.iload_n 3, 1) := dk_29 (dk_at dksX2_looseNow_2 13 rfl rfl)
theorem dX2_looseNow_61 : decode cX2_looseNow 61 = .ok (.invokevirtual 308, 3) := dk_182 1 52 (dk_at dksX2_looseNow_2 14 rfl rfl)
theorem dX2_looseNow_64 : decode cX2_looseNow 64 = .ok (.aload_n 0, 1) := dk_42 (dk_at dksX2_looseNow_2 17 rfl rfl)
theorem dX2_looseNow_65 : decode cX2_looseNow 65 = .ok (.dup, 1) := dk_89 (dk_at dksX2_looseNow_2 18 rfl rfl)
theorem dX2_looseNow_66 : decode cX2_looseNow 66 = .ok (.getfield 311, 3) := dk_180 1 55 (dk_at dksX2_looseNow_2 19 rfl rfl)
theorem dX2_looseNow_69 : decode cX2_looseNow 69 = .ok (.iconst 1, 1) := dk_4 (dk_at dksX2_looseNow_2 22 rfl rfl)
theorem dX2_looseNow_70 : decode cX2_looseNow 70 = .ok (.iadd, 1) := dk_96 (dk_at dksX2_looseNow_2 23 rfl rfl)
theorem dX2_looseNow_71 : decode cX2_looseNow 71 = .ok (.putfield 311, 3) := dk_181 1 55 (dk_at dksX2_looseNow_3 0 rfl rfl)
theorem dX2_looseNow_74 : decode cX2_looseNow 74 = .ok (.aload_n 0, 1) := dk_42 (dk_at dksX2_looseNow_3 3 rfl rfl)
theorem dX2_looseNow_75 : decode cX2_looseNow 75 = .ok (.iload_n 1, 1) := dk_27 (dk_at dksX2_looseNow_3 4 rfl rfl)
theorem dX2_looseNow_76 : decode cX2_looseNow 76 = .ok (.iload_n 2, 1) := dk_28 (dk_at dksX2_looseNow_3 5 rfl rfl)
theorem dX2_looseNow_77 : decode cX2_looseNow 77 = .ok (.iload_n 3, 1) := dk_29 (dk_at dksX2_looseNow_3 6 rfl rfl)
theorem dX2_looseNow_78 : decode cX2_looseNow 78 = .ok (.iload_n 1, 1) := dk_27 (dk_at dksX2_looseNow_3 7 rfl rfl)
theorem dX2_looseNow_79 : decode cX2_looseNow 79 = .ok (.if_icmp .ne 7, 3) := dk_160 0 7 (dk_at dksX2_looseNow_3 8 rfl rfl)
theorem dX2_looseNow_82 : decode cX2_looseNow 82 = .ok (.iconst (-1), 1) := dk_2 (dk_at dksX2_looseNow_3 11 rfl rfl)
theorem dX2_looseNow_83 : decode cX2_looseNow 83 = .ok (.goto 4, 3) := dk_167 0 4 (dk_at dksX2_looseNow_3 12 rfl rfl)
theorem dX2_looseNow_86 : decode cX2_looseNow 86 = .ok (.iload_n 3, 1) := dk_29 (dk_at dksX2_looseNow_3 15 rfl rfl)
theorem dX2_looseNow_87 : decode cX2_looseNow 87 = .ok (.invokevirtual 314, 3) := dk_182 1 58 (dk_at dksX2_looseNow_3 16 rfl rfl)
theorem dX2_looseNow_90 : decode cX2_looseNow 90 = .ok (.return_, 1) := dk_177 (dk_at dksX2_looseNow_3 19 rfl rfl)
abbrev cX2_write : ByteArray := prog_20_method_66_code
def yX2_write : MethodName := ⟨RX2, "write", "(III)V"⟩
def dkwX2_write_5 : List UInt8 := [42, 180, 0, 7, 16, 9, 92, 46, 4, 96, 79, 177]
abbrev dktX2_write_5 : List UInt8 := dkwX2_write_5 ++ []
def dkwX2_write_4 : List UInt8 := [180, 0, 7, 16, 7, 46, 16, 6, 104, 27, 96, 16, 64, 104, 28, 96, 16, 7, 104, 29, 96, 4, 96, 79]
abbrev dktX2_write_4 : List UInt8 := dkwX2_write_4 ++ dktX2_write_5
def dkwX2_write_3 : List UInt8 := [79, 42, 180, 0, 43, 153, 0, 43, 42, 180, 0, 7, 17, 5, 145, 42, 180, 0, 7, 16, 9, 46, 96, 42]
abbrev dktX2_write_3 : List UInt8 := dkwX2_write_3 ++ dktX2_write_4
def dkwX2_write_2 : List UInt8 := [17, 5, 145, 21, 4, 96, 46, 79, 132, 4, 1, 167, 255, 215, 42, 180, 0, 7, 16, 9, 92, 46, 4, 100]
abbrev dktX2_write_2 : List UInt8 := dkwX2_write_2 ++ dktX2_write_3
def dkwX2_write_1 : List UInt8 := [180, 0, 43, 153, 0, 33, 42, 180, 0, 7, 17, 5, 145, 21, 4, 96, 4, 100, 42, 180, 0, 7]
abbrev dktX2_write_1 : List UInt8 := dkwX2_write_1 ++ dktX2_write_2
def dkwX2_write_0 : List UInt8 := [42, 180, 0, 7, 16, 9, 46, 16, 25, 160, 0, 61, 4, 54, 4, 21, 4, 16, 25, 162, 0, 40, 42]
abbrev dktX2_write_0 : List UInt8 := dkwX2_write_0 ++ dktX2_write_1
theorem dksX2_write_0 : cX2_write.data.toList.drop 0 = dktX2_write_0 := by decide +kernel
theorem dksX2_write_1 : cX2_write.data.toList.drop 23 = dktX2_write_1 := dk_seg dksX2_write_0 23 rfl rfl
theorem dksX2_write_2 : cX2_write.data.toList.drop 45 = dktX2_write_2 := dk_seg dksX2_write_1 22 rfl rfl
theorem dksX2_write_3 : cX2_write.data.toList.drop 69 = dktX2_write_3 := dk_seg dksX2_write_2 24 rfl rfl
theorem dksX2_write_4 : cX2_write.data.toList.drop 93 = dktX2_write_4 := dk_seg dksX2_write_3 24 rfl rfl
theorem dksX2_write_5 : cX2_write.data.toList.drop 117 = dktX2_write_5 := dk_seg dksX2_write_4 24 rfl rfl
theorem dX2_write_0 : decode cX2_write 0 = .ok (.aload_n 0, 1) := dk_42 (dk_at dksX2_write_0 0 rfl rfl)
theorem dX2_write_1 : decode cX2_write 1 = .ok (.getfield 7, 3) := dk_180 0 7 (dk_at dksX2_write_0 1 rfl rfl)
theorem dX2_write_4 : decode cX2_write 4 = .ok (.bipush 9, 2) := dk_16 9 (dk_at dksX2_write_0 4 rfl rfl)
theorem dX2_write_6 : decode cX2_write 6 = .ok (.iaload, 1) := dk_46 (dk_at dksX2_write_0 6 rfl rfl)
theorem dX2_write_7 : decode cX2_write 7 = .ok (.bipush 25, 2) := dk_16 25 (dk_at dksX2_write_0 7 rfl rfl)
theorem dX2_write_9 : decode cX2_write 9 = .ok (.if_icmp .ne 61, 3) := dk_160 0 61 (dk_at dksX2_write_0 9 rfl rfl)
theorem dX2_write_12 : decode cX2_write 12 = .ok (.iconst 1, 1) := dk_4 (dk_at dksX2_write_0 12 rfl rfl)
theorem dX2_write_13 : decode cX2_write 13 = .ok (.istore 4, 2) := dk_54 4 (dk_at dksX2_write_0 13 rfl rfl)
theorem dX2_write_15 : decode cX2_write 15 = .ok (.iload 4, 2) := dk_21 4 (dk_at dksX2_write_0 15 rfl rfl)
theorem dX2_write_17 : decode cX2_write 17 = .ok (.bipush 25, 2) := dk_16 25 (dk_at dksX2_write_0 17 rfl rfl)
theorem dX2_write_19 : decode cX2_write 19 = .ok (.if_icmp .ge 40, 3) := dk_162 0 40 (dk_at dksX2_write_0 19 rfl rfl)
theorem dX2_write_22 : decode cX2_write 22 = .ok (.aload_n 0, 1) := dk_42 (dk_at dksX2_write_0 22 rfl rfl)
theorem dX2_write_23 : decode cX2_write 23 = .ok (.getfield 43, 3) := dk_180 0 43 (dk_at dksX2_write_1 0 rfl rfl)
theorem dX2_write_26 : decode cX2_write 26 = .ok (.ifCond .eq 33, 3) := dk_153 0 33 (dk_at dksX2_write_1 3 rfl rfl)
theorem dX2_write_29 : decode cX2_write 29 = .ok (.aload_n 0, 1) := dk_42 (dk_at dksX2_write_1 6 rfl rfl)
theorem dX2_write_30 : decode cX2_write 30 = .ok (.getfield 7, 3) := dk_180 0 7 (dk_at dksX2_write_1 7 rfl rfl)
theorem dX2_write_33 : decode cX2_write 33 = .ok (.sipush 1425, 3) := dk_17 5 145 (dk_at dksX2_write_1 10 rfl rfl)
theorem dX2_write_36 : decode cX2_write 36 = .ok (.iload 4, 2) := dk_21 4 (dk_at dksX2_write_1 13 rfl rfl)
theorem dX2_write_38 : decode cX2_write 38 = .ok (.iadd, 1) := dk_96 (dk_at dksX2_write_1 15 rfl rfl)
theorem dX2_write_39 : decode cX2_write 39 = .ok (.iconst 1, 1) := dk_4 (dk_at dksX2_write_1 16 rfl rfl)
theorem dX2_write_40 : decode cX2_write 40 = .ok (.isub, 1) := dk_100 (dk_at dksX2_write_1 17 rfl rfl)
theorem dX2_write_41 : decode cX2_write 41 = .ok (.aload_n 0, 1) := dk_42 (dk_at dksX2_write_1 18 rfl rfl)
theorem dX2_write_42 : decode cX2_write 42 = .ok (.getfield 7, 3) := dk_180 0 7 (dk_at dksX2_write_1 19 rfl rfl)
theorem dX2_write_45 : decode cX2_write 45 = .ok (.sipush 1425, 3) := dk_17 5 145 (dk_at dksX2_write_2 0 rfl rfl)
theorem dX2_write_48 : decode cX2_write 48 = .ok (.iload 4, 2) := dk_21 4 (dk_at dksX2_write_2 3 rfl rfl)
theorem dX2_write_50 : decode cX2_write 50 = .ok (.iadd, 1) := dk_96 (dk_at dksX2_write_2 5 rfl rfl)
theorem dX2_write_51 : decode cX2_write 51 = .ok (.iaload, 1) := dk_46 (dk_at dksX2_write_2 6 rfl rfl)
theorem dX2_write_52 : decode cX2_write 52 = .ok (.iastore, 1) := dk_79 (dk_at dksX2_write_2 7 rfl rfl)
theorem dX2_write_53 : decode cX2_write 53 = .ok (.iinc 4 1, 3) := dk_132 4 1 (dk_at dksX2_write_2 8 rfl rfl)
theorem dX2_write_56 : decode cX2_write 56 = .ok (.goto (-41), 3) := dk_167 255 215 (dk_at dksX2_write_2 11 rfl rfl)
theorem dX2_write_59 : decode cX2_write 59 = .ok (.aload_n 0, 1) := dk_42 (dk_at dksX2_write_2 14 rfl rfl)
theorem dX2_write_60 : decode cX2_write 60 = .ok (.getfield 7, 3) := dk_180 0 7 (dk_at dksX2_write_2 15 rfl rfl)
theorem dX2_write_63 : decode cX2_write 63 = .ok (.bipush 9, 2) := dk_16 9 (dk_at dksX2_write_2 18 rfl rfl)
theorem dX2_write_65 : decode cX2_write 65 = .ok (.dup2, 1) := dk_92 (dk_at dksX2_write_2 20 rfl rfl)
theorem dX2_write_66 : decode cX2_write 66 = .ok (.iaload, 1) := dk_46 (dk_at dksX2_write_2 21 rfl rfl)
theorem dX2_write_67 : decode cX2_write 67 = .ok (.iconst 1, 1) := dk_4 (dk_at dksX2_write_2 22 rfl rfl)
theorem dX2_write_68 : decode cX2_write 68 = .ok (.isub, 1) := dk_100 (dk_at dksX2_write_2 23 rfl rfl)
theorem dX2_write_69 : decode cX2_write 69 = .ok (.iastore, 1) := dk_79 (dk_at dksX2_write_3 0 rfl rfl)
theorem dX2_write_70 : decode cX2_write 70 = .ok (.aload_n 0, 1) := dk_42 (dk_at dksX2_write_3 1 rfl rfl)
theorem dX2_write_71 : decode cX2_write 71 = .ok (.getfield 43, 3) := dk_180 0 43 (dk_at dksX2_write_3 2 rfl rfl)
theorem dX2_write_74 : decode cX2_write 74 = .ok (.ifCond .eq 43, 3) := dk_153 0 43 (dk_at dksX2_write_3 5 rfl rfl)
theorem dX2_write_77 : decode cX2_write 77 = .ok (.aload_n 0, 1) := dk_42 (dk_at dksX2_write_3 8 rfl rfl)
theorem dX2_write_78 : decode cX2_write 78 = .ok (.getfield 7, 3) := dk_180 0 7 (dk_at dksX2_write_3 9 rfl rfl)
theorem dX2_write_81 : decode cX2_write 81 = .ok (.sipush 1425, 3) := dk_17 5 145 (dk_at dksX2_write_3 12 rfl rfl)
theorem dX2_write_84 : decode cX2_write 84 = .ok (.aload_n 0, 1) := dk_42 (dk_at dksX2_write_3 15 rfl rfl)
theorem dX2_write_85 : decode cX2_write 85 = .ok (.getfield 7, 3) := dk_180 0 7 (dk_at dksX2_write_3 16 rfl rfl)
theorem dX2_write_88 : decode cX2_write 88 = .ok (.bipush 9, 2) := dk_16 9 (dk_at dksX2_write_3 19 rfl rfl)
theorem dX2_write_90 : decode cX2_write 90 = .ok (.iaload, 1) := dk_46 (dk_at dksX2_write_3 21 rfl rfl)
theorem dX2_write_91 : decode cX2_write 91 = .ok (.iadd, 1) := dk_96 (dk_at dksX2_write_3 22 rfl rfl)
theorem dX2_write_92 : decode cX2_write 92 = .ok (.aload_n 0, 1) := dk_42 (dk_at dksX2_write_3 23 rfl rfl)
theorem dX2_write_93 : decode cX2_write 93 = .ok (.getfield 7, 3) := dk_180 0 7 (dk_at dksX2_write_4 0 rfl rfl)
theorem dX2_write_96 : decode cX2_write 96 = .ok (.bipush 7, 2) := dk_16 7 (dk_at dksX2_write_4 3 rfl rfl)
theorem dX2_write_98 : decode cX2_write 98 = .ok (.iaload, 1) := dk_46 (dk_at dksX2_write_4 5 rfl rfl)
theorem dX2_write_99 : decode cX2_write 99 = .ok (.bipush 6, 2) := dk_16 6 (dk_at dksX2_write_4 6 rfl rfl)
theorem dX2_write_101 : decode cX2_write 101 = .ok (.imul, 1) := dk_104 (dk_at dksX2_write_4 8 rfl rfl)
theorem dX2_write_102 : decode cX2_write 102 = .ok (.iload_n 1, 1) := dk_27 (dk_at dksX2_write_4 9 rfl rfl)
theorem dX2_write_103 : decode cX2_write 103 = .ok (.iadd, 1) := dk_96 (dk_at dksX2_write_4 10 rfl rfl)
theorem dX2_write_104 : decode cX2_write 104 = .ok (.bipush 64, 2) := dk_16 64 (dk_at dksX2_write_4 11 rfl rfl)
theorem dX2_write_106 : decode cX2_write 106 = .ok (.imul, 1) := dk_104 (dk_at dksX2_write_4 13 rfl rfl)
theorem dX2_write_107 : decode cX2_write 107 = .ok (.iload_n 2, 1) := dk_28 (dk_at dksX2_write_4 14 rfl rfl)
theorem dX2_write_108 : decode cX2_write 108 = .ok (.iadd, 1) := dk_96 (dk_at dksX2_write_4 15 rfl rfl)
theorem dX2_write_109 : decode cX2_write 109 = .ok (.bipush 7, 2) := dk_16 7 (dk_at dksX2_write_4 16 rfl rfl)
theorem dX2_write_111 : decode cX2_write 111 = .ok (.imul, 1) := dk_104 (dk_at dksX2_write_4 18 rfl rfl)
theorem dX2_write_112 : decode cX2_write 112 = .ok (.iload_n 3, 1) := dk_29 (dk_at dksX2_write_4 19 rfl rfl)
theorem dX2_write_113 : decode cX2_write 113 = .ok (.iadd, 1) := dk_96 (dk_at dksX2_write_4 20 rfl rfl)
theorem dX2_write_114 : decode cX2_write 114 = .ok (.iconst 1, 1) := dk_4 (dk_at dksX2_write_4 21 rfl rfl)
theorem dX2_write_115 : decode cX2_write 115 = .ok (.iadd, 1) := dk_96 (dk_at dksX2_write_4 22 rfl rfl)
theorem dX2_write_116 : decode cX2_write 116 = .ok (.iastore, 1) := dk_79 (dk_at dksX2_write_4 23 rfl rfl)
theorem dX2_write_117 : decode cX2_write 117 = .ok (.aload_n 0, 1) := dk_42 (dk_at dksX2_write_5 0 rfl rfl)
theorem dX2_write_118 : decode cX2_write 118 = .ok (.getfield 7, 3) := dk_180 0 7 (dk_at dksX2_write_5 1 rfl rfl)
theorem dX2_write_121 : decode cX2_write 121 = .ok (.bipush 9, 2) := dk_16 9 (dk_at dksX2_write_5 4 rfl rfl)
theorem dX2_write_123 : decode cX2_write 123 = .ok (.dup2, 1) := dk_92 (dk_at dksX2_write_5 6 rfl rfl)
theorem dX2_write_124 : decode cX2_write 124 = .ok (.iaload, 1) := dk_46 (dk_at dksX2_write_5 7 rfl rfl)
theorem dX2_write_125 : decode cX2_write 125 = .ok (.iconst 1, 1) := dk_4 (dk_at dksX2_write_5 8 rfl rfl)
theorem dX2_write_126 : decode cX2_write 126 = .ok (.iadd, 1) := dk_96 (dk_at dksX2_write_5 9 rfl rfl)
theorem dX2_write_127 : decode cX2_write 127 = .ok (.iastore, 1) := dk_79 (dk_at dksX2_write_5 10 rfl rfl)
theorem dX2_write_128 : decode cX2_write 128 = .ok (.return_, 1) := dk_177 (dk_at dksX2_write_5 11 rfl rfl)
abbrev cX2_played : ByteArray := prog_20_method_83_code
def yX2_played : MethodName := ⟨RX2, "played", "(I)I"⟩
def dkwX2_played_2 : List UInt8 := [182, 1, 107, 154, 0, 5, 28, 172, 132, 2, 1, 167, 255, 219, 2, 172]
abbrev dktX2_played_2 : List UInt8 := dkwX2_played_2 ++ []
def dkwX2_played_1 : List UInt8 := [180, 0, 16, 17, 2, 169, 27, 104, 46, 162, 0, 29, 42, 17, 2, 169, 27, 104, 4, 96, 6, 28, 104, 96]
abbrev dktX2_played_1 : List UInt8 := dkwX2_played_1 ++ dktX2_played_2
def dkwX2_played_0 : List UInt8 := [27, 3, 42, 180, 0, 7, 4, 46, 4, 100, 184, 0, 72, 154, 0, 6, 16, 254, 172, 3, 61, 28, 42]
abbrev dktX2_played_0 : List UInt8 := dkwX2_played_0 ++ dktX2_played_1
theorem dksX2_played_0 : cX2_played.data.toList.drop 0 = dktX2_played_0 := by decide +kernel
theorem dksX2_played_1 : cX2_played.data.toList.drop 23 = dktX2_played_1 := dk_seg dksX2_played_0 23 rfl rfl
theorem dksX2_played_2 : cX2_played.data.toList.drop 47 = dktX2_played_2 := dk_seg dksX2_played_1 24 rfl rfl
theorem dX2_played_0 : decode cX2_played 0 = .ok (.iload_n 1, 1) := dk_27 (dk_at dksX2_played_0 0 rfl rfl)
theorem dX2_played_1 : decode cX2_played 1 = .ok (.iconst 0, 1) := dk_3 (dk_at dksX2_played_0 1 rfl rfl)
theorem dX2_played_2 : decode cX2_played 2 = .ok (.aload_n 0, 1) := dk_42 (dk_at dksX2_played_0 2 rfl rfl)
theorem dX2_played_3 : decode cX2_played 3 = .ok (.getfield 7, 3) := dk_180 0 7 (dk_at dksX2_played_0 3 rfl rfl)
theorem dX2_played_6 : decode cX2_played 6 = .ok (.iconst 1, 1) := dk_4 (dk_at dksX2_played_0 6 rfl rfl)
theorem dX2_played_7 : decode cX2_played 7 = .ok (.iaload, 1) := dk_46 (dk_at dksX2_played_0 7 rfl rfl)
theorem dX2_played_8 : decode cX2_played 8 = .ok (.iconst 1, 1) := dk_4 (dk_at dksX2_played_0 8 rfl rfl)
theorem dX2_played_9 : decode cX2_played 9 = .ok (.isub, 1) := dk_100 (dk_at dksX2_played_0 9 rfl rfl)
theorem dX2_played_10 : decode cX2_played 10 = .ok (.invokestatic 72, 3) := dk_184 0 72 (dk_at dksX2_played_0 10 rfl rfl)
theorem dX2_played_13 : decode cX2_played 13 = .ok (.ifCond .ne 6, 3) := dk_154 0 6 (dk_at dksX2_played_0 13 rfl rfl)
theorem dX2_played_16 : decode cX2_played 16 = .ok (.bipush (-2), 2) := dk_16 254 (dk_at dksX2_played_0 16 rfl rfl)
theorem dX2_played_18 : decode cX2_played 18 = .ok (.ireturn, 1) := dk_172 (dk_at dksX2_played_0 18 rfl rfl)
theorem dX2_played_19 : decode cX2_played 19 = .ok (.iconst 0, 1) := dk_3 (dk_at dksX2_played_0 19 rfl rfl)
theorem dX2_played_20 : decode cX2_played 20 = .ok (.istore_n 2, 1) := dk_61 (dk_at dksX2_played_0 20 rfl rfl)
theorem dX2_played_21 : decode cX2_played 21 = .ok (.iload_n 2, 1) := dk_28 (dk_at dksX2_played_0 21 rfl rfl)
theorem dX2_played_22 : decode cX2_played 22 = .ok (.aload_n 0, 1) := dk_42 (dk_at dksX2_played_0 22 rfl rfl)
theorem dX2_played_23 : decode cX2_played 23 = .ok (.getfield 16, 3) := dk_180 0 16 (dk_at dksX2_played_1 0 rfl rfl)
theorem dX2_played_26 : decode cX2_played 26 = .ok (.sipush 681, 3) := dk_17 2 169 (dk_at dksX2_played_1 3 rfl rfl)
theorem dX2_played_29 : decode cX2_played 29 = .ok (.iload_n 1, 1) := dk_27 (dk_at dksX2_played_1 6 rfl rfl)
theorem dX2_played_30 : decode cX2_played 30 = .ok (.imul, 1) := dk_104 (dk_at dksX2_played_1 7 rfl rfl)
theorem dX2_played_31 : decode cX2_played 31 = .ok (.iaload, 1) := dk_46 (dk_at dksX2_played_1 8 rfl rfl)
theorem dX2_played_32 : decode cX2_played 32 = .ok (.if_icmp .ge 29, 3) := dk_162 0 29 (dk_at dksX2_played_1 9 rfl rfl)
theorem dX2_played_35 : decode cX2_played 35 = .ok (.aload_n 0, 1) := dk_42 (dk_at dksX2_played_1 12 rfl rfl)
theorem dX2_played_36 : decode cX2_played 36 = .ok (.sipush 681, 3) := dk_17 2 169 (dk_at dksX2_played_1 13 rfl rfl)
theorem dX2_played_39 : decode cX2_played 39 = .ok (.iload_n 1, 1) := dk_27 (dk_at dksX2_played_1 16 rfl rfl)
theorem dX2_played_40 : decode cX2_played 40 = .ok (.imul, 1) := dk_104 (dk_at dksX2_played_1 17 rfl rfl)
theorem dX2_played_41 : decode cX2_played 41 = .ok (.iconst 1, 1) := dk_4 (dk_at dksX2_played_1 18 rfl rfl)
theorem dX2_played_42 : decode cX2_played 42 = .ok (.iadd, 1) := dk_96 (dk_at dksX2_played_1 19 rfl rfl)
theorem dX2_played_43 : decode cX2_played 43 = .ok (.iconst 3, 1) := dk_6 (dk_at dksX2_played_1 20 rfl rfl)
theorem dX2_played_44 : decode cX2_played 44 = .ok (.iload_n 2, 1) := dk_28 (dk_at dksX2_played_1 21 rfl rfl)
theorem dX2_played_45 : decode cX2_played 45 = .ok (.imul, 1) := dk_104 (dk_at dksX2_played_1 22 rfl rfl)
theorem dX2_played_46 : decode cX2_played 46 = .ok (.iadd, 1) := dk_96 (dk_at dksX2_played_1 23 rfl rfl)
theorem dX2_played_47 : decode cX2_played 47 = .ok (.invokevirtual 363, 3) := dk_182 1 107 (dk_at dksX2_played_2 0 rfl rfl)
theorem dX2_played_50 : decode cX2_played 50 = .ok (.ifCond .ne 5, 3) := dk_154 0 5 (dk_at dksX2_played_2 3 rfl rfl)
theorem dX2_played_53 : decode cX2_played 53 = .ok (.iload_n 2, 1) := dk_28 (dk_at dksX2_played_2 6 rfl rfl)
theorem dX2_played_54 : decode cX2_played 54 = .ok (.ireturn, 1) := dk_172 (dk_at dksX2_played_2 7 rfl rfl)
theorem dX2_played_55 : decode cX2_played 55 = .ok (.iinc 2 1, 3) := dk_132 2 1 (dk_at dksX2_played_2 8 rfl rfl)
theorem dX2_played_58 : decode cX2_played 58 = .ok (.goto (-37), 3) := dk_167 255 219 (dk_at dksX2_played_2 11 rfl rfl)
theorem dX2_played_61 : decode cX2_played 61 = .ok (.iconst (-1), 1) := dk_2 (dk_at dksX2_played_2 14 rfl rfl)
theorem dX2_played_62 : decode cX2_played 62 = .ok (.ireturn, 1) := dk_172 (dk_at dksX2_played_2 15 rfl rfl)
abbrev cX2_isPlayed : ByteArray := prog_20_method_82_code
def yX2_isPlayed : MethodName := ⟨RX2, "isPlayed", "(I)Z"⟩
def dkwX2_isPlayed_4 : List UInt8 := [172, 42, 28, 182, 1, 89, 172, 4, 172]
abbrev dktX2_isPlayed_4 : List UInt8 := dkwX2_isPlayed_4 ++ []
def dkwX2_isPlayed_3 : List UInt8 := [167, 0, 4, 3, 172, 42, 28, 29, 182, 1, 98, 172, 42, 28, 182, 1, 101, 172, 42, 28, 29, 182, 1, 104]
abbrev dktX2_isPlayed_3 : List UInt8 := dkwX2_isPlayed_3 ++ dktX2_isPlayed_4
def dkwX2_isPlayed_2 : List UInt8 := [42, 28, 29, 182, 1, 92, 155, 0, 7, 4, 167, 0, 4, 3, 172, 42, 28, 182, 1, 95, 155, 0, 7, 4]
abbrev dktX2_isPlayed_2 : List UInt8 := dkwX2_isPlayed_2 ++ dktX2_isPlayed_3
def dkwX2_isPlayed_1 : List UInt8 := [170, 0, 0, 0, 0, 0, 0, 95, 0, 0, 0, 2, 0, 0, 0, 7, 0, 0, 0, 40, 0, 0, 0, 55, 0, 0, 0, 69, 0, 0, 0, 76, 0, 0, 0, 82, 0, 0, 0, 89]
abbrev dktX2_isPlayed_1 : List UInt8 := dkwX2_isPlayed_1 ++ dktX2_isPlayed_2
def dkwX2_isPlayed_0 : List UInt8 := [42, 180, 0, 16, 27, 4, 96, 46, 61, 42, 180, 0, 16, 27, 5, 96, 46, 62, 42, 180, 0, 16, 27, 46]
abbrev dktX2_isPlayed_0 : List UInt8 := dkwX2_isPlayed_0 ++ dktX2_isPlayed_1
theorem dksX2_isPlayed_0 : cX2_isPlayed.data.toList.drop 0 = dktX2_isPlayed_0 := by decide +kernel
theorem dksX2_isPlayed_1 : cX2_isPlayed.data.toList.drop 24 = dktX2_isPlayed_1 := dk_seg dksX2_isPlayed_0 24 rfl rfl
theorem dksX2_isPlayed_2 : cX2_isPlayed.data.toList.drop 64 = dktX2_isPlayed_2 := dk_seg dksX2_isPlayed_1 40 rfl rfl
theorem dksX2_isPlayed_3 : cX2_isPlayed.data.toList.drop 88 = dktX2_isPlayed_3 := dk_seg dksX2_isPlayed_2 24 rfl rfl
theorem dksX2_isPlayed_4 : cX2_isPlayed.data.toList.drop 112 = dktX2_isPlayed_4 := dk_seg dksX2_isPlayed_3 24 rfl rfl
theorem dX2_isPlayed_0 : decode cX2_isPlayed 0 = .ok (.aload_n 0, 1) := dk_42 (dk_at dksX2_isPlayed_0 0 rfl rfl)
theorem dX2_isPlayed_1 : decode cX2_isPlayed 1 = .ok (.getfield 16, 3) := dk_180 0 16 (dk_at dksX2_isPlayed_0 1 rfl rfl)
theorem dX2_isPlayed_4 : decode cX2_isPlayed 4 = .ok (.iload_n 1, 1) := dk_27 (dk_at dksX2_isPlayed_0 4 rfl rfl)
theorem dX2_isPlayed_5 : decode cX2_isPlayed 5 = .ok (.iconst 1, 1) := dk_4 (dk_at dksX2_isPlayed_0 5 rfl rfl)
theorem dX2_isPlayed_6 : decode cX2_isPlayed 6 = .ok (.iadd, 1) := dk_96 (dk_at dksX2_isPlayed_0 6 rfl rfl)
theorem dX2_isPlayed_7 : decode cX2_isPlayed 7 = .ok (.iaload, 1) := dk_46 (dk_at dksX2_isPlayed_0 7 rfl rfl)
theorem dX2_isPlayed_8 : decode cX2_isPlayed 8 = .ok (.istore_n 2, 1) := dk_61 (dk_at dksX2_isPlayed_0 8 rfl rfl)
theorem dX2_isPlayed_9 : decode cX2_isPlayed 9 = .ok (.aload_n 0, 1) := dk_42 (dk_at dksX2_isPlayed_0 9 rfl rfl)
theorem dX2_isPlayed_10 : decode cX2_isPlayed 10 = .ok (.getfield 16, 3) := dk_180 0 16 (dk_at dksX2_isPlayed_0 10 rfl rfl)
theorem dX2_isPlayed_13 : decode cX2_isPlayed 13 = .ok (.iload_n 1, 1) := dk_27 (dk_at dksX2_isPlayed_0 13 rfl rfl)
theorem dX2_isPlayed_14 : decode cX2_isPlayed 14 = .ok (.iconst 2, 1) := dk_5 (dk_at dksX2_isPlayed_0 14 rfl rfl)
theorem dX2_isPlayed_15 : decode cX2_isPlayed 15 = .ok (.iadd, 1) := dk_96 (dk_at dksX2_isPlayed_0 15 rfl rfl)
theorem dX2_isPlayed_16 : decode cX2_isPlayed 16 = .ok (.iaload, 1) := dk_46 (dk_at dksX2_isPlayed_0 16 rfl rfl)
theorem dX2_isPlayed_17 : decode cX2_isPlayed 17 = .ok (.istore_n 3, 1) := dk_62 (dk_at dksX2_isPlayed_0 17 rfl rfl)
theorem dX2_isPlayed_18 : decode cX2_isPlayed 18 = .ok (.aload_n 0, 1) := dk_42 (dk_at dksX2_isPlayed_0 18 rfl rfl)
theorem dX2_isPlayed_19 : decode cX2_isPlayed 19 = .ok (.getfield 16, 3) := dk_180 0 16 (dk_at dksX2_isPlayed_0 19 rfl rfl)
theorem dX2_isPlayed_22 : decode cX2_isPlayed 22 = .ok (.iload_n 1, 1) := dk_27 (dk_at dksX2_isPlayed_0 22 rfl rfl)
theorem dX2_isPlayed_23 : decode cX2_isPlayed 23 = .ok (.iaload, 1) := dk_46 (dk_at dksX2_isPlayed_0 23 rfl rfl)
theorem dX2_isPlayed_24 : decode cX2_isPlayed 24 = .ok (.tableswitch 95 2 7 #[40, 55, 69, 76, 82, 89], 40) := by decide +kernel
theorem dX2_isPlayed_64 : decode cX2_isPlayed 64 = .ok (.aload_n 0, 1) := dk_42 (dk_at dksX2_isPlayed_2 0 rfl rfl)
theorem dX2_isPlayed_65 : decode cX2_isPlayed 65 = .ok (.iload_n 2, 1) := dk_28 (dk_at dksX2_isPlayed_2 1 rfl rfl)
theorem dX2_isPlayed_66 : decode cX2_isPlayed 66 = .ok (.iload_n 3, 1) := dk_29 (dk_at dksX2_isPlayed_2 2 rfl rfl)
theorem dX2_isPlayed_67 : decode cX2_isPlayed 67 = .ok (.invokevirtual 348, 3) := dk_182 1 92 (dk_at dksX2_isPlayed_2 3 rfl rfl)
theorem dX2_isPlayed_70 : decode cX2_isPlayed 70 = .ok (.ifCond .lt 7, 3) := dk_155 0 7 (dk_at dksX2_isPlayed_2 6 rfl rfl)
theorem dX2_isPlayed_73 : decode cX2_isPlayed 73 = .ok (.iconst 1, 1) := dk_4 (dk_at dksX2_isPlayed_2 9 rfl rfl)
theorem dX2_isPlayed_74 : decode cX2_isPlayed 74 = .ok (.goto 4, 3) := dk_167 0 4 (dk_at dksX2_isPlayed_2 10 rfl rfl)
theorem dX2_isPlayed_77 : decode cX2_isPlayed 77 = .ok (.iconst 0, 1) := dk_3 (dk_at dksX2_isPlayed_2 13 rfl rfl)
theorem dX2_isPlayed_78 : decode cX2_isPlayed 78 = .ok (.ireturn, 1) := dk_172 (dk_at dksX2_isPlayed_2 14 rfl rfl)
theorem dX2_isPlayed_79 : decode cX2_isPlayed 79 = .ok (.aload_n 0, 1) := dk_42 (dk_at dksX2_isPlayed_2 15 rfl rfl)
theorem dX2_isPlayed_80 : decode cX2_isPlayed 80 = .ok (.iload_n 2, 1) := dk_28 (dk_at dksX2_isPlayed_2 16 rfl rfl)
theorem dX2_isPlayed_81 : decode cX2_isPlayed 81 = .ok (.invokevirtual 351, 3) := dk_182 1 95 (dk_at dksX2_isPlayed_2 17 rfl rfl)
theorem dX2_isPlayed_84 : decode cX2_isPlayed 84 = .ok (.ifCond .lt 7, 3) := dk_155 0 7 (dk_at dksX2_isPlayed_2 20 rfl rfl)
theorem dX2_isPlayed_87 : decode cX2_isPlayed 87 = .ok (.iconst 1, 1) := dk_4 (dk_at dksX2_isPlayed_2 23 rfl rfl)
theorem dX2_isPlayed_88 : decode cX2_isPlayed 88 = .ok (.goto 4, 3) := dk_167 0 4 (dk_at dksX2_isPlayed_3 0 rfl rfl)
theorem dX2_isPlayed_91 : decode cX2_isPlayed 91 = .ok (.iconst 0, 1) := dk_3 (dk_at dksX2_isPlayed_3 3 rfl rfl)
theorem dX2_isPlayed_92 : decode cX2_isPlayed 92 = .ok (.ireturn, 1) := dk_172 (dk_at dksX2_isPlayed_3 4 rfl rfl)
theorem dX2_isPlayed_93 : decode cX2_isPlayed 93 = .ok (.aload_n 0, 1) := dk_42 (dk_at dksX2_isPlayed_3 5 rfl rfl)
theorem dX2_isPlayed_94 : decode cX2_isPlayed 94 = .ok (.iload_n 2, 1) := dk_28 (dk_at dksX2_isPlayed_3 6 rfl rfl)
theorem dX2_isPlayed_95 : decode cX2_isPlayed 95 = .ok (.iload_n 3, 1) := dk_29 (dk_at dksX2_isPlayed_3 7 rfl rfl)
theorem dX2_isPlayed_96 : decode cX2_isPlayed 96 = .ok (.invokevirtual 354, 3) := dk_182 1 98 (dk_at dksX2_isPlayed_3 8 rfl rfl)
theorem dX2_isPlayed_99 : decode cX2_isPlayed 99 = .ok (.ireturn, 1) := dk_172 (dk_at dksX2_isPlayed_3 11 rfl rfl)
theorem dX2_isPlayed_100 : decode cX2_isPlayed 100 = .ok (.aload_n 0, 1) := dk_42 (dk_at dksX2_isPlayed_3 12 rfl rfl)
theorem dX2_isPlayed_101 : decode cX2_isPlayed 101 = .ok (.iload_n 2, 1) := dk_28 (dk_at dksX2_isPlayed_3 13 rfl rfl)
theorem dX2_isPlayed_102 : decode cX2_isPlayed 102 = .ok (.invokevirtual 357, 3) := dk_182 1 101 (dk_at dksX2_isPlayed_3 14 rfl rfl)
theorem dX2_isPlayed_105 : decode cX2_isPlayed 105 = .ok (.ireturn, 1) := dk_172 (dk_at dksX2_isPlayed_3 17 rfl rfl)
theorem dX2_isPlayed_106 : decode cX2_isPlayed 106 = .ok (.aload_n 0, 1) := dk_42 (dk_at dksX2_isPlayed_3 18 rfl rfl)
theorem dX2_isPlayed_107 : decode cX2_isPlayed 107 = .ok (.iload_n 2, 1) := dk_28 (dk_at dksX2_isPlayed_3 19 rfl rfl)
theorem dX2_isPlayed_108 : decode cX2_isPlayed 108 = .ok (.iload_n 3, 1) := dk_29 (dk_at dksX2_isPlayed_3 20 rfl rfl)
theorem dX2_isPlayed_109 : decode cX2_isPlayed 109 = .ok (.invokevirtual 360, 3) := dk_182 1 104 (dk_at dksX2_isPlayed_3 21 rfl rfl)
theorem dX2_isPlayed_112 : decode cX2_isPlayed 112 = .ok (.ireturn, 1) := dk_172 (dk_at dksX2_isPlayed_4 0 rfl rfl)
theorem dX2_isPlayed_113 : decode cX2_isPlayed 113 = .ok (.aload_n 0, 1) := dk_42 (dk_at dksX2_isPlayed_4 1 rfl rfl)
theorem dX2_isPlayed_114 : decode cX2_isPlayed 114 = .ok (.iload_n 2, 1) := dk_28 (dk_at dksX2_isPlayed_4 2 rfl rfl)
theorem dX2_isPlayed_115 : decode cX2_isPlayed 115 = .ok (.invokevirtual 345, 3) := dk_182 1 89 (dk_at dksX2_isPlayed_4 3 rfl rfl)
theorem dX2_isPlayed_118 : decode cX2_isPlayed 118 = .ok (.ireturn, 1) := dk_172 (dk_at dksX2_isPlayed_4 6 rfl rfl)
theorem dX2_isPlayed_119 : decode cX2_isPlayed 119 = .ok (.iconst 1, 1) := dk_4 (dk_at dksX2_isPlayed_4 7 rfl rfl)
theorem dX2_isPlayed_120 : decode cX2_isPlayed 120 = .ok (.ireturn, 1) := dk_172 (dk_at dksX2_isPlayed_4 8 rfl rfl)
abbrev cX2_years : ByteArray := prog_20_method_85_code
def yX2_years : MethodName := ⟨RX2, "years", "(II)I"⟩
def dkwX2_years_5 : List UInt8 := [162, 0, 7, 42, 182, 1, 86, 132, 3, 1, 167, 255, 173, 42, 180, 0, 7, 16, 7, 46, 172]
abbrev dktX2_years_5 : List UInt8 := dkwX2_years_5 ++ []
def dkwX2_years_4 : List UInt8 := [182, 1, 110, 21, 4, 16, 6, 112, 6, 164, 0, 20, 42, 180, 0, 7, 16, 7, 46, 17, 39, 15]
abbrev dktX2_years_4 : List UInt8 := dkwX2_years_4 ++ dktX2_years_5
def dkwX2_years_3 : List UInt8 := [180, 0, 7, 3, 46, 158, 0, 21, 42, 21, 4, 16, 6, 108, 42, 180, 0, 7, 3, 46, 112, 21, 4]
abbrev dktX2_years_3 : List UInt8 := dkwX2_years_3 ++ dktX2_years_4
def dkwX2_years_2 : List UInt8 := [42, 180, 0, 7, 16, 8, 46, 54, 4, 42, 182, 1, 43, 21, 4, 16, 6, 112, 7, 162, 0, 30, 42]
abbrev dktX2_years_2 : List UInt8 := dkwX2_years_2 ++ dktX2_years_3
def dkwX2_years_1 : List UInt8 := [182, 1, 77, 42, 180, 0, 7, 16, 8, 27, 5, 104, 17, 1, 165, 96, 79, 3, 62, 29, 28, 162, 0, 84]
abbrev dktX2_years_1 : List UInt8 := dkwX2_years_1 ++ dktX2_years_2
def dkwX2_years_0 : List UInt8 := [27, 3, 17, 39, 15, 184, 0, 72, 153, 0, 13, 28, 4, 16, 40, 184, 0, 72, 154, 0, 5, 2, 172, 42]
abbrev dktX2_years_0 : List UInt8 := dkwX2_years_0 ++ dktX2_years_1
theorem dksX2_years_0 : cX2_years.data.toList.drop 0 = dktX2_years_0 := by decide +kernel
theorem dksX2_years_1 : cX2_years.data.toList.drop 24 = dktX2_years_1 := dk_seg dksX2_years_0 24 rfl rfl
theorem dksX2_years_2 : cX2_years.data.toList.drop 48 = dktX2_years_2 := dk_seg dksX2_years_1 24 rfl rfl
theorem dksX2_years_3 : cX2_years.data.toList.drop 71 = dktX2_years_3 := dk_seg dksX2_years_2 23 rfl rfl
theorem dksX2_years_4 : cX2_years.data.toList.drop 94 = dktX2_years_4 := dk_seg dksX2_years_3 23 rfl rfl
theorem dksX2_years_5 : cX2_years.data.toList.drop 116 = dktX2_years_5 := dk_seg dksX2_years_4 22 rfl rfl
theorem dX2_years_0 : decode cX2_years 0 = .ok (.iload_n 1, 1) := dk_27 (dk_at dksX2_years_0 0 rfl rfl)
theorem dX2_years_1 : decode cX2_years 1 = .ok (.iconst 0, 1) := dk_3 (dk_at dksX2_years_0 1 rfl rfl)
theorem dX2_years_2 : decode cX2_years 2 = .ok (.sipush 9999, 3) := dk_17 39 15 (dk_at dksX2_years_0 2 rfl rfl)
theorem dX2_years_5 : decode cX2_years 5 = .ok (.invokestatic 72, 3) := dk_184 0 72 (dk_at dksX2_years_0 5 rfl rfl)
theorem dX2_years_8 : decode cX2_years 8 = .ok (.ifCond .eq 13, 3) := dk_153 0 13 (dk_at dksX2_years_0 8 rfl rfl)
theorem dX2_years_11 : decode cX2_years 11 = .ok (.iload_n 2, 1) := dk_28 (dk_at dksX2_years_0 11 rfl rfl)
theorem dX2_years_12 : decode cX2_years 12 = .ok (.iconst 1, 1) := dk_4 (dk_at dksX2_years_0 12 rfl rfl)
theorem dX2_years_13 : decode cX2_years 13 = .ok (.bipush 40, 2) := dk_16 40 (dk_at dksX2_years_0 13 rfl rfl)
theorem dX2_years_15 : decode cX2_years 15 = .ok (.invokestatic 72, 3) := dk_184 0 72 (dk_at dksX2_years_0 15 rfl rfl)
theorem dX2_years_18 : decode cX2_years 18 = .ok (.ifCond .ne 5, 3) := dk_154 0 5 (dk_at dksX2_years_0 18 rfl rfl)
theorem dX2_years_21 : decode cX2_years 21 = .ok (.iconst (-1), 1) := dk_2 (dk_at dksX2_years_0 21 rfl rfl)
theorem dX2_years_22 : decode cX2_years 22 = .ok (.ireturn, 1) := dk_172 (dk_at dksX2_years_0 22 rfl rfl)
theorem dX2_years_23 : decode cX2_years 23 = .ok (.aload_n 0, 1) := dk_42 (dk_at dksX2_years_0 23 rfl rfl)
theorem dX2_years_24 : decode cX2_years 24 = .ok (.invokevirtual 333, 3) := dk_182 1 77 (dk_at dksX2_years_1 0 rfl rfl)
theorem dX2_years_27 : decode cX2_years 27 = .ok (.aload_n 0, 1) := dk_42 (dk_at dksX2_years_1 3 rfl rfl)
theorem dX2_years_28 : decode cX2_years 28 = .ok (.getfield 7, 3) := dk_180 0 7 (dk_at dksX2_years_1 4 rfl rfl)
theorem dX2_years_31 : decode cX2_years 31 = .ok (.bipush 8, 2) := dk_16 8 (dk_at dksX2_years_1 7 rfl rfl)
theorem dX2_years_33 : decode cX2_years 33 = .ok (.iload_n 1, 1) := dk_27 (dk_at dksX2_years_1 9 rfl rfl)
theorem dX2_years_34 : decode cX2_years 34 = .ok (.iconst 2, 1) := dk_5 (dk_at dksX2_years_1 10 rfl rfl)
theorem dX2_years_35 : decode cX2_years 35 = .ok (.imul, 1) := dk_104 (dk_at dksX2_years_1 11 rfl rfl)
theorem dX2_years_36 : decode cX2_years 36 = .ok (.sipush 421, 3) := dk_17 1 165 (dk_at dksX2_years_1 12 rfl rfl)
theorem dX2_years_39 : decode cX2_years 39 = .ok (.iadd, 1) := dk_96 (dk_at dksX2_years_1 15 rfl rfl)
theorem dX2_years_40 : decode cX2_years 40 = .ok (.iastore, 1) := dk_79 (dk_at dksX2_years_1 16 rfl rfl)
theorem dX2_years_41 : decode cX2_years 41 = .ok (.iconst 0, 1) := dk_3 (dk_at dksX2_years_1 17 rfl rfl)
theorem dX2_years_42 : decode cX2_years 42 = .ok (.istore_n 3, 1) := dk_62 (dk_at dksX2_years_1 18 rfl rfl)
theorem dX2_years_43 : decode cX2_years 43 = .ok (.iload_n 3, 1) := dk_29 (dk_at dksX2_years_1 19 rfl rfl)
theorem dX2_years_44 : decode cX2_years 44 = .ok (.iload_n 2, 1) := dk_28 (dk_at dksX2_years_1 20 rfl rfl)
theorem dX2_years_45 : decode cX2_years 45 = .ok (.if_icmp .ge 84, 3) := dk_162 0 84 (dk_at dksX2_years_1 21 rfl rfl)
theorem dX2_years_48 : decode cX2_years 48 = .ok (.aload_n 0, 1) := dk_42 (dk_at dksX2_years_2 0 rfl rfl)
theorem dX2_years_49 : decode cX2_years 49 = .ok (.getfield 7, 3) := dk_180 0 7 (dk_at dksX2_years_2 1 rfl rfl)
theorem dX2_years_52 : decode cX2_years 52 = .ok (.bipush 8, 2) := dk_16 8 (dk_at dksX2_years_2 4 rfl rfl)
theorem dX2_years_54 : decode cX2_years 54 = .ok (.iaload, 1) := dk_46 (dk_at dksX2_years_2 6 rfl rfl)
theorem dX2_years_55 : decode cX2_years 55 = .ok (.istore 4, 2) := dk_54 4 (dk_at dksX2_years_2 7 rfl rfl)
theorem dX2_years_57 : decode cX2_years 57 = .ok (.aload_n 0, 1) := dk_42 (dk_at dksX2_years_2 9 rfl rfl)
theorem dX2_years_58 : decode cX2_years 58 = .ok (.invokevirtual 299, 3) := dk_182 1 43 (dk_at dksX2_years_2 10 rfl rfl)
theorem dX2_years_61 : decode cX2_years 61 = .ok (.iload 4, 2) := dk_21 4 (dk_at dksX2_years_2 13 rfl rfl)
theorem dX2_years_63 : decode cX2_years 63 = .ok (.bipush 6, 2) := dk_16 6 (dk_at dksX2_years_2 15 rfl rfl)
theorem dX2_years_65 : decode cX2_years 65 = .ok (.irem, 1) := dk_112 (dk_at dksX2_years_2 17 rfl rfl)
theorem dX2_years_66 : decode cX2_years 66 = .ok (.iconst 4, 1) := dk_7 (dk_at dksX2_years_2 18 rfl rfl)
theorem dX2_years_67 : decode cX2_years 67 = .ok (.if_icmp .ge 30, 3) := dk_162 0 30 (dk_at dksX2_years_2 19 rfl rfl)
theorem dX2_years_70 : decode cX2_years 70 = .ok (.aload_n 0, 1) := dk_42 (dk_at dksX2_years_2 22 rfl rfl)
theorem dX2_years_71 : decode cX2_years 71 = .ok (.getfield 7, 3) := dk_180 0 7 (dk_at dksX2_years_3 0 rfl rfl)
theorem dX2_years_74 : decode cX2_years 74 = .ok (.iconst 0, 1) := dk_3 (dk_at dksX2_years_3 3 rfl rfl)
theorem dX2_years_75 : decode cX2_years 75 = .ok (.iaload, 1) := dk_46 (dk_at dksX2_years_3 4 rfl rfl)
theorem dX2_years_76 : decode cX2_years 76 = .ok (.ifCond .le 21, 3) := dk_158 0 21 (dk_at dksX2_years_3 5 rfl rfl)
theorem dX2_years_79 : decode cX2_years 79 = .ok (.aload_n 0, 1) := dk_42 (dk_at dksX2_years_3 8 rfl rfl)
theorem dX2_years_80 : decode cX2_years 80 = .ok (.iload 4, 2) := dk_21 4 (dk_at dksX2_years_3 9 rfl rfl)
theorem dX2_years_82 : decode cX2_years 82 = .ok (.bipush 6, 2) := dk_16 6 (dk_at dksX2_years_3 11 rfl rfl)
theorem dX2_years_84 : decode cX2_years 84 = .ok (.idiv, 1) := dk_108 (dk_at dksX2_years_3 13 rfl rfl)
theorem dX2_years_85 : decode cX2_years 85 = .ok (.aload_n 0, 1) := dk_42 (dk_at dksX2_years_3 14 rfl rfl)
theorem dX2_years_86 : decode cX2_years 86 = .ok (.getfield 7, 3) := dk_180 0 7 (dk_at dksX2_years_3 15 rfl rfl)
theorem dX2_years_89 : decode cX2_years 89 = .ok (.iconst 0, 1) := dk_3 (dk_at dksX2_years_3 18 rfl rfl)
theorem dX2_years_90 : decode cX2_years 90 = .ok (.iaload, 1) := dk_46 (dk_at dksX2_years_3 19 rfl rfl)
theorem dX2_years_91 : decode cX2_years 91 = .ok (.irem, 1) := dk_112 (dk_at dksX2_years_3 20 rfl rfl)
theorem dX2_years_92 : decode cX2_years 92 = .ok (.iload 4, 2) := dk_21 4 (dk_at dksX2_years_3 21 rfl rfl)
theorem dX2_years_94 : decode cX2_years 94 = .ok (.invokevirtual 366, 3) := dk_182 1 110 (dk_at dksX2_years_4 0 rfl rfl)
theorem dX2_years_97 : decode cX2_years 97 = .ok (.iload 4, 2) := dk_21 4 (dk_at dksX2_years_4 3 rfl rfl)
theorem dX2_years_99 : decode cX2_years 99 = .ok (.bipush 6, 2) := dk_16 6 (dk_at dksX2_years_4 5 rfl rfl)
theorem dX2_years_101 : decode cX2_years 101 = .ok (.irem, 1) := dk_112 (dk_at dksX2_years_4 7 rfl rfl)
theorem dX2_years_102 : decode cX2_years 102 = .ok (.iconst 3, 1) := dk_6 (dk_at dksX2_years_4 8 rfl rfl)
theorem dX2_years_103 : decode cX2_years 103 = .ok (.if_icmp .le 20, 3) := dk_164 0 20 (dk_at dksX2_years_4 9 rfl rfl)
theorem dX2_years_106 : decode cX2_years 106 = .ok (.aload_n 0, 1) := dk_42 (dk_at dksX2_years_4 12 rfl rfl)
theorem dX2_years_107 : decode cX2_years 107 = .ok (.getfield 7, 3) := dk_180 0 7 (dk_at dksX2_years_4 13 rfl rfl)
theorem dX2_years_110 : decode cX2_years 110 = .ok (.bipush 7, 2) := dk_16 7 (dk_at dksX2_years_4 16 rfl rfl)
theorem dX2_years_112 : decode cX2_years 112 = .ok (.iaload, 1) := dk_46 (dk_at dksX2_years_4 18 rfl rfl)
theorem dX2_years_113 : decode cX2_years 113 = .ok (.sipush 9999, 3) := dk_17 39 15 (dk_at dksX2_years_4 19 rfl rfl)
theorem dX2_years_116 : decode cX2_years 116 = .ok (.if_icmp .ge 7, 3) := dk_162 0 7 (dk_at dksX2_years_5 0 rfl rfl)
theorem dX2_years_119 : decode cX2_years 119 = .ok (.aload_n 0, 1) := dk_42 (dk_at dksX2_years_5 3 rfl rfl)
theorem dX2_years_120 : decode cX2_years 120 = .ok (.invokevirtual 342, 3) := dk_182 1 86 (dk_at dksX2_years_5 4 rfl rfl)
theorem dX2_years_123 : decode cX2_years 123 = .ok (.iinc 3 1, 3) := dk_132 3 1 (dk_at dksX2_years_5 7 rfl rfl)
theorem dX2_years_126 : decode cX2_years 126 = .ok (.goto (-83), 3) := dk_167 255 173 (dk_at dksX2_years_5 10 rfl rfl)
theorem dX2_years_129 : decode cX2_years 129 = .ok (.aload_n 0, 1) := dk_42 (dk_at dksX2_years_5 13 rfl rfl)
theorem dX2_years_130 : decode cX2_years 130 = .ok (.getfield 7, 3) := dk_180 0 7 (dk_at dksX2_years_5 14 rfl rfl)
theorem dX2_years_133 : decode cX2_years 133 = .ok (.bipush 7, 2) := dk_16 7 (dk_at dksX2_years_5 17 rfl rfl)
theorem dX2_years_135 : decode cX2_years 135 = .ok (.iaload, 1) := dk_46 (dk_at dksX2_years_5 19 rfl rfl)
theorem dX2_years_136 : decode cX2_years 136 = .ok (.ireturn, 1) := dk_172 (dk_at dksX2_years_5 20 rfl rfl)
abbrev cX2_happensTo : ByteArray := prog_20_method_84_code
def yX2_happensTo : MethodName := ⟨RX2, "happensTo", "(II)V"⟩
def dkwX2_happensTo_6 : List UInt8 := [180, 0, 7, 16, 10, 92, 46, 4, 27, 120, 130, 79, 177]
abbrev dktX2_happensTo_6 : List UInt8 := dkwX2_happensTo_6 ++ []
def dkwX2_happensTo_5 : List UInt8 := [96, 42, 180, 0, 7, 3, 46, 112, 182, 1, 83, 167, 0, 23, 28, 7, 112, 4, 160, 0, 16, 42]
abbrev dktX2_happensTo_5 : List UInt8 := dkwX2_happensTo_5 ++ dktX2_happensTo_6
def dkwX2_happensTo_4 : List UInt8 := [167, 0, 58, 28, 7, 112, 5, 160, 0, 51, 42, 180, 0, 7, 3, 46, 4, 164, 0, 41, 42, 27, 27, 4]
abbrev dktX2_happensTo_4 : List UInt8 := dkwX2_happensTo_4 ++ dktX2_happensTo_5
def dkwX2_happensTo_3 : List UInt8 := [182, 1, 80, 153, 0, 78, 42, 180, 0, 7, 16, 11, 27, 96, 92, 46, 4, 28, 6, 112, 96, 100, 79]
abbrev dktX2_happensTo_3 : List UInt8 := dkwX2_happensTo_3 ++ dktX2_happensTo_4
def dkwX2_happensTo_2 : List UInt8 := [42, 27, 182, 1, 62, 154, 0, 99, 42, 27, 182, 1, 52, 167, 0, 91, 42, 27, 4, 28, 6, 112, 96]
abbrev dktX2_happensTo_2 : List UInt8 := dkwX2_happensTo_2 ++ dktX2_happensTo_3
def dkwX2_happensTo_1 : List UInt8 := [170, 0, 0, 0, 0, 0, 0, 112, 0, 0, 0, 0, 0, 0, 0, 2, 0, 0, 0, 28, 0, 0, 0, 44, 0, 0, 0, 77]
abbrev dktX2_happensTo_1 : List UInt8 := dkwX2_happensTo_1 ++ dktX2_happensTo_2
def dkwX2_happensTo_0 : List UInt8 := [28, 16, 6, 112]
abbrev dktX2_happensTo_0 : List UInt8 := dkwX2_happensTo_0 ++ dktX2_happensTo_1
theorem dksX2_happensTo_0 : cX2_happensTo.data.toList.drop 0 = dktX2_happensTo_0 := by decide +kernel
theorem dksX2_happensTo_1 : cX2_happensTo.data.toList.drop 4 = dktX2_happensTo_1 := dk_seg dksX2_happensTo_0 4 rfl rfl
theorem dksX2_happensTo_2 : cX2_happensTo.data.toList.drop 32 = dktX2_happensTo_2 := dk_seg dksX2_happensTo_1 28 rfl rfl
theorem dksX2_happensTo_3 : cX2_happensTo.data.toList.drop 55 = dktX2_happensTo_3 := dk_seg dksX2_happensTo_2 23 rfl rfl
theorem dksX2_happensTo_4 : cX2_happensTo.data.toList.drop 78 = dktX2_happensTo_4 := dk_seg dksX2_happensTo_3 23 rfl rfl
theorem dksX2_happensTo_5 : cX2_happensTo.data.toList.drop 102 = dktX2_happensTo_5 := dk_seg dksX2_happensTo_4 24 rfl rfl
theorem dksX2_happensTo_6 : cX2_happensTo.data.toList.drop 124 = dktX2_happensTo_6 := dk_seg dksX2_happensTo_5 22 rfl rfl
theorem dX2_happensTo_0 : decode cX2_happensTo 0 = .ok (.iload_n 2, 1) := dk_28 (dk_at dksX2_happensTo_0 0 rfl rfl)
theorem dX2_happensTo_1 : decode cX2_happensTo 1 = .ok (.bipush 6, 2) := dk_16 6 (dk_at dksX2_happensTo_0 1 rfl rfl)
theorem dX2_happensTo_3 : decode cX2_happensTo 3 = .ok (.irem, 1) := dk_112 (dk_at dksX2_happensTo_0 3 rfl rfl)
theorem dX2_happensTo_4 : decode cX2_happensTo 4 = .ok (.tableswitch 112 0 2 #[28, 44, 77], 28) := by decide +kernel
theorem dX2_happensTo_32 : decode cX2_happensTo 32 = .ok (.aload_n 0, 1) := dk_42 (dk_at dksX2_happensTo_2 0 rfl rfl)
theorem dX2_happensTo_33 : decode cX2_happensTo 33 = .ok (.iload_n 1, 1) := dk_27 (dk_at dksX2_happensTo_2 1 rfl rfl)
theorem dX2_happensTo_34 : decode cX2_happensTo 34 = .ok (.invokevirtual 318, 3) := dk_182 1 62 (dk_at dksX2_happensTo_2 2 rfl rfl)
theorem dX2_happensTo_37 : decode cX2_happensTo 37 = .ok (.ifCond .ne 99, 3) := dk_154 0 99 (dk_at dksX2_happensTo_2 5 rfl rfl)
theorem dX2_happensTo_40 : decode cX2_happensTo 40 = .ok (.aload_n 0, 1) := dk_42 (dk_at dksX2_happensTo_2 8 rfl rfl)
theorem dX2_happensTo_41 : decode cX2_happensTo 41 = .ok (.iload_n 1, 1) := dk_27 (dk_at dksX2_happensTo_2 9 rfl rfl)
theorem dX2_happensTo_42 : decode cX2_happensTo 42 = .ok (.invokevirtual 308, 3) := dk_182 1 52 (dk_at dksX2_happensTo_2 10 rfl rfl)
theorem dX2_happensTo_45 : decode cX2_happensTo 45 = .ok (.goto 91, 3) := dk_167 0 91 (dk_at dksX2_happensTo_2 13 rfl rfl)
theorem dX2_happensTo_48 : decode cX2_happensTo 48 = .ok (.aload_n 0, 1) := dk_42 (dk_at dksX2_happensTo_2 16 rfl rfl)
theorem dX2_happensTo_49 : decode cX2_happensTo 49 = .ok (.iload_n 1, 1) := dk_27 (dk_at dksX2_happensTo_2 17 rfl rfl)
theorem dX2_happensTo_50 : decode cX2_happensTo 50 = .ok (.iconst 1, 1) := dk_4 (dk_at dksX2_happensTo_2 18 rfl rfl)
theorem dX2_happensTo_51 : decode cX2_happensTo 51 = .ok (.iload_n 2, 1) := dk_28 (dk_at dksX2_happensTo_2 19 rfl rfl)
theorem dX2_happensTo_52 : decode cX2_happensTo 52 = .ok (.iconst 3, 1) := dk_6 (dk_at dksX2_happensTo_2 20 rfl rfl)
theorem dX2_happensTo_53 : decode cX2_happensTo 53 = .ok (.irem, 1) := dk_112 (dk_at dksX2_happensTo_2 21 rfl rfl)
theorem dX2_happensTo_54 : decode cX2_happensTo 54 = .ok (.iadd, 1) := dk_96 (dk_at dksX2_happensTo_2 22 rfl rfl)
theorem dX2_happensTo_55 : decode cX2_happensTo 55 = .ok (.invokevirtual 336, 3) := dk_182 1 80 (dk_at dksX2_happensTo_3 0 rfl rfl)
theorem dX2_happensTo_58 : decode cX2_happensTo 58 = .ok (.ifCond .eq 78, 3) := dk_153 0 78 (dk_at dksX2_happensTo_3 3 rfl rfl)
theorem dX2_happensTo_61 : decode cX2_happensTo 61 = .ok (.aload_n 0, 1) := dk_42 (dk_at dksX2_happensTo_3 6 rfl rfl)
theorem dX2_happensTo_62 : decode cX2_happensTo 62 = .ok (.getfield 7, 3) := dk_180 0 7 (dk_at dksX2_happensTo_3 7 rfl rfl)
theorem dX2_happensTo_65 : decode cX2_happensTo 65 = .ok (.bipush 11, 2) := dk_16 11 (dk_at dksX2_happensTo_3 10 rfl rfl)
theorem dX2_happensTo_67 : decode cX2_happensTo 67 = .ok (.iload_n 1, 1) := dk_27 (dk_at dksX2_happensTo_3 12 rfl rfl)
theorem dX2_happensTo_68 : decode cX2_happensTo 68 = .ok (.iadd, 1) := dk_96 (dk_at dksX2_happensTo_3 13 rfl rfl)
theorem dX2_happensTo_69 : decode cX2_happensTo 69 = .ok (.dup2, 1) := dk_92 (dk_at dksX2_happensTo_3 14 rfl rfl)
theorem dX2_happensTo_70 : decode cX2_happensTo 70 = .ok (.iaload, 1) := dk_46 (dk_at dksX2_happensTo_3 15 rfl rfl)
theorem dX2_happensTo_71 : decode cX2_happensTo 71 = .ok (.iconst 1, 1) := dk_4 (dk_at dksX2_happensTo_3 16 rfl rfl)
theorem dX2_happensTo_72 : decode cX2_happensTo 72 = .ok (.iload_n 2, 1) := dk_28 (dk_at dksX2_happensTo_3 17 rfl rfl)
theorem dX2_happensTo_73 : decode cX2_happensTo 73 = .ok (.iconst 3, 1) := dk_6 (dk_at dksX2_happensTo_3 18 rfl rfl)
theorem dX2_happensTo_74 : decode cX2_happensTo 74 = .ok (.irem, 1) := dk_112 (dk_at dksX2_happensTo_3 19 rfl rfl)
theorem dX2_happensTo_75 : decode cX2_happensTo 75 = .ok (.iadd, 1) := dk_96 (dk_at dksX2_happensTo_3 20 rfl rfl)
theorem dX2_happensTo_76 : decode cX2_happensTo 76 = .ok (.isub, 1) := dk_100 (dk_at dksX2_happensTo_3 21 rfl rfl)
theorem dX2_happensTo_77 : decode cX2_happensTo 77 = .ok (.iastore, 1) := dk_79 (dk_at dksX2_happensTo_3 22 rfl rfl)
theorem dX2_happensTo_78 : decode cX2_happensTo 78 = .ok (.goto 58, 3) := dk_167 0 58 (dk_at dksX2_happensTo_4 0 rfl rfl)
theorem dX2_happensTo_81 : decode cX2_happensTo 81 = .ok (.iload_n 2, 1) := dk_28 (dk_at dksX2_happensTo_4 3 rfl rfl)
theorem dX2_happensTo_82 : decode cX2_happensTo 82 = .ok (.iconst 4, 1) := dk_7 (dk_at dksX2_happensTo_4 4 rfl rfl)
theorem dX2_happensTo_83 : decode cX2_happensTo 83 = .ok (.irem, 1) := dk_112 (dk_at dksX2_happensTo_4 5 rfl rfl)
theorem dX2_happensTo_84 : decode cX2_happensTo 84 = .ok (.iconst 2, 1) := dk_5 (dk_at dksX2_happensTo_4 6 rfl rfl)
theorem dX2_happensTo_85 : decode cX2_happensTo 85 = .ok (.if_icmp .ne 51, 3) := dk_160 0 51 (dk_at dksX2_happensTo_4 7 rfl rfl)
theorem dX2_happensTo_88 : decode cX2_happensTo 88 = .ok (.aload_n 0, 1) := dk_42 (dk_at dksX2_happensTo_4 10 rfl rfl)
theorem dX2_happensTo_89 : decode cX2_happensTo 89 = .ok (.getfield 7, 3) := dk_180 0 7 (dk_at dksX2_happensTo_4 11 rfl rfl)
theorem dX2_happensTo_92 : decode cX2_happensTo 92 = .ok (.iconst 0, 1) := dk_3 (dk_at dksX2_happensTo_4 14 rfl rfl)
theorem dX2_happensTo_93 : decode cX2_happensTo 93 = .ok (.iaload, 1) := dk_46 (dk_at dksX2_happensTo_4 15 rfl rfl)
theorem dX2_happensTo_94 : decode cX2_happensTo 94 = .ok (.iconst 1, 1) := dk_4 (dk_at dksX2_happensTo_4 16 rfl rfl)
theorem dX2_happensTo_95 : decode cX2_happensTo 95 = .ok (.if_icmp .le 41, 3) := dk_164 0 41 (dk_at dksX2_happensTo_4 17 rfl rfl)
theorem dX2_happensTo_98 : decode cX2_happensTo 98 = .ok (.aload_n 0, 1) := dk_42 (dk_at dksX2_happensTo_4 20 rfl rfl)
theorem dX2_happensTo_99 : decode cX2_happensTo 99 = .ok (.iload_n 1, 1) := dk_27 (dk_at dksX2_happensTo_4 21 rfl rfl)
theorem dX2_happensTo_100 : decode cX2_happensTo 100 = .ok (.iload_n 1, 1) := dk_27 (dk_at dksX2_happensTo_4 22 rfl rfl)
theorem dX2_happensTo_101 : decode cX2_happensTo 101 = .ok (.iconst 1, 1) := dk_4 (dk_at dksX2_happensTo_4 23 rfl rfl)
theorem dX2_happensTo_102 : decode cX2_happensTo 102 = .ok (.iadd, 1) := dk_96 (dk_at dksX2_happensTo_5 0 rfl rfl)
theorem dX2_happensTo_103 : decode cX2_happensTo 103 = .ok (.aload_n 0, 1) := dk_42 (dk_at dksX2_happensTo_5 1 rfl rfl)
theorem dX2_happensTo_104 : decode cX2_happensTo 104 = .ok (.getfield 7, 3) := dk_180 0 7 (dk_at dksX2_happensTo_5 2 rfl rfl)
theorem dX2_happensTo_107 : decode cX2_happensTo 107 = .ok (.iconst 0, 1) := dk_3 (dk_at dksX2_happensTo_5 5 rfl rfl)
theorem dX2_happensTo_108 : decode cX2_happensTo 108 = .ok (.iaload, 1) := dk_46 (dk_at dksX2_happensTo_5 6 rfl rfl)
theorem dX2_happensTo_109 : decode cX2_happensTo 109 = .ok (.irem, 1) := dk_112 (dk_at dksX2_happensTo_5 7 rfl rfl)
theorem dX2_happensTo_110 : decode cX2_happensTo 110 = .ok (.invokevirtual 339, 3) := dk_182 1 83 (dk_at dksX2_happensTo_5 8 rfl rfl)
theorem dX2_happensTo_113 : decode cX2_happensTo 113 = .ok (.goto 23, 3) := dk_167 0 23 (dk_at dksX2_happensTo_5 11 rfl rfl)
theorem dX2_happensTo_116 : decode cX2_happensTo 116 = .ok (.iload_n 2, 1) := dk_28 (dk_at dksX2_happensTo_5 14 rfl rfl)
theorem dX2_happensTo_117 : decode cX2_happensTo 117 = .ok (.iconst 4, 1) := dk_7 (dk_at dksX2_happensTo_5 15 rfl rfl)
theorem dX2_happensTo_118 : decode cX2_happensTo 118 = .ok (.irem, 1) := dk_112 (dk_at dksX2_happensTo_5 16 rfl rfl)
theorem dX2_happensTo_119 : decode cX2_happensTo 119 = .ok (.iconst 1, 1) := dk_4 (dk_at dksX2_happensTo_5 17 rfl rfl)
theorem dX2_happensTo_120 : decode cX2_happensTo 120 = .ok (.if_icmp .ne 16, 3) := dk_160 0 16 (dk_at dksX2_happensTo_5 18 rfl rfl)
theorem dX2_happensTo_123 : decode cX2_happensTo 123 = .ok (.aload_n 0, 1) := dk_42 (dk_at dksX2_happensTo_5 21 rfl rfl)
theorem dX2_happensTo_124 : decode cX2_happensTo 124 = .ok (.getfield 7, 3) := dk_180 0 7 (dk_at dksX2_happensTo_6 0 rfl rfl)
theorem dX2_happensTo_127 : decode cX2_happensTo 127 = .ok (.bipush 10, 2) := dk_16 10 (dk_at dksX2_happensTo_6 3 rfl rfl)
theorem dX2_happensTo_129 : decode cX2_happensTo 129 = .ok (.dup2, 1) := dk_92 (dk_at dksX2_happensTo_6 5 rfl rfl)
theorem dX2_happensTo_130 : decode cX2_happensTo 130 = .ok (.iaload, 1) := dk_46 (dk_at dksX2_happensTo_6 6 rfl rfl)
theorem dX2_happensTo_131 : decode cX2_happensTo 131 = .ok (.iconst 1, 1) := dk_4 (dk_at dksX2_happensTo_6 7 rfl rfl)
theorem dX2_happensTo_132 : decode cX2_happensTo 132 = .ok (.iload_n 1, 1) := dk_27 (dk_at dksX2_happensTo_6 8 rfl rfl)
theorem dX2_happensTo_133 : decode cX2_happensTo 133 = .ok (.ishl, 1) := dk_120 (dk_at dksX2_happensTo_6 9 rfl rfl)
theorem dX2_happensTo_134 : decode cX2_happensTo 134 = .ok (.ixor, 1) := dk_130 (dk_at dksX2_happensTo_6 10 rfl rfl)
theorem dX2_happensTo_135 : decode cX2_happensTo 135 = .ok (.iastore, 1) := dk_79 (dk_at dksX2_happensTo_6 11 rfl rfl)
theorem dX2_happensTo_136 : decode cX2_happensTo 136 = .ok (.return_, 1) := dk_177 (dk_at dksX2_happensTo_6 12 rfl rfl)
abbrev cX2_of : ByteArray := prog_20_method_86_code
def yX2_of : MethodName := ⟨RX2, "of", "(II)I"⟩
def dkwX2_of_4 : List UInt8 := [180, 0, 7, 5, 46, 27, 182, 1, 68, 172, 42, 27, 182, 1, 71, 172, 42, 27, 182, 1, 10, 172, 2, 172]
abbrev dktX2_of_4 : List UInt8 := dkwX2_of_4 ++ []
def dkwX2_of_3 : List UInt8 := [16, 17, 27, 96, 46, 172, 42, 27, 182, 1, 62, 153, 0, 7, 4, 167, 0, 4, 3, 172, 42, 42]
abbrev dktX2_of_3 : List UInt8 := dkwX2_of_3 ++ dktX2_of_4
def dkwX2_of_2 : List UInt8 := [42, 180, 0, 7, 16, 23, 27, 96, 46, 172, 42, 180, 0, 7, 16, 11, 27, 96, 46, 172, 42, 180, 0, 7]
abbrev dktX2_of_2 : List UInt8 := dkwX2_of_2 ++ dktX2_of_3
def dkwX2_of_1 : List UInt8 := [170, 0, 0, 0, 109, 0, 0, 0, 0, 0, 0, 0, 6, 0, 0, 0, 41, 0, 0, 0, 51, 0, 0, 0, 61, 0, 0, 0, 71, 0, 0, 0, 85, 0, 0, 0, 97, 0, 0, 0, 103]
abbrev dktX2_of_1 : List UInt8 := dkwX2_of_1 ++ dktX2_of_2
def dkwX2_of_0 : List UInt8 := [42, 27, 182, 0, 92, 154, 0, 5, 2, 172, 28]
abbrev dktX2_of_0 : List UInt8 := dkwX2_of_0 ++ dktX2_of_1
theorem dksX2_of_0 : cX2_of.data.toList.drop 0 = dktX2_of_0 := by decide +kernel
theorem dksX2_of_1 : cX2_of.data.toList.drop 11 = dktX2_of_1 := dk_seg dksX2_of_0 11 rfl rfl
theorem dksX2_of_2 : cX2_of.data.toList.drop 52 = dktX2_of_2 := dk_seg dksX2_of_1 41 rfl rfl
theorem dksX2_of_3 : cX2_of.data.toList.drop 76 = dktX2_of_3 := dk_seg dksX2_of_2 24 rfl rfl
theorem dksX2_of_4 : cX2_of.data.toList.drop 98 = dktX2_of_4 := dk_seg dksX2_of_3 22 rfl rfl
theorem dX2_of_0 : decode cX2_of 0 = .ok (.aload_n 0, 1) := dk_42 (dk_at dksX2_of_0 0 rfl rfl)
theorem dX2_of_1 : decode cX2_of 1 = .ok (.iload_n 1, 1) := dk_27 (dk_at dksX2_of_0 1 rfl rfl)
theorem dX2_of_2 : decode cX2_of 2 = .ok (.invokevirtual 92, 3) := dk_182 0 92 (dk_at dksX2_of_0 2 rfl rfl)
theorem dX2_of_5 : decode cX2_of 5 = .ok (.ifCond .ne 5, 3) := dk_154 0 5 (dk_at dksX2_of_0 5 rfl rfl)
theorem dX2_of_8 : decode cX2_of 8 = .ok (.iconst (-1), 1) := dk_2 (dk_at dksX2_of_0 8 rfl rfl)
theorem dX2_of_9 : decode cX2_of 9 = .ok (.ireturn, 1) := dk_172 (dk_at dksX2_of_0 9 rfl rfl)
theorem dX2_of_10 : decode cX2_of 10 = .ok (.iload_n 2, 1) := dk_28 (dk_at dksX2_of_0 10 rfl rfl)
theorem dX2_of_11 : decode cX2_of 11 = .ok (.tableswitch 109 0 6 #[41, 51, 61, 71, 85, 97, 103], 41) := by decide +kernel
theorem dX2_of_52 : decode cX2_of 52 = .ok (.aload_n 0, 1) := dk_42 (dk_at dksX2_of_2 0 rfl rfl)
theorem dX2_of_53 : decode cX2_of 53 = .ok (.getfield 7, 3) := dk_180 0 7 (dk_at dksX2_of_2 1 rfl rfl)
theorem dX2_of_56 : decode cX2_of 56 = .ok (.bipush 23, 2) := dk_16 23 (dk_at dksX2_of_2 4 rfl rfl)
theorem dX2_of_58 : decode cX2_of 58 = .ok (.iload_n 1, 1) := dk_27 (dk_at dksX2_of_2 6 rfl rfl)
theorem dX2_of_59 : decode cX2_of 59 = .ok (.iadd, 1) := dk_96 (dk_at dksX2_of_2 7 rfl rfl)
theorem dX2_of_60 : decode cX2_of 60 = .ok (.iaload, 1) := dk_46 (dk_at dksX2_of_2 8 rfl rfl)
theorem dX2_of_61 : decode cX2_of 61 = .ok (.ireturn, 1) := dk_172 (dk_at dksX2_of_2 9 rfl rfl)
theorem dX2_of_62 : decode cX2_of 62 = .ok (.aload_n 0, 1) := dk_42 (dk_at dksX2_of_2 10 rfl rfl)
theorem dX2_of_63 : decode cX2_of 63 = .ok (.getfield 7, 3) := dk_180 0 7 (dk_at dksX2_of_2 11 rfl rfl)
theorem dX2_of_66 : decode cX2_of 66 = .ok (.bipush 11, 2) := dk_16 11 (dk_at dksX2_of_2 14 rfl rfl)
theorem dX2_of_68 : decode cX2_of 68 = .ok (.iload_n 1, 1) := dk_27 (dk_at dksX2_of_2 16 rfl rfl)
theorem dX2_of_69 : decode cX2_of 69 = .ok (.iadd, 1) := dk_96 (dk_at dksX2_of_2 17 rfl rfl)
theorem dX2_of_70 : decode cX2_of 70 = .ok (.iaload, 1) := dk_46 (dk_at dksX2_of_2 18 rfl rfl)
theorem dX2_of_71 : decode cX2_of 71 = .ok (.ireturn, 1) := dk_172 (dk_at dksX2_of_2 19 rfl rfl)
theorem dX2_of_72 : decode cX2_of 72 = .ok (.aload_n 0, 1) := dk_42 (dk_at dksX2_of_2 20 rfl rfl)
theorem dX2_of_73 : decode cX2_of 73 = .ok (.getfield 7, 3) := dk_180 0 7 (dk_at dksX2_of_2 21 rfl rfl)
theorem dX2_of_76 : decode cX2_of 76 = .ok (.bipush 17, 2) := dk_16 17 (dk_at dksX2_of_3 0 rfl rfl)
theorem dX2_of_78 : decode cX2_of 78 = .ok (.iload_n 1, 1) := dk_27 (dk_at dksX2_of_3 2 rfl rfl)
theorem dX2_of_79 : decode cX2_of 79 = .ok (.iadd, 1) := dk_96 (dk_at dksX2_of_3 3 rfl rfl)
theorem dX2_of_80 : decode cX2_of 80 = .ok (.iaload, 1) := dk_46 (dk_at dksX2_of_3 4 rfl rfl)
theorem dX2_of_81 : decode cX2_of 81 = .ok (.ireturn, 1) := dk_172 (dk_at dksX2_of_3 5 rfl rfl)
theorem dX2_of_82 : decode cX2_of 82 = .ok (.aload_n 0, 1) := dk_42 (dk_at dksX2_of_3 6 rfl rfl)
theorem dX2_of_83 : decode cX2_of 83 = .ok (.iload_n 1, 1) := dk_27 (dk_at dksX2_of_3 7 rfl rfl)
theorem dX2_of_84 : decode cX2_of 84 = .ok (.invokevirtual 318, 3) := dk_182 1 62 (dk_at dksX2_of_3 8 rfl rfl)
theorem dX2_of_87 : decode cX2_of 87 = .ok (.ifCond .eq 7, 3) := dk_153 0 7 (dk_at dksX2_of_3 11 rfl rfl)
theorem dX2_of_90 : decode cX2_of 90 = .ok (.iconst 1, 1) := dk_4 (dk_at dksX2_of_3 14 rfl rfl)
theorem dX2_of_91 : decode cX2_of 91 = .ok (.goto 4, 3) := dk_167 0 4 (dk_at dksX2_of_3 15 rfl rfl)
theorem dX2_of_94 : decode cX2_of 94 = .ok (.iconst 0, 1) := dk_3 (dk_at dksX2_of_3 18 rfl rfl)
theorem dX2_of_95 : decode cX2_of 95 = .ok (.ireturn, 1) := dk_172 (dk_at dksX2_of_3 19 rfl rfl)
theorem dX2_of_96 : decode cX2_of 96 = .ok (.aload_n 0, 1) := dk_42 (dk_at dksX2_of_3 20 rfl rfl)
theorem dX2_of_97 : decode cX2_of 97 = .ok (.aload_n 0, 1) := dk_42 (dk_at dksX2_of_3 21 rfl rfl)
theorem dX2_of_98 : decode cX2_of 98 = .ok (.getfield 7, 3) := dk_180 0 7 (dk_at dksX2_of_4 0 rfl rfl)
theorem dX2_of_101 : decode cX2_of 101 = .ok (.iconst 2, 1) := dk_5 (dk_at dksX2_of_4 3 rfl rfl)
theorem dX2_of_102 : decode cX2_of 102 = .ok (.iaload, 1) := dk_46 (dk_at dksX2_of_4 4 rfl rfl)
theorem dX2_of_103 : decode cX2_of 103 = .ok (.iload_n 1, 1) := dk_27 (dk_at dksX2_of_4 5 rfl rfl)
theorem dX2_of_104 : decode cX2_of 104 = .ok (.invokevirtual 324, 3) := dk_182 1 68 (dk_at dksX2_of_4 6 rfl rfl)
theorem dX2_of_107 : decode cX2_of 107 = .ok (.ireturn, 1) := dk_172 (dk_at dksX2_of_4 9 rfl rfl)
theorem dX2_of_108 : decode cX2_of 108 = .ok (.aload_n 0, 1) := dk_42 (dk_at dksX2_of_4 10 rfl rfl)
theorem dX2_of_109 : decode cX2_of 109 = .ok (.iload_n 1, 1) := dk_27 (dk_at dksX2_of_4 11 rfl rfl)
theorem dX2_of_110 : decode cX2_of 110 = .ok (.invokevirtual 327, 3) := dk_182 1 71 (dk_at dksX2_of_4 12 rfl rfl)
theorem dX2_of_113 : decode cX2_of 113 = .ok (.ireturn, 1) := dk_172 (dk_at dksX2_of_4 15 rfl rfl)
theorem dX2_of_114 : decode cX2_of 114 = .ok (.aload_n 0, 1) := dk_42 (dk_at dksX2_of_4 16 rfl rfl)
theorem dX2_of_115 : decode cX2_of 115 = .ok (.iload_n 1, 1) := dk_27 (dk_at dksX2_of_4 17 rfl rfl)
theorem dX2_of_116 : decode cX2_of 116 = .ok (.invokevirtual 266, 3) := dk_182 1 10 (dk_at dksX2_of_4 18 rfl rfl)
theorem dX2_of_119 : decode cX2_of 119 = .ok (.ireturn, 1) := dk_172 (dk_at dksX2_of_4 21 rfl rfl)
theorem dX2_of_120 : decode cX2_of 120 = .ok (.iconst (-1), 1) := dk_2 (dk_at dksX2_of_4 22 rfl rfl)
theorem dX2_of_121 : decode cX2_of 121 = .ok (.ireturn, 1) := dk_172 (dk_at dksX2_of_4 23 rfl rfl)
abbrev cX2_at : ByteArray := prog_20_method_87_code
def yX2_at : MethodName := ⟨RX2, "at", "(I)I"⟩
def dkwX2_at_0 : List UInt8 := [42, 27, 182, 0, 92, 153, 0, 11, 42, 27, 182, 0, 80, 167, 0, 4, 2, 172]
abbrev dktX2_at_0 : List UInt8 := dkwX2_at_0 ++ []
theorem dksX2_at_0 : cX2_at.data.toList.drop 0 = dktX2_at_0 := by decide +kernel
theorem dX2_at_0 : decode cX2_at 0 = .ok (.aload_n 0, 1) := dk_42 (dk_at dksX2_at_0 0 rfl rfl)
theorem dX2_at_1 : decode cX2_at 1 = .ok (.iload_n 1, 1) := dk_27 (dk_at dksX2_at_0 1 rfl rfl)
theorem dX2_at_2 : decode cX2_at 2 = .ok (.invokevirtual 92, 3) := dk_182 0 92 (dk_at dksX2_at_0 2 rfl rfl)
theorem dX2_at_5 : decode cX2_at 5 = .ok (.ifCond .eq 11, 3) := dk_153 0 11 (dk_at dksX2_at_0 5 rfl rfl)
theorem dX2_at_8 : decode cX2_at 8 = .ok (.aload_n 0, 1) := dk_42 (dk_at dksX2_at_0 8 rfl rfl)
theorem dX2_at_9 : decode cX2_at 9 = .ok (.iload_n 1, 1) := dk_27 (dk_at dksX2_at_0 9 rfl rfl)
theorem dX2_at_10 : decode cX2_at 10 = .ok (.invokevirtual 80, 3) := dk_182 0 80 (dk_at dksX2_at_0 10 rfl rfl)
theorem dX2_at_13 : decode cX2_at 13 = .ok (.goto 4, 3) := dk_167 0 4 (dk_at dksX2_at_0 13 rfl rfl)
theorem dX2_at_16 : decode cX2_at 16 = .ok (.iconst (-1), 1) := dk_2 (dk_at dksX2_at_0 16 rfl rfl)
theorem dX2_at_17 : decode cX2_at 17 = .ok (.ireturn, 1) := dk_172 (dk_at dksX2_at_0 17 rfl rfl)
abbrev cX2_is : ByteArray := prog_20_method_88_code
def yX2_is : MethodName := ⟨RX2, "is", "(I)I"⟩
def dkwX2_is_3 : List UInt8 := [167, 0, 5, 16, 254, 172]
abbrev dktX2_is_3 : List UInt8 := dkwX2_is_3 ++ []
def dkwX2_is_2 : List UInt8 := [167, 255, 231, 27, 5, 160, 0, 7, 28, 167, 0, 20, 27, 6, 160, 0, 13, 42, 180, 0, 7, 16, 10, 46]
abbrev dktX2_is_2 : List UInt8 := dkwX2_is_2 ++ dktX2_is_3
def dkwX2_is_1 : List UInt8 := [42, 180, 0, 7, 3, 46, 162, 0, 21, 28, 42, 180, 0, 7, 16, 11, 29, 96, 46, 96, 61, 132, 3, 1]
abbrev dktX2_is_1 : List UInt8 := dkwX2_is_1 ++ dktX2_is_2
def dkwX2_is_0 : List UInt8 := [27, 3, 4, 184, 0, 72, 153, 0, 13, 42, 180, 0, 7, 16, 7, 27, 96, 46, 172, 3, 61, 3, 62, 29]
abbrev dktX2_is_0 : List UInt8 := dkwX2_is_0 ++ dktX2_is_1
theorem dksX2_is_0 : cX2_is.data.toList.drop 0 = dktX2_is_0 := by decide +kernel
theorem dksX2_is_1 : cX2_is.data.toList.drop 24 = dktX2_is_1 := dk_seg dksX2_is_0 24 rfl rfl
theorem dksX2_is_2 : cX2_is.data.toList.drop 48 = dktX2_is_2 := dk_seg dksX2_is_1 24 rfl rfl
theorem dksX2_is_3 : cX2_is.data.toList.drop 72 = dktX2_is_3 := dk_seg dksX2_is_2 24 rfl rfl
theorem dX2_is_0 : decode cX2_is 0 = .ok (.iload_n 1, 1) := dk_27 (dk_at dksX2_is_0 0 rfl rfl)
theorem dX2_is_1 : decode cX2_is 1 = .ok (.iconst 0, 1) := dk_3 (dk_at dksX2_is_0 1 rfl rfl)
theorem dX2_is_2 : decode cX2_is 2 = .ok (.iconst 1, 1) := dk_4 (dk_at dksX2_is_0 2 rfl rfl)
theorem dX2_is_3 : decode cX2_is 3 = .ok (.invokestatic 72, 3) := dk_184 0 72 (dk_at dksX2_is_0 3 rfl rfl)
theorem dX2_is_6 : decode cX2_is 6 = .ok (.ifCond .eq 13, 3) := dk_153 0 13 (dk_at dksX2_is_0 6 rfl rfl)
theorem dX2_is_9 : decode cX2_is 9 = .ok (.aload_n 0, 1) := dk_42 (dk_at dksX2_is_0 9 rfl rfl)
theorem dX2_is_10 : decode cX2_is 10 = .ok (.getfield 7, 3) := dk_180 0 7 (dk_at dksX2_is_0 10 rfl rfl)
theorem dX2_is_13 : decode cX2_is 13 = .ok (.bipush 7, 2) := dk_16 7 (dk_at dksX2_is_0 13 rfl rfl)
theorem dX2_is_15 : decode cX2_is 15 = .ok (.iload_n 1, 1) := dk_27 (dk_at dksX2_is_0 15 rfl rfl)
theorem dX2_is_16 : decode cX2_is 16 = .ok (.iadd, 1) := dk_96 (dk_at dksX2_is_0 16 rfl rfl)
theorem dX2_is_17 : decode cX2_is 17 = .ok (.iaload, 1) := dk_46 (dk_at dksX2_is_0 17 rfl rfl)
theorem dX2_is_18 : decode cX2_is 18 = .ok (.ireturn, 1) := dk_172 (dk_at dksX2_is_0 18 rfl rfl)
theorem dX2_is_19 : decode cX2_is 19 = .ok (.iconst 0, 1) := dk_3 (dk_at dksX2_is_0 19 rfl rfl)
theorem dX2_is_20 : decode cX2_is 20 = .ok (.istore_n 2, 1) := dk_61 (dk_at dksX2_is_0 20 rfl rfl)
theorem dX2_is_21 : decode cX2_is 21 = .ok (.iconst 0, 1) := dk_3 (dk_at dksX2_is_0 21 rfl rfl)
theorem dX2_is_22 : decode cX2_is 22 = .ok (.istore_n 3, 1) := dk_62 (dk_at dksX2_is_0 22 rfl rfl)
theorem dX2_is_23 : decode cX2_is 23 = .ok (.iload_n 3, 1) := dk_29 (dk_at dksX2_is_0 23 rfl rfl)
theorem dX2_is_24 : decode cX2_is 24 = .ok (.aload_n 0, 1) := dk_42 (dk_at dksX2_is_1 0 rfl rfl)
theorem dX2_is_25 : decode cX2_is 25 = .ok (.getfield 7, 3) := dk_180 0 7 (dk_at dksX2_is_1 1 rfl rfl)
theorem dX2_is_28 : decode cX2_is 28 = .ok (.iconst 0, 1) := dk_3 (dk_at dksX2_is_1 4 rfl rfl)
theorem dX2_is_29 : decode cX2_is 29 = .ok (.iaload, 1) := dk_46 (dk_at dksX2_is_1 5 rfl rfl)
theorem dX2_is_30 : decode cX2_is 30 = .ok (.if_icmp .ge 21, 3) := dk_162 0 21 (dk_at dksX2_is_1 6 rfl rfl)
theorem dX2_is_33 : decode cX2_is 33 = .ok (.iload_n 2, 1) := dk_28 (dk_at dksX2_is_1 9 rfl rfl)
theorem dX2_is_34 : decode cX2_is 34 = .ok (.aload_n 0, 1) := dk_42 (dk_at dksX2_is_1 10 rfl rfl)
theorem dX2_is_35 : decode cX2_is 35 = .ok (.getfield 7, 3) := dk_180 0 7 (dk_at dksX2_is_1 11 rfl rfl)
theorem dX2_is_38 : decode cX2_is 38 = .ok (.bipush 11, 2) := dk_16 11 (dk_at dksX2_is_1 14 rfl rfl)
theorem dX2_is_40 : decode cX2_is 40 = .ok (.iload_n 3, 1) := dk_29 (dk_at dksX2_is_1 16 rfl rfl)
theorem dX2_is_41 : decode cX2_is 41 = .ok (.iadd, 1) := dk_96 (dk_at dksX2_is_1 17 rfl rfl)
theorem dX2_is_42 : decode cX2_is 42 = .ok (.iaload, 1) := dk_46 (dk_at dksX2_is_1 18 rfl rfl)
theorem dX2_is_43 : decode cX2_is 43 = .ok (.iadd, 1) := dk_96 (dk_at dksX2_is_1 19 rfl rfl)
theorem dX2_is_44 : decode cX2_is 44 = .ok (.istore_n 2, 1) := dk_61 (dk_at dksX2_is_1 20 rfl rfl)
theorem dX2_is_45 : decode cX2_is 45 = .ok (.iinc 3 1, 3) := dk_132 3 1 (dk_at dksX2_is_1 21 rfl rfl)
theorem dX2_is_48 : decode cX2_is 48 = .ok (.goto (-25), 3) := dk_167 255 231 (dk_at dksX2_is_2 0 rfl rfl)
theorem dX2_is_51 : decode cX2_is 51 = .ok (.iload_n 1, 1) := dk_27 (dk_at dksX2_is_2 3 rfl rfl)
theorem dX2_is_52 : decode cX2_is 52 = .ok (.iconst 2, 1) := dk_5 (dk_at dksX2_is_2 4 rfl rfl)
theorem dX2_is_53 : decode cX2_is 53 = .ok (.if_icmp .ne 7, 3) := dk_160 0 7 (dk_at dksX2_is_2 5 rfl rfl)
theorem dX2_is_56 : decode cX2_is 56 = .ok (.iload_n 2, 1) := dk_28 (dk_at dksX2_is_2 8 rfl rfl)
theorem dX2_is_57 : decode cX2_is 57 = .ok (.goto 20, 3) := dk_167 0 20 (dk_at dksX2_is_2 9 rfl rfl)
theorem dX2_is_60 : decode cX2_is 60 = .ok (.iload_n 1, 1) := dk_27 (dk_at dksX2_is_2 12 rfl rfl)
theorem dX2_is_61 : decode cX2_is 61 = .ok (.iconst 3, 1) := dk_6 (dk_at dksX2_is_2 13 rfl rfl)
theorem dX2_is_62 : decode cX2_is 62 = .ok (.if_icmp .ne 13, 3) := dk_160 0 13 (dk_at dksX2_is_2 14 rfl rfl)
theorem dX2_is_65 : decode cX2_is 65 = .ok (.aload_n 0, 1) := dk_42 (dk_at dksX2_is_2 17 rfl rfl)
theorem dX2_is_66 : decode cX2_is 66 = .ok (.getfield 7, 3) := dk_180 0 7 (dk_at dksX2_is_2 18 rfl rfl)
theorem dX2_is_69 : decode cX2_is 69 = .ok (.bipush 10, 2) := dk_16 10 (dk_at dksX2_is_2 21 rfl rfl)
theorem dX2_is_71 : decode cX2_is 71 = .ok (.iaload, 1) := dk_46 (dk_at dksX2_is_2 23 rfl rfl)
theorem dX2_is_72 : decode cX2_is 72 = .ok (.goto 5, 3) := dk_167 0 5 (dk_at dksX2_is_3 0 rfl rfl)
theorem dX2_is_75 : decode cX2_is 75 = .ok (.bipush (-2), 2) := dk_16 254 (dk_at dksX2_is_3 3 rfl rfl)
theorem dX2_is_77 : decode cX2_is 77 = .ok (.ireturn, 1) := dk_172 (dk_at dksX2_is_3 5 rfl rfl)
abbrev cX2_book : ByteArray := prog_20_method_90_code
def yX2_book : MethodName := ⟨RX2, "book", "(II)I"⟩
def dkwX2_book_2 : List UInt8 := [16, 254, 172]
abbrev dktX2_book_2 : List UInt8 := dkwX2_book_2 ++ []
def dkwX2_book_1 : List UInt8 := [184, 0, 72, 153, 0, 21, 28, 3, 6, 184, 0, 72, 153, 0, 12, 42, 27, 28, 182, 1, 113, 167, 0, 5]
abbrev dktX2_book_1 : List UInt8 := dkwX2_book_1 ++ dktX2_book_2
def dkwX2_book_0 : List UInt8 := [27, 2, 160, 0, 11, 42, 180, 0, 7, 16, 9, 46, 172, 27, 3, 42, 180, 0, 7, 16, 9, 46, 4, 100]
abbrev dktX2_book_0 : List UInt8 := dkwX2_book_0 ++ dktX2_book_1
theorem dksX2_book_0 : cX2_book.data.toList.drop 0 = dktX2_book_0 := by decide +kernel
theorem dksX2_book_1 : cX2_book.data.toList.drop 24 = dktX2_book_1 := dk_seg dksX2_book_0 24 rfl rfl
theorem dksX2_book_2 : cX2_book.data.toList.drop 48 = dktX2_book_2 := dk_seg dksX2_book_1 24 rfl rfl
theorem dX2_book_0 : decode cX2_book 0 = .ok (.iload_n 1, 1) := dk_27 (dk_at dksX2_book_0 0 rfl rfl)
theorem dX2_book_1 : decode cX2_book 1 = .ok (.iconst (-1), 1) := dk_2 (dk_at dksX2_book_0 1 rfl rfl)
theorem dX2_book_2 : decode cX2_book 2 = .ok (.if_icmp .ne 11, 3) := dk_160 0 11 (dk_at dksX2_book_0 2 rfl rfl)
theorem dX2_book_5 : decode cX2_book 5 = .ok (.aload_n 0, 1) := dk_42 (dk_at dksX2_book_0 5 rfl rfl)
theorem dX2_book_6 : decode cX2_book 6 = .ok (.getfield 7, 3) := dk_180 0 7 (dk_at dksX2_book_0 6 rfl rfl)
theorem dX2_book_9 : decode cX2_book 9 = .ok (.bipush 9, 2) := dk_16 9 (dk_at dksX2_book_0 9 rfl rfl)
theorem dX2_book_11 : decode cX2_book 11 = .ok (.iaload, 1) := dk_46 (dk_at dksX2_book_0 11 rfl rfl)
theorem dX2_book_12 : decode cX2_book 12 = .ok (.ireturn, 1) := dk_172 (dk_at dksX2_book_0 12 rfl rfl)
theorem dX2_book_13 : decode cX2_book 13 = .ok (.iload_n 1, 1) := dk_27 (dk_at dksX2_book_0 13 rfl rfl)
theorem dX2_book_14 : decode cX2_book 14 = .ok (.iconst 0, 1) := dk_3 (dk_at dksX2_book_0 14 rfl rfl)
theorem dX2_book_15 : decode cX2_book 15 = .ok (.aload_n 0, 1) := dk_42 (dk_at dksX2_book_0 15 rfl rfl)
theorem dX2_book_16 : decode cX2_book 16 = .ok (.getfield 7, 3) := dk_180 0 7 (dk_at dksX2_book_0 16 rfl rfl)
theorem dX2_book_19 : decode cX2_book 19 = .ok (.bipush 9, 2) := dk_16 9 (dk_at dksX2_book_0 19 rfl rfl)
theorem dX2_book_21 : decode cX2_book 21 = .ok (.iaload, 1) := dk_46 (dk_at dksX2_book_0 21 rfl rfl)
theorem dX2_book_22 : decode cX2_book 22 = .ok (.iconst 1, 1) := dk_4 (dk_at dksX2_book_0 22 rfl rfl)
theorem dX2_book_23 : decode cX2_book 23 = .ok (.isub, 1) := dk_100 (dk_at dksX2_book_0 23 rfl rfl)
theorem dX2_book_24 : decode cX2_book 24 = .ok (.invokestatic 72, 3) := dk_184 0 72 (dk_at dksX2_book_1 0 rfl rfl)
theorem dX2_book_27 : decode cX2_book 27 = .ok (.ifCond .eq 21, 3) := dk_153 0 21 (dk_at dksX2_book_1 3 rfl rfl)
theorem dX2_book_30 : decode cX2_book 30 = .ok (.iload_n 2, 1) := dk_28 (dk_at dksX2_book_1 6 rfl rfl)
theorem dX2_book_31 : decode cX2_book 31 = .ok (.iconst 0, 1) := dk_3 (dk_at dksX2_book_1 7 rfl rfl)
theorem dX2_book_32 : decode cX2_book 32 = .ok (.iconst 3, 1) := dk_6 (dk_at dksX2_book_1 8 rfl rfl)
theorem dX2_book_33 : decode cX2_book 33 = .ok (.invokestatic 72, 3) := dk_184 0 72 (dk_at dksX2_book_1 9 rfl rfl)
theorem dX2_book_36 : decode cX2_book 36 = .ok (.ifCond .eq 12, 3) := dk_153 0 12 (dk_at dksX2_book_1 12 rfl rfl)
theorem dX2_book_39 : decode cX2_book 39 = .ok (.aload_n 0, 1) := dk_42 (dk_at dksX2_book_1 15 rfl rfl)
theorem dX2_book_40 : decode cX2_book 40 = .ok (.iload_n 1, 1) := dk_27 (dk_at dksX2_book_1 16 rfl rfl)
theorem dX2_book_41 : decode cX2_book 41 = .ok (.iload_n 2, 1) := dk_28 (dk_at dksX2_book_1 17 rfl rfl)
theorem dX2_book_42 : decode cX2_book 42 = .ok (.invokevirtual 369, 3) := dk_182 1 113 (dk_at dksX2_book_1 18 rfl rfl)
theorem dX2_book_45 : decode cX2_book 45 = .ok (.goto 5, 3) := dk_167 0 5 (dk_at dksX2_book_1 21 rfl rfl)
theorem dX2_book_48 : decode cX2_book 48 = .ok (.bipush (-2), 2) := dk_16 254 (dk_at dksX2_book_2 0 rfl rfl)
theorem dX2_book_50 : decode cX2_book 50 = .ok (.ireturn, 1) := dk_172 (dk_at dksX2_book_2 2 rfl rfl)
abbrev cX2_lineOf : ByteArray := prog_20_method_89_code
def yX2_lineOf : MethodName := ⟨RX2, "lineOf", "(II)I"⟩
def dkwX2_lineOf_2 : List UInt8 := [16, 64, 112, 167, 0, 9, 29, 16, 7, 112, 4, 100, 172]
abbrev dktX2_lineOf_2 : List UInt8 := dkwX2_lineOf_2 ++ []
def dkwX2_lineOf_1 : List UInt8 := [4, 160, 0, 14, 29, 17, 1, 192, 108, 16, 6, 112, 167, 0, 24, 28, 5, 160, 0, 13, 29, 16, 7, 108]
abbrev dktX2_lineOf_1 : List UInt8 := dkwX2_lineOf_1 ++ dktX2_lineOf_2
def dkwX2_lineOf_0 : List UInt8 := [42, 180, 0, 7, 17, 5, 145, 27, 96, 46, 62, 28, 154, 0, 11, 29, 17, 10, 128, 108, 167, 0, 40, 28]
abbrev dktX2_lineOf_0 : List UInt8 := dkwX2_lineOf_0 ++ dktX2_lineOf_1
theorem dksX2_lineOf_0 : cX2_lineOf.data.toList.drop 0 = dktX2_lineOf_0 := by decide +kernel
theorem dksX2_lineOf_1 : cX2_lineOf.data.toList.drop 24 = dktX2_lineOf_1 := dk_seg dksX2_lineOf_0 24 rfl rfl
theorem dksX2_lineOf_2 : cX2_lineOf.data.toList.drop 48 = dktX2_lineOf_2 := dk_seg dksX2_lineOf_1 24 rfl rfl
theorem dX2_lineOf_0 : decode cX2_lineOf 0 = .ok (.aload_n 0, 1) := dk_42 (dk_at dksX2_lineOf_0 0 rfl rfl)
theorem dX2_lineOf_1 : decode cX2_lineOf 1 = .ok (.getfield 7, 3) := dk_180 0 7 (dk_at dksX2_lineOf_0 1 rfl rfl)
theorem dX2_lineOf_4 : decode cX2_lineOf 4 = .ok (.sipush 1425, 3) := dk_17 5 145 (dk_at dksX2_lineOf_0 4 rfl rfl)
theorem dX2_lineOf_7 : decode cX2_lineOf 7 = .ok (.iload_n 1, 1) := dk_27 (dk_at dksX2_lineOf_0 7 rfl rfl)
theorem dX2_lineOf_8 : decode cX2_lineOf 8 = .ok (.iadd, 1) := dk_96 (dk_at dksX2_lineOf_0 8 rfl rfl)
theorem dX2_lineOf_9 : decode cX2_lineOf 9 = .ok (.iaload, 1) := dk_46 (dk_at dksX2_lineOf_0 9 rfl rfl)
theorem dX2_lineOf_10 : decode cX2_lineOf 10 = .ok (.istore_n 3, 1) := dk_62 (dk_at dksX2_lineOf_0 10 rfl rfl)
theorem dX2_lineOf_11 : decode cX2_lineOf 11 = .ok (.iload_n 2, 1) := dk_28 (dk_at dksX2_lineOf_0 11 rfl rfl)
theorem dX2_lineOf_12 : decode cX2_lineOf 12 = .ok (.ifCond .ne 11, 3) := dk_154 0 11 (dk_at dksX2_lineOf_0 12 rfl rfl)
theorem dX2_lineOf_15 : decode cX2_lineOf 15 = .ok (.iload_n 3, 1) := dk_29 (dk_at dksX2_lineOf_0 15 rfl rfl)
theorem dX2_lineOf_16 : decode cX2_lineOf 16 = .ok (.sipush 2688, 3) := dk_17 10 128 (dk_at dksX2_lineOf_0 16 rfl rfl)
theorem dX2_lineOf_19 : decode cX2_lineOf 19 = .ok (.idiv, 1) := dk_108 (dk_at dksX2_lineOf_0 19 rfl rfl)
theorem dX2_lineOf_20 : decode cX2_lineOf 20 = .ok (.goto 40, 3) := dk_167 0 40 (dk_at dksX2_lineOf_0 20 rfl rfl)
theorem dX2_lineOf_23 : decode cX2_lineOf 23 = .ok (.iload_n 2, 1) := dk_28 (dk_at dksX2_lineOf_0 23 rfl rfl)
theorem dX2_lineOf_24 : decode cX2_lineOf 24 = .ok (.iconst 1, 1) := dk_4 (dk_at dksX2_lineOf_1 0 rfl rfl)
theorem dX2_lineOf_25 : decode cX2_lineOf 25 = .ok (.if_icmp .ne 14, 3) := dk_160 0 14 (dk_at dksX2_lineOf_1 1 rfl rfl)
theorem dX2_lineOf_28 : decode cX2_lineOf 28 = .ok (.iload_n 3, 1) := dk_29 (dk_at dksX2_lineOf_1 4 rfl rfl)
theorem dX2_lineOf_29 : decode cX2_lineOf 29 = .ok (.sipush 448, 3) := dk_17 1 192 (dk_at dksX2_lineOf_1 5 rfl rfl)
theorem dX2_lineOf_32 : decode cX2_lineOf 32 = .ok (.idiv, 1) := dk_108 (dk_at dksX2_lineOf_1 8 rfl rfl)
theorem dX2_lineOf_33 : decode cX2_lineOf 33 = .ok (.bipush 6, 2) := dk_16 6 (dk_at dksX2_lineOf_1 9 rfl rfl)
theorem dX2_lineOf_35 : decode cX2_lineOf 35 = .ok (.irem, 1) := dk_112 (dk_at dksX2_lineOf_1 11 rfl rfl)
theorem dX2_lineOf_36 : decode cX2_lineOf 36 = .ok (.goto 24, 3) := dk_167 0 24 (dk_at dksX2_lineOf_1 12 rfl rfl)
theorem dX2_lineOf_39 : decode cX2_lineOf 39 = .ok (.iload_n 2, 1) := dk_28 (dk_at dksX2_lineOf_1 15 rfl rfl)
theorem dX2_lineOf_40 : decode cX2_lineOf 40 = .ok (.iconst 2, 1) := dk_5 (dk_at dksX2_lineOf_1 16 rfl rfl)
theorem dX2_lineOf_41 : decode cX2_lineOf 41 = .ok (.if_icmp .ne 13, 3) := dk_160 0 13 (dk_at dksX2_lineOf_1 17 rfl rfl)
theorem dX2_lineOf_44 : decode cX2_lineOf 44 = .ok (.iload_n 3, 1) := dk_29 (dk_at dksX2_lineOf_1 20 rfl rfl)
theorem dX2_lineOf_45 : decode cX2_lineOf 45 = .ok (.bipush 7, 2) := dk_16 7 (dk_at dksX2_lineOf_1 21 rfl rfl)
theorem dX2_lineOf_47 : decode cX2_lineOf 47 = .ok (.idiv, 1) := dk_108 (dk_at dksX2_lineOf_1 23 rfl rfl)
theorem dX2_lineOf_48 : decode cX2_lineOf 48 = .ok (.bipush 64, 2) := dk_16 64 (dk_at dksX2_lineOf_2 0 rfl rfl)
theorem dX2_lineOf_50 : decode cX2_lineOf 50 = .ok (.irem, 1) := dk_112 (dk_at dksX2_lineOf_2 2 rfl rfl)
theorem dX2_lineOf_51 : decode cX2_lineOf 51 = .ok (.goto 9, 3) := dk_167 0 9 (dk_at dksX2_lineOf_2 3 rfl rfl)
theorem dX2_lineOf_54 : decode cX2_lineOf 54 = .ok (.iload_n 3, 1) := dk_29 (dk_at dksX2_lineOf_2 6 rfl rfl)
theorem dX2_lineOf_55 : decode cX2_lineOf 55 = .ok (.bipush 7, 2) := dk_16 7 (dk_at dksX2_lineOf_2 7 rfl rfl)
theorem dX2_lineOf_57 : decode cX2_lineOf 57 = .ok (.irem, 1) := dk_112 (dk_at dksX2_lineOf_2 9 rfl rfl)
theorem dX2_lineOf_58 : decode cX2_lineOf 58 = .ok (.iconst 1, 1) := dk_4 (dk_at dksX2_lineOf_2 10 rfl rfl)
theorem dX2_lineOf_59 : decode cX2_lineOf 59 = .ok (.isub, 1) := dk_100 (dk_at dksX2_lineOf_2 11 rfl rfl)
theorem dX2_lineOf_60 : decode cX2_lineOf 60 = .ok (.ireturn, 1) := dk_172 (dk_at dksX2_lineOf_2 12 rfl rfl)
abbrev cX2_ledger : ByteArray := prog_20_method_91_code
def yX2_ledger : MethodName := ⟨RX2, "ledger", "(I)I"⟩
def dkwX2_ledger_2 : List UInt8 := [160, 0, 7, 4, 167, 0, 4, 3, 96, 61, 132, 3, 1, 167, 255, 219, 28, 172]
abbrev dktX2_ledger_2 : List UInt8 := dkwX2_ledger_2 ++ []
def dkwX2_ledger_1 : List UInt8 := [180, 0, 7, 16, 9, 46, 162, 0, 32, 28, 27, 2, 159, 0, 13, 42, 29, 4, 182, 1, 113, 27]
abbrev dktX2_ledger_1 : List UInt8 := dkwX2_ledger_1 ++ dktX2_ledger_2
def dkwX2_ledger_0 : List UInt8 := [27, 2, 159, 0, 14, 42, 27, 182, 0, 92, 154, 0, 6, 16, 254, 172, 3, 61, 3, 62, 29, 42]
abbrev dktX2_ledger_0 : List UInt8 := dkwX2_ledger_0 ++ dktX2_ledger_1
theorem dksX2_ledger_0 : cX2_ledger.data.toList.drop 0 = dktX2_ledger_0 := by decide +kernel
theorem dksX2_ledger_1 : cX2_ledger.data.toList.drop 22 = dktX2_ledger_1 := dk_seg dksX2_ledger_0 22 rfl rfl
theorem dksX2_ledger_2 : cX2_ledger.data.toList.drop 44 = dktX2_ledger_2 := dk_seg dksX2_ledger_1 22 rfl rfl
theorem dX2_ledger_0 : decode cX2_ledger 0 = .ok (.iload_n 1, 1) := dk_27 (dk_at dksX2_ledger_0 0 rfl rfl)
theorem dX2_ledger_1 : decode cX2_ledger 1 = .ok (.iconst (-1), 1) := dk_2 (dk_at dksX2_ledger_0 1 rfl rfl)
theorem dX2_ledger_2 : decode cX2_ledger 2 = .ok (.if_icmp .eq 14, 3) := dk_159 0 14 (dk_at dksX2_ledger_0 2 rfl rfl)
theorem dX2_ledger_5 : decode cX2_ledger 5 = .ok (.aload_n 0, 1) := dk_42 (dk_at dksX2_ledger_0 5 rfl rfl)
theorem dX2_ledger_6 : decode cX2_ledger 6 = .ok (.iload_n 1, 1) := dk_27 (dk_at dksX2_ledger_0 6 rfl rfl)
theorem dX2_ledger_7 : decode cX2_ledger 7 = .ok (.invokevirtual 92, 3) := dk_182 0 92 (dk_at dksX2_ledger_0 7 rfl rfl)
theorem dX2_ledger_10 : decode cX2_ledger 10 = .ok (.ifCond .ne 6, 3) := dk_154 0 6 (dk_at dksX2_ledger_0 10 rfl rfl)
theorem dX2_ledger_13 : decode cX2_ledger 13 = .ok (.bipush (-2), 2) := dk_16 254 (dk_at dksX2_ledger_0 13 rfl rfl)
theorem dX2_ledger_15 : decode cX2_ledger 15 = .ok (.ireturn, 1) := dk_172 (dk_at dksX2_ledger_0 15 rfl rfl)
theorem dX2_ledger_16 : decode cX2_ledger 16 = .ok (.iconst 0, 1) := dk_3 (dk_at dksX2_ledger_0 16 rfl rfl)
theorem dX2_ledger_17 : decode cX2_ledger 17 = .ok (.istore_n 2, 1) := dk_61 (dk_at dksX2_ledger_0 17 rfl rfl)
theorem dX2_ledger_18 : decode cX2_ledger 18 = .ok (.iconst 0, 1) := dk_3 (dk_at dksX2_ledger_0 18 rfl rfl)
theorem dX2_ledger_19 : decode cX2_ledger 19 = .ok (.istore_n 3, 1) := dk_62 (dk_at dksX2_ledger_0 19 rfl rfl)
theorem dX2_ledger_20 : decode cX2_ledger 20 = .ok (.iload_n 3, 1) := dk_29 (dk_at dksX2_ledger_0 20 rfl rfl)
theorem dX2_ledger_21 : decode cX2_ledger 21 = .ok (.aload_n 0, 1) := dk_42 (dk_at dksX2_ledger_0 21 rfl rfl)
theorem dX2_ledger_22 : decode cX2_ledger 22 = .ok (.getfield 7, 3) := dk_180 0 7 (dk_at dksX2_ledger_1 0 rfl rfl)
theorem dX2_ledger_25 : decode cX2_ledger 25 = .ok (.bipush 9, 2) := dk_16 9 (dk_at dksX2_ledger_1 3 rfl rfl)
theorem dX2_ledger_27 : decode cX2_ledger 27 = .ok (.iaload, 1) := dk_46 (dk_at dksX2_ledger_1 5 rfl rfl)
theorem dX2_ledger_28 : decode cX2_ledger 28 = .ok (.if_icmp .ge 32, 3) := dk_162 0 32 (dk_at dksX2_ledger_1 6 rfl rfl)
theorem dX2_ledger_31 : decode cX2_ledger 31 = .ok (.iload_n 2, 1) := dk_28 (dk_at dksX2_ledger_1 9 rfl rfl)
theorem dX2_ledger_32 : decode cX2_ledger 32 = .ok (.iload_n 1, 1) := dk_27 (dk_at dksX2_ledger_1 10 rfl rfl)
theorem dX2_ledger_33 : decode cX2_ledger 33 = .ok (.iconst (-1), 1) := dk_2 (dk_at dksX2_ledger_1 11 rfl rfl)
theorem dX2_ledger_34 : decode cX2_ledger 34 = .ok (.if_icmp .eq 13, 3) := dk_159 0 13 (dk_at dksX2_ledger_1 12 rfl rfl)
theorem dX2_ledger_37 : decode cX2_ledger 37 = .ok (.aload_n 0, 1) := dk_42 (dk_at dksX2_ledger_1 15 rfl rfl)
theorem dX2_ledger_38 : decode cX2_ledger 38 = .ok (.iload_n 3, 1) := dk_29 (dk_at dksX2_ledger_1 16 rfl rfl)
theorem dX2_ledger_39 : decode cX2_ledger 39 = .ok (.iconst 1, 1) := dk_4 (dk_at dksX2_ledger_1 17 rfl rfl)
theorem dX2_ledger_40 : decode cX2_ledger 40 = .ok (.invokevirtual 369, 3) := dk_182 1 113 (dk_at dksX2_ledger_1 18 rfl rfl)
theorem dX2_ledger_43 : decode cX2_ledger 43 = .ok (.iload_n 1, 1) := dk_27 (dk_at dksX2_ledger_1 21 rfl rfl)
theorem dX2_ledger_44 : decode cX2_ledger 44 = .ok (.if_icmp .ne 7, 3) := dk_160 0 7 (dk_at dksX2_ledger_2 0 rfl rfl)
theorem dX2_ledger_47 : decode cX2_ledger 47 = .ok (.iconst 1, 1) := dk_4 (dk_at dksX2_ledger_2 3 rfl rfl)
theorem dX2_ledger_48 : decode cX2_ledger 48 = .ok (.goto 4, 3) := dk_167 0 4 (dk_at dksX2_ledger_2 4 rfl rfl)
theorem dX2_ledger_51 : decode cX2_ledger 51 = .ok (.iconst 0, 1) := dk_3 (dk_at dksX2_ledger_2 7 rfl rfl)
theorem dX2_ledger_52 : decode cX2_ledger 52 = .ok (.iadd, 1) := dk_96 (dk_at dksX2_ledger_2 8 rfl rfl)
theorem dX2_ledger_53 : decode cX2_ledger 53 = .ok (.istore_n 2, 1) := dk_61 (dk_at dksX2_ledger_2 9 rfl rfl)
theorem dX2_ledger_54 : decode cX2_ledger 54 = .ok (.iinc 3 1, 3) := dk_132 3 1 (dk_at dksX2_ledger_2 10 rfl rfl)
theorem dX2_ledger_57 : decode cX2_ledger 57 = .ok (.goto (-37), 3) := dk_167 255 219 (dk_at dksX2_ledger_2 13 rfl rfl)
theorem dX2_ledger_60 : decode cX2_ledger 60 = .ok (.iload_n 2, 1) := dk_28 (dk_at dksX2_ledger_2 16 rfl rfl)
theorem dX2_ledger_61 : decode cX2_ledger 61 = .ok (.ireturn, 1) := dk_172 (dk_at dksX2_ledger_2 17 rfl rfl)
abbrev cX2_fullest : ByteArray := prog_20_method_92_code
def yX2_fullest : MethodName := ⟨RX2, "fullest", "()I"⟩
def dkwX2_fullest_2 : List UInt8 := [132, 2, 1, 167, 255, 211, 27, 172]
abbrev dktX2_fullest_2 : List UInt8 := dkwX2_fullest_2 ++ []
def dkwX2_fullest_1 : List UInt8 := [2, 160, 0, 7, 3, 167, 0, 12, 42, 180, 0, 7, 16, 11, 27, 96, 46, 164, 0, 5, 28, 60]
abbrev dktX2_fullest_1 : List UInt8 := dkwX2_fullest_1 ++ dktX2_fullest_2
def dkwX2_fullest_0 : List UInt8 := [2, 60, 3, 61, 28, 42, 180, 0, 7, 3, 46, 162, 0, 41, 42, 180, 0, 7, 16, 11, 28, 96, 46, 27]
abbrev dktX2_fullest_0 : List UInt8 := dkwX2_fullest_0 ++ dktX2_fullest_1
theorem dksX2_fullest_0 : cX2_fullest.data.toList.drop 0 = dktX2_fullest_0 := by decide +kernel
theorem dksX2_fullest_1 : cX2_fullest.data.toList.drop 24 = dktX2_fullest_1 := dk_seg dksX2_fullest_0 24 rfl rfl
theorem dksX2_fullest_2 : cX2_fullest.data.toList.drop 46 = dktX2_fullest_2 := dk_seg dksX2_fullest_1 22 rfl rfl
theorem dX2_fullest_0 : decode cX2_fullest 0 = .ok (.iconst (-1), 1) := dk_2 (dk_at dksX2_fullest_0 0 rfl rfl)
theorem dX2_fullest_1 : decode cX2_fullest 1 = .ok (.istore_n 1, 1) := dk_60 (dk_at dksX2_fullest_0 1 rfl rfl)
theorem dX2_fullest_2 : decode cX2_fullest 2 = .ok (.iconst 0, 1) := dk_3 (dk_at dksX2_fullest_0 2 rfl rfl)
theorem dX2_fullest_3 : decode cX2_fullest 3 = .ok (.istore_n 2, 1) := dk_61 (dk_at dksX2_fullest_0 3 rfl rfl)
theorem dX2_fullest_4 : decode cX2_fullest 4 = .ok (.iload_n 2, 1) := dk_28 (dk_at dksX2_fullest_0 4 rfl rfl)
theorem dX2_fullest_5 : decode cX2_fullest 5 = .ok (.aload_n 0, 1) := dk_42 (dk_at dksX2_fullest_0 5 rfl rfl)
theorem dX2_fullest_6 : decode cX2_fullest 6 = .ok (.getfield 7, 3) := dk_180 0 7 (dk_at dksX2_fullest_0 6 rfl rfl)
theorem dX2_fullest_9 : decode cX2_fullest 9 = .ok (.iconst 0, 1) := dk_3 (dk_at dksX2_fullest_0 9 rfl rfl)
theorem dX2_fullest_10 : decode cX2_fullest 10 = .ok (.iaload, 1) := dk_46 (dk_at dksX2_fullest_0 10 rfl rfl)
theorem dX2_fullest_11 : decode cX2_fullest 11 = .ok (.if_icmp .ge 41, 3) := dk_162 0 41 (dk_at dksX2_fullest_0 11 rfl rfl)
theorem dX2_fullest_14 : decode cX2_fullest 14 = .ok (.aload_n 0, 1) := dk_42 (dk_at dksX2_fullest_0 14 rfl rfl)
theorem dX2_fullest_15 : decode cX2_fullest 15 = .ok (.getfield 7, 3) := dk_180 0 7 (dk_at dksX2_fullest_0 15 rfl rfl)
theorem dX2_fullest_18 : decode cX2_fullest 18 = .ok (.bipush 11, 2) := dk_16 11 (dk_at dksX2_fullest_0 18 rfl rfl)
theorem dX2_fullest_20 : decode cX2_fullest 20 = .ok (.iload_n 2, 1) := dk_28 (dk_at dksX2_fullest_0 20 rfl rfl)
theorem dX2_fullest_21 : decode cX2_fullest 21 = .ok (.iadd, 1) := dk_96 (dk_at dksX2_fullest_0 21 rfl rfl)
theorem dX2_fullest_22 : decode cX2_fullest 22 = .ok (.iaload, 1) := dk_46 (dk_at dksX2_fullest_0 22 rfl rfl)
theorem dX2_fullest_23 : decode cX2_fullest 23 = .ok (.iload_n 1, 1) := dk_27 (dk_at dksX2_fullest_0 23 rfl rfl)
theorem dX2_fullest_24 : decode cX2_fullest 24 = .ok (.iconst (-1), 1) := dk_2 (dk_at dksX2_fullest_1 0 rfl rfl)
theorem dX2_fullest_25 : decode cX2_fullest 25 = .ok (.if_icmp .ne 7, 3) := dk_160 0 7 (dk_at dksX2_fullest_1 1 rfl rfl)
theorem dX2_fullest_28 : decode cX2_fullest 28 = .ok (.iconst 0, 1) := dk_3 (dk_at dksX2_fullest_1 4 rfl rfl)
theorem dX2_fullest_29 : decode cX2_fullest 29 = .ok (.goto 12, 3) := dk_167 0 12 (dk_at dksX2_fullest_1 5 rfl rfl)
theorem dX2_fullest_32 : decode cX2_fullest 32 = .ok (.aload_n 0, 1) := dk_42 (dk_at dksX2_fullest_1 8 rfl rfl)
theorem dX2_fullest_33 : decode cX2_fullest 33 = .ok (.getfield 7, 3) := dk_180 0 7 (dk_at dksX2_fullest_1 9 rfl rfl)
theorem dX2_fullest_36 : decode cX2_fullest 36 = .ok (.bipush 11, 2) := dk_16 11 (dk_at dksX2_fullest_1 12 rfl rfl)
theorem dX2_fullest_38 : decode cX2_fullest 38 = .ok (.iload_n 1, 1) := dk_27 (dk_at dksX2_fullest_1 14 rfl rfl)
theorem dX2_fullest_39 : decode cX2_fullest 39 = .ok (.iadd, 1) := dk_96 (dk_at dksX2_fullest_1 15 rfl rfl)
theorem dX2_fullest_40 : decode cX2_fullest 40 = .ok (.iaload, 1) := dk_46 (dk_at dksX2_fullest_1 16 rfl rfl)
theorem dX2_fullest_41 : decode cX2_fullest 41 = .ok (.if_icmp .le 5, 3) := dk_164 0 5 (dk_at dksX2_fullest_1 17 rfl rfl)
theorem dX2_fullest_44 : decode cX2_fullest 44 = .ok (.iload_n 2, 1) := dk_28 (dk_at dksX2_fullest_1 20 rfl rfl)
theorem dX2_fullest_45 : decode cX2_fullest 45 = .ok (.istore_n 1, 1) := dk_60 (dk_at dksX2_fullest_1 21 rfl rfl)
theorem dX2_fullest_46 : decode cX2_fullest 46 = .ok (.iinc 2 1, 3) := dk_132 2 1 (dk_at dksX2_fullest_2 0 rfl rfl)
theorem dX2_fullest_49 : decode cX2_fullest 49 = .ok (.goto (-45), 3) := dk_167 255 211 (dk_at dksX2_fullest_2 3 rfl rfl)
theorem dX2_fullest_52 : decode cX2_fullest 52 = .ok (.iload_n 1, 1) := dk_27 (dk_at dksX2_fullest_2 6 rfl rfl)
theorem dX2_fullest_53 : decode cX2_fullest 53 = .ok (.ireturn, 1) := dk_172 (dk_at dksX2_fullest_2 7 rfl rfl)
abbrev cX2_calm : ByteArray := prog_20_method_93_code
def yX2_calm : MethodName := ⟨RX2, "calm", "()I"⟩
def dkwX2_calm_1 : List UInt8 := [154, 0, 9, 4, 28, 120, 167, 0, 4, 3, 128, 60, 132, 2, 1, 167, 255, 221, 27, 172]
abbrev dktX2_calm_1 : List UInt8 := dkwX2_calm_1 ++ []
def dkwX2_calm_0 : List UInt8 := [3, 60, 3, 61, 28, 42, 180, 0, 7, 3, 46, 162, 0, 31, 27, 42, 180, 0, 7, 16, 11, 28, 96, 46]
abbrev dktX2_calm_0 : List UInt8 := dkwX2_calm_0 ++ dktX2_calm_1
theorem dksX2_calm_0 : cX2_calm.data.toList.drop 0 = dktX2_calm_0 := by decide +kernel
theorem dksX2_calm_1 : cX2_calm.data.toList.drop 24 = dktX2_calm_1 := dk_seg dksX2_calm_0 24 rfl rfl
theorem dX2_calm_0 : decode cX2_calm 0 = .ok (.iconst 0, 1) := dk_3 (dk_at dksX2_calm_0 0 rfl rfl)
theorem dX2_calm_1 : decode cX2_calm 1 = .ok (.istore_n 1, 1) := dk_60 (dk_at dksX2_calm_0 1 rfl rfl)
theorem dX2_calm_2 : decode cX2_calm 2 = .ok (.iconst 0, 1) := dk_3 (dk_at dksX2_calm_0 2 rfl rfl)
theorem dX2_calm_3 : decode cX2_calm 3 = .ok (.istore_n 2, 1) := dk_61 (dk_at dksX2_calm_0 3 rfl rfl)
theorem dX2_calm_4 : decode cX2_calm 4 = .ok (.iload_n 2, 1) := dk_28 (dk_at dksX2_calm_0 4 rfl rfl)
theorem dX2_calm_5 : decode cX2_calm 5 = .ok (.aload_n 0, 1) := dk_42 (dk_at dksX2_calm_0 5 rfl rfl)
theorem dX2_calm_6 : decode cX2_calm 6 = .ok (.getfield 7, 3) := dk_180 0 7 (dk_at dksX2_calm_0 6 rfl rfl)
theorem dX2_calm_9 : decode cX2_calm 9 = .ok (.iconst 0, 1) := dk_3 (dk_at dksX2_calm_0 9 rfl rfl)
theorem dX2_calm_10 : decode cX2_calm 10 = .ok (.iaload, 1) := dk_46 (dk_at dksX2_calm_0 10 rfl rfl)
theorem dX2_calm_11 : decode cX2_calm 11 = .ok (.if_icmp .ge 31, 3) := dk_162 0 31 (dk_at dksX2_calm_0 11 rfl rfl)
theorem dX2_calm_14 : decode cX2_calm 14 = .ok (.iload_n 1, 1) := dk_27 (dk_at dksX2_calm_0 14 rfl rfl)
theorem dX2_calm_15 : decode cX2_calm 15 = .ok (.aload_n 0, 1) := dk_42 (dk_at dksX2_calm_0 15 rfl rfl)
theorem dX2_calm_16 : decode cX2_calm 16 = .ok (.getfield 7, 3) := dk_180 0 7 (dk_at dksX2_calm_0 16 rfl rfl)
theorem dX2_calm_19 : decode cX2_calm 19 = .ok (.bipush 11, 2) := dk_16 11 (dk_at dksX2_calm_0 19 rfl rfl)
theorem dX2_calm_21 : decode cX2_calm 21 = .ok (.iload_n 2, 1) := dk_28 (dk_at dksX2_calm_0 21 rfl rfl)
theorem dX2_calm_22 : decode cX2_calm 22 = .ok (.iadd, 1) := dk_96 (dk_at dksX2_calm_0 22 rfl rfl)
theorem dX2_calm_23 : decode cX2_calm 23 = .ok (.iaload, 1) := dk_46 (dk_at dksX2_calm_0 23 rfl rfl)
theorem dX2_calm_24 : decode cX2_calm 24 = .ok (.ifCond .ne 9, 3) := dk_154 0 9 (dk_at dksX2_calm_1 0 rfl rfl)
theorem dX2_calm_27 : decode cX2_calm 27 = .ok (.iconst 1, 1) := dk_4 (dk_at dksX2_calm_1 3 rfl rfl)
theorem dX2_calm_28 : decode cX2_calm 28 = .ok (.iload_n 2, 1) := dk_28 (dk_at dksX2_calm_1 4 rfl rfl)
theorem dX2_calm_29 : decode cX2_calm 29 = .ok (.ishl, 1) := dk_120 (dk_at dksX2_calm_1 5 rfl rfl)
theorem dX2_calm_30 : decode cX2_calm 30 = .ok (.goto 4, 3) := dk_167 0 4 (dk_at dksX2_calm_1 6 rfl rfl)
theorem dX2_calm_33 : decode cX2_calm 33 = .ok (.iconst 0, 1) := dk_3 (dk_at dksX2_calm_1 9 rfl rfl)
theorem dX2_calm_34 : decode cX2_calm 34 = .ok (.ior, 1) := dk_128 (dk_at dksX2_calm_1 10 rfl rfl)
theorem dX2_calm_35 : decode cX2_calm 35 = .ok (.istore_n 1, 1) := dk_60 (dk_at dksX2_calm_1 11 rfl rfl)
theorem dX2_calm_36 : decode cX2_calm 36 = .ok (.iinc 2 1, 3) := dk_132 2 1 (dk_at dksX2_calm_1 12 rfl rfl)
theorem dX2_calm_39 : decode cX2_calm 39 = .ok (.goto (-35), 3) := dk_167 255 221 (dk_at dksX2_calm_1 15 rfl rfl)
theorem dX2_calm_42 : decode cX2_calm 42 = .ok (.iload_n 1, 1) := dk_27 (dk_at dksX2_calm_1 18 rfl rfl)
theorem dX2_calm_43 : decode cX2_calm 43 = .ok (.ireturn, 1) := dk_172 (dk_at dksX2_calm_1 19 rfl rfl)
abbrev cX2_foretold : ByteArray := prog_20_method_94_code
def yX2_foretold : MethodName := ⟨RX2, "foretold", "(II)I"⟩
def dkwX2_foretold_5 : List UInt8 := [167, 255, 232, 42, 4, 181, 0, 43, 29, 172]
abbrev dktX2_foretold_5 : List UInt8 := dkwX2_foretold_5 ++ []
def dkwX2_foretold_4 : List UInt8 := [21, 4, 16, 23, 162, 0, 23, 42, 180, 0, 7, 21, 4, 42, 180, 0, 47, 21, 4, 46, 79, 132, 4, 1]
abbrev dktX2_foretold_4 : List UInt8 := dkwX2_foretold_4 ++ dktX2_foretold_5
def dkwX2_foretold_3 : List UInt8 := [42, 182, 1, 86, 132, 3, 1, 167, 255, 231, 42, 180, 0, 7, 16, 11, 28, 96, 46, 62, 16, 7, 54, 4]
abbrev dktX2_foretold_3 : List UInt8 := dkwX2_foretold_3 ++ dktX2_foretold_4
def dkwX2_foretold_2 : List UInt8 := [3, 181, 0, 43, 3, 62, 29, 27, 162, 0, 26, 42, 180, 0, 7, 16, 7, 46, 17, 39, 15, 162, 0, 7]
abbrev dktX2_foretold_2 : List UInt8 := dkwX2_foretold_2 ++ dktX2_foretold_3
def dkwX2_foretold_1 : List UInt8 := [16, 23, 162, 0, 21, 42, 180, 0, 47, 29, 42, 180, 0, 7, 29, 46, 79, 132, 3, 1, 167, 255, 235, 42]
abbrev dktX2_foretold_1 : List UInt8 := dkwX2_foretold_1 ++ dktX2_foretold_2
def dkwX2_foretold_0 : List UInt8 := [27, 4, 16, 60, 184, 0, 72, 153, 0, 11, 42, 28, 182, 0, 92, 154, 0, 5, 2, 172, 16, 7, 62, 29]
abbrev dktX2_foretold_0 : List UInt8 := dkwX2_foretold_0 ++ dktX2_foretold_1
theorem dksX2_foretold_0 : cX2_foretold.data.toList.drop 0 = dktX2_foretold_0 := by decide +kernel
theorem dksX2_foretold_1 : cX2_foretold.data.toList.drop 24 = dktX2_foretold_1 := dk_seg dksX2_foretold_0 24 rfl rfl
theorem dksX2_foretold_2 : cX2_foretold.data.toList.drop 48 = dktX2_foretold_2 := dk_seg dksX2_foretold_1 24 rfl rfl
theorem dksX2_foretold_3 : cX2_foretold.data.toList.drop 72 = dktX2_foretold_3 := dk_seg dksX2_foretold_2 24 rfl rfl
theorem dksX2_foretold_4 : cX2_foretold.data.toList.drop 96 = dktX2_foretold_4 := dk_seg dksX2_foretold_3 24 rfl rfl
theorem dksX2_foretold_5 : cX2_foretold.data.toList.drop 120 = dktX2_foretold_5 := dk_seg dksX2_foretold_4 24 rfl rfl
theorem dX2_foretold_0 : decode cX2_foretold 0 = .ok (.iload_n 1, 1) := dk_27 (dk_at dksX2_foretold_0 0 rfl rfl)
theorem dX2_foretold_1 : decode cX2_foretold 1 = .ok (.iconst 1, 1) := dk_4 (dk_at dksX2_foretold_0 1 rfl rfl)
theorem dX2_foretold_2 : decode cX2_foretold 2 = .ok (.bipush 60, 2) := dk_16 60 (dk_at dksX2_foretold_0 2 rfl rfl)
theorem dX2_foretold_4 : decode cX2_foretold 4 = .ok (.invokestatic 72, 3) := dk_184 0 72 (dk_at dksX2_foretold_0 4 rfl rfl)
theorem dX2_foretold_7 : decode cX2_foretold 7 = .ok (.ifCond .eq 11, 3) := dk_153 0 11 (dk_at dksX2_foretold_0 7 rfl rfl)
theorem dX2_foretold_10 : decode cX2_foretold 10 = .ok (.aload_n 0, 1) := dk_42 (dk_at dksX2_foretold_0 10 rfl rfl)
theorem dX2_foretold_11 : decode cX2_foretold 11 = .ok (.iload_n 2, 1) := dk_28 (dk_at dksX2_foretold_0 11 rfl rfl)
theorem dX2_foretold_12 : decode cX2_foretold 12 = .ok (.invokevirtual 92, 3) := dk_182 0 92 (dk_at dksX2_foretold_0 12 rfl rfl)
theorem dX2_foretold_15 : decode cX2_foretold 15 = .ok (.ifCond .ne 5, 3) := dk_154 0 5 (dk_at dksX2_foretold_0 15 rfl rfl)
theorem dX2_foretold_18 : decode cX2_foretold 18 = .ok (.iconst (-1), 1) := dk_2 (dk_at dksX2_foretold_0 18 rfl rfl)
theorem dX2_foretold_19 : decode cX2_foretold 19 = .ok (.ireturn, 1) := dk_172 (dk_at dksX2_foretold_0 19 rfl rfl)
theorem dX2_foretold_20 : decode cX2_foretold 20 = .ok (.bipush 7, 2) := dk_16 7 (dk_at dksX2_foretold_0 20 rfl rfl)
theorem dX2_foretold_22 : decode cX2_foretold 22 = .ok (.istore_n 3, 1) := dk_62 (dk_at dksX2_foretold_0 22 rfl rfl)
theorem dX2_foretold_23 : decode cX2_foretold 23 = .ok (.iload_n 3, 1) := dk_29 (dk_at dksX2_foretold_0 23 rfl rfl)
theorem dX2_foretold_24 : decode cX2_foretold 24 = .ok (.bipush 23, 2) := dk_16 23 (dk_at dksX2_foretold_1 0 rfl rfl)
theorem dX2_foretold_26 : decode cX2_foretold 26 = .ok (.if_icmp .ge 21, 3) := dk_162 0 21 (dk_at dksX2_foretold_1 2 rfl rfl)
theorem dX2_foretold_29 : decode cX2_foretold 29 = .ok (.aload_n 0, 1) := dk_42 (dk_at dksX2_foretold_1 5 rfl rfl)
theorem dX2_foretold_30 : decode cX2_foretold 30 = .ok (.getfield 47, 3) := dk_180 0 47 (dk_at dksX2_foretold_1 6 rfl rfl)
theorem dX2_foretold_33 : decode cX2_foretold 33 = .ok (.iload_n 3, 1) := dk_29 (dk_at dksX2_foretold_1 9 rfl rfl)
theorem dX2_foretold_34 : decode cX2_foretold 34 = .ok (.aload_n 0, 1) := dk_42 (dk_at dksX2_foretold_1 10 rfl rfl)
theorem dX2_foretold_35 : decode cX2_foretold 35 = .ok (.getfield 7, 3) := dk_180 0 7 (dk_at dksX2_foretold_1 11 rfl rfl)
theorem dX2_foretold_38 : decode cX2_foretold 38 = .ok (.iload_n 3, 1) := dk_29 (dk_at dksX2_foretold_1 14 rfl rfl)
theorem dX2_foretold_39 : decode cX2_foretold 39 = .ok (.iaload, 1) := dk_46 (dk_at dksX2_foretold_1 15 rfl rfl)
theorem dX2_foretold_40 : decode cX2_foretold 40 = .ok (.iastore, 1) := dk_79 (dk_at dksX2_foretold_1 16 rfl rfl)
theorem dX2_foretold_41 : decode cX2_foretold 41 = .ok (.iinc 3 1, 3) := dk_132 3 1 (dk_at dksX2_foretold_1 17 rfl rfl)
theorem dX2_foretold_44 : decode cX2_foretold 44 = .ok (.goto (-21), 3) := dk_167 255 235 (dk_at dksX2_foretold_1 20 rfl rfl)
theorem dX2_foretold_47 : decode cX2_foretold 47 = .ok (.aload_n 0, 1) := dk_42 (dk_at dksX2_foretold_1 23 rfl rfl)
theorem dX2_foretold_48 : decode cX2_foretold 48 = .ok (.iconst 0, 1) := dk_3 (dk_at dksX2_foretold_2 0 rfl rfl)
theorem dX2_foretold_49 : decode cX2_foretold 49 = .ok (.putfield 43, 3) := dk_181 0 43 (dk_at dksX2_foretold_2 1 rfl rfl)
theorem dX2_foretold_52 : decode cX2_foretold 52 = .ok (.iconst 0, 1) := dk_3 (dk_at dksX2_foretold_2 4 rfl rfl)
theorem dX2_foretold_53 : decode cX2_foretold 53 = .ok (.istore_n 3, 1) := dk_62 (dk_at dksX2_foretold_2 5 rfl rfl)
theorem dX2_foretold_54 : decode cX2_foretold 54 = .ok (.iload_n 3, 1) := dk_29 (dk_at dksX2_foretold_2 6 rfl rfl)
theorem dX2_foretold_55 : decode cX2_foretold 55 = .ok (.iload_n 1, 1) := dk_27 (dk_at dksX2_foretold_2 7 rfl rfl)
theorem dX2_foretold_56 : decode cX2_foretold 56 = .ok (.if_icmp .ge 26, 3) := dk_162 0 26 (dk_at dksX2_foretold_2 8 rfl rfl)
theorem dX2_foretold_59 : decode cX2_foretold 59 = .ok (.aload_n 0, 1) := dk_42 (dk_at dksX2_foretold_2 11 rfl rfl)
theorem dX2_foretold_60 : decode cX2_foretold 60 = .ok (.getfield 7, 3) := dk_180 0 7 (dk_at dksX2_foretold_2 12 rfl rfl)
theorem dX2_foretold_63 : decode cX2_foretold 63 = .ok (.bipush 7, 2) := dk_16 7 (dk_at dksX2_foretold_2 15 rfl rfl)
theorem dX2_foretold_65 : decode cX2_foretold 65 = .ok (.iaload, 1) := dk_46 (dk_at dksX2_foretold_2 17 rfl rfl)
theorem dX2_foretold_66 : decode cX2_foretold 66 = .ok (.sipush 9999, 3) := dk_17 39 15 (dk_at dksX2_foretold_2 18 rfl rfl)
theorem dX2_foretold_69 : decode cX2_foretold 69 = .ok (.if_icmp .ge 7, 3) := dk_162 0 7 (dk_at dksX2_foretold_2 21 rfl rfl)
theorem dX2_foretold_72 : decode cX2_foretold 72 = .ok (.aload_n 0, 1) := dk_42 (dk_at dksX2_foretold_3 0 rfl rfl)
theorem dX2_foretold_73 : decode cX2_foretold 73 = .ok (.invokevirtual 342, 3) := dk_182 1 86 (dk_at dksX2_foretold_3 1 rfl rfl)
theorem dX2_foretold_76 : decode cX2_foretold 76 = .ok (.iinc 3 1, 3) := dk_132 3 1 (dk_at dksX2_foretold_3 4 rfl rfl)
theorem dX2_foretold_79 : decode cX2_foretold 79 = .ok (.goto (-25), 3) := dk_167 255 231 (dk_at dksX2_foretold_3 7 rfl rfl)
theorem dX2_foretold_82 : decode cX2_foretold 82 = .ok (.aload_n 0, 1) := dk_42 (dk_at dksX2_foretold_3 10 rfl rfl)
theorem dX2_foretold_83 : decode cX2_foretold 83 = .ok (.getfield 7, 3) := dk_180 0 7 (dk_at dksX2_foretold_3 11 rfl rfl)
theorem dX2_foretold_86 : decode cX2_foretold 86 = .ok (.bipush 11, 2) := dk_16 11 (dk_at dksX2_foretold_3 14 rfl rfl)
theorem dX2_foretold_88 : decode cX2_foretold 88 = .ok (.iload_n 2, 1) := dk_28 (dk_at dksX2_foretold_3 16 rfl rfl)
theorem dX2_foretold_89 : decode cX2_foretold 89 = .ok (.iadd, 1) := dk_96 (dk_at dksX2_foretold_3 17 rfl rfl)
theorem dX2_foretold_90 : decode cX2_foretold 90 = .ok (.iaload, 1) := dk_46 (dk_at dksX2_foretold_3 18 rfl rfl)
theorem dX2_foretold_91 : decode cX2_foretold 91 = .ok (.istore_n 3, 1) := dk_62 (dk_at dksX2_foretold_3 19 rfl rfl)
theorem dX2_foretold_92 : decode cX2_foretold 92 = .ok (.bipush 7, 2) := dk_16 7 (dk_at dksX2_foretold_3 20 rfl rfl)
theorem dX2_foretold_94 : decode cX2_foretold 94 = .ok (.istore 4, 2) := dk_54 4 (dk_at dksX2_foretold_3 22 rfl rfl)
theorem dX2_foretold_96 : decode cX2_foretold 96 = .ok (.iload 4, 2) := dk_21 4 (dk_at dksX2_foretold_4 0 rfl rfl)
theorem dX2_foretold_98 : decode cX2_foretold 98 = .ok (.bipush 23, 2) := dk_16 23 (dk_at dksX2_foretold_4 2 rfl rfl)
theorem dX2_foretold_100 : decode cX2_foretold 100 = .ok (.if_icmp .ge 23, 3) := dk_162 0 23 (dk_at dksX2_foretold_4 4 rfl rfl)
theorem dX2_foretold_103 : decode cX2_foretold 103 = .ok (.aload_n 0, 1) := dk_42 (dk_at dksX2_foretold_4 7 rfl rfl)
theorem dX2_foretold_104 : decode cX2_foretold 104 = .ok (.getfield 7, 3) := dk_180 0 7 (dk_at dksX2_foretold_4 8 rfl rfl)
theorem dX2_foretold_107 : decode cX2_foretold 107 = .ok (.iload 4, 2) := dk_21 4 (dk_at dksX2_foretold_4 11 rfl rfl)
theorem dX2_foretold_109 : decode cX2_foretold 109 = .ok (.aload_n 0, 1) := dk_42 (dk_at dksX2_foretold_4 13 rfl rfl)
theorem dX2_foretold_110 : decode cX2_foretold 110 = .ok (.getfield 47, 3) := dk_180 0 47 (dk_at dksX2_foretold_4 14 rfl rfl)
theorem dX2_foretold_113 : decode cX2_foretold 113 = .ok (.iload 4, 2) := dk_21 4 (dk_at dksX2_foretold_4 17 rfl rfl)
theorem dX2_foretold_115 : decode cX2_foretold 115 = .ok (.iaload, 1) := dk_46 (dk_at dksX2_foretold_4 19 rfl rfl)
theorem dX2_foretold_116 : decode cX2_foretold 116 = .ok (.iastore, 1) := dk_79 (dk_at dksX2_foretold_4 20 rfl rfl)
theorem dX2_foretold_117 : decode cX2_foretold 117 = .ok (.iinc 4 1, 3) := dk_132 4 1 (dk_at dksX2_foretold_4 21 rfl rfl)
theorem dX2_foretold_120 : decode cX2_foretold 120 = .ok (.goto (-24), 3) := dk_167 255 232 (dk_at dksX2_foretold_5 0 rfl rfl)
theorem dX2_foretold_123 : decode cX2_foretold 123 = .ok (.aload_n 0, 1) := dk_42 (dk_at dksX2_foretold_5 3 rfl rfl)
theorem dX2_foretold_124 : decode cX2_foretold 124 = .ok (.iconst 1, 1) := dk_4 (dk_at dksX2_foretold_5 4 rfl rfl)
theorem dX2_foretold_125 : decode cX2_foretold 125 = .ok (.putfield 43, 3) := dk_181 0 43 (dk_at dksX2_foretold_5 5 rfl rfl)
theorem dX2_foretold_128 : decode cX2_foretold 128 = .ok (.iload_n 3, 1) := dk_29 (dk_at dksX2_foretold_5 8 rfl rfl)
theorem dX2_foretold_129 : decode cX2_foretold 129 = .ok (.ireturn, 1) := dk_172 (dk_at dksX2_foretold_5 9 rfl rfl)
abbrev cX2_round : ByteArray := prog_20_method_100_code
def yX2_round : MethodName := ⟨RX2, "round", "(Z)I"⟩
def dkwX2_round_0 : List UInt8 := [42, 182, 1, 138, 27, 153, 0, 10, 42, 180, 1, 120, 167, 0, 7, 42, 180, 1, 126, 172]
abbrev dktX2_round_0 : List UInt8 := dkwX2_round_0 ++ []
theorem dksX2_round_0 : cX2_round.data.toList.drop 0 = dktX2_round_0 := by decide +kernel
theorem dX2_round_0 : decode cX2_round 0 = .ok (.aload_n 0, 1) := dk_42 (dk_at dksX2_round_0 0 rfl rfl)
theorem dX2_round_1 : decode cX2_round 1 = .ok (.invokevirtual 394, 3) := dk_182 1 138 (dk_at dksX2_round_0 1 rfl rfl)
theorem dX2_round_4 : decode cX2_round 4 = .ok (.iload_n 1, 1) := dk_27 (dk_at dksX2_round_0 4 rfl rfl)
theorem dX2_round_5 : decode cX2_round 5 = .ok (.ifCond .eq 10, 3) := dk_153 0 10 (dk_at dksX2_round_0 5 rfl rfl)
theorem dX2_round_8 : decode cX2_round 8 = .ok (.aload_n 0, 1) := dk_42 (dk_at dksX2_round_0 8 rfl rfl)
theorem dX2_round_9 : decode cX2_round 9 = .ok (.getfield 376, 3) := dk_180 1 120 (dk_at dksX2_round_0 9 rfl rfl)
theorem dX2_round_12 : decode cX2_round 12 = .ok (.goto 7, 3) := dk_167 0 7 (dk_at dksX2_round_0 12 rfl rfl)
theorem dX2_round_15 : decode cX2_round 15 = .ok (.aload_n 0, 1) := dk_42 (dk_at dksX2_round_0 15 rfl rfl)
theorem dX2_round_16 : decode cX2_round 16 = .ok (.getfield 382, 3) := dk_180 1 126 (dk_at dksX2_round_0 16 rfl rfl)
theorem dX2_round_19 : decode cX2_round 19 = .ok (.ireturn, 1) := dk_172 (dk_at dksX2_round_0 19 rfl rfl)
abbrev cX2_layBest : ByteArray := prog_20_method_99_code
def yX2_layBest : MethodName := ⟨RX2, "layBest", "()V"⟩
def dkwX2_layBest_7 : List UInt8 := [132, 1, 1, 167, 255, 137, 177]
abbrev dktX2_layBest_7 : List UInt8 := dkwX2_layBest_7 ++ []
def dkwX2_layBest_6 : List UInt8 := [46, 162, 0, 21, 42, 180, 0, 53, 29, 42, 180, 0, 50, 29, 46, 79, 132, 3, 1, 167, 255, 231]
abbrev dktX2_layBest_6 : List UInt8 := dkwX2_layBest_6 ++ dktX2_layBest_7
def dkwX2_layBest_5 : List UInt8 := [161, 0, 6, 167, 0, 43, 42, 28, 181, 1, 120, 42, 4, 181, 1, 123, 3, 62, 29, 42, 180, 0, 7, 3]
abbrev dktX2_layBest_5 : List UInt8 := dkwX2_layBest_5 ++ dktX2_layBest_6
def dkwX2_layBest_4 : List UInt8 := [28, 42, 180, 1, 120, 160, 0, 13, 42, 89, 180, 1, 123, 4, 96, 181, 1, 123, 28, 42, 180, 1, 120]
abbrev dktX2_layBest_4 : List UInt8 := dkwX2_layBest_4 ++ dktX2_layBest_5
def dkwX2_layBest_3 : List UInt8 := [182, 1, 135, 61, 42, 28, 42, 180, 1, 126, 164, 0, 7, 28, 167, 0, 7, 42, 180, 1, 126, 181, 1, 126]
abbrev dktX2_layBest_3 : List UInt8 := dkwX2_layBest_3 ++ dktX2_layBest_4
def dkwX2_layBest_2 : List UInt8 := [42, 182, 1, 129, 162, 0, 117, 42, 180, 0, 7, 3, 46, 158, 0, 108, 42, 27, 182, 1, 132, 42]
abbrev dktX2_layBest_2 : List UInt8 := dkwX2_layBest_2 ++ dktX2_layBest_3
def dkwX2_layBest_1 : List UInt8 := [180, 0, 7, 3, 46, 154, 0, 7, 4, 167, 0, 4, 3, 181, 1, 123, 42, 3, 181, 1, 126, 3, 60, 27]
abbrev dktX2_layBest_1 : List UInt8 := dkwX2_layBest_1 ++ dktX2_layBest_2
def dkwX2_layBest_0 : List UInt8 := [42, 42, 180, 0, 7, 3, 46, 154, 0, 7, 3, 167, 0, 6, 19, 1, 119, 181, 1, 120, 42, 42]
abbrev dktX2_layBest_0 : List UInt8 := dkwX2_layBest_0 ++ dktX2_layBest_1
theorem dksX2_layBest_0 : cX2_layBest.data.toList.drop 0 = dktX2_layBest_0 := by decide +kernel
theorem dksX2_layBest_1 : cX2_layBest.data.toList.drop 22 = dktX2_layBest_1 := dk_seg dksX2_layBest_0 22 rfl rfl
theorem dksX2_layBest_2 : cX2_layBest.data.toList.drop 46 = dktX2_layBest_2 := dk_seg dksX2_layBest_1 24 rfl rfl
theorem dksX2_layBest_3 : cX2_layBest.data.toList.drop 68 = dktX2_layBest_3 := dk_seg dksX2_layBest_2 22 rfl rfl
theorem dksX2_layBest_4 : cX2_layBest.data.toList.drop 92 = dktX2_layBest_4 := dk_seg dksX2_layBest_3 24 rfl rfl
theorem dksX2_layBest_5 : cX2_layBest.data.toList.drop 115 = dktX2_layBest_5 := dk_seg dksX2_layBest_4 23 rfl rfl
theorem dksX2_layBest_6 : cX2_layBest.data.toList.drop 139 = dktX2_layBest_6 := dk_seg dksX2_layBest_5 24 rfl rfl
theorem dksX2_layBest_7 : cX2_layBest.data.toList.drop 161 = dktX2_layBest_7 := dk_seg dksX2_layBest_6 22 rfl rfl
theorem dX2_layBest_0 : decode cX2_layBest 0 = .ok (.aload_n 0, 1) := dk_42 (dk_at dksX2_layBest_0 0 rfl rfl)
theorem dX2_layBest_1 : decode cX2_layBest 1 = .ok (.aload_n 0, 1) := dk_42 (dk_at dksX2_layBest_0 1 rfl rfl)
theorem dX2_layBest_2 : decode cX2_layBest 2 = .ok (.getfield 7, 3) := dk_180 0 7 (dk_at dksX2_layBest_0 2 rfl rfl)
theorem dX2_layBest_5 : decode cX2_layBest 5 = .ok (.iconst 0, 1) := dk_3 (dk_at dksX2_layBest_0 5 rfl rfl)
theorem dX2_layBest_6 : decode cX2_layBest 6 = .ok (.iaload, 1) := dk_46 (dk_at dksX2_layBest_0 6 rfl rfl)
theorem dX2_layBest_7 : decode cX2_layBest 7 = .ok (.ifCond .ne 7, 3) := dk_154 0 7 (dk_at dksX2_layBest_0 7 rfl rfl)
theorem dX2_layBest_10 : decode cX2_layBest 10 = .ok (.iconst 0, 1) := dk_3 (dk_at dksX2_layBest_0 10 rfl rfl)
theorem dX2_layBest_11 : decode cX2_layBest 11 = .ok (.goto 6, 3) := dk_167 0 6 (dk_at dksX2_layBest_0 11 rfl rfl)
theorem dX2_layBest_14 : decode cX2_layBest 14 = .ok (.ldc_w 375, 3) := dk_19 1 119 (dk_at dksX2_layBest_0 14 rfl rfl)
theorem dX2_layBest_17 : decode cX2_layBest 17 = .ok (.putfield 376, 3) := dk_181 1 120 (dk_at dksX2_layBest_0 17 rfl rfl)
theorem dX2_layBest_20 : decode cX2_layBest 20 = .ok (.aload_n 0, 1) := dk_42 (dk_at dksX2_layBest_0 20 rfl rfl)
theorem dX2_layBest_21 : decode cX2_layBest 21 = .ok (.aload_n 0, 1) := dk_42 (dk_at dksX2_layBest_0 21 rfl rfl)
theorem dX2_layBest_22 : decode cX2_layBest 22 = .ok (.getfield 7, 3) := dk_180 0 7 (dk_at dksX2_layBest_1 0 rfl rfl)
theorem dX2_layBest_25 : decode cX2_layBest 25 = .ok (.iconst 0, 1) := dk_3 (dk_at dksX2_layBest_1 3 rfl rfl)
theorem dX2_layBest_26 : decode cX2_layBest 26 = .ok (.iaload, 1) := dk_46 (dk_at dksX2_layBest_1 4 rfl rfl)
theorem dX2_layBest_27 : decode cX2_layBest 27 = .ok (.ifCond .ne 7, 3) := dk_154 0 7 (dk_at dksX2_layBest_1 5 rfl rfl)
theorem dX2_layBest_30 : decode cX2_layBest 30 = .ok (.iconst 1, 1) := dk_4 (dk_at dksX2_layBest_1 8 rfl rfl)
theorem dX2_layBest_31 : decode cX2_layBest 31 = .ok (.goto 4, 3) := dk_167 0 4 (dk_at dksX2_layBest_1 9 rfl rfl)
theorem dX2_layBest_34 : decode cX2_layBest 34 = .ok (.iconst 0, 1) := dk_3 (dk_at dksX2_layBest_1 12 rfl rfl)
theorem dX2_layBest_35 : decode cX2_layBest 35 = .ok (.putfield 379, 3) := dk_181 1 123 (dk_at dksX2_layBest_1 13 rfl rfl)
theorem dX2_layBest_38 : decode cX2_layBest 38 = .ok (.aload_n 0, 1) := dk_42 (dk_at dksX2_layBest_1 16 rfl rfl)
theorem dX2_layBest_39 : decode cX2_layBest 39 = .ok (.iconst 0, 1) := dk_3 (dk_at dksX2_layBest_1 17 rfl rfl)
theorem dX2_layBest_40 : decode cX2_layBest 40 = .ok (.putfield 382, 3) := dk_181 1 126 (dk_at dksX2_layBest_1 18 rfl rfl)
theorem dX2_layBest_43 : decode cX2_layBest 43 = .ok (.iconst 0, 1) := dk_3 (dk_at dksX2_layBest_1 21 rfl rfl)
theorem dX2_layBest_44 : decode cX2_layBest 44 = .ok (.istore_n 1, 1) := dk_60 (dk_at dksX2_layBest_1 22 rfl rfl)
theorem dX2_layBest_45 : decode cX2_layBest 45 = .ok (.iload_n 1, 1) := dk_27 (dk_at dksX2_layBest_1 23 rfl rfl)
theorem dX2_layBest_46 : decode cX2_layBest 46 = .ok (.aload_n 0, 1) := dk_42 (dk_at dksX2_layBest_2 0 rfl rfl)
theorem dX2_layBest_47 : decode cX2_layBest 47 = .ok (.invokevirtual 385, 3) := dk_182 1 129 (dk_at dksX2_layBest_2 1 rfl rfl)
theorem dX2_layBest_50 : decode cX2_layBest 50 = .ok (.if_icmp .ge 117, 3) := dk_162 0 117 (dk_at dksX2_layBest_2 4 rfl rfl)
theorem dX2_layBest_53 : decode cX2_layBest 53 = .ok (.aload_n 0, 1) := dk_42 (dk_at dksX2_layBest_2 7 rfl rfl)
theorem dX2_layBest_54 : decode cX2_layBest 54 = .ok (.getfield 7, 3) := dk_180 0 7 (dk_at dksX2_layBest_2 8 rfl rfl)
theorem dX2_layBest_57 : decode cX2_layBest 57 = .ok (.iconst 0, 1) := dk_3 (dk_at dksX2_layBest_2 11 rfl rfl)
theorem dX2_layBest_58 : decode cX2_layBest 58 = .ok (.iaload, 1) := dk_46 (dk_at dksX2_layBest_2 12 rfl rfl)
theorem dX2_layBest_59 : decode cX2_layBest 59 = .ok (.ifCond .le 108, 3) := dk_158 0 108 (dk_at dksX2_layBest_2 13 rfl rfl)
theorem dX2_layBest_62 : decode cX2_layBest 62 = .ok (.aload_n 0, 1) := dk_42 (dk_at dksX2_layBest_2 16 rfl rfl)
theorem dX2_layBest_63 : decode cX2_layBest 63 = .ok (.iload_n 1, 1) := dk_27 (dk_at dksX2_layBest_2 17 rfl rfl)
theorem dX2_layBest_64 : decode cX2_layBest 64 = .ok (.invokevirtual 388, 3) := dk_182 1 132 (dk_at dksX2_layBest_2 18 rfl rfl)
theorem dX2_layBest_67 : decode cX2_layBest 67 = .ok (.aload_n 0, 1) := dk_42 (dk_at dksX2_layBest_2 21 rfl rfl)
theorem dX2_layBest_68 : decode cX2_layBest 68 = .ok (.invokevirtual 391, 3) := dk_182 1 135 (dk_at dksX2_layBest_3 0 rfl rfl)
theorem dX2_layBest_71 : decode cX2_layBest 71 = .ok (.istore_n 2, 1) := dk_61 (dk_at dksX2_layBest_3 3 rfl rfl)
theorem dX2_layBest_72 : decode cX2_layBest 72 = .ok (.aload_n 0, 1) := dk_42 (dk_at dksX2_layBest_3 4 rfl rfl)
theorem dX2_layBest_73 : decode cX2_layBest 73 = .ok (.iload_n 2, 1) := dk_28 (dk_at dksX2_layBest_3 5 rfl rfl)
theorem dX2_layBest_74 : decode cX2_layBest 74 = .ok (.aload_n 0, 1) := dk_42 (dk_at dksX2_layBest_3 6 rfl rfl)
theorem dX2_layBest_75 : decode cX2_layBest 75 = .ok (.getfield 382, 3) := dk_180 1 126 (dk_at dksX2_layBest_3 7 rfl rfl)
theorem dX2_layBest_78 : decode cX2_layBest 78 = .ok (.if_icmp .le 7, 3) := dk_164 0 7 (dk_at dksX2_layBest_3 10 rfl rfl)
theorem dX2_layBest_81 : decode cX2_layBest 81 = .ok (.iload_n 2, 1) := dk_28 (dk_at dksX2_layBest_3 13 rfl rfl)
theorem dX2_layBest_82 : decode cX2_layBest 82 = .ok (.goto 7, 3) := dk_167 0 7 (dk_at dksX2_layBest_3 14 rfl rfl)
theorem dX2_layBest_85 : decode cX2_layBest 85 = .ok (.aload_n 0, 1) := dk_42 (dk_at dksX2_layBest_3 17 rfl rfl)
theorem dX2_layBest_86 : decode cX2_layBest 86 = .ok (.getfield 382, 3) := dk_180 1 126 (dk_at dksX2_layBest_3 18 rfl rfl)
theorem dX2_layBest_89 : decode cX2_layBest 89 = .ok (.putfield 382, 3) := dk_181 1 126 (dk_at dksX2_layBest_3 21 rfl rfl)
theorem dX2_layBest_92 : decode cX2_layBest 92 = .ok (.iload_n 2, 1) := dk_28 (dk_at dksX2_layBest_4 0 rfl rfl)
theorem dX2_layBest_93 : decode cX2_layBest 93 = .ok (.aload_n 0, 1) := dk_42 (dk_at dksX2_layBest_4 1 rfl rfl)
theorem dX2_layBest_94 : decode cX2_layBest 94 = .ok (.getfield 376, 3) := dk_180 1 120 (dk_at dksX2_layBest_4 2 rfl rfl)
theorem dX2_layBest_97 : decode cX2_layBest 97 = .ok (.if_icmp .ne 13, 3) := dk_160 0 13 (dk_at dksX2_layBest_4 5 rfl rfl)
theorem dX2_layBest_100 : decode cX2_layBest 100 = .ok (.aload_n 0, 1) := dk_42 (dk_at dksX2_layBest_4 8 rfl rfl)
theorem dX2_layBest_101 : decode cX2_layBest 101 = .ok (.dup, 1) := dk_89 (dk_at dksX2_layBest_4 9 rfl rfl)
theorem dX2_layBest_102 : decode cX2_layBest 102 = .ok (.getfield 379, 3) := dk_180 1 123 (dk_at dksX2_layBest_4 10 rfl rfl)
theorem dX2_layBest_105 : decode cX2_layBest 105 = .ok (.iconst 1, 1) := dk_4 (dk_at dksX2_layBest_4 13 rfl rfl)
theorem dX2_layBest_106 : decode cX2_layBest 106 = .ok (.iadd, 1) := dk_96 (dk_at dksX2_layBest_4 14 rfl rfl)
theorem dX2_layBest_107 : decode cX2_layBest 107 = .ok (.putfield 379, 3) := dk_181 1 123 (dk_at dksX2_layBest_4 15 rfl rfl)
theorem dX2_layBest_110 : decode cX2_layBest 110 = .ok (.iload_n 2, 1) := dk_28 (dk_at dksX2_layBest_4 18 rfl rfl)
theorem dX2_layBest_111 : decode cX2_layBest 111 = .ok (.aload_n 0, 1) := dk_42 (dk_at dksX2_layBest_4 19 rfl rfl)
theorem dX2_layBest_112 : decode cX2_layBest 112 = .ok (.getfield 376, 3) := dk_180 1 120 (dk_at dksX2_layBest_4 20 rfl rfl)
theorem dX2_layBest_115 : decode cX2_layBest 115 = .ok (.if_icmp .lt 6, 3) := dk_161 0 6 (dk_at dksX2_layBest_5 0 rfl rfl)
theorem dX2_layBest_118 : decode cX2_layBest 118 = .ok (.goto 43, 3) := dk_167 0 43 (dk_at dksX2_layBest_5 3 rfl rfl)
theorem dX2_layBest_121 : decode cX2_layBest 121 = .ok (.aload_n 0, 1) := dk_42 (dk_at dksX2_layBest_5 6 rfl rfl)
theorem dX2_layBest_122 : decode cX2_layBest 122 = .ok (.iload_n 2, 1) := dk_28 (dk_at dksX2_layBest_5 7 rfl rfl)
theorem dX2_layBest_123 : decode cX2_layBest 123 = .ok (.putfield 376, 3) := dk_181 1 120 (dk_at dksX2_layBest_5 8 rfl rfl)
theorem dX2_layBest_126 : decode cX2_layBest 126 = .ok (.aload_n 0, 1) := dk_42 (dk_at dksX2_layBest_5 11 rfl rfl)
theorem dX2_layBest_127 : decode cX2_layBest 127 = .ok (.iconst 1, 1) := dk_4 (dk_at dksX2_layBest_5 12 rfl rfl)
theorem dX2_layBest_128 : decode cX2_layBest 128 = .ok (.putfield 379, 3) := dk_181 1 123 (dk_at dksX2_layBest_5 13 rfl rfl)
theorem dX2_layBest_131 : decode cX2_layBest 131 = .ok (.iconst 0, 1) := dk_3 (dk_at dksX2_layBest_5 16 rfl rfl)
theorem dX2_layBest_132 : decode cX2_layBest 132 = .ok (.istore_n 3, 1) := dk_62 (dk_at dksX2_layBest_5 17 rfl rfl)
theorem dX2_layBest_133 : decode cX2_layBest 133 = .ok (.iload_n 3, 1) := dk_29 (dk_at dksX2_layBest_5 18 rfl rfl)
theorem dX2_layBest_134 : decode cX2_layBest 134 = .ok (.aload_n 0, 1) := dk_42 (dk_at dksX2_layBest_5 19 rfl rfl)
theorem dX2_layBest_135 : decode cX2_layBest 135 = .ok (.getfield 7, 3) := dk_180 0 7 (dk_at dksX2_layBest_5 20 rfl rfl)
theorem dX2_layBest_138 : decode cX2_layBest 138 = .ok (.iconst 0, 1) := dk_3 (dk_at dksX2_layBest_5 23 rfl rfl)
theorem dX2_layBest_139 : decode cX2_layBest 139 = .ok (.iaload, 1) := dk_46 (dk_at dksX2_layBest_6 0 rfl rfl)
theorem dX2_layBest_140 : decode cX2_layBest 140 = .ok (.if_icmp .ge 21, 3) := dk_162 0 21 (dk_at dksX2_layBest_6 1 rfl rfl)
theorem dX2_layBest_143 : decode cX2_layBest 143 = .ok (.aload_n 0, 1) := dk_42 (dk_at dksX2_layBest_6 4 rfl rfl)
theorem dX2_layBest_144 : decode cX2_layBest 144 = .ok (.getfield 53, 3) := dk_180 0 53 (dk_at dksX2_layBest_6 5 rfl rfl)
theorem dX2_layBest_147 : decode cX2_layBest 147 = .ok (.iload_n 3, 1) := dk_29 (dk_at dksX2_layBest_6 8 rfl rfl)
theorem dX2_layBest_148 : decode cX2_layBest 148 = .ok (.aload_n 0, 1) := dk_42 (dk_at dksX2_layBest_6 9 rfl rfl)
theorem dX2_layBest_149 : decode cX2_layBest 149 = .ok (.getfield 50, 3) := dk_180 0 50 (dk_at dksX2_layBest_6 10 rfl rfl)
theorem dX2_layBest_152 : decode cX2_layBest 152 = .ok (.iload_n 3, 1) := dk_29 (dk_at dksX2_layBest_6 13 rfl rfl)
theorem dX2_layBest_153 : decode cX2_layBest 153 = .ok (.iaload, 1) := dk_46 (dk_at dksX2_layBest_6 14 rfl rfl)
theorem dX2_layBest_154 : decode cX2_layBest 154 = .ok (.iastore, 1) := dk_79 (dk_at dksX2_layBest_6 15 rfl rfl)
theorem dX2_layBest_155 : decode cX2_layBest 155 = .ok (.iinc 3 1, 3) := dk_132 3 1 (dk_at dksX2_layBest_6 16 rfl rfl)
theorem dX2_layBest_158 : decode cX2_layBest 158 = .ok (.goto (-25), 3) := dk_167 255 231 (dk_at dksX2_layBest_6 19 rfl rfl)
theorem dX2_layBest_161 : decode cX2_layBest 161 = .ok (.iinc 1 1, 3) := dk_132 1 1 (dk_at dksX2_layBest_7 0 rfl rfl)
theorem dX2_layBest_164 : decode cX2_layBest 164 = .ok (.goto (-119), 3) := dk_167 255 137 (dk_at dksX2_layBest_7 3 rfl rfl)
theorem dX2_layBest_167 : decode cX2_layBest 167 = .ok (.return_, 1) := dk_177 (dk_at dksX2_layBest_7 6 rfl rfl)
abbrev cX2_seatingsInAll : ByteArray := prog_20_method_96_code
def yX2_seatingsInAll : MethodName := ⟨RX2, "seatingsInAll", "()I"⟩
def dkwX2_seatingsInAll_0 : List UInt8 := [42, 180, 0, 7, 3, 46, 4, 100, 184, 1, 116, 172]
abbrev dktX2_seatingsInAll_0 : List UInt8 := dkwX2_seatingsInAll_0 ++ []
theorem dksX2_seatingsInAll_0 : cX2_seatingsInAll.data.toList.drop 0 = dktX2_seatingsInAll_0 := by decide +kernel
theorem dX2_seatingsInAll_0 : decode cX2_seatingsInAll 0 = .ok (.aload_n 0, 1) := dk_42 (dk_at dksX2_seatingsInAll_0 0 rfl rfl)
theorem dX2_seatingsInAll_1 : decode cX2_seatingsInAll 1 = .ok (.getfield 7, 3) := dk_180 0 7 (dk_at dksX2_seatingsInAll_0 1 rfl rfl)
theorem dX2_seatingsInAll_4 : decode cX2_seatingsInAll 4 = .ok (.iconst 0, 1) := dk_3 (dk_at dksX2_seatingsInAll_0 4 rfl rfl)
theorem dX2_seatingsInAll_5 : decode cX2_seatingsInAll 5 = .ok (.iaload, 1) := dk_46 (dk_at dksX2_seatingsInAll_0 5 rfl rfl)
theorem dX2_seatingsInAll_6 : decode cX2_seatingsInAll 6 = .ok (.iconst 1, 1) := dk_4 (dk_at dksX2_seatingsInAll_0 6 rfl rfl)
theorem dX2_seatingsInAll_7 : decode cX2_seatingsInAll 7 = .ok (.isub, 1) := dk_100 (dk_at dksX2_seatingsInAll_0 7 rfl rfl)
theorem dX2_seatingsInAll_8 : decode cX2_seatingsInAll 8 = .ok (.invokestatic 372, 3) := dk_184 1 116 (dk_at dksX2_seatingsInAll_0 8 rfl rfl)
theorem dX2_seatingsInAll_11 : decode cX2_seatingsInAll 11 = .ok (.ireturn, 1) := dk_172 (dk_at dksX2_seatingsInAll_0 11 rfl rfl)
abbrev cX2_factorial : ByteArray := prog_20_method_95_code
def yX2_factorial : MethodName := ⟨RX2, "factorial", "(I)I"⟩
def dkwX2_factorial_0 : List UInt8 := [4, 60, 5, 61, 28, 26, 163, 0, 13, 27, 28, 104, 60, 132, 2, 1, 167, 255, 244, 27, 172]
abbrev dktX2_factorial_0 : List UInt8 := dkwX2_factorial_0 ++ []
theorem dksX2_factorial_0 : cX2_factorial.data.toList.drop 0 = dktX2_factorial_0 := by decide +kernel
theorem dX2_factorial_0 : decode cX2_factorial 0 = .ok (.iconst 1, 1) := dk_4 (dk_at dksX2_factorial_0 0 rfl rfl)
theorem dX2_factorial_1 : decode cX2_factorial 1 = .ok (.istore_n 1, 1) := dk_60 (dk_at dksX2_factorial_0 1 rfl rfl)
theorem dX2_factorial_2 : decode cX2_factorial 2 = .ok (.iconst 2, 1) := dk_5 (dk_at dksX2_factorial_0 2 rfl rfl)
theorem dX2_factorial_3 : decode cX2_factorial 3 = .ok (.istore_n 2, 1) := dk_61 (dk_at dksX2_factorial_0 3 rfl rfl)
theorem dX2_factorial_4 : decode cX2_factorial 4 = .ok (.iload_n 2, 1) := dk_28 (dk_at dksX2_factorial_0 4 rfl rfl)
theorem dX2_factorial_5 : decode cX2_factorial 5 = .ok (.iload_n 0, 1) := dk_26 (dk_at dksX2_factorial_0 5 rfl rfl)
theorem dX2_factorial_6 : decode cX2_factorial 6 = .ok (.if_icmp .gt 13, 3) := dk_163 0 13 (dk_at dksX2_factorial_0 6 rfl rfl)
theorem dX2_factorial_9 : decode cX2_factorial 9 = .ok (.iload_n 1, 1) := dk_27 (dk_at dksX2_factorial_0 9 rfl rfl)
theorem dX2_factorial_10 : decode cX2_factorial 10 = .ok (.iload_n 2, 1) := dk_28 (dk_at dksX2_factorial_0 10 rfl rfl)
theorem dX2_factorial_11 : decode cX2_factorial 11 = .ok (.imul, 1) := dk_104 (dk_at dksX2_factorial_0 11 rfl rfl)
theorem dX2_factorial_12 : decode cX2_factorial 12 = .ok (.istore_n 1, 1) := dk_60 (dk_at dksX2_factorial_0 12 rfl rfl)
theorem dX2_factorial_13 : decode cX2_factorial 13 = .ok (.iinc 2 1, 3) := dk_132 2 1 (dk_at dksX2_factorial_0 13 rfl rfl)
theorem dX2_factorial_16 : decode cX2_factorial 16 = .ok (.goto (-12), 3) := dk_167 255 244 (dk_at dksX2_factorial_0 16 rfl rfl)
theorem dX2_factorial_19 : decode cX2_factorial 19 = .ok (.iload_n 1, 1) := dk_27 (dk_at dksX2_factorial_0 19 rfl rfl)
theorem dX2_factorial_20 : decode cX2_factorial 20 = .ok (.ireturn, 1) := dk_172 (dk_at dksX2_factorial_0 20 rfl rfl)
abbrev cX2_layRow : ByteArray := prog_20_method_97_code
def yX2_layRow : MethodName := ⟨RX2, "layRow", "(I)V"⟩
def dkwX2_layRow_5 : List UInt8 := [79, 132, 4, 1, 167, 255, 149, 177]
abbrev dktX2_layRow_5 : List UInt8 := dkwX2_layRow_5 ++ []
def dkwX2_layRow_4 : List UInt8 := [100, 54, 5, 132, 6, 1, 167, 255, 220, 29, 4, 21, 6, 120, 128, 62, 42, 180, 0, 50, 21, 4, 21, 6]
abbrev dktX2_layRow_4 : List UInt8 := dkwX2_layRow_4 ++ dktX2_layRow_5
def dkwX2_layRow_3 : List UInt8 := [154, 0, 8, 21, 5, 158, 0, 28, 21, 5, 29, 21, 6, 184, 0, 76, 153, 0, 7, 3, 167, 0, 4, 4]
abbrev dktX2_layRow_3 : List UInt8 := dkwX2_layRow_3 ++ dktX2_layRow_4
def dkwX2_layRow_2 : List UInt8 := [180, 0, 7, 3, 46, 4, 100, 21, 4, 100, 184, 1, 116, 112, 61, 3, 54, 6, 29, 21, 6, 184, 0, 76]
abbrev dktX2_layRow_2 : List UInt8 := dkwX2_layRow_2 ++ dktX2_layRow_3
def dkwX2_layRow_1 : List UInt8 := [162, 0, 102, 28, 42, 180, 0, 7, 3, 46, 4, 100, 21, 4, 100, 184, 1, 116, 108, 54, 5, 28, 42]
abbrev dktX2_layRow_1 : List UInt8 := dkwX2_layRow_1 ++ dktX2_layRow_2
def dkwX2_layRow_0 : List UInt8 := [27, 61, 4, 62, 42, 180, 0, 50, 3, 3, 79, 4, 54, 4, 21, 4, 42, 180, 0, 7, 3, 46]
abbrev dktX2_layRow_0 : List UInt8 := dkwX2_layRow_0 ++ dktX2_layRow_1
theorem dksX2_layRow_0 : cX2_layRow.data.toList.drop 0 = dktX2_layRow_0 := by decide +kernel
theorem dksX2_layRow_1 : cX2_layRow.data.toList.drop 22 = dktX2_layRow_1 := dk_seg dksX2_layRow_0 22 rfl rfl
theorem dksX2_layRow_2 : cX2_layRow.data.toList.drop 45 = dktX2_layRow_2 := dk_seg dksX2_layRow_1 23 rfl rfl
theorem dksX2_layRow_3 : cX2_layRow.data.toList.drop 69 = dktX2_layRow_3 := dk_seg dksX2_layRow_2 24 rfl rfl
theorem dksX2_layRow_4 : cX2_layRow.data.toList.drop 93 = dktX2_layRow_4 := dk_seg dksX2_layRow_3 24 rfl rfl
theorem dksX2_layRow_5 : cX2_layRow.data.toList.drop 117 = dktX2_layRow_5 := dk_seg dksX2_layRow_4 24 rfl rfl
theorem dX2_layRow_0 : decode cX2_layRow 0 = .ok (.iload_n 1, 1) := dk_27 (dk_at dksX2_layRow_0 0 rfl rfl)
theorem dX2_layRow_1 : decode cX2_layRow 1 = .ok (.istore_n 2, 1) := dk_61 (dk_at dksX2_layRow_0 1 rfl rfl)
theorem dX2_layRow_2 : decode cX2_layRow 2 = .ok (.iconst 1, 1) := dk_4 (dk_at dksX2_layRow_0 2 rfl rfl)
theorem dX2_layRow_3 : decode cX2_layRow 3 = .ok (.istore_n 3, 1) := dk_62 (dk_at dksX2_layRow_0 3 rfl rfl)
theorem dX2_layRow_4 : decode cX2_layRow 4 = .ok (.aload_n 0, 1) := dk_42 (dk_at dksX2_layRow_0 4 rfl rfl)
theorem dX2_layRow_5 : decode cX2_layRow 5 = .ok (.getfield 50, 3) := dk_180 0 50 (dk_at dksX2_layRow_0 5 rfl rfl)
theorem dX2_layRow_8 : decode cX2_layRow 8 = .ok (.iconst 0, 1) := dk_3 (dk_at dksX2_layRow_0 8 rfl rfl)
theorem dX2_layRow_9 : decode cX2_layRow 9 = .ok (.iconst 0, 1) := dk_3 (dk_at dksX2_layRow_0 9 rfl rfl)
theorem dX2_layRow_10 : decode cX2_layRow 10 = .ok (.iastore, 1) := dk_79 (dk_at dksX2_layRow_0 10 rfl rfl)
theorem dX2_layRow_11 : decode cX2_layRow 11 = .ok (.iconst 1, 1) := dk_4 (dk_at dksX2_layRow_0 11 rfl rfl)
theorem dX2_layRow_12 : decode cX2_layRow 12 = .ok (.istore 4, 2) := dk_54 4 (dk_at dksX2_layRow_0 12 rfl rfl)
theorem dX2_layRow_14 : decode cX2_layRow 14 = .ok (.iload 4, 2) := dk_21 4 (dk_at dksX2_layRow_0 14 rfl rfl)
theorem dX2_layRow_16 : decode cX2_layRow 16 = .ok (.aload_n 0, 1) := dk_42 (dk_at dksX2_layRow_0 16 rfl rfl)
theorem dX2_layRow_17 : decode cX2_layRow 17 = .ok (.getfield 7, 3) := dk_180 0 7 (dk_at dksX2_layRow_0 17 rfl rfl)
theorem dX2_layRow_20 : decode cX2_layRow 20 = .ok (.iconst 0, 1) := dk_3 (dk_at dksX2_layRow_0 20 rfl rfl)
theorem dX2_layRow_21 : decode cX2_layRow 21 = .ok (.iaload, 1) := dk_46 (dk_at dksX2_layRow_0 21 rfl rfl)
theorem dX2_layRow_22 : decode cX2_layRow 22 = .ok (.if_icmp .ge 102, 3) := dk_162 0 102 (dk_at dksX2_layRow_1 0 rfl rfl)
theorem dX2_layRow_25 : decode cX2_layRow 25 = .ok (.iload_n 2, 1) := dk_28 (dk_at dksX2_layRow_1 3 rfl rfl)
theorem dX2_layRow_26 : decode cX2_layRow 26 = .ok (.aload_n 0, 1) := dk_42 (dk_at dksX2_layRow_1 4 rfl rfl)
theorem dX2_layRow_27 : decode cX2_layRow 27 = .ok (.getfield 7, 3) := dk_180 0 7 (dk_at dksX2_layRow_1 5 rfl rfl)
theorem dX2_layRow_30 : decode cX2_layRow 30 = .ok (.iconst 0, 1) := dk_3 (dk_at dksX2_layRow_1 8 rfl rfl)
theorem dX2_layRow_31 : decode cX2_layRow 31 = .ok (.iaload, 1) := dk_46 (dk_at dksX2_layRow_1 9 rfl rfl)
theorem dX2_layRow_32 : decode cX2_layRow 32 = .ok (.iconst 1, 1) := dk_4 (dk_at dksX2_layRow_1 10 rfl rfl)
theorem dX2_layRow_33 : decode cX2_layRow 33 = .ok (.isub, 1) := dk_100 (dk_at dksX2_layRow_1 11 rfl rfl)
theorem dX2_layRow_34 : decode cX2_layRow 34 = .ok (.iload 4, 2) := dk_21 4 (dk_at dksX2_layRow_1 12 rfl rfl)
theorem dX2_layRow_36 : decode cX2_layRow 36 = .ok (.isub, 1) := dk_100 (dk_at dksX2_layRow_1 14 rfl rfl)
theorem dX2_layRow_37 : decode cX2_layRow 37 = .ok (.invokestatic 372, 3) := dk_184 1 116 (dk_at dksX2_layRow_1 15 rfl rfl)
theorem dX2_layRow_40 : decode cX2_layRow 40 = .ok (.idiv, 1) := dk_108 (dk_at dksX2_layRow_1 18 rfl rfl)
theorem dX2_layRow_41 : decode cX2_layRow 41 = .ok (.istore 5, 2) := dk_54 5 (dk_at dksX2_layRow_1 19 rfl rfl)
theorem dX2_layRow_43 : decode cX2_layRow 43 = .ok (.iload_n 2, 1) := dk_28 (dk_at dksX2_layRow_1 21 rfl rfl)
theorem dX2_layRow_44 : decode cX2_layRow 44 = .ok (.aload_n 0, 1) := dk_42 (dk_at dksX2_layRow_1 22 rfl rfl)
theorem dX2_layRow_45 : decode cX2_layRow 45 = .ok (.getfield 7, 3) := dk_180 0 7 (dk_at dksX2_layRow_2 0 rfl rfl)
theorem dX2_layRow_48 : decode cX2_layRow 48 = .ok (.iconst 0, 1) := dk_3 (dk_at dksX2_layRow_2 3 rfl rfl)
theorem dX2_layRow_49 : decode cX2_layRow 49 = .ok (.iaload, 1) := dk_46 (dk_at dksX2_layRow_2 4 rfl rfl)
theorem dX2_layRow_50 : decode cX2_layRow 50 = .ok (.iconst 1, 1) := dk_4 (dk_at dksX2_layRow_2 5 rfl rfl)
theorem dX2_layRow_51 : decode cX2_layRow 51 = .ok (.isub, 1) := dk_100 (dk_at dksX2_layRow_2 6 rfl rfl)
theorem dX2_layRow_52 : decode cX2_layRow 52 = .ok (.iload 4, 2) := dk_21 4 (dk_at dksX2_layRow_2 7 rfl rfl)
theorem dX2_layRow_54 : decode cX2_layRow 54 = .ok (.isub, 1) := dk_100 (dk_at dksX2_layRow_2 9 rfl rfl)
theorem dX2_layRow_55 : decode cX2_layRow 55 = .ok (.invokestatic 372, 3) := dk_184 1 116 (dk_at dksX2_layRow_2 10 rfl rfl)
theorem dX2_layRow_58 : decode cX2_layRow 58 = .ok (.irem, 1) := dk_112 (dk_at dksX2_layRow_2 13 rfl rfl)
theorem dX2_layRow_59 : decode cX2_layRow 59 = .ok (.istore_n 2, 1) := dk_61 (dk_at dksX2_layRow_2 14 rfl rfl)
theorem dX2_layRow_60 : decode cX2_layRow 60 = .ok (.iconst 0, 1) := dk_3 (dk_at dksX2_layRow_2 15 rfl rfl)
theorem dX2_layRow_61 : decode cX2_layRow 61 = .ok (.istore 6, 2) := dk_54 6 (dk_at dksX2_layRow_2 16 rfl rfl)
theorem dX2_layRow_63 : decode cX2_layRow 63 = .ok (.iload_n 3, 1) := dk_29 (dk_at dksX2_layRow_2 18 rfl rfl)
theorem dX2_layRow_64 : decode cX2_layRow 64 = .ok (.iload 6, 2) := dk_21 6 (dk_at dksX2_layRow_2 19 rfl rfl)
theorem dX2_layRow_66 : decode cX2_layRow 66 = .ok (.invokestatic 76, 3) := dk_184 0 76 (dk_at dksX2_layRow_2 21 rfl rfl)
theorem dX2_layRow_69 : decode cX2_layRow 69 = .ok (.ifCond .ne 8, 3) := dk_154 0 8 (dk_at dksX2_layRow_3 0 rfl rfl)
theorem dX2_layRow_72 : decode cX2_layRow 72 = .ok (.iload 5, 2) := dk_21 5 (dk_at dksX2_layRow_3 3 rfl rfl)
theorem dX2_layRow_74 : decode cX2_layRow 74 = .ok (.ifCond .le 28, 3) := dk_158 0 28 (dk_at dksX2_layRow_3 5 rfl rfl)
theorem dX2_layRow_77 : decode cX2_layRow 77 = .ok (.iload 5, 2) := dk_21 5 (dk_at dksX2_layRow_3 8 rfl rfl)
theorem dX2_layRow_79 : decode cX2_layRow 79 = .ok (.iload_n 3, 1) := dk_29 (dk_at dksX2_layRow_3 10 rfl rfl)
theorem dX2_layRow_80 : decode cX2_layRow 80 = .ok (.iload 6, 2) := dk_21 6 (dk_at dksX2_layRow_3 11 rfl rfl)
theorem dX2_layRow_82 : decode cX2_layRow 82 = .ok (.invokestatic 76, 3) := dk_184 0 76 (dk_at dksX2_layRow_3 13 rfl rfl)
theorem dX2_layRow_85 : decode cX2_layRow 85 = .ok (.ifCond .eq 7, 3) := dk_153 0 7 (dk_at dksX2_layRow_3 16 rfl rfl)
theorem dX2_layRow_88 : decode cX2_layRow 88 = .ok (.iconst 0, 1) := dk_3 (dk_at dksX2_layRow_3 19 rfl rfl)
theorem dX2_layRow_89 : decode cX2_layRow 89 = .ok (.goto 4, 3) := dk_167 0 4 (dk_at dksX2_layRow_3 20 rfl rfl)
theorem dX2_layRow_92 : decode cX2_layRow 92 = .ok (.iconst 1, 1) := dk_4 (dk_at dksX2_layRow_3 23 rfl rfl)
theorem dX2_layRow_93 : decode cX2_layRow 93 = .ok (.isub, 1) := dk_100 (dk_at dksX2_layRow_4 0 rfl rfl)
theorem dX2_layRow_94 : decode cX2_layRow 94 = .ok (.istore 5, 2) := dk_54 5 (dk_at dksX2_layRow_4 1 rfl rfl)
theorem dX2_layRow_96 : decode cX2_layRow 96 = .ok (.iinc 6 1, 3) := dk_132 6 1 (dk_at dksX2_layRow_4 3 rfl rfl)
theorem dX2_layRow_99 : decode cX2_layRow 99 = .ok (.goto (-36), 3) := dk_167 255 220 (dk_at dksX2_layRow_4 6 rfl rfl)
theorem dX2_layRow_102 : decode cX2_layRow 102 = .ok (.iload_n 3, 1) := dk_29 (dk_at dksX2_layRow_4 9 rfl rfl)
theorem dX2_layRow_103 : decode cX2_layRow 103 = .ok (.iconst 1, 1) := dk_4 (dk_at dksX2_layRow_4 10 rfl rfl)
theorem dX2_layRow_104 : decode cX2_layRow 104 = .ok (.iload 6, 2) := dk_21 6 (dk_at dksX2_layRow_4 11 rfl rfl)
theorem dX2_layRow_106 : decode cX2_layRow 106 = .ok (.ishl, 1) := dk_120 (dk_at dksX2_layRow_4 13 rfl rfl)
theorem dX2_layRow_107 : decode cX2_layRow 107 = .ok (.ior, 1) := dk_128 (dk_at dksX2_layRow_4 14 rfl rfl)
theorem dX2_layRow_108 : decode cX2_layRow 108 = .ok (.istore_n 3, 1) := dk_62 (dk_at dksX2_layRow_4 15 rfl rfl)
theorem dX2_layRow_109 : decode cX2_layRow 109 = .ok (.aload_n 0, 1) := dk_42 (dk_at dksX2_layRow_4 16 rfl rfl)
theorem dX2_layRow_110 : decode cX2_layRow 110 = .ok (.getfield 50, 3) := dk_180 0 50 (dk_at dksX2_layRow_4 17 rfl rfl)
theorem dX2_layRow_113 : decode cX2_layRow 113 = .ok (.iload 4, 2) := dk_21 4 (dk_at dksX2_layRow_4 20 rfl rfl)
theorem dX2_layRow_115 : decode cX2_layRow 115 = .ok (.iload 6, 2) := dk_21 6 (dk_at dksX2_layRow_4 22 rfl rfl)
theorem dX2_layRow_117 : decode cX2_layRow 117 = .ok (.iastore, 1) := dk_79 (dk_at dksX2_layRow_5 0 rfl rfl)
theorem dX2_layRow_118 : decode cX2_layRow 118 = .ok (.iinc 4 1, 3) := dk_132 4 1 (dk_at dksX2_layRow_5 1 rfl rfl)
theorem dX2_layRow_121 : decode cX2_layRow 121 = .ok (.goto (-107), 3) := dk_167 255 149 (dk_at dksX2_layRow_5 4 rfl rfl)
theorem dX2_layRow_124 : decode cX2_layRow 124 = .ok (.return_, 1) := dk_177 (dk_at dksX2_layRow_5 7 rfl rfl)
abbrev cX2_spiteOfRow : ByteArray := prog_20_method_98_code
def yX2_spiteOfRow : MethodName := ⟨RX2, "spiteOfRow", "()I"⟩
def dkwX2_spiteOfRow_2 : List UInt8 := [180, 0, 50, 29, 4, 96, 27, 112, 46, 96, 46, 96, 61, 132, 3, 1, 167, 255, 205, 28, 172]
abbrev dktX2_spiteOfRow_2 : List UInt8 := dkwX2_spiteOfRow_2 ++ []
def dkwX2_spiteOfRow_1 : List UInt8 := [100, 162, 0, 34, 28, 42, 180, 0, 7, 16, 35, 16, 6, 42, 180, 0, 50, 29, 46, 104, 96, 42]
abbrev dktX2_spiteOfRow_1 : List UInt8 := dkwX2_spiteOfRow_1 ++ dktX2_spiteOfRow_2
def dkwX2_spiteOfRow_0 : List UInt8 := [42, 180, 0, 7, 3, 46, 60, 3, 61, 3, 62, 29, 27, 162, 0, 52, 27, 5, 163, 0, 10, 29, 27, 4]
abbrev dktX2_spiteOfRow_0 : List UInt8 := dkwX2_spiteOfRow_0 ++ dktX2_spiteOfRow_1
theorem dksX2_spiteOfRow_0 : cX2_spiteOfRow.data.toList.drop 0 = dktX2_spiteOfRow_0 := by decide +kernel
theorem dksX2_spiteOfRow_1 : cX2_spiteOfRow.data.toList.drop 24 = dktX2_spiteOfRow_1 := dk_seg dksX2_spiteOfRow_0 24 rfl rfl
theorem dksX2_spiteOfRow_2 : cX2_spiteOfRow.data.toList.drop 46 = dktX2_spiteOfRow_2 := dk_seg dksX2_spiteOfRow_1 22 rfl rfl
theorem dX2_spiteOfRow_0 : decode cX2_spiteOfRow 0 = .ok (.aload_n 0, 1) := dk_42 (dk_at dksX2_spiteOfRow_0 0 rfl rfl)
theorem dX2_spiteOfRow_1 : decode cX2_spiteOfRow 1 = .ok (.getfield 7, 3) := dk_180 0 7 (dk_at dksX2_spiteOfRow_0 1 rfl rfl)
theorem dX2_spiteOfRow_4 : decode cX2_spiteOfRow 4 = .ok (.iconst 0, 1) := dk_3 (dk_at dksX2_spiteOfRow_0 4 rfl rfl)
theorem dX2_spiteOfRow_5 : decode cX2_spiteOfRow 5 = .ok (.iaload, 1) := dk_46 (dk_at dksX2_spiteOfRow_0 5 rfl rfl)
theorem dX2_spiteOfRow_6 : decode cX2_spiteOfRow 6 = .ok (.istore_n 1, 1) := dk_60 (dk_at dksX2_spiteOfRow_0 6 rfl rfl)
theorem dX2_spiteOfRow_7 : decode cX2_spiteOfRow 7 = .ok (.iconst 0, 1) := dk_3 (dk_at dksX2_spiteOfRow_0 7 rfl rfl)
theorem dX2_spiteOfRow_8 : decode cX2_spiteOfRow 8 = .ok (.istore_n 2, 1) := dk_61 (dk_at dksX2_spiteOfRow_0 8 rfl rfl)
theorem dX2_spiteOfRow_9 : decode cX2_spiteOfRow 9 = .ok (.iconst 0, 1) := dk_3 (dk_at dksX2_spiteOfRow_0 9 rfl rfl)
theorem dX2_spiteOfRow_10 : decode cX2_spiteOfRow 10 = .ok (.istore_n 3, 1) := dk_62 (dk_at dksX2_spiteOfRow_0 10 rfl rfl)
theorem dX2_spiteOfRow_11 : decode cX2_spiteOfRow 11 = .ok (.iload_n 3, 1) := dk_29 (dk_at dksX2_spiteOfRow_0 11 rfl rfl)
theorem dX2_spiteOfRow_12 : decode cX2_spiteOfRow 12 = .ok (.iload_n 1, 1) := dk_27 (dk_at dksX2_spiteOfRow_0 12 rfl rfl)
theorem dX2_spiteOfRow_13 : decode cX2_spiteOfRow 13 = .ok (.if_icmp .ge 52, 3) := dk_162 0 52 (dk_at dksX2_spiteOfRow_0 13 rfl rfl)
theorem dX2_spiteOfRow_16 : decode cX2_spiteOfRow 16 = .ok (.iload_n 1, 1) := dk_27 (dk_at dksX2_spiteOfRow_0 16 rfl rfl)
theorem dX2_spiteOfRow_17 : decode cX2_spiteOfRow 17 = .ok (.iconst 2, 1) := dk_5 (dk_at dksX2_spiteOfRow_0 17 rfl rfl)
theorem dX2_spiteOfRow_18 : decode cX2_spiteOfRow 18 = .ok (.if_icmp .gt 10, 3) := dk_163 0 10 (dk_at dksX2_spiteOfRow_0 18 rfl rfl)
theorem dX2_spiteOfRow_21 : decode cX2_spiteOfRow 21 = .ok (.iload_n 3, 1) := dk_29 (dk_at dksX2_spiteOfRow_0 21 rfl rfl)
theorem dX2_spiteOfRow_22 : decode cX2_spiteOfRow 22 = .ok (.iload_n 1, 1) := dk_27 (dk_at dksX2_spiteOfRow_0 22 rfl rfl)
theorem dX2_spiteOfRow_23 : decode cX2_spiteOfRow 23 = .ok (.iconst 1, 1) := dk_4 (dk_at dksX2_spiteOfRow_0 23 rfl rfl)
theorem dX2_spiteOfRow_24 : decode cX2_spiteOfRow 24 = .ok (.isub, 1) := dk_100 (dk_at dksX2_spiteOfRow_1 0 rfl rfl)
theorem dX2_spiteOfRow_25 : decode cX2_spiteOfRow 25 = .ok (.if_icmp .ge 34, 3) := dk_162 0 34 (dk_at dksX2_spiteOfRow_1 1 rfl rfl)
theorem dX2_spiteOfRow_28 : decode cX2_spiteOfRow 28 = .ok (.iload_n 2, 1) := dk_28 (dk_at dksX2_spiteOfRow_1 4 rfl rfl)
theorem dX2_spiteOfRow_29 : decode cX2_spiteOfRow 29 = .ok (.aload_n 0, 1) := dk_42 (dk_at dksX2_spiteOfRow_1 5 rfl rfl)
theorem dX2_spiteOfRow_30 : decode cX2_spiteOfRow 30 = .ok (.getfield 7, 3) := dk_180 0 7 (dk_at dksX2_spiteOfRow_1 6 rfl rfl)
theorem dX2_spiteOfRow_33 : decode cX2_spiteOfRow 33 = .ok (.bipush 35, 2) := dk_16 35 (dk_at dksX2_spiteOfRow_1 9 rfl rfl)
theorem dX2_spiteOfRow_35 : decode cX2_spiteOfRow 35 = .ok (.bipush 6, 2) := dk_16 6 (dk_at dksX2_spiteOfRow_1 11 rfl rfl)
theorem dX2_spiteOfRow_37 : decode cX2_spiteOfRow 37 = .ok (.aload_n 0, 1) := dk_42 (dk_at dksX2_spiteOfRow_1 13 rfl rfl)
theorem dX2_spiteOfRow_38 : decode cX2_spiteOfRow 38 = .ok (.getfield 50, 3) := dk_180 0 50 (dk_at dksX2_spiteOfRow_1 14 rfl rfl)
theorem dX2_spiteOfRow_41 : decode cX2_spiteOfRow 41 = .ok (.iload_n 3, 1) := dk_29 (dk_at dksX2_spiteOfRow_1 17 rfl rfl)
theorem dX2_spiteOfRow_42 : decode cX2_spiteOfRow 42 = .ok (.iaload, 1) := dk_46 (dk_at dksX2_spiteOfRow_1 18 rfl rfl)
theorem dX2_spiteOfRow_43 : decode cX2_spiteOfRow 43 = .ok (.imul, 1) := dk_104 (dk_at dksX2_spiteOfRow_1 19 rfl rfl)
theorem dX2_spiteOfRow_44 : decode cX2_spiteOfRow 44 = .ok (.iadd, 1) := dk_96 (dk_at dksX2_spiteOfRow_1 20 rfl rfl)
theorem dX2_spiteOfRow_45 : decode cX2_spiteOfRow 45 = .ok (.aload_n 0, 1) := dk_42 (dk_at dksX2_spiteOfRow_1 21 rfl rfl)
theorem dX2_spiteOfRow_46 : decode cX2_spiteOfRow 46 = .ok (.getfield 50, 3) := dk_180 0 50 (dk_at dksX2_spiteOfRow_2 0 rfl rfl)
theorem dX2_spiteOfRow_49 : decode cX2_spiteOfRow 49 = .ok (.iload_n 3, 1) := dk_29 (dk_at dksX2_spiteOfRow_2 3 rfl rfl)
theorem dX2_spiteOfRow_50 : decode cX2_spiteOfRow 50 = .ok (.iconst 1, 1) := dk_4 (dk_at dksX2_spiteOfRow_2 4 rfl rfl)
theorem dX2_spiteOfRow_51 : decode cX2_spiteOfRow 51 = .ok (.iadd, 1) := dk_96 (dk_at dksX2_spiteOfRow_2 5 rfl rfl)
theorem dX2_spiteOfRow_52 : decode cX2_spiteOfRow 52 = .ok (.iload_n 1, 1) := dk_27 (dk_at dksX2_spiteOfRow_2 6 rfl rfl)
theorem dX2_spiteOfRow_53 : decode cX2_spiteOfRow 53 = .ok (.irem, 1) := dk_112 (dk_at dksX2_spiteOfRow_2 7 rfl rfl)
theorem dX2_spiteOfRow_54 : decode cX2_spiteOfRow 54 = .ok (.iaload, 1) := dk_46 (dk_at dksX2_spiteOfRow_2 8 rfl rfl)
theorem dX2_spiteOfRow_55 : decode cX2_spiteOfRow 55 = .ok (.iadd, 1) := dk_96 (dk_at dksX2_spiteOfRow_2 9 rfl rfl)
theorem dX2_spiteOfRow_56 : decode cX2_spiteOfRow 56 = .ok (.iaload, 1) := dk_46 (dk_at dksX2_spiteOfRow_2 10 rfl rfl)
theorem dX2_spiteOfRow_57 : decode cX2_spiteOfRow 57 = .ok (.iadd, 1) := dk_96 (dk_at dksX2_spiteOfRow_2 11 rfl rfl)
theorem dX2_spiteOfRow_58 : decode cX2_spiteOfRow 58 = .ok (.istore_n 2, 1) := dk_61 (dk_at dksX2_spiteOfRow_2 12 rfl rfl)
theorem dX2_spiteOfRow_59 : decode cX2_spiteOfRow 59 = .ok (.iinc 3 1, 3) := dk_132 3 1 (dk_at dksX2_spiteOfRow_2 13 rfl rfl)
theorem dX2_spiteOfRow_62 : decode cX2_spiteOfRow 62 = .ok (.goto (-51), 3) := dk_167 255 205 (dk_at dksX2_spiteOfRow_2 16 rfl rfl)
theorem dX2_spiteOfRow_65 : decode cX2_spiteOfRow 65 = .ok (.iload_n 2, 1) := dk_28 (dk_at dksX2_spiteOfRow_2 19 rfl rfl)
theorem dX2_spiteOfRow_66 : decode cX2_spiteOfRow 66 = .ok (.ireturn, 1) := dk_172 (dk_at dksX2_spiteOfRow_2 20 rfl rfl)
abbrev cX2_seating : ByteArray := prog_20_method_101_code
def yX2_seating : MethodName := ⟨RX2, "seating", "(I)I"⟩
def dkwX2_seating_0 : List UInt8 := [42, 27, 182, 0, 92, 154, 0, 5, 2, 172, 42, 182, 1, 138, 42, 180, 0, 53, 27, 46, 172]
abbrev dktX2_seating_0 : List UInt8 := dkwX2_seating_0 ++ []
theorem dksX2_seating_0 : cX2_seating.data.toList.drop 0 = dktX2_seating_0 := by decide +kernel
theorem dX2_seating_0 : decode cX2_seating 0 = .ok (.aload_n 0, 1) := dk_42 (dk_at dksX2_seating_0 0 rfl rfl)
theorem dX2_seating_1 : decode cX2_seating 1 = .ok (.iload_n 1, 1) := dk_27 (dk_at dksX2_seating_0 1 rfl rfl)
theorem dX2_seating_2 : decode cX2_seating 2 = .ok (.invokevirtual 92, 3) := dk_182 0 92 (dk_at dksX2_seating_0 2 rfl rfl)
theorem dX2_seating_5 : decode cX2_seating 5 = .ok (.ifCond .ne 5, 3) := dk_154 0 5 (dk_at dksX2_seating_0 5 rfl rfl)
theorem dX2_seating_8 : decode cX2_seating 8 = .ok (.iconst (-1), 1) := dk_2 (dk_at dksX2_seating_0 8 rfl rfl)
theorem dX2_seating_9 : decode cX2_seating 9 = .ok (.ireturn, 1) := dk_172 (dk_at dksX2_seating_0 9 rfl rfl)
theorem dX2_seating_10 : decode cX2_seating 10 = .ok (.aload_n 0, 1) := dk_42 (dk_at dksX2_seating_0 10 rfl rfl)
theorem dX2_seating_11 : decode cX2_seating 11 = .ok (.invokevirtual 394, 3) := dk_182 1 138 (dk_at dksX2_seating_0 11 rfl rfl)
theorem dX2_seating_14 : decode cX2_seating 14 = .ok (.aload_n 0, 1) := dk_42 (dk_at dksX2_seating_0 14 rfl rfl)
theorem dX2_seating_15 : decode cX2_seating 15 = .ok (.getfield 53, 3) := dk_180 0 53 (dk_at dksX2_seating_0 15 rfl rfl)
theorem dX2_seating_18 : decode cX2_seating 18 = .ok (.iload_n 1, 1) := dk_27 (dk_at dksX2_seating_0 18 rfl rfl)
theorem dX2_seating_19 : decode cX2_seating 19 = .ok (.iaload, 1) := dk_46 (dk_at dksX2_seating_0 19 rfl rfl)
theorem dX2_seating_20 : decode cX2_seating 20 = .ok (.ireturn, 1) := dk_172 (dk_at dksX2_seating_0 20 rfl rfl)
abbrev cX2_seatings : ByteArray := prog_20_method_102_code
def yX2_seatings : MethodName := ⟨RX2, "seatings", "()I"⟩
def dkwX2_seatings_0 : List UInt8 := [42, 182, 1, 138, 42, 180, 1, 123, 172]
abbrev dktX2_seatings_0 : List UInt8 := dkwX2_seatings_0 ++ []
theorem dksX2_seatings_0 : cX2_seatings.data.toList.drop 0 = dktX2_seatings_0 := by decide +kernel
theorem dX2_seatings_0 : decode cX2_seatings 0 = .ok (.aload_n 0, 1) := dk_42 (dk_at dksX2_seatings_0 0 rfl rfl)
theorem dX2_seatings_1 : decode cX2_seatings 1 = .ok (.invokevirtual 394, 3) := dk_182 1 138 (dk_at dksX2_seatings_0 1 rfl rfl)
theorem dX2_seatings_4 : decode cX2_seatings 4 = .ok (.aload_n 0, 1) := dk_42 (dk_at dksX2_seatings_0 4 rfl rfl)
theorem dX2_seatings_5 : decode cX2_seatings 5 = .ok (.getfield 379, 3) := dk_180 1 123 (dk_at dksX2_seatings_0 5 rfl rfl)
theorem dX2_seatings_8 : decode cX2_seatings 8 = .ok (.ireturn, 1) := dk_172 (dk_at dksX2_seatings_0 8 rfl rfl)
abbrev cX2_spiteNow : ByteArray := prog_20_method_104_code
def yX2_spiteNow : MethodName := ⟨RX2, "spiteNow", "()I"⟩
theorem dX2_spiteNow_0 : decode cX2_spiteNow 0 = .ok (.aload_n 0, 1) := by decide +kernel
theorem dX2_spiteNow_1 : decode cX2_spiteNow 1 = .ok (.invokevirtual 397, 3) := by decide +kernel
theorem dX2_spiteNow_4 : decode cX2_spiteNow 4 = .ok (.ireturn, 1) := by decide +kernel
abbrev cX2_spiteOfSeats : ByteArray := prog_20_method_103_code
def yX2_spiteOfSeats : MethodName := ⟨RX2, "spiteOfSeats", "()I"⟩
def dkwX2_spiteOfSeats_1 : List UInt8 := [46, 27, 79, 132, 1, 1, 167, 255, 228, 42, 182, 1, 135, 172]
abbrev dktX2_spiteOfSeats_1 : List UInt8 := dkwX2_spiteOfSeats_1 ++ []
def dkwX2_spiteOfSeats_0 : List UInt8 := [3, 60, 27, 42, 180, 0, 7, 3, 46, 162, 0, 24, 42, 180, 0, 50, 42, 180, 0, 7, 16, 17, 27, 96]
abbrev dktX2_spiteOfSeats_0 : List UInt8 := dkwX2_spiteOfSeats_0 ++ dktX2_spiteOfSeats_1
theorem dksX2_spiteOfSeats_0 : cX2_spiteOfSeats.data.toList.drop 0 = dktX2_spiteOfSeats_0 := by decide +kernel
theorem dksX2_spiteOfSeats_1 : cX2_spiteOfSeats.data.toList.drop 24 = dktX2_spiteOfSeats_1 := dk_seg dksX2_spiteOfSeats_0 24 rfl rfl
theorem dX2_spiteOfSeats_0 : decode cX2_spiteOfSeats 0 = .ok (.iconst 0, 1) := dk_3 (dk_at dksX2_spiteOfSeats_0 0 rfl rfl)
theorem dX2_spiteOfSeats_1 : decode cX2_spiteOfSeats 1 = .ok (.istore_n 1, 1) := dk_60 (dk_at dksX2_spiteOfSeats_0 1 rfl rfl)
theorem dX2_spiteOfSeats_2 : decode cX2_spiteOfSeats 2 = .ok (.iload_n 1, 1) := dk_27 (dk_at dksX2_spiteOfSeats_0 2 rfl rfl)
theorem dX2_spiteOfSeats_3 : decode cX2_spiteOfSeats 3 = .ok (.aload_n 0, 1) := dk_42 (dk_at dksX2_spiteOfSeats_0 3 rfl rfl)
theorem dX2_spiteOfSeats_4 : decode cX2_spiteOfSeats 4 = .ok (.getfield 7, 3) := dk_180 0 7 (dk_at dksX2_spiteOfSeats_0 4 rfl rfl)
theorem dX2_spiteOfSeats_7 : decode cX2_spiteOfSeats 7 = .ok (.iconst 0, 1) := dk_3 (dk_at dksX2_spiteOfSeats_0 7 rfl rfl)
theorem dX2_spiteOfSeats_8 : decode cX2_spiteOfSeats 8 = .ok (.iaload, 1) := dk_46 (dk_at dksX2_spiteOfSeats_0 8 rfl rfl)
theorem dX2_spiteOfSeats_9 : decode cX2_spiteOfSeats 9 = .ok (.if_icmp .ge 24, 3) := dk_162 0 24 (dk_at dksX2_spiteOfSeats_0 9 rfl rfl)
theorem dX2_spiteOfSeats_12 : decode cX2_spiteOfSeats 12 = .ok (.aload_n 0, 1) := dk_42 (dk_at dksX2_spiteOfSeats_0 12 rfl rfl)
theorem dX2_spiteOfSeats_13 : decode cX2_spiteOfSeats 13 = .ok (.getfield 50, 3) := dk_180 0 50 (dk_at dksX2_spiteOfSeats_0 13 rfl rfl)
theorem dX2_spiteOfSeats_16 : decode cX2_spiteOfSeats 16 = .ok (.aload_n 0, 1) := dk_42 (dk_at dksX2_spiteOfSeats_0 16 rfl rfl)
theorem dX2_spiteOfSeats_17 : decode cX2_spiteOfSeats 17 = .ok (.getfield 7, 3) := dk_180 0 7 (dk_at dksX2_spiteOfSeats_0 17 rfl rfl)
theorem dX2_spiteOfSeats_20 : decode cX2_spiteOfSeats 20 = .ok (.bipush 17, 2) := dk_16 17 (dk_at dksX2_spiteOfSeats_0 20 rfl rfl)
theorem dX2_spiteOfSeats_22 : decode cX2_spiteOfSeats 22 = .ok (.iload_n 1, 1) := dk_27 (dk_at dksX2_spiteOfSeats_0 22 rfl rfl)
theorem dX2_spiteOfSeats_23 : decode cX2_spiteOfSeats 23 = .ok (.iadd, 1) := dk_96 (dk_at dksX2_spiteOfSeats_0 23 rfl rfl)
theorem dX2_spiteOfSeats_24 : decode cX2_spiteOfSeats 24 = .ok (.iaload, 1) := dk_46 (dk_at dksX2_spiteOfSeats_1 0 rfl rfl)
theorem dX2_spiteOfSeats_25 : decode cX2_spiteOfSeats 25 = .ok (.iload_n 1, 1) := dk_27 (dk_at dksX2_spiteOfSeats_1 1 rfl rfl)
theorem dX2_spiteOfSeats_26 : decode cX2_spiteOfSeats 26 = .ok (.iastore, 1) := dk_79 (dk_at dksX2_spiteOfSeats_1 2 rfl rfl)
theorem dX2_spiteOfSeats_27 : decode cX2_spiteOfSeats 27 = .ok (.iinc 1 1, 3) := dk_132 1 1 (dk_at dksX2_spiteOfSeats_1 3 rfl rfl)
theorem dX2_spiteOfSeats_30 : decode cX2_spiteOfSeats 30 = .ok (.goto (-28), 3) := dk_167 255 228 (dk_at dksX2_spiteOfSeats_1 6 rfl rfl)
theorem dX2_spiteOfSeats_33 : decode cX2_spiteOfSeats 33 = .ok (.aload_n 0, 1) := dk_42 (dk_at dksX2_spiteOfSeats_1 9 rfl rfl)
theorem dX2_spiteOfSeats_34 : decode cX2_spiteOfSeats 34 = .ok (.invokevirtual 391, 3) := dk_182 1 135 (dk_at dksX2_spiteOfSeats_1 10 rfl rfl)
theorem dX2_spiteOfSeats_37 : decode cX2_spiteOfSeats 37 = .ok (.ireturn, 1) := dk_172 (dk_at dksX2_spiteOfSeats_1 13 rfl rfl)
abbrev cX2_mend : ByteArray := prog_20_method_105_code
def yX2_mend : MethodName := ⟨RX2, "mend", "(I)I"⟩
def dkwX2_mend_5 : List UInt8 := [154, 0, 10, 29, 16, 6, 108, 167, 0, 16, 27, 4, 160, 0, 10, 29, 16, 6, 112, 167, 0, 4, 28, 172]
abbrev dktX2_mend_5 : List UInt8 := dkwX2_mend_5 ++ []
def dkwX2_mend_4 : List UInt8 := [132, 5, 1, 167, 255, 199, 132, 4, 1, 167, 255, 176, 29, 2, 160, 0, 7, 2, 167, 0, 27, 27]
abbrev dktX2_mend_4 : List UInt8 := dkwX2_mend_4 ++ dktX2_mend_5
def dkwX2_mend_3 : List UInt8 := [182, 1, 83, 21, 6, 28, 161, 0, 6, 167, 0, 15, 21, 6, 61, 16, 6, 21, 4, 104, 21, 5, 96, 62]
abbrev dktX2_mend_3 : List UInt8 := dkwX2_mend_3 ++ dktX2_mend_4
def dkwX2_mend_2 : List UInt8 := [162, 0, 52, 42, 21, 4, 21, 5, 182, 1, 83, 42, 182, 1, 141, 54, 6, 42, 21, 4, 21, 5]
abbrev dktX2_mend_2 : List UInt8 := dkwX2_mend_2 ++ dktX2_mend_3
def dkwX2_mend_1 : List UInt8 := [180, 0, 7, 3, 46, 162, 0, 75, 21, 4, 4, 96, 54, 5, 21, 5, 42, 180, 0, 7, 3, 46]
abbrev dktX2_mend_1 : List UInt8 := dkwX2_mend_1 ++ dktX2_mend_2
def dkwX2_mend_0 : List UInt8 := [27, 3, 5, 184, 0, 72, 154, 0, 5, 2, 172, 42, 182, 1, 141, 61, 2, 62, 3, 54, 4, 21, 4, 42]
abbrev dktX2_mend_0 : List UInt8 := dkwX2_mend_0 ++ dktX2_mend_1
theorem dksX2_mend_0 : cX2_mend.data.toList.drop 0 = dktX2_mend_0 := by decide +kernel
theorem dksX2_mend_1 : cX2_mend.data.toList.drop 24 = dktX2_mend_1 := dk_seg dksX2_mend_0 24 rfl rfl
theorem dksX2_mend_2 : cX2_mend.data.toList.drop 46 = dktX2_mend_2 := dk_seg dksX2_mend_1 22 rfl rfl
theorem dksX2_mend_3 : cX2_mend.data.toList.drop 68 = dktX2_mend_3 := dk_seg dksX2_mend_2 22 rfl rfl
theorem dksX2_mend_4 : cX2_mend.data.toList.drop 92 = dktX2_mend_4 := dk_seg dksX2_mend_3 24 rfl rfl
theorem dksX2_mend_5 : cX2_mend.data.toList.drop 114 = dktX2_mend_5 := dk_seg dksX2_mend_4 22 rfl rfl
theorem dX2_mend_0 : decode cX2_mend 0 = .ok (.iload_n 1, 1) := dk_27 (dk_at dksX2_mend_0 0 rfl rfl)
theorem dX2_mend_1 : decode cX2_mend 1 = .ok (.iconst 0, 1) := dk_3 (dk_at dksX2_mend_0 1 rfl rfl)
theorem dX2_mend_2 : decode cX2_mend 2 = .ok (.iconst 2, 1) := dk_5 (dk_at dksX2_mend_0 2 rfl rfl)
theorem dX2_mend_3 : decode cX2_mend 3 = .ok (.invokestatic 72, 3) := dk_184 0 72 (dk_at dksX2_mend_0 3 rfl rfl)
theorem dX2_mend_6 : decode cX2_mend 6 = .ok (.ifCond .ne 5, 3) := dk_154 0 5 (dk_at dksX2_mend_0 6 rfl rfl)
theorem dX2_mend_9 : decode cX2_mend 9 = .ok (.iconst (-1), 1) := dk_2 (dk_at dksX2_mend_0 9 rfl rfl)
theorem dX2_mend_10 : decode cX2_mend 10 = .ok (.ireturn, 1) := dk_172 (dk_at dksX2_mend_0 10 rfl rfl)
theorem dX2_mend_11 : decode cX2_mend 11 = .ok (.aload_n 0, 1) := dk_42 (dk_at dksX2_mend_0 11 rfl rfl)
theorem dX2_mend_12 : decode cX2_mend 12 = .ok (.invokevirtual 397, 3) := dk_182 1 141 (dk_at dksX2_mend_0 12 rfl rfl)
theorem dX2_mend_15 : decode cX2_mend 15 = .ok (.istore_n 2, 1) := dk_61 (dk_at dksX2_mend_0 15 rfl rfl)
theorem dX2_mend_16 : decode cX2_mend 16 = .ok (.iconst (-1), 1) := dk_2 (dk_at dksX2_mend_0 16 rfl rfl)
theorem dX2_mend_17 : decode cX2_mend 17 = .ok (.istore_n 3, 1) := dk_62 (dk_at dksX2_mend_0 17 rfl rfl)
theorem dX2_mend_18 : decode cX2_mend 18 = .ok (.iconst 0, 1) := dk_3 (dk_at dksX2_mend_0 18 rfl rfl)
theorem dX2_mend_19 : decode cX2_mend 19 = .ok (.istore 4, 2) := dk_54 4 (dk_at dksX2_mend_0 19 rfl rfl)
theorem dX2_mend_21 : decode cX2_mend 21 = .ok (.iload 4, 2) := dk_21 4 (dk_at dksX2_mend_0 21 rfl rfl)
theorem dX2_mend_23 : decode cX2_mend 23 = .ok (.aload_n 0, 1) := dk_42 (dk_at dksX2_mend_0 23 rfl rfl)
theorem dX2_mend_24 : decode cX2_mend 24 = .ok (.getfield 7, 3) := dk_180 0 7 (dk_at dksX2_mend_1 0 rfl rfl)
theorem dX2_mend_27 : decode cX2_mend 27 = .ok (.iconst 0, 1) := dk_3 (dk_at dksX2_mend_1 3 rfl rfl)
theorem dX2_mend_28 : decode cX2_mend 28 = .ok (.iaload, 1) := dk_46 (dk_at dksX2_mend_1 4 rfl rfl)
theorem dX2_mend_29 : decode cX2_mend 29 = .ok (.if_icmp .ge 75, 3) := dk_162 0 75 (dk_at dksX2_mend_1 5 rfl rfl)
theorem dX2_mend_32 : decode cX2_mend 32 = .ok (.iload 4, 2) := dk_21 4 (dk_at dksX2_mend_1 8 rfl rfl)
theorem dX2_mend_34 : decode cX2_mend 34 = .ok (.iconst 1, 1) := dk_4 (dk_at dksX2_mend_1 10 rfl rfl)
theorem dX2_mend_35 : decode cX2_mend 35 = .ok (.iadd, 1) := dk_96 (dk_at dksX2_mend_1 11 rfl rfl)
theorem dX2_mend_36 : decode cX2_mend 36 = .ok (.istore 5, 2) := dk_54 5 (dk_at dksX2_mend_1 12 rfl rfl)
theorem dX2_mend_38 : decode cX2_mend 38 = .ok (.iload 5, 2) := dk_21 5 (dk_at dksX2_mend_1 14 rfl rfl)
theorem dX2_mend_40 : decode cX2_mend 40 = .ok (.aload_n 0, 1) := dk_42 (dk_at dksX2_mend_1 16 rfl rfl)
theorem dX2_mend_41 : decode cX2_mend 41 = .ok (.getfield 7, 3) := dk_180 0 7 (dk_at dksX2_mend_1 17 rfl rfl)
theorem dX2_mend_44 : decode cX2_mend 44 = .ok (.iconst 0, 1) := dk_3 (dk_at dksX2_mend_1 20 rfl rfl)
theorem dX2_mend_45 : decode cX2_mend 45 = .ok (.iaload, 1) := dk_46 (dk_at dksX2_mend_1 21 rfl rfl)
theorem dX2_mend_46 : decode cX2_mend 46 = .ok (.if_icmp .ge 52, 3) := dk_162 0 52 (dk_at dksX2_mend_2 0 rfl rfl)
theorem dX2_mend_49 : decode cX2_mend 49 = .ok (.aload_n 0, 1) := dk_42 (dk_at dksX2_mend_2 3 rfl rfl)
theorem dX2_mend_50 : decode cX2_mend 50 = .ok (.iload 4, 2) := dk_21 4 (dk_at dksX2_mend_2 4 rfl rfl)
theorem dX2_mend_52 : decode cX2_mend 52 = .ok (.iload 5, 2) := dk_21 5 (dk_at dksX2_mend_2 6 rfl rfl)
theorem dX2_mend_54 : decode cX2_mend 54 = .ok (.invokevirtual 339, 3) := dk_182 1 83 (dk_at dksX2_mend_2 8 rfl rfl)
theorem dX2_mend_57 : decode cX2_mend 57 = .ok (.aload_n 0, 1) := dk_42 (dk_at dksX2_mend_2 11 rfl rfl)
theorem dX2_mend_58 : decode cX2_mend 58 = .ok (.invokevirtual 397, 3) := dk_182 1 141 (dk_at dksX2_mend_2 12 rfl rfl)
theorem dX2_mend_61 : decode cX2_mend 61 = .ok (.istore 6, 2) := dk_54 6 (dk_at dksX2_mend_2 15 rfl rfl)
theorem dX2_mend_63 : decode cX2_mend 63 = .ok (.aload_n 0, 1) := dk_42 (dk_at dksX2_mend_2 17 rfl rfl)
theorem dX2_mend_64 : decode cX2_mend 64 = .ok (.iload 4, 2) := dk_21 4 (dk_at dksX2_mend_2 18 rfl rfl)
theorem dX2_mend_66 : decode cX2_mend 66 = .ok (.iload 5, 2) := dk_21 5 (dk_at dksX2_mend_2 20 rfl rfl)
theorem dX2_mend_68 : decode cX2_mend 68 = .ok (.invokevirtual 339, 3) := dk_182 1 83 (dk_at dksX2_mend_3 0 rfl rfl)
theorem dX2_mend_71 : decode cX2_mend 71 = .ok (.iload 6, 2) := dk_21 6 (dk_at dksX2_mend_3 3 rfl rfl)
theorem dX2_mend_73 : decode cX2_mend 73 = .ok (.iload_n 2, 1) := dk_28 (dk_at dksX2_mend_3 5 rfl rfl)
theorem dX2_mend_74 : decode cX2_mend 74 = .ok (.if_icmp .lt 6, 3) := dk_161 0 6 (dk_at dksX2_mend_3 6 rfl rfl)
theorem dX2_mend_77 : decode cX2_mend 77 = .ok (.goto 15, 3) := dk_167 0 15 (dk_at dksX2_mend_3 9 rfl rfl)
theorem dX2_mend_80 : decode cX2_mend 80 = .ok (.iload 6, 2) := dk_21 6 (dk_at dksX2_mend_3 12 rfl rfl)
theorem dX2_mend_82 : decode cX2_mend 82 = .ok (.istore_n 2, 1) := dk_61 (dk_at dksX2_mend_3 14 rfl rfl)
theorem dX2_mend_83 : decode cX2_mend 83 = .ok (.bipush 6, 2) := dk_16 6 (dk_at dksX2_mend_3 15 rfl rfl)
theorem dX2_mend_85 : decode cX2_mend 85 = .ok (.iload 4, 2) := dk_21 4 (dk_at dksX2_mend_3 17 rfl rfl)
theorem dX2_mend_87 : decode cX2_mend 87 = .ok (.imul, 1) := dk_104 (dk_at dksX2_mend_3 19 rfl rfl)
theorem dX2_mend_88 : decode cX2_mend 88 = .ok (.iload 5, 2) := dk_21 5 (dk_at dksX2_mend_3 20 rfl rfl)
theorem dX2_mend_90 : decode cX2_mend 90 = .ok (.iadd, 1) := dk_96 (dk_at dksX2_mend_3 22 rfl rfl)
theorem dX2_mend_91 : decode cX2_mend 91 = .ok (.istore_n 3, 1) := dk_62 (dk_at dksX2_mend_3 23 rfl rfl)
theorem dX2_mend_92 : decode cX2_mend 92 = .ok (.iinc 5 1, 3) := dk_132 5 1 (dk_at dksX2_mend_4 0 rfl rfl)
theorem dX2_mend_95 : decode cX2_mend 95 = .ok (.goto (-57), 3) := dk_167 255 199 (dk_at dksX2_mend_4 3 rfl rfl)
theorem dX2_mend_98 : decode cX2_mend 98 = .ok (.iinc 4 1, 3) := dk_132 4 1 (dk_at dksX2_mend_4 6 rfl rfl)
theorem dX2_mend_101 : decode cX2_mend 101 = .ok (.goto (-80), 3) := dk_167 255 176 (dk_at dksX2_mend_4 9 rfl rfl)
theorem dX2_mend_104 : decode cX2_mend 104 = .ok (.iload_n 3, 1) := dk_29 (dk_at dksX2_mend_4 12 rfl rfl)
theorem dX2_mend_105 : decode cX2_mend 105 = .ok (.iconst (-1), 1) := dk_2 (dk_at dksX2_mend_4 13 rfl rfl)
theorem dX2_mend_106 : decode cX2_mend 106 = .ok (.if_icmp .ne 7, 3) := dk_160 0 7 (dk_at dksX2_mend_4 14 rfl rfl)
theorem dX2_mend_109 : decode cX2_mend 109 = .ok (.iconst (-1), 1) := dk_2 (dk_at dksX2_mend_4 17 rfl rfl)
theorem dX2_mend_110 : decode cX2_mend 110 = .ok (.goto 27, 3) := dk_167 0 27 (dk_at dksX2_mend_4 18 rfl rfl)
theorem dX2_mend_113 : decode cX2_mend 113 = .ok (.iload_n 1, 1) := dk_27 (dk_at dksX2_mend_4 21 rfl rfl)
theorem dX2_mend_114 : decode cX2_mend 114 = .ok (.ifCond .ne 10, 3) := dk_154 0 10 (dk_at dksX2_mend_5 0 rfl rfl)
theorem dX2_mend_117 : decode cX2_mend 117 = .ok (.iload_n 3, 1) := dk_29 (dk_at dksX2_mend_5 3 rfl rfl)
theorem dX2_mend_118 : decode cX2_mend 118 = .ok (.bipush 6, 2) := dk_16 6 (dk_at dksX2_mend_5 4 rfl rfl)
theorem dX2_mend_120 : decode cX2_mend 120 = .ok (.idiv, 1) := dk_108 (dk_at dksX2_mend_5 6 rfl rfl)
theorem dX2_mend_121 : decode cX2_mend 121 = .ok (.goto 16, 3) := dk_167 0 16 (dk_at dksX2_mend_5 7 rfl rfl)
theorem dX2_mend_124 : decode cX2_mend 124 = .ok (.iload_n 1, 1) := dk_27 (dk_at dksX2_mend_5 10 rfl rfl)
theorem dX2_mend_125 : decode cX2_mend 125 = .ok (.iconst 1, 1) := dk_4 (dk_at dksX2_mend_5 11 rfl rfl)
theorem dX2_mend_126 : decode cX2_mend 126 = .ok (.if_icmp .ne 10, 3) := dk_160 0 10 (dk_at dksX2_mend_5 12 rfl rfl)
theorem dX2_mend_129 : decode cX2_mend 129 = .ok (.iload_n 3, 1) := dk_29 (dk_at dksX2_mend_5 15 rfl rfl)
theorem dX2_mend_130 : decode cX2_mend 130 = .ok (.bipush 6, 2) := dk_16 6 (dk_at dksX2_mend_5 16 rfl rfl)
theorem dX2_mend_132 : decode cX2_mend 132 = .ok (.irem, 1) := dk_112 (dk_at dksX2_mend_5 18 rfl rfl)
theorem dX2_mend_133 : decode cX2_mend 133 = .ok (.goto 4, 3) := dk_167 0 4 (dk_at dksX2_mend_5 19 rfl rfl)
theorem dX2_mend_136 : decode cX2_mend 136 = .ok (.iload_n 2, 1) := dk_28 (dk_at dksX2_mend_5 22 rfl rfl)
theorem dX2_mend_137 : decode cX2_mend 137 = .ok (.ireturn, 1) := dk_172 (dk_at dksX2_mend_5 23 rfl rfl)
abbrev cX2_hedge : ByteArray := prog_20_method_106_code
def yX2_hedge : MethodName := ⟨RX2, "hedge", "(II)Z"⟩
def dkwX2_hedge_1 : List UInt8 := [180, 0, 7, 16, 71, 27, 96, 28, 79, 4, 172]
abbrev dktX2_hedge_1 : List UInt8 := dkwX2_hedge_1 ++ []
def dkwX2_hedge_0 : List UInt8 := [27, 3, 16, 35, 184, 0, 72, 153, 0, 12, 28, 3, 6, 184, 0, 72, 154, 0, 5, 3, 172, 42]
abbrev dktX2_hedge_0 : List UInt8 := dkwX2_hedge_0 ++ dktX2_hedge_1
theorem dksX2_hedge_0 : cX2_hedge.data.toList.drop 0 = dktX2_hedge_0 := by decide +kernel
theorem dksX2_hedge_1 : cX2_hedge.data.toList.drop 22 = dktX2_hedge_1 := dk_seg dksX2_hedge_0 22 rfl rfl
theorem dX2_hedge_0 : decode cX2_hedge 0 = .ok (.iload_n 1, 1) := dk_27 (dk_at dksX2_hedge_0 0 rfl rfl)
theorem dX2_hedge_1 : decode cX2_hedge 1 = .ok (.iconst 0, 1) := dk_3 (dk_at dksX2_hedge_0 1 rfl rfl)
theorem dX2_hedge_2 : decode cX2_hedge 2 = .ok (.bipush 35, 2) := dk_16 35 (dk_at dksX2_hedge_0 2 rfl rfl)
theorem dX2_hedge_4 : decode cX2_hedge 4 = .ok (.invokestatic 72, 3) := dk_184 0 72 (dk_at dksX2_hedge_0 4 rfl rfl)
theorem dX2_hedge_7 : decode cX2_hedge 7 = .ok (.ifCond .eq 12, 3) := dk_153 0 12 (dk_at dksX2_hedge_0 7 rfl rfl)
theorem dX2_hedge_10 : decode cX2_hedge 10 = .ok (.iload_n 2, 1) := dk_28 (dk_at dksX2_hedge_0 10 rfl rfl)
theorem dX2_hedge_11 : decode cX2_hedge 11 = .ok (.iconst 0, 1) := dk_3 (dk_at dksX2_hedge_0 11 rfl rfl)
theorem dX2_hedge_12 : decode cX2_hedge 12 = .ok (.iconst 3, 1) := dk_6 (dk_at dksX2_hedge_0 12 rfl rfl)
theorem dX2_hedge_13 : decode cX2_hedge 13 = .ok (.invokestatic 72, 3) := dk_184 0 72 (dk_at dksX2_hedge_0 13 rfl rfl)
theorem dX2_hedge_16 : decode cX2_hedge 16 = .ok (.ifCond .ne 5, 3) := dk_154 0 5 (dk_at dksX2_hedge_0 16 rfl rfl)
theorem dX2_hedge_19 : decode cX2_hedge 19 = .ok (.iconst 0, 1) := dk_3 (dk_at dksX2_hedge_0 19 rfl rfl)
theorem dX2_hedge_20 : decode cX2_hedge 20 = .ok (.ireturn, 1) := dk_172 (dk_at dksX2_hedge_0 20 rfl rfl)
theorem dX2_hedge_21 : decode cX2_hedge 21 = .ok (.aload_n 0, 1) := dk_42 (dk_at dksX2_hedge_0 21 rfl rfl)
theorem dX2_hedge_22 : decode cX2_hedge 22 = .ok (.getfield 7, 3) := dk_180 0 7 (dk_at dksX2_hedge_1 0 rfl rfl)
theorem dX2_hedge_25 : decode cX2_hedge 25 = .ok (.bipush 71, 2) := dk_16 71 (dk_at dksX2_hedge_1 3 rfl rfl)
theorem dX2_hedge_27 : decode cX2_hedge 27 = .ok (.iload_n 1, 1) := dk_27 (dk_at dksX2_hedge_1 5 rfl rfl)
theorem dX2_hedge_28 : decode cX2_hedge 28 = .ok (.iadd, 1) := dk_96 (dk_at dksX2_hedge_1 6 rfl rfl)
theorem dX2_hedge_29 : decode cX2_hedge 29 = .ok (.iload_n 2, 1) := dk_28 (dk_at dksX2_hedge_1 7 rfl rfl)
theorem dX2_hedge_30 : decode cX2_hedge 30 = .ok (.iastore, 1) := dk_79 (dk_at dksX2_hedge_1 8 rfl rfl)
theorem dX2_hedge_31 : decode cX2_hedge 31 = .ok (.iconst 1, 1) := dk_4 (dk_at dksX2_hedge_1 9 rfl rfl)
theorem dX2_hedge_32 : decode cX2_hedge 32 = .ok (.ireturn, 1) := dk_172 (dk_at dksX2_hedge_1 10 rfl rfl)
abbrev cX2_flight : ByteArray := prog_20_method_111_code
def yX2_flight : MethodName := ⟨RX2, "flight", "(III)I"⟩
def dkwX2_flight_2 : List UInt8 := [180, 1, 147, 167, 0, 19, 29, 5, 160, 0, 10, 42, 180, 1, 150, 167, 0, 7, 42, 180, 1, 153, 172]
abbrev dktX2_flight_2 : List UInt8 := dkwX2_flight_2 ++ []
def dkwX2_flight_1 : List UInt8 := [154, 0, 5, 2, 172, 29, 154, 0, 10, 42, 180, 1, 144, 167, 0, 31, 29, 4, 160, 0, 10, 42]
abbrev dktX2_flight_1 : List UInt8 := dkwX2_flight_1 ++ dktX2_flight_2
def dkwX2_flight_0 : List UInt8 := [27, 28, 184, 1, 162, 153, 0, 21, 29, 3, 6, 184, 0, 72, 153, 0, 12, 42, 27, 28, 182, 1, 165]
abbrev dktX2_flight_0 : List UInt8 := dkwX2_flight_0 ++ dktX2_flight_1
theorem dksX2_flight_0 : cX2_flight.data.toList.drop 0 = dktX2_flight_0 := by decide +kernel
theorem dksX2_flight_1 : cX2_flight.data.toList.drop 23 = dktX2_flight_1 := dk_seg dksX2_flight_0 23 rfl rfl
theorem dksX2_flight_2 : cX2_flight.data.toList.drop 45 = dktX2_flight_2 := dk_seg dksX2_flight_1 22 rfl rfl
theorem dX2_flight_0 : decode cX2_flight 0 = .ok (.iload_n 1, 1) := dk_27 (dk_at dksX2_flight_0 0 rfl rfl)
theorem dX2_flight_1 : decode cX2_flight 1 = .ok (.iload_n 2, 1) := dk_28 (dk_at dksX2_flight_0 1 rfl rfl)
theorem dX2_flight_2 : decode cX2_flight 2 = .ok (.invokestatic 418, 3) := dk_184 1 162 (dk_at dksX2_flight_0 2 rfl rfl)
theorem dX2_flight_5 : decode cX2_flight 5 = .ok (.ifCond .eq 21, 3) := dk_153 0 21 (dk_at dksX2_flight_0 5 rfl rfl)
theorem dX2_flight_8 : decode cX2_flight 8 = .ok (.iload_n 3, 1) := dk_29 (dk_at dksX2_flight_0 8 rfl rfl)
theorem dX2_flight_9 : decode cX2_flight 9 = .ok (.iconst 0, 1) := dk_3 (dk_at dksX2_flight_0 9 rfl rfl)
theorem dX2_flight_10 : decode cX2_flight 10 = .ok (.iconst 3, 1) := dk_6 (dk_at dksX2_flight_0 10 rfl rfl)
theorem dX2_flight_11 : decode cX2_flight 11 = .ok (.invokestatic 72, 3) := dk_184 0 72 (dk_at dksX2_flight_0 11 rfl rfl)
theorem dX2_flight_14 : decode cX2_flight 14 = .ok (.ifCond .eq 12, 3) := dk_153 0 12 (dk_at dksX2_flight_0 14 rfl rfl)
theorem dX2_flight_17 : decode cX2_flight 17 = .ok (.aload_n 0, 1) := dk_42 (dk_at dksX2_flight_0 17 rfl rfl)
theorem dX2_flight_18 : decode cX2_flight 18 = .ok (.iload_n 1, 1) := dk_27 (dk_at dksX2_flight_0 18 rfl rfl)
theorem dX2_flight_19 : decode cX2_flight 19 = .ok (.iload_n 2, 1) := dk_28 (dk_at dksX2_flight_0 19 rfl rfl)
theorem dX2_flight_20 : decode cX2_flight 20 = .ok (.invokevirtual 421, 3) := dk_182 1 165 (dk_at dksX2_flight_0 20 rfl rfl)
theorem dX2_flight_23 : decode cX2_flight 23 = .ok (.ifCond .ne 5, 3) := dk_154 0 5 (dk_at dksX2_flight_1 0 rfl rfl)
theorem dX2_flight_26 : decode cX2_flight 26 = .ok (.iconst (-1), 1) := dk_2 (dk_at dksX2_flight_1 3 rfl rfl)
theorem dX2_flight_27 : decode cX2_flight 27 = .ok (.ireturn, 1) := dk_172 (dk_at dksX2_flight_1 4 rfl rfl)
theorem dX2_flight_28 : decode cX2_flight 28 = .ok (.iload_n 3, 1) := dk_29 (dk_at dksX2_flight_1 5 rfl rfl)
theorem dX2_flight_29 : decode cX2_flight 29 = .ok (.ifCond .ne 10, 3) := dk_154 0 10 (dk_at dksX2_flight_1 6 rfl rfl)
theorem dX2_flight_32 : decode cX2_flight 32 = .ok (.aload_n 0, 1) := dk_42 (dk_at dksX2_flight_1 9 rfl rfl)
theorem dX2_flight_33 : decode cX2_flight 33 = .ok (.getfield 400, 3) := dk_180 1 144 (dk_at dksX2_flight_1 10 rfl rfl)
theorem dX2_flight_36 : decode cX2_flight 36 = .ok (.goto 31, 3) := dk_167 0 31 (dk_at dksX2_flight_1 13 rfl rfl)
theorem dX2_flight_39 : decode cX2_flight 39 = .ok (.iload_n 3, 1) := dk_29 (dk_at dksX2_flight_1 16 rfl rfl)
theorem dX2_flight_40 : decode cX2_flight 40 = .ok (.iconst 1, 1) := dk_4 (dk_at dksX2_flight_1 17 rfl rfl)
theorem dX2_flight_41 : decode cX2_flight 41 = .ok (.if_icmp .ne 10, 3) := dk_160 0 10 (dk_at dksX2_flight_1 18 rfl rfl)
theorem dX2_flight_44 : decode cX2_flight 44 = .ok (.aload_n 0, 1) := dk_42 (dk_at dksX2_flight_1 21 rfl rfl)
theorem dX2_flight_45 : decode cX2_flight 45 = .ok (.getfield 403, 3) := dk_180 1 147 (dk_at dksX2_flight_2 0 rfl rfl)
theorem dX2_flight_48 : decode cX2_flight 48 = .ok (.goto 19, 3) := dk_167 0 19 (dk_at dksX2_flight_2 3 rfl rfl)
theorem dX2_flight_51 : decode cX2_flight 51 = .ok (.iload_n 3, 1) := dk_29 (dk_at dksX2_flight_2 6 rfl rfl)
theorem dX2_flight_52 : decode cX2_flight 52 = .ok (.iconst 2, 1) := dk_5 (dk_at dksX2_flight_2 7 rfl rfl)
theorem dX2_flight_53 : decode cX2_flight 53 = .ok (.if_icmp .ne 10, 3) := dk_160 0 10 (dk_at dksX2_flight_2 8 rfl rfl)
theorem dX2_flight_56 : decode cX2_flight 56 = .ok (.aload_n 0, 1) := dk_42 (dk_at dksX2_flight_2 11 rfl rfl)
theorem dX2_flight_57 : decode cX2_flight 57 = .ok (.getfield 406, 3) := dk_180 1 150 (dk_at dksX2_flight_2 12 rfl rfl)
theorem dX2_flight_60 : decode cX2_flight 60 = .ok (.goto 7, 3) := dk_167 0 7 (dk_at dksX2_flight_2 15 rfl rfl)
theorem dX2_flight_63 : decode cX2_flight 63 = .ok (.aload_n 0, 1) := dk_42 (dk_at dksX2_flight_2 18 rfl rfl)
theorem dX2_flight_64 : decode cX2_flight 64 = .ok (.getfield 409, 3) := dk_180 1 153 (dk_at dksX2_flight_2 19 rfl rfl)
theorem dX2_flight_67 : decode cX2_flight 67 = .ok (.ireturn, 1) := dk_172 (dk_at dksX2_flight_2 22 rfl rfl)
abbrev cX2_isFlight : ByteArray := prog_20_method_110_code
def yX2_isFlight : MethodName := ⟨RX2, "isFlight", "(II)Z"⟩
def dkwX2_isFlight_1 : List UInt8 := [172]
abbrev dktX2_isFlight_1 : List UInt8 := dkwX2_isFlight_1 ++ []
def dkwX2_isFlight_0 : List UInt8 := [26, 3, 16, 35, 184, 0, 72, 153, 0, 16, 27, 3, 6, 184, 0, 72, 153, 0, 7, 4, 167, 0, 4, 3]
abbrev dktX2_isFlight_0 : List UInt8 := dkwX2_isFlight_0 ++ dktX2_isFlight_1
theorem dksX2_isFlight_0 : cX2_isFlight.data.toList.drop 0 = dktX2_isFlight_0 := by decide +kernel
theorem dksX2_isFlight_1 : cX2_isFlight.data.toList.drop 24 = dktX2_isFlight_1 := dk_seg dksX2_isFlight_0 24 rfl rfl
theorem dX2_isFlight_0 : decode cX2_isFlight 0 = .ok (.iload_n 0, 1) := dk_26 (dk_at dksX2_isFlight_0 0 rfl rfl)
theorem dX2_isFlight_1 : decode cX2_isFlight 1 = .ok (.iconst 0, 1) := dk_3 (dk_at dksX2_isFlight_0 1 rfl rfl)
theorem dX2_isFlight_2 : decode cX2_isFlight 2 = .ok (.bipush 35, 2) := dk_16 35 (dk_at dksX2_isFlight_0 2 rfl rfl)
theorem dX2_isFlight_4 : decode cX2_isFlight 4 = .ok (.invokestatic 72, 3) := dk_184 0 72 (dk_at dksX2_isFlight_0 4 rfl rfl)
theorem dX2_isFlight_7 : decode cX2_isFlight 7 = .ok (.ifCond .eq 16, 3) := dk_153 0 16 (dk_at dksX2_isFlight_0 7 rfl rfl)
theorem dX2_isFlight_10 : decode cX2_isFlight 10 = .ok (.iload_n 1, 1) := dk_27 (dk_at dksX2_isFlight_0 10 rfl rfl)
theorem dX2_isFlight_11 : decode cX2_isFlight 11 = .ok (.iconst 0, 1) := dk_3 (dk_at dksX2_isFlight_0 11 rfl rfl)
theorem dX2_isFlight_12 : decode cX2_isFlight 12 = .ok (.iconst 3, 1) := dk_6 (dk_at dksX2_isFlight_0 12 rfl rfl)
theorem dX2_isFlight_13 : decode cX2_isFlight 13 = .ok (.invokestatic 72, 3) := dk_184 0 72 (dk_at dksX2_isFlight_0 13 rfl rfl)
theorem dX2_isFlight_16 : decode cX2_isFlight 16 = .ok (.ifCond .eq 7, 3) := dk_153 0 7 (dk_at dksX2_isFlight_0 16 rfl rfl)
theorem dX2_isFlight_19 : decode cX2_isFlight 19 = .ok (.iconst 1, 1) := dk_4 (dk_at dksX2_isFlight_0 19 rfl rfl)
theorem dX2_isFlight_20 : decode cX2_isFlight 20 = .ok (.goto 4, 3) := dk_167 0 4 (dk_at dksX2_isFlight_0 20 rfl rfl)
theorem dX2_isFlight_23 : decode cX2_isFlight 23 = .ok (.iconst 0, 1) := dk_3 (dk_at dksX2_isFlight_0 23 rfl rfl)
theorem dX2_isFlight_24 : decode cX2_isFlight 24 = .ok (.ireturn, 1) := dk_172 (dk_at dksX2_isFlight_1 0 rfl rfl)
abbrev cX2_isFlown : ByteArray := prog_20_method_109_code
def yX2_isFlown : MethodName := ⟨RX2, "isFlown", "(II)Z"⟩
def dkwX2_isFlown_7 : List UInt8 := [184, 1, 159, 181, 1, 153, 167, 255, 128, 4, 172]
abbrev dktX2_isFlown_7 : List UInt8 := dkwX2_isFlown_7 ++ []
def dkwX2_isFlown_6 : List UInt8 := [89, 180, 1, 150, 29, 158, 0, 7, 4, 167, 0, 4, 3, 96, 181, 1, 150, 42, 29, 42, 180, 1, 153]
abbrev dktX2_isFlown_6 : List UInt8 := dkwX2_isFlown_6 ++ dktX2_isFlown_7
def dkwX2_isFlown_5 : List UInt8 := [96, 4, 84, 42, 180, 0, 7, 16, 71, 42, 180, 1, 147, 96, 46, 62, 29, 6, 160, 0, 5, 4, 172, 42]
abbrev dktX2_isFlown_5 : List UInt8 := dkwX2_isFlown_5 ++ dktX2_isFlown_6
def dkwX2_isFlown_4 : List UInt8 := [180, 1, 153, 96, 51, 153, 0, 5, 3, 172, 42, 180, 0, 56, 7, 42, 180, 1, 147, 104, 42, 180, 1, 153]
abbrev dktX2_isFlown_4 : List UInt8 := dkwX2_isFlown_4 ++ dktX2_isFlown_5
def dkwX2_isFlown_3 : List UInt8 := [181, 1, 147, 42, 89, 180, 1, 144, 4, 96, 181, 1, 144, 42, 180, 0, 56, 7, 42, 180, 1, 147, 104, 42]
abbrev dktX2_isFlown_3 : List UInt8 := dkwX2_isFlown_3 ++ dktX2_isFlown_4
def dkwX2_isFlown_2 : List UInt8 := [180, 1, 153, 184, 1, 156, 2, 159, 0, 119, 42, 42, 180, 1, 147, 42, 180, 1, 153, 184, 1, 156]
abbrev dktX2_isFlown_2 : List UInt8 := dkwX2_isFlown_2 ++ dktX2_isFlown_3
def dkwX2_isFlown_1 : List UInt8 := [181, 1, 144, 42, 27, 181, 1, 147, 42, 3, 181, 1, 150, 42, 28, 181, 1, 153, 42, 180, 1, 147, 42]
abbrev dktX2_isFlown_1 : List UInt8 := dkwX2_isFlown_1 ++ dktX2_isFlown_2
def dkwX2_isFlown_0 : List UInt8 := [3, 62, 29, 17, 0, 144, 162, 0, 16, 42, 180, 0, 56, 29, 3, 84, 132, 3, 1, 167, 255, 239, 42, 3]
abbrev dktX2_isFlown_0 : List UInt8 := dkwX2_isFlown_0 ++ dktX2_isFlown_1
theorem dksX2_isFlown_0 : cX2_isFlown.data.toList.drop 0 = dktX2_isFlown_0 := by decide +kernel
theorem dksX2_isFlown_1 : cX2_isFlown.data.toList.drop 24 = dktX2_isFlown_1 := dk_seg dksX2_isFlown_0 24 rfl rfl
theorem dksX2_isFlown_2 : cX2_isFlown.data.toList.drop 47 = dktX2_isFlown_2 := dk_seg dksX2_isFlown_1 23 rfl rfl
theorem dksX2_isFlown_3 : cX2_isFlown.data.toList.drop 69 = dktX2_isFlown_3 := dk_seg dksX2_isFlown_2 22 rfl rfl
theorem dksX2_isFlown_4 : cX2_isFlown.data.toList.drop 93 = dktX2_isFlown_4 := dk_seg dksX2_isFlown_3 24 rfl rfl
theorem dksX2_isFlown_5 : cX2_isFlown.data.toList.drop 117 = dktX2_isFlown_5 := dk_seg dksX2_isFlown_4 24 rfl rfl
theorem dksX2_isFlown_6 : cX2_isFlown.data.toList.drop 141 = dktX2_isFlown_6 := dk_seg dksX2_isFlown_5 24 rfl rfl
theorem dksX2_isFlown_7 : cX2_isFlown.data.toList.drop 164 = dktX2_isFlown_7 := dk_seg dksX2_isFlown_6 23 rfl rfl
theorem dX2_isFlown_0 : decode cX2_isFlown 0 = .ok (.iconst 0, 1) := dk_3 (dk_at dksX2_isFlown_0 0 rfl rfl)
theorem dX2_isFlown_1 : decode cX2_isFlown 1 = .ok (.istore_n 3, 1) := dk_62 (dk_at dksX2_isFlown_0 1 rfl rfl)
theorem dX2_isFlown_2 : decode cX2_isFlown 2 = .ok (.iload_n 3, 1) := dk_29 (dk_at dksX2_isFlown_0 2 rfl rfl)
theorem dX2_isFlown_3 : decode cX2_isFlown 3 = .ok (.sipush 144, 3) := dk_17 0 144 (dk_at dksX2_isFlown_0 3 rfl rfl)
theorem dX2_isFlown_6 : decode cX2_isFlown 6 = .ok (.if_icmp .ge 16, 3) := dk_162 0 16 (dk_at dksX2_isFlown_0 6 rfl rfl)
theorem dX2_isFlown_9 : decode cX2_isFlown 9 = .ok (.aload_n 0, 1) := dk_42 (dk_at dksX2_isFlown_0 9 rfl rfl)
theorem dX2_isFlown_10 : decode cX2_isFlown 10 = .ok (.getfield 56, 3) := dk_180 0 56 (dk_at dksX2_isFlown_0 10 rfl rfl)
theorem dX2_isFlown_13 : decode cX2_isFlown 13 = .ok (.iload_n 3, 1) := dk_29 (dk_at dksX2_isFlown_0 13 rfl rfl)
theorem dX2_isFlown_14 : decode cX2_isFlown 14 = .ok (.iconst 0, 1) := dk_3 (dk_at dksX2_isFlown_0 14 rfl rfl)
theorem dX2_isFlown_15 : decode cX2_isFlown 15 = .ok (.bastore, 1) := dk_84 (dk_at dksX2_isFlown_0 15 rfl rfl)
theorem dX2_isFlown_16 : decode cX2_isFlown 16 = .ok (.iinc 3 1, 3) := dk_132 3 1 (dk_at dksX2_isFlown_0 16 rfl rfl)
theorem dX2_isFlown_19 : decode cX2_isFlown 19 = .ok (.goto (-17), 3) := dk_167 255 239 (dk_at dksX2_isFlown_0 19 rfl rfl)
theorem dX2_isFlown_22 : decode cX2_isFlown 22 = .ok (.aload_n 0, 1) := dk_42 (dk_at dksX2_isFlown_0 22 rfl rfl)
theorem dX2_isFlown_23 : decode cX2_isFlown 23 = .ok (.iconst 0, 1) := dk_3 (dk_at dksX2_isFlown_0 23 rfl rfl)
theorem dX2_isFlown_24 : decode cX2_isFlown 24 = .ok (.putfield 400, 3) := dk_181 1 144 (dk_at dksX2_isFlown_1 0 rfl rfl)
theorem dX2_isFlown_27 : decode cX2_isFlown 27 = .ok (.aload_n 0, 1) := dk_42 (dk_at dksX2_isFlown_1 3 rfl rfl)
theorem dX2_isFlown_28 : decode cX2_isFlown 28 = .ok (.iload_n 1, 1) := dk_27 (dk_at dksX2_isFlown_1 4 rfl rfl)
theorem dX2_isFlown_29 : decode cX2_isFlown 29 = .ok (.putfield 403, 3) := dk_181 1 147 (dk_at dksX2_isFlown_1 5 rfl rfl)
theorem dX2_isFlown_32 : decode cX2_isFlown 32 = .ok (.aload_n 0, 1) := dk_42 (dk_at dksX2_isFlown_1 8 rfl rfl)
theorem dX2_isFlown_33 : decode cX2_isFlown 33 = .ok (.iconst 0, 1) := dk_3 (dk_at dksX2_isFlown_1 9 rfl rfl)
theorem dX2_isFlown_34 : decode cX2_isFlown 34 = .ok (.putfield 406, 3) := dk_181 1 150 (dk_at dksX2_isFlown_1 10 rfl rfl)
theorem dX2_isFlown_37 : decode cX2_isFlown 37 = .ok (.aload_n 0, 1) := dk_42 (dk_at dksX2_isFlown_1 13 rfl rfl)
theorem dX2_isFlown_38 : decode cX2_isFlown 38 = .ok (.iload_n 2, 1) := dk_28 (dk_at dksX2_isFlown_1 14 rfl rfl)
theorem dX2_isFlown_39 : decode cX2_isFlown 39 = .ok (.putfield 409, 3) := dk_181 1 153 (dk_at dksX2_isFlown_1 15 rfl rfl)
theorem dX2_isFlown_42 : decode cX2_isFlown 42 = .ok (.aload_n 0, 1) := dk_42 (dk_at dksX2_isFlown_1 18 rfl rfl)
theorem dX2_isFlown_43 : decode cX2_isFlown 43 = .ok (.getfield 403, 3) := dk_180 1 147 (dk_at dksX2_isFlown_1 19 rfl rfl)
theorem dX2_isFlown_46 : decode cX2_isFlown 46 = .ok (.aload_n 0, 1) := dk_42 (dk_at dksX2_isFlown_1 22 rfl rfl)
theorem dX2_isFlown_47 : decode cX2_isFlown 47 = .ok (.getfield 409, 3) := dk_180 1 153 (dk_at dksX2_isFlown_2 0 rfl rfl)
theorem dX2_isFlown_50 : decode cX2_isFlown 50 = .ok (.invokestatic 412, 3) := dk_184 1 156 (dk_at dksX2_isFlown_2 3 rfl rfl)
theorem dX2_isFlown_53 : decode cX2_isFlown 53 = .ok (.iconst (-1), 1) := dk_2 (dk_at dksX2_isFlown_2 6 rfl rfl)
theorem dX2_isFlown_54 : decode cX2_isFlown 54 = .ok (.if_icmp .eq 119, 3) := dk_159 0 119 (dk_at dksX2_isFlown_2 7 rfl rfl)
theorem dX2_isFlown_57 : decode cX2_isFlown 57 = .ok (.aload_n 0, 1) := dk_42 (dk_at dksX2_isFlown_2 10 rfl rfl)
theorem dX2_isFlown_58 : decode cX2_isFlown 58 = .ok (.aload_n 0, 1) := dk_42 (dk_at dksX2_isFlown_2 11 rfl rfl)
theorem dX2_isFlown_59 : decode cX2_isFlown 59 = .ok (.getfield 403, 3) := dk_180 1 147 (dk_at dksX2_isFlown_2 12 rfl rfl)
theorem dX2_isFlown_62 : decode cX2_isFlown 62 = .ok (.aload_n 0, 1) := dk_42 (dk_at dksX2_isFlown_2 15 rfl rfl)
theorem dX2_isFlown_63 : decode cX2_isFlown 63 = .ok (.getfield 409, 3) := dk_180 1 153 (dk_at dksX2_isFlown_2 16 rfl rfl)
theorem dX2_isFlown_66 : decode cX2_isFlown 66 = .ok (.invokestatic 412, 3) := dk_184 1 156 (dk_at dksX2_isFlown_2 19 rfl rfl)
theorem dX2_isFlown_69 : decode cX2_isFlown 69 = .ok (.putfield 403, 3) := dk_181 1 147 (dk_at dksX2_isFlown_3 0 rfl rfl)
theorem dX2_isFlown_72 : decode cX2_isFlown 72 = .ok (.aload_n 0, 1) := dk_42 (dk_at dksX2_isFlown_3 3 rfl rfl)
theorem dX2_isFlown_73 : decode cX2_isFlown 73 = .ok (.dup, 1) := dk_89 (dk_at dksX2_isFlown_3 4 rfl rfl)
theorem dX2_isFlown_74 : decode cX2_isFlown 74 = .ok (.getfield 400, 3) := dk_180 1 144 (dk_at dksX2_isFlown_3 5 rfl rfl)
theorem dX2_isFlown_77 : decode cX2_isFlown 77 = .ok (.iconst 1, 1) := dk_4 (dk_at dksX2_isFlown_3 8 rfl rfl)
theorem dX2_isFlown_78 : decode cX2_isFlown 78 = .ok (.iadd, 1) := dk_96 (dk_at dksX2_isFlown_3 9 rfl rfl)
theorem dX2_isFlown_79 : decode cX2_isFlown 79 = .ok (.putfield 400, 3) := dk_181 1 144 (dk_at dksX2_isFlown_3 10 rfl rfl)
theorem dX2_isFlown_82 : decode cX2_isFlown 82 = .ok (.aload_n 0, 1) := dk_42 (dk_at dksX2_isFlown_3 13 rfl rfl)
theorem dX2_isFlown_83 : decode cX2_isFlown 83 = .ok (.getfield 56, 3) := dk_180 0 56 (dk_at dksX2_isFlown_3 14 rfl rfl)
theorem dX2_isFlown_86 : decode cX2_isFlown 86 = .ok (.iconst 4, 1) := dk_7 (dk_at dksX2_isFlown_3 17 rfl rfl)
theorem dX2_isFlown_87 : decode cX2_isFlown 87 = .ok (.aload_n 0, 1) := dk_42 (dk_at dksX2_isFlown_3 18 rfl rfl)
theorem dX2_isFlown_88 : decode cX2_isFlown 88 = .ok (.getfield 403, 3) := dk_180 1 147 (dk_at dksX2_isFlown_3 19 rfl rfl)
theorem dX2_isFlown_91 : decode cX2_isFlown 91 = .ok (.imul, 1) := dk_104 (dk_at dksX2_isFlown_3 22 rfl rfl)
theorem dX2_isFlown_92 : decode cX2_isFlown 92 = .ok (.aload_n 0, 1) := dk_42 (dk_at dksX2_isFlown_3 23 rfl rfl)
theorem dX2_isFlown_93 : decode cX2_isFlown 93 = .ok (.getfield 409, 3) := dk_180 1 153 (dk_at dksX2_isFlown_4 0 rfl rfl)
theorem dX2_isFlown_96 : decode cX2_isFlown 96 = .ok (.iadd, 1) := dk_96 (dk_at dksX2_isFlown_4 3 rfl rfl)
theorem dX2_isFlown_97 : decode cX2_isFlown 97 = .ok (.baload, 1) := dk_51 (dk_at dksX2_isFlown_4 4 rfl rfl)
theorem dX2_isFlown_98 : decode cX2_isFlown 98 = .ok (.ifCond .eq 5, 3) := dk_153 0 5 (dk_at dksX2_isFlown_4 5 rfl rfl)
theorem dX2_isFlown_101 : decode cX2_isFlown 101 = .ok (.iconst 0, 1) := dk_3 (dk_at dksX2_isFlown_4 8 rfl rfl)
theorem dX2_isFlown_102 : decode cX2_isFlown 102 = .ok (.ireturn, 1) := dk_172 (dk_at dksX2_isFlown_4 9 rfl rfl)
theorem dX2_isFlown_103 : decode cX2_isFlown 103 = .ok (.aload_n 0, 1) := dk_42 (dk_at dksX2_isFlown_4 10 rfl rfl)
theorem dX2_isFlown_104 : decode cX2_isFlown 104 = .ok (.getfield 56, 3) := dk_180 0 56 (dk_at dksX2_isFlown_4 11 rfl rfl)
theorem dX2_isFlown_107 : decode cX2_isFlown 107 = .ok (.iconst 4, 1) := dk_7 (dk_at dksX2_isFlown_4 14 rfl rfl)
theorem dX2_isFlown_108 : decode cX2_isFlown 108 = .ok (.aload_n 0, 1) := dk_42 (dk_at dksX2_isFlown_4 15 rfl rfl)
theorem dX2_isFlown_109 : decode cX2_isFlown 109 = .ok (.getfield 403, 3) := dk_180 1 147 (dk_at dksX2_isFlown_4 16 rfl rfl)
theorem dX2_isFlown_112 : decode cX2_isFlown 112 = .ok (.imul, 1) := dk_104 (dk_at dksX2_isFlown_4 19 rfl rfl)
theorem dX2_isFlown_113 : decode cX2_isFlown 113 = .ok (.aload_n 0, 1) := dk_42 (dk_at dksX2_isFlown_4 20 rfl rfl)
theorem dX2_isFlown_114 : decode cX2_isFlown 114 = .ok (.getfield 409, 3) := dk_180 1 153 (dk_at dksX2_isFlown_4 21 rfl rfl)
theorem dX2_isFlown_117 : decode cX2_isFlown 117 = .ok (.iadd, 1) := dk_96 (dk_at dksX2_isFlown_5 0 rfl rfl)
theorem dX2_isFlown_118 : decode cX2_isFlown 118 = .ok (.iconst 1, 1) := dk_4 (dk_at dksX2_isFlown_5 1 rfl rfl)
theorem dX2_isFlown_119 : decode cX2_isFlown 119 = .ok (.bastore, 1) := dk_84 (dk_at dksX2_isFlown_5 2 rfl rfl)
theorem dX2_isFlown_120 : decode cX2_isFlown 120 = .ok (.aload_n 0, 1) := dk_42 (dk_at dksX2_isFlown_5 3 rfl rfl)
theorem dX2_isFlown_121 : decode cX2_isFlown 121 = .ok (.getfield 7, 3) := dk_180 0 7 (dk_at dksX2_isFlown_5 4 rfl rfl)
theorem dX2_isFlown_124 : decode cX2_isFlown 124 = .ok (.bipush 71, 2) := dk_16 71 (dk_at dksX2_isFlown_5 7 rfl rfl)
theorem dX2_isFlown_126 : decode cX2_isFlown 126 = .ok (.aload_n 0, 1) := dk_42 (dk_at dksX2_isFlown_5 9 rfl rfl)
theorem dX2_isFlown_127 : decode cX2_isFlown 127 = .ok (.getfield 403, 3) := dk_180 1 147 (dk_at dksX2_isFlown_5 10 rfl rfl)
theorem dX2_isFlown_130 : decode cX2_isFlown 130 = .ok (.iadd, 1) := dk_96 (dk_at dksX2_isFlown_5 13 rfl rfl)
theorem dX2_isFlown_131 : decode cX2_isFlown 131 = .ok (.iaload, 1) := dk_46 (dk_at dksX2_isFlown_5 14 rfl rfl)
theorem dX2_isFlown_132 : decode cX2_isFlown 132 = .ok (.istore_n 3, 1) := dk_62 (dk_at dksX2_isFlown_5 15 rfl rfl)
theorem dX2_isFlown_133 : decode cX2_isFlown 133 = .ok (.iload_n 3, 1) := dk_29 (dk_at dksX2_isFlown_5 16 rfl rfl)
theorem dX2_isFlown_134 : decode cX2_isFlown 134 = .ok (.iconst 3, 1) := dk_6 (dk_at dksX2_isFlown_5 17 rfl rfl)
theorem dX2_isFlown_135 : decode cX2_isFlown 135 = .ok (.if_icmp .ne 5, 3) := dk_160 0 5 (dk_at dksX2_isFlown_5 18 rfl rfl)
theorem dX2_isFlown_138 : decode cX2_isFlown 138 = .ok (.iconst 1, 1) := dk_4 (dk_at dksX2_isFlown_5 21 rfl rfl)
theorem dX2_isFlown_139 : decode cX2_isFlown 139 = .ok (.ireturn, 1) := dk_172 (dk_at dksX2_isFlown_5 22 rfl rfl)
theorem dX2_isFlown_140 : decode cX2_isFlown 140 = .ok (.aload_n 0, 1) := dk_42 (dk_at dksX2_isFlown_5 23 rfl rfl)
theorem dX2_isFlown_141 : decode cX2_isFlown 141 = .ok (.dup, 1) := dk_89 (dk_at dksX2_isFlown_6 0 rfl rfl)
theorem dX2_isFlown_142 : decode cX2_isFlown 142 = .ok (.getfield 406, 3) := dk_180 1 150 (dk_at dksX2_isFlown_6 1 rfl rfl)
theorem dX2_isFlown_145 : decode cX2_isFlown 145 = .ok (.iload_n 3, 1) := dk_29 (dk_at dksX2_isFlown_6 4 rfl rfl)
theorem dX2_isFlown_146 : decode cX2_isFlown 146 = .ok (.ifCond .le 7, 3) := dk_158 0 7 (dk_at dksX2_isFlown_6 5 rfl rfl)
theorem dX2_isFlown_149 : decode cX2_isFlown 149 = .ok (.iconst 1, 1) := dk_4 (dk_at dksX2_isFlown_6 8 rfl rfl)
theorem dX2_isFlown_150 : decode cX2_isFlown 150 = .ok (.goto 4, 3) := dk_167 0 4 (dk_at dksX2_isFlown_6 9 rfl rfl)
theorem dX2_isFlown_153 : decode cX2_isFlown 153 = .ok (.iconst 0, 1) := dk_3 (dk_at dksX2_isFlown_6 12 rfl rfl)
theorem dX2_isFlown_154 : decode cX2_isFlown 154 = .ok (.iadd, 1) := dk_96 (dk_at dksX2_isFlown_6 13 rfl rfl)
theorem dX2_isFlown_155 : decode cX2_isFlown 155 = .ok (.putfield 406, 3) := dk_181 1 150 (dk_at dksX2_isFlown_6 14 rfl rfl)
theorem dX2_isFlown_158 : decode cX2_isFlown 158 = .ok (.aload_n 0, 1) := dk_42 (dk_at dksX2_isFlown_6 17 rfl rfl)
theorem dX2_isFlown_159 : decode cX2_isFlown 159 = .ok (.iload_n 3, 1) := dk_29 (dk_at dksX2_isFlown_6 18 rfl rfl)
theorem dX2_isFlown_160 : decode cX2_isFlown 160 = .ok (.aload_n 0, 1) := dk_42 (dk_at dksX2_isFlown_6 19 rfl rfl)
theorem dX2_isFlown_161 : decode cX2_isFlown 161 = .ok (.getfield 409, 3) := dk_180 1 153 (dk_at dksX2_isFlown_6 20 rfl rfl)
theorem dX2_isFlown_164 : decode cX2_isFlown 164 = .ok (.invokestatic 415, 3) := dk_184 1 159 (dk_at dksX2_isFlown_7 0 rfl rfl)
theorem dX2_isFlown_167 : decode cX2_isFlown 167 = .ok (.putfield 409, 3) := dk_181 1 153 (dk_at dksX2_isFlown_7 3 rfl rfl)
theorem dX2_isFlown_170 : decode cX2_isFlown 170 = .ok (.goto (-128), 3) := dk_167 255 128 (dk_at dksX2_isFlown_7 6 rfl rfl)
theorem dX2_isFlown_173 : decode cX2_isFlown 173 = .ok (.iconst 1, 1) := dk_4 (dk_at dksX2_isFlown_7 9 rfl rfl)
theorem dX2_isFlown_174 : decode cX2_isFlown 174 = .ok (.ireturn, 1) := dk_172 (dk_at dksX2_isFlown_7 10 rfl rfl)
abbrev cX2_nextBy : ByteArray := prog_20_method_107_code
def yX2_nextBy : MethodName := ⟨RX2, "nextBy", "(II)I"⟩
def dkwX2_nextBy_3 : List UInt8 := [96, 167, 0, 4, 2, 172]
abbrev dktX2_nextBy_3 : List UInt8 := dkwX2_nextBy_3 ++ []
def dkwX2_nextBy_2 : List UInt8 := [62, 28, 3, 8, 184, 0, 72, 153, 0, 21, 29, 3, 8, 184, 0, 72, 153, 0, 12, 16, 6, 28, 104, 29]
abbrev dktX2_nextBy_2 : List UInt8 := dkwX2_nextBy_2 ++ dktX2_nextBy_3
def dkwX2_nextBy_1 : List UInt8 := [26, 16, 6, 112, 27, 4, 160, 0, 7, 4, 167, 0, 13, 27, 6, 160, 0, 7, 2, 167, 0, 4, 3, 96]
abbrev dktX2_nextBy_1 : List UInt8 := dkwX2_nextBy_1 ++ dktX2_nextBy_2
def dkwX2_nextBy_0 : List UInt8 := [26, 16, 6, 108, 27, 154, 0, 7, 2, 167, 0, 13, 27, 5, 160, 0, 7, 4, 167, 0, 4, 3, 96, 61]
abbrev dktX2_nextBy_0 : List UInt8 := dkwX2_nextBy_0 ++ dktX2_nextBy_1
theorem dksX2_nextBy_0 : cX2_nextBy.data.toList.drop 0 = dktX2_nextBy_0 := by decide +kernel
theorem dksX2_nextBy_1 : cX2_nextBy.data.toList.drop 24 = dktX2_nextBy_1 := dk_seg dksX2_nextBy_0 24 rfl rfl
theorem dksX2_nextBy_2 : cX2_nextBy.data.toList.drop 48 = dktX2_nextBy_2 := dk_seg dksX2_nextBy_1 24 rfl rfl
theorem dksX2_nextBy_3 : cX2_nextBy.data.toList.drop 72 = dktX2_nextBy_3 := dk_seg dksX2_nextBy_2 24 rfl rfl
theorem dX2_nextBy_0 : decode cX2_nextBy 0 = .ok (.iload_n 0, 1) := dk_26 (dk_at dksX2_nextBy_0 0 rfl rfl)
theorem dX2_nextBy_1 : decode cX2_nextBy 1 = .ok (.bipush 6, 2) := dk_16 6 (dk_at dksX2_nextBy_0 1 rfl rfl)
theorem dX2_nextBy_3 : decode cX2_nextBy 3 = .ok (.idiv, 1) := dk_108 (dk_at dksX2_nextBy_0 3 rfl rfl)
theorem dX2_nextBy_4 : decode cX2_nextBy 4 = .ok (.iload_n 1, 1) := dk_27 (dk_at dksX2_nextBy_0 4 rfl rfl)
theorem dX2_nextBy_5 : decode cX2_nextBy 5 = .ok (.ifCond .ne 7, 3) := dk_154 0 7 (dk_at dksX2_nextBy_0 5 rfl rfl)
theorem dX2_nextBy_8 : decode cX2_nextBy 8 = .ok (.iconst (-1), 1) := dk_2 (dk_at dksX2_nextBy_0 8 rfl rfl)
theorem dX2_nextBy_9 : decode cX2_nextBy 9 = .ok (.goto 13, 3) := dk_167 0 13 (dk_at dksX2_nextBy_0 9 rfl rfl)
theorem dX2_nextBy_12 : decode cX2_nextBy 12 = .ok (.iload_n 1, 1) := dk_27 (dk_at dksX2_nextBy_0 12 rfl rfl)
theorem dX2_nextBy_13 : decode cX2_nextBy 13 = .ok (.iconst 2, 1) := dk_5 (dk_at dksX2_nextBy_0 13 rfl rfl)
theorem dX2_nextBy_14 : decode cX2_nextBy 14 = .ok (.if_icmp .ne 7, 3) := dk_160 0 7 (dk_at dksX2_nextBy_0 14 rfl rfl)
theorem dX2_nextBy_17 : decode cX2_nextBy 17 = .ok (.iconst 1, 1) := dk_4 (dk_at dksX2_nextBy_0 17 rfl rfl)
theorem dX2_nextBy_18 : decode cX2_nextBy 18 = .ok (.goto 4, 3) := dk_167 0 4 (dk_at dksX2_nextBy_0 18 rfl rfl)
theorem dX2_nextBy_21 : decode cX2_nextBy 21 = .ok (.iconst 0, 1) := dk_3 (dk_at dksX2_nextBy_0 21 rfl rfl)
theorem dX2_nextBy_22 : decode cX2_nextBy 22 = .ok (.iadd, 1) := dk_96 (dk_at dksX2_nextBy_0 22 rfl rfl)
theorem dX2_nextBy_23 : decode cX2_nextBy 23 = .ok (.istore_n 2, 1) := dk_61 (dk_at dksX2_nextBy_0 23 rfl rfl)
theorem dX2_nextBy_24 : decode cX2_nextBy 24 = .ok (.iload_n 0, 1) := dk_26 (dk_at dksX2_nextBy_1 0 rfl rfl)
theorem dX2_nextBy_25 : decode cX2_nextBy 25 = .ok (.bipush 6, 2) := dk_16 6 (dk_at dksX2_nextBy_1 1 rfl rfl)
theorem dX2_nextBy_27 : decode cX2_nextBy 27 = .ok (.irem, 1) := dk_112 (dk_at dksX2_nextBy_1 3 rfl rfl)
theorem dX2_nextBy_28 : decode cX2_nextBy 28 = .ok (.iload_n 1, 1) := dk_27 (dk_at dksX2_nextBy_1 4 rfl rfl)
theorem dX2_nextBy_29 : decode cX2_nextBy 29 = .ok (.iconst 1, 1) := dk_4 (dk_at dksX2_nextBy_1 5 rfl rfl)
theorem dX2_nextBy_30 : decode cX2_nextBy 30 = .ok (.if_icmp .ne 7, 3) := dk_160 0 7 (dk_at dksX2_nextBy_1 6 rfl rfl)
theorem dX2_nextBy_33 : decode cX2_nextBy 33 = .ok (.iconst 1, 1) := dk_4 (dk_at dksX2_nextBy_1 9 rfl rfl)
theorem dX2_nextBy_34 : decode cX2_nextBy 34 = .ok (.goto 13, 3) := dk_167 0 13 (dk_at dksX2_nextBy_1 10 rfl rfl)
theorem dX2_nextBy_37 : decode cX2_nextBy 37 = .ok (.iload_n 1, 1) := dk_27 (dk_at dksX2_nextBy_1 13 rfl rfl)
theorem dX2_nextBy_38 : decode cX2_nextBy 38 = .ok (.iconst 3, 1) := dk_6 (dk_at dksX2_nextBy_1 14 rfl rfl)
theorem dX2_nextBy_39 : decode cX2_nextBy 39 = .ok (.if_icmp .ne 7, 3) := dk_160 0 7 (dk_at dksX2_nextBy_1 15 rfl rfl)
theorem dX2_nextBy_42 : decode cX2_nextBy 42 = .ok (.iconst (-1), 1) := dk_2 (dk_at dksX2_nextBy_1 18 rfl rfl)
theorem dX2_nextBy_43 : decode cX2_nextBy 43 = .ok (.goto 4, 3) := dk_167 0 4 (dk_at dksX2_nextBy_1 19 rfl rfl)
theorem dX2_nextBy_46 : decode cX2_nextBy 46 = .ok (.iconst 0, 1) := dk_3 (dk_at dksX2_nextBy_1 22 rfl rfl)
theorem dX2_nextBy_47 : decode cX2_nextBy 47 = .ok (.iadd, 1) := dk_96 (dk_at dksX2_nextBy_1 23 rfl rfl)
theorem dX2_nextBy_48 : decode cX2_nextBy 48 = .ok (.istore_n 3, 1) := dk_62 (dk_at dksX2_nextBy_2 0 rfl rfl)
theorem dX2_nextBy_49 : decode cX2_nextBy 49 = .ok (.iload_n 2, 1) := dk_28 (dk_at dksX2_nextBy_2 1 rfl rfl)
theorem dX2_nextBy_50 : decode cX2_nextBy 50 = .ok (.iconst 0, 1) := dk_3 (dk_at dksX2_nextBy_2 2 rfl rfl)
theorem dX2_nextBy_51 : decode cX2_nextBy 51 = .ok (.iconst 5, 1) := dk_8 (dk_at dksX2_nextBy_2 3 rfl rfl)
theorem dX2_nextBy_52 : decode cX2_nextBy 52 = .ok (.invokestatic 72, 3) := dk_184 0 72 (dk_at dksX2_nextBy_2 4 rfl rfl)
theorem dX2_nextBy_55 : decode cX2_nextBy 55 = .ok (.ifCond .eq 21, 3) := dk_153 0 21 (dk_at dksX2_nextBy_2 7 rfl rfl)
theorem dX2_nextBy_58 : decode cX2_nextBy 58 = .ok (.iload_n 3, 1) := dk_29 (dk_at dksX2_nextBy_2 10 rfl rfl)
theorem dX2_nextBy_59 : decode cX2_nextBy 59 = .ok (.iconst 0, 1) := dk_3 (dk_at dksX2_nextBy_2 11 rfl rfl)
theorem dX2_nextBy_60 : decode cX2_nextBy 60 = .ok (.iconst 5, 1) := dk_8 (dk_at dksX2_nextBy_2 12 rfl rfl)
theorem dX2_nextBy_61 : decode cX2_nextBy 61 = .ok (.invokestatic 72, 3) := dk_184 0 72 (dk_at dksX2_nextBy_2 13 rfl rfl)
theorem dX2_nextBy_64 : decode cX2_nextBy 64 = .ok (.ifCond .eq 12, 3) := dk_153 0 12 (dk_at dksX2_nextBy_2 16 rfl rfl)
theorem dX2_nextBy_67 : decode cX2_nextBy 67 = .ok (.bipush 6, 2) := dk_16 6 (dk_at dksX2_nextBy_2 19 rfl rfl)
theorem dX2_nextBy_69 : decode cX2_nextBy 69 = .ok (.iload_n 2, 1) := dk_28 (dk_at dksX2_nextBy_2 21 rfl rfl)
theorem dX2_nextBy_70 : decode cX2_nextBy 70 = .ok (.imul, 1) := dk_104 (dk_at dksX2_nextBy_2 22 rfl rfl)
theorem dX2_nextBy_71 : decode cX2_nextBy 71 = .ok (.iload_n 3, 1) := dk_29 (dk_at dksX2_nextBy_2 23 rfl rfl)
theorem dX2_nextBy_72 : decode cX2_nextBy 72 = .ok (.iadd, 1) := dk_96 (dk_at dksX2_nextBy_3 0 rfl rfl)
theorem dX2_nextBy_73 : decode cX2_nextBy 73 = .ok (.goto 4, 3) := dk_167 0 4 (dk_at dksX2_nextBy_3 1 rfl rfl)
theorem dX2_nextBy_76 : decode cX2_nextBy 76 = .ok (.iconst (-1), 1) := dk_2 (dk_at dksX2_nextBy_3 4 rfl rfl)
theorem dX2_nextBy_77 : decode cX2_nextBy 77 = .ok (.ireturn, 1) := dk_172 (dk_at dksX2_nextBy_3 5 rfl rfl)
abbrev cX2_turnedBy : ByteArray := prog_20_method_108_code
def yX2_turnedBy : MethodName := ⟨RX2, "turnedBy", "(II)I"⟩
def dkwX2_turnedBy_1 : List UInt8 := [160, 0, 7, 3, 167, 0, 19, 27, 5, 160, 0, 7, 6, 167, 0, 10, 5, 167, 0, 6, 6, 27, 100, 172]
abbrev dktX2_turnedBy_1 : List UInt8 := dkwX2_turnedBy_1 ++ []
def dkwX2_turnedBy_0 : List UInt8 := [26, 154, 0, 7, 27, 167, 0, 41, 26, 4, 160, 0, 33, 27, 154, 0, 7, 4, 167, 0, 28, 27, 4]
abbrev dktX2_turnedBy_0 : List UInt8 := dkwX2_turnedBy_0 ++ dktX2_turnedBy_1
theorem dksX2_turnedBy_0 : cX2_turnedBy.data.toList.drop 0 = dktX2_turnedBy_0 := by decide +kernel
theorem dksX2_turnedBy_1 : cX2_turnedBy.data.toList.drop 23 = dktX2_turnedBy_1 := dk_seg dksX2_turnedBy_0 23 rfl rfl
theorem dX2_turnedBy_0 : decode cX2_turnedBy 0 = .ok (.iload_n 0, 1) := dk_26 (dk_at dksX2_turnedBy_0 0 rfl rfl)
theorem dX2_turnedBy_1 : decode cX2_turnedBy 1 = .ok (.ifCond .ne 7, 3) := dk_154 0 7 (dk_at dksX2_turnedBy_0 1 rfl rfl)
theorem dX2_turnedBy_4 : decode cX2_turnedBy 4 = .ok (.iload_n 1, 1) := dk_27 (dk_at dksX2_turnedBy_0 4 rfl rfl)
theorem dX2_turnedBy_5 : decode cX2_turnedBy 5 = .ok (.goto 41, 3) := dk_167 0 41 (dk_at dksX2_turnedBy_0 5 rfl rfl)
theorem dX2_turnedBy_8 : decode cX2_turnedBy 8 = .ok (.iload_n 0, 1) := dk_26 (dk_at dksX2_turnedBy_0 8 rfl rfl)
theorem dX2_turnedBy_9 : decode cX2_turnedBy 9 = .ok (.iconst 1, 1) := dk_4 (dk_at dksX2_turnedBy_0 9 rfl rfl)
theorem dX2_turnedBy_10 : decode cX2_turnedBy 10 = .ok (.if_icmp .ne 33, 3) := dk_160 0 33 (dk_at dksX2_turnedBy_0 10 rfl rfl)
theorem dX2_turnedBy_13 : decode cX2_turnedBy 13 = .ok (.iload_n 1, 1) := dk_27 (dk_at dksX2_turnedBy_0 13 rfl rfl)
theorem dX2_turnedBy_14 : decode cX2_turnedBy 14 = .ok (.ifCond .ne 7, 3) := dk_154 0 7 (dk_at dksX2_turnedBy_0 14 rfl rfl)
theorem dX2_turnedBy_17 : decode cX2_turnedBy 17 = .ok (.iconst 1, 1) := dk_4 (dk_at dksX2_turnedBy_0 17 rfl rfl)
theorem dX2_turnedBy_18 : decode cX2_turnedBy 18 = .ok (.goto 28, 3) := dk_167 0 28 (dk_at dksX2_turnedBy_0 18 rfl rfl)
theorem dX2_turnedBy_21 : decode cX2_turnedBy 21 = .ok (.iload_n 1, 1) := dk_27 (dk_at dksX2_turnedBy_0 21 rfl rfl)
theorem dX2_turnedBy_22 : decode cX2_turnedBy 22 = .ok (.iconst 1, 1) := dk_4 (dk_at dksX2_turnedBy_0 22 rfl rfl)
theorem dX2_turnedBy_23 : decode cX2_turnedBy 23 = .ok (.if_icmp .ne 7, 3) := dk_160 0 7 (dk_at dksX2_turnedBy_1 0 rfl rfl)
theorem dX2_turnedBy_26 : decode cX2_turnedBy 26 = .ok (.iconst 0, 1) := dk_3 (dk_at dksX2_turnedBy_1 3 rfl rfl)
theorem dX2_turnedBy_27 : decode cX2_turnedBy 27 = .ok (.goto 19, 3) := dk_167 0 19 (dk_at dksX2_turnedBy_1 4 rfl rfl)
theorem dX2_turnedBy_30 : decode cX2_turnedBy 30 = .ok (.iload_n 1, 1) := dk_27 (dk_at dksX2_turnedBy_1 7 rfl rfl)
theorem dX2_turnedBy_31 : decode cX2_turnedBy 31 = .ok (.iconst 2, 1) := dk_5 (dk_at dksX2_turnedBy_1 8 rfl rfl)
theorem dX2_turnedBy_32 : decode cX2_turnedBy 32 = .ok (.if_icmp .ne 7, 3) := dk_160 0 7 (dk_at dksX2_turnedBy_1 9 rfl rfl)
theorem dX2_turnedBy_35 : decode cX2_turnedBy 35 = .ok (.iconst 3, 1) := dk_6 (dk_at dksX2_turnedBy_1 12 rfl rfl)
theorem dX2_turnedBy_36 : decode cX2_turnedBy 36 = .ok (.goto 10, 3) := dk_167 0 10 (dk_at dksX2_turnedBy_1 13 rfl rfl)
theorem dX2_turnedBy_39 : decode cX2_turnedBy 39 = .ok (.iconst 2, 1) := dk_5 (dk_at dksX2_turnedBy_1 16 rfl rfl)
theorem dX2_turnedBy_40 : decode cX2_turnedBy 40 = .ok (.goto 6, 3) := dk_167 0 6 (dk_at dksX2_turnedBy_1 17 rfl rfl)
theorem dX2_turnedBy_43 : decode cX2_turnedBy 43 = .ok (.iconst 3, 1) := dk_6 (dk_at dksX2_turnedBy_1 20 rfl rfl)
theorem dX2_turnedBy_44 : decode cX2_turnedBy 44 = .ok (.iload_n 1, 1) := dk_27 (dk_at dksX2_turnedBy_1 21 rfl rfl)
theorem dX2_turnedBy_45 : decode cX2_turnedBy 45 = .ok (.isub, 1) := dk_100 (dk_at dksX2_turnedBy_1 22 rfl rfl)
theorem dX2_turnedBy_46 : decode cX2_turnedBy 46 = .ok (.ireturn, 1) := dk_172 (dk_at dksX2_turnedBy_1 23 rfl rfl)
abbrev cX2_comes : ByteArray := prog_20_method_113_code
def yX2_comes : MethodName := ⟨RX2, "comes", "(II)I"⟩
def dkwX2_comes_3 : List UInt8 := [2, 172]
abbrev dktX2_comes_3 : List UInt8 := dkwX2_comes_3 ++ []
def dkwX2_comes_2 : List UInt8 := [42, 180, 1, 147, 27, 160, 0, 13, 42, 180, 1, 153, 28, 160, 0, 5, 29, 172, 132, 3, 1, 167, 255, 199]
abbrev dktX2_comes_2 : List UInt8 := dkwX2_comes_2 ++ dktX2_comes_3
def dkwX2_comes_1 : List UInt8 := [16, 36, 108, 184, 1, 168, 153, 0, 36, 42, 29, 16, 36, 112, 29, 16, 36, 108, 182, 1, 165, 153, 0, 21]
abbrev dktX2_comes_1 : List UInt8 := dkwX2_comes_1 ++ dktX2_comes_2
def dkwX2_comes_0 : List UInt8 := [27, 28, 184, 1, 162, 154, 0, 5, 2, 172, 3, 62, 29, 17, 0, 144, 162, 0, 56, 29, 16, 36, 112, 29]
abbrev dktX2_comes_0 : List UInt8 := dkwX2_comes_0 ++ dktX2_comes_1
theorem dksX2_comes_0 : cX2_comes.data.toList.drop 0 = dktX2_comes_0 := by decide +kernel
theorem dksX2_comes_1 : cX2_comes.data.toList.drop 24 = dktX2_comes_1 := dk_seg dksX2_comes_0 24 rfl rfl
theorem dksX2_comes_2 : cX2_comes.data.toList.drop 48 = dktX2_comes_2 := dk_seg dksX2_comes_1 24 rfl rfl
theorem dksX2_comes_3 : cX2_comes.data.toList.drop 72 = dktX2_comes_3 := dk_seg dksX2_comes_2 24 rfl rfl
theorem dX2_comes_0 : decode cX2_comes 0 = .ok (.iload_n 1, 1) := dk_27 (dk_at dksX2_comes_0 0 rfl rfl)
theorem dX2_comes_1 : decode cX2_comes 1 = .ok (.iload_n 2, 1) := dk_28 (dk_at dksX2_comes_0 1 rfl rfl)
theorem dX2_comes_2 : decode cX2_comes 2 = .ok (.invokestatic 418, 3) := dk_184 1 162 (dk_at dksX2_comes_0 2 rfl rfl)
theorem dX2_comes_5 : decode cX2_comes 5 = .ok (.ifCond .ne 5, 3) := dk_154 0 5 (dk_at dksX2_comes_0 5 rfl rfl)
theorem dX2_comes_8 : decode cX2_comes 8 = .ok (.iconst (-1), 1) := dk_2 (dk_at dksX2_comes_0 8 rfl rfl)
theorem dX2_comes_9 : decode cX2_comes 9 = .ok (.ireturn, 1) := dk_172 (dk_at dksX2_comes_0 9 rfl rfl)
theorem dX2_comes_10 : decode cX2_comes 10 = .ok (.iconst 0, 1) := dk_3 (dk_at dksX2_comes_0 10 rfl rfl)
theorem dX2_comes_11 : decode cX2_comes 11 = .ok (.istore_n 3, 1) := dk_62 (dk_at dksX2_comes_0 11 rfl rfl)
theorem dX2_comes_12 : decode cX2_comes 12 = .ok (.iload_n 3, 1) := dk_29 (dk_at dksX2_comes_0 12 rfl rfl)
theorem dX2_comes_13 : decode cX2_comes 13 = .ok (.sipush 144, 3) := dk_17 0 144 (dk_at dksX2_comes_0 13 rfl rfl)
theorem dX2_comes_16 : decode cX2_comes 16 = .ok (.if_icmp .ge 56, 3) := dk_162 0 56 (dk_at dksX2_comes_0 16 rfl rfl)
theorem dX2_comes_19 : decode cX2_comes 19 = .ok (.iload_n 3, 1) := dk_29 (dk_at dksX2_comes_0 19 rfl rfl)
theorem dX2_comes_20 : decode cX2_comes 20 = .ok (.bipush 36, 2) := dk_16 36 (dk_at dksX2_comes_0 20 rfl rfl)
theorem dX2_comes_22 : decode cX2_comes 22 = .ok (.irem, 1) := dk_112 (dk_at dksX2_comes_0 22 rfl rfl)
theorem dX2_comes_23 : decode cX2_comes 23 = .ok (.iload_n 3, 1) := dk_29 (dk_at dksX2_comes_0 23 rfl rfl)
theorem dX2_comes_24 : decode cX2_comes 24 = .ok (.bipush 36, 2) := dk_16 36 (dk_at dksX2_comes_1 0 rfl rfl)
theorem dX2_comes_26 : decode cX2_comes 26 = .ok (.idiv, 1) := dk_108 (dk_at dksX2_comes_1 2 rfl rfl)
theorem dX2_comes_27 : decode cX2_comes 27 = .ok (.invokestatic 424, 3) := dk_184 1 168 (dk_at dksX2_comes_1 3 rfl rfl)
theorem dX2_comes_30 : decode cX2_comes 30 = .ok (.ifCond .eq 36, 3) := dk_153 0 36 (dk_at dksX2_comes_1 6 rfl rfl)
theorem dX2_comes_33 : decode cX2_comes 33 = .ok (.aload_n 0, 1) := dk_42 (dk_at dksX2_comes_1 9 rfl rfl)
theorem dX2_comes_34 : decode cX2_comes 34 = .ok (.iload_n 3, 1) := dk_29 (dk_at dksX2_comes_1 10 rfl rfl)
theorem dX2_comes_35 : decode cX2_comes 35 = .ok (.bipush 36, 2) := dk_16 36 (dk_at dksX2_comes_1 11 rfl rfl)
theorem dX2_comes_37 : decode cX2_comes 37 = .ok (.irem, 1) := dk_112 (dk_at dksX2_comes_1 13 rfl rfl)
theorem dX2_comes_38 : decode cX2_comes 38 = .ok (.iload_n 3, 1) := dk_29 (dk_at dksX2_comes_1 14 rfl rfl)
theorem dX2_comes_39 : decode cX2_comes 39 = .ok (.bipush 36, 2) := dk_16 36 (dk_at dksX2_comes_1 15 rfl rfl)
theorem dX2_comes_41 : decode cX2_comes 41 = .ok (.idiv, 1) := dk_108 (dk_at dksX2_comes_1 17 rfl rfl)
theorem dX2_comes_42 : decode cX2_comes 42 = .ok (.invokevirtual 421, 3) := dk_182 1 165 (dk_at dksX2_comes_1 18 rfl rfl)
theorem dX2_comes_45 : decode cX2_comes 45 = .ok (.ifCond .eq 21, 3) := dk_153 0 21 (dk_at dksX2_comes_1 21 rfl rfl)
theorem dX2_comes_48 : decode cX2_comes 48 = .ok (.aload_n 0, 1) := dk_42 (dk_at dksX2_comes_2 0 rfl rfl)
theorem dX2_comes_49 : decode cX2_comes 49 = .ok (.getfield 403, 3) := dk_180 1 147 (dk_at dksX2_comes_2 1 rfl rfl)
theorem dX2_comes_52 : decode cX2_comes 52 = .ok (.iload_n 1, 1) := dk_27 (dk_at dksX2_comes_2 4 rfl rfl)
theorem dX2_comes_53 : decode cX2_comes 53 = .ok (.if_icmp .ne 13, 3) := dk_160 0 13 (dk_at dksX2_comes_2 5 rfl rfl)
theorem dX2_comes_56 : decode cX2_comes 56 = .ok (.aload_n 0, 1) := dk_42 (dk_at dksX2_comes_2 8 rfl rfl)
theorem dX2_comes_57 : decode cX2_comes 57 = .ok (.getfield 409, 3) := dk_180 1 153 (dk_at dksX2_comes_2 9 rfl rfl)
theorem dX2_comes_60 : decode cX2_comes 60 = .ok (.iload_n 2, 1) := dk_28 (dk_at dksX2_comes_2 12 rfl rfl)
theorem dX2_comes_61 : decode cX2_comes 61 = .ok (.if_icmp .ne 5, 3) := dk_160 0 5 (dk_at dksX2_comes_2 13 rfl rfl)
theorem dX2_comes_64 : decode cX2_comes 64 = .ok (.iload_n 3, 1) := dk_29 (dk_at dksX2_comes_2 16 rfl rfl)
theorem dX2_comes_65 : decode cX2_comes 65 = .ok (.ireturn, 1) := dk_172 (dk_at dksX2_comes_2 17 rfl rfl)
theorem dX2_comes_66 : decode cX2_comes 66 = .ok (.iinc 3 1, 3) := dk_132 3 1 (dk_at dksX2_comes_2 18 rfl rfl)
theorem dX2_comes_69 : decode cX2_comes 69 = .ok (.goto (-57), 3) := dk_167 255 199 (dk_at dksX2_comes_2 21 rfl rfl)
theorem dX2_comes_72 : decode cX2_comes 72 = .ok (.iconst (-1), 1) := dk_2 (dk_at dksX2_comes_3 0 rfl rfl)
theorem dX2_comes_73 : decode cX2_comes 73 = .ok (.ireturn, 1) := dk_172 (dk_at dksX2_comes_3 1 rfl rfl)
abbrev cX2_isInwards : ByteArray := prog_20_method_112_code
def yX2_isInwards : MethodName := ⟨RX2, "isInwards", "(II)Z"⟩
def dkwX2_isInwards_3 : List UInt8 := [167, 0, 4, 3, 172]
abbrev dktX2_isInwards_3 : List UInt8 := dkwX2_isInwards_3 ++ []
def dkwX2_isInwards_2 : List UInt8 := [16, 6, 108, 154, 0, 7, 4, 167, 0, 20, 3, 167, 0, 16, 26, 16, 6, 112, 8, 160, 0, 7, 4]
abbrev dktX2_isInwards_2 : List UInt8 := dkwX2_isInwards_2 ++ dktX2_isInwards_3
def dkwX2_isInwards_1 : List UInt8 := [160, 0, 18, 26, 16, 6, 112, 154, 0, 7, 4, 167, 0, 40, 3, 167, 0, 36, 27, 5, 160, 0, 18, 26]
abbrev dktX2_isInwards_1 : List UInt8 := dkwX2_isInwards_1 ++ dktX2_isInwards_2
def dkwX2_isInwards_0 : List UInt8 := [27, 154, 0, 19, 26, 16, 6, 108, 8, 160, 0, 7, 4, 167, 0, 60, 3, 167, 0, 56, 27, 4]
abbrev dktX2_isInwards_0 : List UInt8 := dkwX2_isInwards_0 ++ dktX2_isInwards_1
theorem dksX2_isInwards_0 : cX2_isInwards.data.toList.drop 0 = dktX2_isInwards_0 := by decide +kernel
theorem dksX2_isInwards_1 : cX2_isInwards.data.toList.drop 22 = dktX2_isInwards_1 := dk_seg dksX2_isInwards_0 22 rfl rfl
theorem dksX2_isInwards_2 : cX2_isInwards.data.toList.drop 46 = dktX2_isInwards_2 := dk_seg dksX2_isInwards_1 24 rfl rfl
theorem dksX2_isInwards_3 : cX2_isInwards.data.toList.drop 69 = dktX2_isInwards_3 := dk_seg dksX2_isInwards_2 23 rfl rfl
theorem dX2_isInwards_0 : decode cX2_isInwards 0 = .ok (.iload_n 1, 1) := dk_27 (dk_at dksX2_isInwards_0 0 rfl rfl)
theorem dX2_isInwards_1 : decode cX2_isInwards 1 = .ok (.ifCond .ne 19, 3) := dk_154 0 19 (dk_at dksX2_isInwards_0 1 rfl rfl)
theorem dX2_isInwards_4 : decode cX2_isInwards 4 = .ok (.iload_n 0, 1) := dk_26 (dk_at dksX2_isInwards_0 4 rfl rfl)
theorem dX2_isInwards_5 : decode cX2_isInwards 5 = .ok (.bipush 6, 2) := dk_16 6 (dk_at dksX2_isInwards_0 5 rfl rfl)
theorem dX2_isInwards_7 : decode cX2_isInwards 7 = .ok (.idiv, 1) := dk_108 (dk_at dksX2_isInwards_0 7 rfl rfl)
theorem dX2_isInwards_8 : decode cX2_isInwards 8 = .ok (.iconst 5, 1) := dk_8 (dk_at dksX2_isInwards_0 8 rfl rfl)
theorem dX2_isInwards_9 : decode cX2_isInwards 9 = .ok (.if_icmp .ne 7, 3) := dk_160 0 7 (dk_at dksX2_isInwards_0 9 rfl rfl)
theorem dX2_isInwards_12 : decode cX2_isInwards 12 = .ok (.iconst 1, 1) := dk_4 (dk_at dksX2_isInwards_0 12 rfl rfl)
theorem dX2_isInwards_13 : decode cX2_isInwards 13 = .ok (.goto 60, 3) := dk_167 0 60 (dk_at dksX2_isInwards_0 13 rfl rfl)
theorem dX2_isInwards_16 : decode cX2_isInwards 16 = .ok (.iconst 0, 1) := dk_3 (dk_at dksX2_isInwards_0 16 rfl rfl)
theorem dX2_isInwards_17 : decode cX2_isInwards 17 = .ok (.goto 56, 3) := dk_167 0 56 (dk_at dksX2_isInwards_0 17 rfl rfl)
theorem dX2_isInwards_20 : decode cX2_isInwards 20 = .ok (.iload_n 1, 1) := dk_27 (dk_at dksX2_isInwards_0 20 rfl rfl)
theorem dX2_isInwards_21 : decode cX2_isInwards 21 = .ok (.iconst 1, 1) := dk_4 (dk_at dksX2_isInwards_0 21 rfl rfl)
theorem dX2_isInwards_22 : decode cX2_isInwards 22 = .ok (.if_icmp .ne 18, 3) := dk_160 0 18 (dk_at dksX2_isInwards_1 0 rfl rfl)
theorem dX2_isInwards_25 : decode cX2_isInwards 25 = .ok (.iload_n 0, 1) := dk_26 (dk_at dksX2_isInwards_1 3 rfl rfl)
theorem dX2_isInwards_26 : decode cX2_isInwards 26 = .ok (.bipush 6, 2) := dk_16 6 (dk_at dksX2_isInwards_1 4 rfl rfl)
theorem dX2_isInwards_28 : decode cX2_isInwards 28 = .ok (.irem, 1) := dk_112 (dk_at dksX2_isInwards_1 6 rfl rfl)
theorem dX2_isInwards_29 : decode cX2_isInwards 29 = .ok (.ifCond .ne 7, 3) := dk_154 0 7 (dk_at dksX2_isInwards_1 7 rfl rfl)
theorem dX2_isInwards_32 : decode cX2_isInwards 32 = .ok (.iconst 1, 1) := dk_4 (dk_at dksX2_isInwards_1 10 rfl rfl)
theorem dX2_isInwards_33 : decode cX2_isInwards 33 = .ok (.goto 40, 3) := dk_167 0 40 (dk_at dksX2_isInwards_1 11 rfl rfl)
theorem dX2_isInwards_36 : decode cX2_isInwards 36 = .ok (.iconst 0, 1) := dk_3 (dk_at dksX2_isInwards_1 14 rfl rfl)
theorem dX2_isInwards_37 : decode cX2_isInwards 37 = .ok (.goto 36, 3) := dk_167 0 36 (dk_at dksX2_isInwards_1 15 rfl rfl)
theorem dX2_isInwards_40 : decode cX2_isInwards 40 = .ok (.iload_n 1, 1) := dk_27 (dk_at dksX2_isInwards_1 18 rfl rfl)
theorem dX2_isInwards_41 : decode cX2_isInwards 41 = .ok (.iconst 2, 1) := dk_5 (dk_at dksX2_isInwards_1 19 rfl rfl)
theorem dX2_isInwards_42 : decode cX2_isInwards 42 = .ok (.if_icmp .ne 18, 3) := dk_160 0 18 (dk_at dksX2_isInwards_1 20 rfl rfl)
theorem dX2_isInwards_45 : decode cX2_isInwards 45 = .ok (.iload_n 0, 1) := dk_26 (dk_at dksX2_isInwards_1 23 rfl rfl)
theorem dX2_isInwards_46 : decode cX2_isInwards 46 = .ok (.bipush 6, 2) := dk_16 6 (dk_at dksX2_isInwards_2 0 rfl rfl)
theorem dX2_isInwards_48 : decode cX2_isInwards 48 = .ok (.idiv, 1) := dk_108 (dk_at dksX2_isInwards_2 2 rfl rfl)
theorem dX2_isInwards_49 : decode cX2_isInwards 49 = .ok (.ifCond .ne 7, 3) := dk_154 0 7 (dk_at dksX2_isInwards_2 3 rfl rfl)
theorem dX2_isInwards_52 : decode cX2_isInwards 52 = .ok (.iconst 1, 1) := dk_4 (dk_at dksX2_isInwards_2 6 rfl rfl)
theorem dX2_isInwards_53 : decode cX2_isInwards 53 = .ok (.goto 20, 3) := dk_167 0 20 (dk_at dksX2_isInwards_2 7 rfl rfl)
theorem dX2_isInwards_56 : decode cX2_isInwards 56 = .ok (.iconst 0, 1) := dk_3 (dk_at dksX2_isInwards_2 10 rfl rfl)
theorem dX2_isInwards_57 : decode cX2_isInwards 57 = .ok (.goto 16, 3) := dk_167 0 16 (dk_at dksX2_isInwards_2 11 rfl rfl)
theorem dX2_isInwards_60 : decode cX2_isInwards 60 = .ok (.iload_n 0, 1) := dk_26 (dk_at dksX2_isInwards_2 14 rfl rfl)
theorem dX2_isInwards_61 : decode cX2_isInwards 61 = .ok (.bipush 6, 2) := dk_16 6 (dk_at dksX2_isInwards_2 15 rfl rfl)
theorem dX2_isInwards_63 : decode cX2_isInwards 63 = .ok (.irem, 1) := dk_112 (dk_at dksX2_isInwards_2 17 rfl rfl)
theorem dX2_isInwards_64 : decode cX2_isInwards 64 = .ok (.iconst 5, 1) := dk_8 (dk_at dksX2_isInwards_2 18 rfl rfl)
theorem dX2_isInwards_65 : decode cX2_isInwards 65 = .ok (.if_icmp .ne 7, 3) := dk_160 0 7 (dk_at dksX2_isInwards_2 19 rfl rfl)
theorem dX2_isInwards_68 : decode cX2_isInwards 68 = .ok (.iconst 1, 1) := dk_4 (dk_at dksX2_isInwards_2 22 rfl rfl)
theorem dX2_isInwards_69 : decode cX2_isInwards 69 = .ok (.goto 4, 3) := dk_167 0 4 (dk_at dksX2_isInwards_3 0 rfl rfl)
theorem dX2_isInwards_72 : decode cX2_isInwards 72 = .ok (.iconst 0, 1) := dk_3 (dk_at dksX2_isInwards_3 3 rfl rfl)
theorem dX2_isInwards_73 : decode cX2_isInwards 73 = .ok (.ireturn, 1) := dk_172 (dk_at dksX2_isInwards_3 4 rfl rfl)
abbrev cX2_guess : ByteArray := prog_20_method_118_code
def yX2_guess : MethodName := ⟨RX2, "guess", "(III)I"⟩
def dkwX2_guess_4 : List UInt8 := [96, 29, 79, 42, 180, 0, 7, 7, 92, 46, 4, 96, 79, 42, 180, 0, 7, 7, 46, 172]
abbrev dktX2_guess_4 : List UInt8 := dkwX2_guess_4 ++ []
def dkwX2_guess_3 : List UInt8 := [180, 0, 7, 21, 4, 27, 79, 42, 180, 0, 7, 21, 4, 4, 96, 28, 79, 42, 180, 0, 7, 21, 4, 5]
abbrev dktX2_guess_3 : List UInt8 := dkwX2_guess_3 ++ dktX2_guess_4
def dkwX2_guess_2 : List UInt8 := [16, 6, 160, 0, 6, 16, 254, 172, 16, 107, 6, 42, 180, 0, 7, 7, 46, 104, 96, 54, 4, 42]
abbrev dktX2_guess_2 : List UInt8 := dkwX2_guess_2 ++ dktX2_guess_3
def dkwX2_guess_1 : List UInt8 := [184, 0, 72, 153, 0, 25, 29, 3, 6, 28, 100, 184, 0, 72, 153, 0, 14, 42, 180, 0, 7, 7, 46]
abbrev dktX2_guess_1 : List UInt8 := dkwX2_guess_1 ++ dktX2_guess_2
def dkwX2_guess_0 : List UInt8 := [27, 2, 160, 0, 12, 42, 180, 0, 7, 7, 3, 79, 3, 172, 27, 184, 1, 177, 153, 0, 34, 28, 3, 6]
abbrev dktX2_guess_0 : List UInt8 := dkwX2_guess_0 ++ dktX2_guess_1
theorem dksX2_guess_0 : cX2_guess.data.toList.drop 0 = dktX2_guess_0 := by decide +kernel
theorem dksX2_guess_1 : cX2_guess.data.toList.drop 24 = dktX2_guess_1 := dk_seg dksX2_guess_0 24 rfl rfl
theorem dksX2_guess_2 : cX2_guess.data.toList.drop 47 = dktX2_guess_2 := dk_seg dksX2_guess_1 23 rfl rfl
theorem dksX2_guess_3 : cX2_guess.data.toList.drop 69 = dktX2_guess_3 := dk_seg dksX2_guess_2 22 rfl rfl
theorem dksX2_guess_4 : cX2_guess.data.toList.drop 93 = dktX2_guess_4 := dk_seg dksX2_guess_3 24 rfl rfl
theorem dX2_guess_0 : decode cX2_guess 0 = .ok (.iload_n 1, 1) := dk_27 (dk_at dksX2_guess_0 0 rfl rfl)
theorem dX2_guess_1 : decode cX2_guess 1 = .ok (.iconst (-1), 1) := dk_2 (dk_at dksX2_guess_0 1 rfl rfl)
theorem dX2_guess_2 : decode cX2_guess 2 = .ok (.if_icmp .ne 12, 3) := dk_160 0 12 (dk_at dksX2_guess_0 2 rfl rfl)
theorem dX2_guess_5 : decode cX2_guess 5 = .ok (.aload_n 0, 1) := dk_42 (dk_at dksX2_guess_0 5 rfl rfl)
theorem dX2_guess_6 : decode cX2_guess 6 = .ok (.getfield 7, 3) := dk_180 0 7 (dk_at dksX2_guess_0 6 rfl rfl)
theorem dX2_guess_9 : decode cX2_guess 9 = .ok (.iconst 4, 1) := dk_7 (dk_at dksX2_guess_0 9 rfl rfl)
theorem dX2_guess_10 : decode cX2_guess 10 = .ok (.iconst 0, 1) := dk_3 (dk_at dksX2_guess_0 10 rfl rfl)
theorem dX2_guess_11 : decode cX2_guess 11 = .ok (.iastore, 1) := dk_79 (dk_at dksX2_guess_0 11 rfl rfl)
theorem dX2_guess_12 : decode cX2_guess 12 = .ok (.iconst 0, 1) := dk_3 (dk_at dksX2_guess_0 12 rfl rfl)
theorem dX2_guess_13 : decode cX2_guess 13 = .ok (.ireturn, 1) := dk_172 (dk_at dksX2_guess_0 13 rfl rfl)
theorem dX2_guess_14 : decode cX2_guess 14 = .ok (.iload_n 1, 1) := dk_27 (dk_at dksX2_guess_0 14 rfl rfl)
theorem dX2_guess_15 : decode cX2_guess 15 = .ok (.invokestatic 433, 3) := dk_184 1 177 (dk_at dksX2_guess_0 15 rfl rfl)
theorem dX2_guess_18 : decode cX2_guess 18 = .ok (.ifCond .eq 34, 3) := dk_153 0 34 (dk_at dksX2_guess_0 18 rfl rfl)
theorem dX2_guess_21 : decode cX2_guess 21 = .ok (.iload_n 2, 1) := dk_28 (dk_at dksX2_guess_0 21 rfl rfl)
theorem dX2_guess_22 : decode cX2_guess 22 = .ok (.iconst 0, 1) := dk_3 (dk_at dksX2_guess_0 22 rfl rfl)
theorem dX2_guess_23 : decode cX2_guess 23 = .ok (.iconst 3, 1) := dk_6 (dk_at dksX2_guess_0 23 rfl rfl)
theorem dX2_guess_24 : decode cX2_guess 24 = .ok (.invokestatic 72, 3) := dk_184 0 72 (dk_at dksX2_guess_1 0 rfl rfl)
theorem dX2_guess_27 : decode cX2_guess 27 = .ok (.ifCond .eq 25, 3) := dk_153 0 25 (dk_at dksX2_guess_1 3 rfl rfl)
theorem dX2_guess_30 : decode cX2_guess 30 = .ok (.iload_n 3, 1) := dk_29 (dk_at dksX2_guess_1 6 rfl rfl)
theorem dX2_guess_31 : decode cX2_guess 31 = .ok (.iconst 0, 1) := dk_3 (dk_at dksX2_guess_1 7 rfl rfl)
theorem dX2_guess_32 : decode cX2_guess 32 = .ok (.iconst 3, 1) := dk_6 (dk_at dksX2_guess_1 8 rfl rfl)
theorem dX2_guess_33 : decode cX2_guess 33 = .ok (.iload_n 2, 1) := dk_28 (dk_at dksX2_guess_1 9 rfl rfl)
theorem dX2_guess_34 : decode cX2_guess 34 = .ok (.isub, 1) := dk_100 (dk_at dksX2_guess_1 10 rfl rfl)
theorem dX2_guess_35 : decode cX2_guess 35 = .ok (.invokestatic 72, 3) := dk_184 0 72 (dk_at dksX2_guess_1 11 rfl rfl)
theorem dX2_guess_38 : decode cX2_guess 38 = .ok (.ifCond .eq 14, 3) := dk_153 0 14 (dk_at dksX2_guess_1 14 rfl rfl)
theorem dX2_guess_41 : decode cX2_guess 41 = .ok (.aload_n 0, 1) := dk_42 (dk_at dksX2_guess_1 17 rfl rfl)
theorem dX2_guess_42 : decode cX2_guess 42 = .ok (.getfield 7, 3) := dk_180 0 7 (dk_at dksX2_guess_1 18 rfl rfl)
theorem dX2_guess_45 : decode cX2_guess 45 = .ok (.iconst 4, 1) := dk_7 (dk_at dksX2_guess_1 21 rfl rfl)
theorem dX2_guess_46 : decode cX2_guess 46 = .ok (.iaload, 1) := dk_46 (dk_at dksX2_guess_1 22 rfl rfl)
theorem dX2_guess_47 : decode cX2_guess 47 = .ok (.bipush 6, 2) := dk_16 6 (dk_at dksX2_guess_2 0 rfl rfl)
theorem dX2_guess_49 : decode cX2_guess 49 = .ok (.if_icmp .ne 6, 3) := dk_160 0 6 (dk_at dksX2_guess_2 2 rfl rfl)
theorem dX2_guess_52 : decode cX2_guess 52 = .ok (.bipush (-2), 2) := dk_16 254 (dk_at dksX2_guess_2 5 rfl rfl)
theorem dX2_guess_54 : decode cX2_guess 54 = .ok (.ireturn, 1) := dk_172 (dk_at dksX2_guess_2 7 rfl rfl)
theorem dX2_guess_55 : decode cX2_guess 55 = .ok (.bipush 107, 2) := dk_16 107 (dk_at dksX2_guess_2 8 rfl rfl)
theorem dX2_guess_57 : decode cX2_guess 57 = .ok (.iconst 3, 1) := dk_6 (dk_at dksX2_guess_2 10 rfl rfl)
theorem dX2_guess_58 : decode cX2_guess 58 = .ok (.aload_n 0, 1) := dk_42 (dk_at dksX2_guess_2 11 rfl rfl)
theorem dX2_guess_59 : decode cX2_guess 59 = .ok (.getfield 7, 3) := dk_180 0 7 (dk_at dksX2_guess_2 12 rfl rfl)
theorem dX2_guess_62 : decode cX2_guess 62 = .ok (.iconst 4, 1) := dk_7 (dk_at dksX2_guess_2 15 rfl rfl)
theorem dX2_guess_63 : decode cX2_guess 63 = .ok (.iaload, 1) := dk_46 (dk_at dksX2_guess_2 16 rfl rfl)
theorem dX2_guess_64 : decode cX2_guess 64 = .ok (.imul, 1) := dk_104 (dk_at dksX2_guess_2 17 rfl rfl)
theorem dX2_guess_65 : decode cX2_guess 65 = .ok (.iadd, 1) := dk_96 (dk_at dksX2_guess_2 18 rfl rfl)
theorem dX2_guess_66 : decode cX2_guess 66 = .ok (.istore 4, 2) := dk_54 4 (dk_at dksX2_guess_2 19 rfl rfl)
theorem dX2_guess_68 : decode cX2_guess 68 = .ok (.aload_n 0, 1) := dk_42 (dk_at dksX2_guess_2 21 rfl rfl)
theorem dX2_guess_69 : decode cX2_guess 69 = .ok (.getfield 7, 3) := dk_180 0 7 (dk_at dksX2_guess_3 0 rfl rfl)
theorem dX2_guess_72 : decode cX2_guess 72 = .ok (.iload 4, 2) := dk_21 4 (dk_at dksX2_guess_3 3 rfl rfl)
theorem dX2_guess_74 : decode cX2_guess 74 = .ok (.iload_n 1, 1) := dk_27 (dk_at dksX2_guess_3 5 rfl rfl)
theorem dX2_guess_75 : decode cX2_guess 75 = .ok (.iastore, 1) := dk_79 (dk_at dksX2_guess_3 6 rfl rfl)
theorem dX2_guess_76 : decode cX2_guess 76 = .ok (.aload_n 0, 1) := dk_42 (dk_at dksX2_guess_3 7 rfl rfl)
theorem dX2_guess_77 : decode cX2_guess 77 = .ok (.getfield 7, 3) := dk_180 0 7 (dk_at dksX2_guess_3 8 rfl rfl)
theorem dX2_guess_80 : decode cX2_guess 80 = .ok (.iload 4, 2) := dk_21 4 (dk_at dksX2_guess_3 11 rfl rfl)
theorem dX2_guess_82 : decode cX2_guess 82 = .ok (.iconst 1, 1) := dk_4 (dk_at dksX2_guess_3 13 rfl rfl)
theorem dX2_guess_83 : decode cX2_guess 83 = .ok (.iadd, 1) := dk_96 (dk_at dksX2_guess_3 14 rfl rfl)
theorem dX2_guess_84 : decode cX2_guess 84 = .ok (.iload_n 2, 1) := dk_28 (dk_at dksX2_guess_3 15 rfl rfl)
theorem dX2_guess_85 : decode cX2_guess 85 = .ok (.iastore, 1) := dk_79 (dk_at dksX2_guess_3 16 rfl rfl)
theorem dX2_guess_86 : decode cX2_guess 86 = .ok (.aload_n 0, 1) := dk_42 (dk_at dksX2_guess_3 17 rfl rfl)
theorem dX2_guess_87 : decode cX2_guess 87 = .ok (.getfield 7, 3) := dk_180 0 7 (dk_at dksX2_guess_3 18 rfl rfl)
theorem dX2_guess_90 : decode cX2_guess 90 = .ok (.iload 4, 2) := dk_21 4 (dk_at dksX2_guess_3 21 rfl rfl)
theorem dX2_guess_92 : decode cX2_guess 92 = .ok (.iconst 2, 1) := dk_5 (dk_at dksX2_guess_3 23 rfl rfl)
theorem dX2_guess_93 : decode cX2_guess 93 = .ok (.iadd, 1) := dk_96 (dk_at dksX2_guess_4 0 rfl rfl)
theorem dX2_guess_94 : decode cX2_guess 94 = .ok (.iload_n 3, 1) := dk_29 (dk_at dksX2_guess_4 1 rfl rfl)
theorem dX2_guess_95 : decode cX2_guess 95 = .ok (.iastore, 1) := dk_79 (dk_at dksX2_guess_4 2 rfl rfl)
theorem dX2_guess_96 : decode cX2_guess 96 = .ok (.aload_n 0, 1) := dk_42 (dk_at dksX2_guess_4 3 rfl rfl)
theorem dX2_guess_97 : decode cX2_guess 97 = .ok (.getfield 7, 3) := dk_180 0 7 (dk_at dksX2_guess_4 4 rfl rfl)
theorem dX2_guess_100 : decode cX2_guess 100 = .ok (.iconst 4, 1) := dk_7 (dk_at dksX2_guess_4 7 rfl rfl)
theorem dX2_guess_101 : decode cX2_guess 101 = .ok (.dup2, 1) := dk_92 (dk_at dksX2_guess_4 8 rfl rfl)
theorem dX2_guess_102 : decode cX2_guess 102 = .ok (.iaload, 1) := dk_46 (dk_at dksX2_guess_4 9 rfl rfl)
theorem dX2_guess_103 : decode cX2_guess 103 = .ok (.iconst 1, 1) := dk_4 (dk_at dksX2_guess_4 10 rfl rfl)
theorem dX2_guess_104 : decode cX2_guess 104 = .ok (.iadd, 1) := dk_96 (dk_at dksX2_guess_4 11 rfl rfl)
theorem dX2_guess_105 : decode cX2_guess 105 = .ok (.iastore, 1) := dk_79 (dk_at dksX2_guess_4 12 rfl rfl)
theorem dX2_guess_106 : decode cX2_guess 106 = .ok (.aload_n 0, 1) := dk_42 (dk_at dksX2_guess_4 13 rfl rfl)
theorem dX2_guess_107 : decode cX2_guess 107 = .ok (.getfield 7, 3) := dk_180 0 7 (dk_at dksX2_guess_4 14 rfl rfl)
theorem dX2_guess_110 : decode cX2_guess 110 = .ok (.iconst 4, 1) := dk_7 (dk_at dksX2_guess_4 17 rfl rfl)
theorem dX2_guess_111 : decode cX2_guess 111 = .ok (.iaload, 1) := dk_46 (dk_at dksX2_guess_4 18 rfl rfl)
theorem dX2_guess_112 : decode cX2_guess 112 = .ok (.ireturn, 1) := dk_172 (dk_at dksX2_guess_4 19 rfl rfl)
abbrev cX2_isRow : ByteArray := prog_20_method_117_code
def yX2_isRow : MethodName := ⟨RX2, "isRow", "(I)Z"⟩
def dkwX2_isRow_0 : List UInt8 := [26, 3, 16, 124, 184, 0, 72, 172]
abbrev dktX2_isRow_0 : List UInt8 := dkwX2_isRow_0 ++ []
theorem dksX2_isRow_0 : cX2_isRow.data.toList.drop 0 = dktX2_isRow_0 := by decide +kernel
theorem dX2_isRow_0 : decode cX2_isRow 0 = .ok (.iload_n 0, 1) := dk_26 (dk_at dksX2_isRow_0 0 rfl rfl)
theorem dX2_isRow_1 : decode cX2_isRow 1 = .ok (.iconst 0, 1) := dk_3 (dk_at dksX2_isRow_0 1 rfl rfl)
theorem dX2_isRow_2 : decode cX2_isRow 2 = .ok (.bipush 124, 2) := dk_16 124 (dk_at dksX2_isRow_0 2 rfl rfl)
theorem dX2_isRow_4 : decode cX2_isRow 4 = .ok (.invokestatic 72, 3) := dk_184 0 72 (dk_at dksX2_isRow_0 4 rfl rfl)
theorem dX2_isRow_7 : decode cX2_isRow 7 = .ok (.ireturn, 1) := dk_172 (dk_at dksX2_isRow_0 7 rfl rfl)
abbrev cX2_answer : ByteArray := prog_20_method_119_code
def yX2_answer : MethodName := ⟨RX2, "answer", "(II)I"⟩
def dkwX2_answer_0 : List UInt8 := [27, 184, 1, 177, 153, 0, 18, 28, 184, 1, 177, 153, 0, 11, 27, 28, 184, 1, 180, 167, 0, 4, 2, 172]
abbrev dktX2_answer_0 : List UInt8 := dkwX2_answer_0 ++ []
theorem dksX2_answer_0 : cX2_answer.data.toList.drop 0 = dktX2_answer_0 := by decide +kernel
theorem dX2_answer_0 : decode cX2_answer 0 = .ok (.iload_n 1, 1) := dk_27 (dk_at dksX2_answer_0 0 rfl rfl)
theorem dX2_answer_1 : decode cX2_answer 1 = .ok (.invokestatic 433, 3) := dk_184 1 177 (dk_at dksX2_answer_0 1 rfl rfl)
theorem dX2_answer_4 : decode cX2_answer 4 = .ok (.ifCond .eq 18, 3) := dk_153 0 18 (dk_at dksX2_answer_0 4 rfl rfl)
theorem dX2_answer_7 : decode cX2_answer 7 = .ok (.iload_n 2, 1) := dk_28 (dk_at dksX2_answer_0 7 rfl rfl)
theorem dX2_answer_8 : decode cX2_answer 8 = .ok (.invokestatic 433, 3) := dk_184 1 177 (dk_at dksX2_answer_0 8 rfl rfl)
theorem dX2_answer_11 : decode cX2_answer 11 = .ok (.ifCond .eq 11, 3) := dk_153 0 11 (dk_at dksX2_answer_0 11 rfl rfl)
theorem dX2_answer_14 : decode cX2_answer 14 = .ok (.iload_n 1, 1) := dk_27 (dk_at dksX2_answer_0 14 rfl rfl)
theorem dX2_answer_15 : decode cX2_answer 15 = .ok (.iload_n 2, 1) := dk_28 (dk_at dksX2_answer_0 15 rfl rfl)
theorem dX2_answer_16 : decode cX2_answer 16 = .ok (.invokestatic 436, 3) := dk_184 1 180 (dk_at dksX2_answer_0 16 rfl rfl)
theorem dX2_answer_19 : decode cX2_answer 19 = .ok (.goto 4, 3) := dk_167 0 4 (dk_at dksX2_answer_0 19 rfl rfl)
theorem dX2_answer_22 : decode cX2_answer 22 = .ok (.iconst (-1), 1) := dk_2 (dk_at dksX2_answer_0 22 rfl rfl)
theorem dX2_answer_23 : decode cX2_answer 23 = .ok (.ireturn, 1) := dk_172 (dk_at dksX2_answer_0 23 rfl rfl)
abbrev cX2_answerOf : ByteArray := prog_20_method_116_code
def yX2_answerOf : MethodName := ⟨RX2, "answerOf", "(II)I"⟩
def dkwX2_answerOf_4 : List UInt8 := [29, 96, 28, 100, 172]
abbrev dktX2_answerOf_4 : List UInt8 := dkwX2_answerOf_4 ++ []
def dkwX2_answerOf_3 : List UInt8 := [184, 1, 174, 167, 0, 9, 27, 21, 4, 184, 1, 174, 96, 62, 132, 4, 1, 167, 255, 214, 16, 10, 28, 104]
abbrev dktX2_answerOf_3 : List UInt8 := dkwX2_answerOf_3 ++ dktX2_answerOf_4
def dkwX2_answerOf_2 : List UInt8 := [8, 162, 0, 42, 29, 26, 21, 4, 184, 1, 174, 27, 21, 4, 184, 1, 174, 162, 0, 12, 26, 21, 4]
abbrev dktX2_answerOf_2 : List UInt8 := dkwX2_answerOf_2 ++ dktX2_answerOf_3
def dkwX2_answerOf_1 : List UInt8 := [184, 1, 171, 160, 0, 7, 4, 167, 0, 4, 3, 96, 61, 132, 4, 1, 167, 255, 224, 3, 54, 4, 21, 4]
abbrev dktX2_answerOf_1 : List UInt8 := dkwX2_answerOf_1 ++ dktX2_answerOf_2
def dkwX2_answerOf_0 : List UInt8 := [3, 61, 3, 62, 3, 54, 4, 21, 4, 6, 162, 0, 32, 28, 26, 21, 4, 184, 1, 171, 27, 21, 4]
abbrev dktX2_answerOf_0 : List UInt8 := dkwX2_answerOf_0 ++ dktX2_answerOf_1
theorem dksX2_answerOf_0 : cX2_answerOf.data.toList.drop 0 = dktX2_answerOf_0 := by decide +kernel
theorem dksX2_answerOf_1 : cX2_answerOf.data.toList.drop 23 = dktX2_answerOf_1 := dk_seg dksX2_answerOf_0 23 rfl rfl
theorem dksX2_answerOf_2 : cX2_answerOf.data.toList.drop 47 = dktX2_answerOf_2 := dk_seg dksX2_answerOf_1 24 rfl rfl
theorem dksX2_answerOf_3 : cX2_answerOf.data.toList.drop 70 = dktX2_answerOf_3 := dk_seg dksX2_answerOf_2 23 rfl rfl
theorem dksX2_answerOf_4 : cX2_answerOf.data.toList.drop 94 = dktX2_answerOf_4 := dk_seg dksX2_answerOf_3 24 rfl rfl
theorem dX2_answerOf_0 : decode cX2_answerOf 0 = .ok (.iconst 0, 1) := dk_3 (dk_at dksX2_answerOf_0 0 rfl rfl)
theorem dX2_answerOf_1 : decode cX2_answerOf 1 = .ok (.istore_n 2, 1) := dk_61 (dk_at dksX2_answerOf_0 1 rfl rfl)
theorem dX2_answerOf_2 : decode cX2_answerOf 2 = .ok (.iconst 0, 1) := dk_3 (dk_at dksX2_answerOf_0 2 rfl rfl)
theorem dX2_answerOf_3 : decode cX2_answerOf 3 = .ok (.istore_n 3, 1) := dk_62 (dk_at dksX2_answerOf_0 3 rfl rfl)
theorem dX2_answerOf_4 : decode cX2_answerOf 4 = .ok (.iconst 0, 1) := dk_3 (dk_at dksX2_answerOf_0 4 rfl rfl)
theorem dX2_answerOf_5 : decode cX2_answerOf 5 = .ok (.istore 4, 2) := dk_54 4 (dk_at dksX2_answerOf_0 5 rfl rfl)
theorem dX2_answerOf_7 : decode cX2_answerOf 7 = .ok (.iload 4, 2) := dk_21 4 (dk_at dksX2_answerOf_0 7 rfl rfl)
theorem dX2_answerOf_9 : decode cX2_answerOf 9 = .ok (.iconst 3, 1) := dk_6 (dk_at dksX2_answerOf_0 9 rfl rfl)
theorem dX2_answerOf_10 : decode cX2_answerOf 10 = .ok (.if_icmp .ge 32, 3) := dk_162 0 32 (dk_at dksX2_answerOf_0 10 rfl rfl)
theorem dX2_answerOf_13 : decode cX2_answerOf 13 = .ok (.iload_n 2, 1) := dk_28 (dk_at dksX2_answerOf_0 13 rfl rfl)
theorem dX2_answerOf_14 : decode cX2_answerOf 14 = .ok (.iload_n 0, 1) := dk_26 (dk_at dksX2_answerOf_0 14 rfl rfl)
theorem dX2_answerOf_15 : decode cX2_answerOf 15 = .ok (.iload 4, 2) := dk_21 4 (dk_at dksX2_answerOf_0 15 rfl rfl)
theorem dX2_answerOf_17 : decode cX2_answerOf 17 = .ok (.invokestatic 427, 3) := dk_184 1 171 (dk_at dksX2_answerOf_0 17 rfl rfl)
theorem dX2_answerOf_20 : decode cX2_answerOf 20 = .ok (.iload_n 1, 1) := dk_27 (dk_at dksX2_answerOf_0 20 rfl rfl)
theorem dX2_answerOf_21 : decode cX2_answerOf 21 = .ok (.iload 4, 2) := dk_21 4 (dk_at dksX2_answerOf_0 21 rfl rfl)
theorem dX2_answerOf_23 : decode cX2_answerOf 23 = .ok (.invokestatic 427, 3) := dk_184 1 171 (dk_at dksX2_answerOf_1 0 rfl rfl)
theorem dX2_answerOf_26 : decode cX2_answerOf 26 = .ok (.if_icmp .ne 7, 3) := dk_160 0 7 (dk_at dksX2_answerOf_1 3 rfl rfl)
theorem dX2_answerOf_29 : decode cX2_answerOf 29 = .ok (.iconst 1, 1) := dk_4 (dk_at dksX2_answerOf_1 6 rfl rfl)
theorem dX2_answerOf_30 : decode cX2_answerOf 30 = .ok (.goto 4, 3) := dk_167 0 4 (dk_at dksX2_answerOf_1 7 rfl rfl)
theorem dX2_answerOf_33 : decode cX2_answerOf 33 = .ok (.iconst 0, 1) := dk_3 (dk_at dksX2_answerOf_1 10 rfl rfl)
theorem dX2_answerOf_34 : decode cX2_answerOf 34 = .ok (.iadd, 1) := dk_96 (dk_at dksX2_answerOf_1 11 rfl rfl)
theorem dX2_answerOf_35 : decode cX2_answerOf 35 = .ok (.istore_n 2, 1) := dk_61 (dk_at dksX2_answerOf_1 12 rfl rfl)
theorem dX2_answerOf_36 : decode cX2_answerOf 36 = .ok (.iinc 4 1, 3) := dk_132 4 1 (dk_at dksX2_answerOf_1 13 rfl rfl)
theorem dX2_answerOf_39 : decode cX2_answerOf 39 = .ok (.goto (-32), 3) := dk_167 255 224 (dk_at dksX2_answerOf_1 16 rfl rfl)
theorem dX2_answerOf_42 : decode cX2_answerOf 42 = .ok (.iconst 0, 1) := dk_3 (dk_at dksX2_answerOf_1 19 rfl rfl)
theorem dX2_answerOf_43 : decode cX2_answerOf 43 = .ok (.istore 4, 2) := dk_54 4 (dk_at dksX2_answerOf_1 20 rfl rfl)
theorem dX2_answerOf_45 : decode cX2_answerOf 45 = .ok (.iload 4, 2) := dk_21 4 (dk_at dksX2_answerOf_1 22 rfl rfl)
theorem dX2_answerOf_47 : decode cX2_answerOf 47 = .ok (.iconst 5, 1) := dk_8 (dk_at dksX2_answerOf_2 0 rfl rfl)
theorem dX2_answerOf_48 : decode cX2_answerOf 48 = .ok (.if_icmp .ge 42, 3) := dk_162 0 42 (dk_at dksX2_answerOf_2 1 rfl rfl)
theorem dX2_answerOf_51 : decode cX2_answerOf 51 = .ok (.iload_n 3, 1) := dk_29 (dk_at dksX2_answerOf_2 4 rfl rfl)
theorem dX2_answerOf_52 : decode cX2_answerOf 52 = .ok (.iload_n 0, 1) := dk_26 (dk_at dksX2_answerOf_2 5 rfl rfl)
theorem dX2_answerOf_53 : decode cX2_answerOf 53 = .ok (.iload 4, 2) := dk_21 4 (dk_at dksX2_answerOf_2 6 rfl rfl)
theorem dX2_answerOf_55 : decode cX2_answerOf 55 = .ok (.invokestatic 430, 3) := dk_184 1 174 (dk_at dksX2_answerOf_2 8 rfl rfl)
theorem dX2_answerOf_58 : decode cX2_answerOf 58 = .ok (.iload_n 1, 1) := dk_27 (dk_at dksX2_answerOf_2 11 rfl rfl)
theorem dX2_answerOf_59 : decode cX2_answerOf 59 = .ok (.iload 4, 2) := dk_21 4 (dk_at dksX2_answerOf_2 12 rfl rfl)
theorem dX2_answerOf_61 : decode cX2_answerOf 61 = .ok (.invokestatic 430, 3) := dk_184 1 174 (dk_at dksX2_answerOf_2 14 rfl rfl)
theorem dX2_answerOf_64 : decode cX2_answerOf 64 = .ok (.if_icmp .ge 12, 3) := dk_162 0 12 (dk_at dksX2_answerOf_2 17 rfl rfl)
theorem dX2_answerOf_67 : decode cX2_answerOf 67 = .ok (.iload_n 0, 1) := dk_26 (dk_at dksX2_answerOf_2 20 rfl rfl)
theorem dX2_answerOf_68 : decode cX2_answerOf 68 = .ok (.iload 4, 2) := dk_21 4 (dk_at dksX2_answerOf_2 21 rfl rfl)
theorem dX2_answerOf_70 : decode cX2_answerOf 70 = .ok (.invokestatic 430, 3) := dk_184 1 174 (dk_at dksX2_answerOf_3 0 rfl rfl)
theorem dX2_answerOf_73 : decode cX2_answerOf 73 = .ok (.goto 9, 3) := dk_167 0 9 (dk_at dksX2_answerOf_3 3 rfl rfl)
theorem dX2_answerOf_76 : decode cX2_answerOf 76 = .ok (.iload_n 1, 1) := dk_27 (dk_at dksX2_answerOf_3 6 rfl rfl)
theorem dX2_answerOf_77 : decode cX2_answerOf 77 = .ok (.iload 4, 2) := dk_21 4 (dk_at dksX2_answerOf_3 7 rfl rfl)
theorem dX2_answerOf_79 : decode cX2_answerOf 79 = .ok (.invokestatic 430, 3) := dk_184 1 174 (dk_at dksX2_answerOf_3 9 rfl rfl)
theorem dX2_answerOf_82 : decode cX2_answerOf 82 = .ok (.iadd, 1) := dk_96 (dk_at dksX2_answerOf_3 12 rfl rfl)
theorem dX2_answerOf_83 : decode cX2_answerOf 83 = .ok (.istore_n 3, 1) := dk_62 (dk_at dksX2_answerOf_3 13 rfl rfl)
theorem dX2_answerOf_84 : decode cX2_answerOf 84 = .ok (.iinc 4 1, 3) := dk_132 4 1 (dk_at dksX2_answerOf_3 14 rfl rfl)
theorem dX2_answerOf_87 : decode cX2_answerOf 87 = .ok (.goto (-42), 3) := dk_167 255 214 (dk_at dksX2_answerOf_3 17 rfl rfl)
theorem dX2_answerOf_90 : decode cX2_answerOf 90 = .ok (.bipush 10, 2) := dk_16 10 (dk_at dksX2_answerOf_3 20 rfl rfl)
theorem dX2_answerOf_92 : decode cX2_answerOf 92 = .ok (.iload_n 2, 1) := dk_28 (dk_at dksX2_answerOf_3 22 rfl rfl)
theorem dX2_answerOf_93 : decode cX2_answerOf 93 = .ok (.imul, 1) := dk_104 (dk_at dksX2_answerOf_3 23 rfl rfl)
theorem dX2_answerOf_94 : decode cX2_answerOf 94 = .ok (.iload_n 3, 1) := dk_29 (dk_at dksX2_answerOf_4 0 rfl rfl)
theorem dX2_answerOf_95 : decode cX2_answerOf 95 = .ok (.iadd, 1) := dk_96 (dk_at dksX2_answerOf_4 1 rfl rfl)
theorem dX2_answerOf_96 : decode cX2_answerOf 96 = .ok (.iload_n 2, 1) := dk_28 (dk_at dksX2_answerOf_4 2 rfl rfl)
theorem dX2_answerOf_97 : decode cX2_answerOf 97 = .ok (.isub, 1) := dk_100 (dk_at dksX2_answerOf_4 3 rfl rfl)
theorem dX2_answerOf_98 : decode cX2_answerOf 98 = .ok (.ireturn, 1) := dk_172 (dk_at dksX2_answerOf_4 4 rfl rfl)
abbrev cX2_digitOf : ByteArray := prog_20_method_114_code
def yX2_digitOf : MethodName := ⟨RX2, "digitOf", "(II)I"⟩
def dkwX2_digitOf_1 : List UInt8 := [26, 8, 112, 172]
abbrev dktX2_digitOf_1 : List UInt8 := dkwX2_digitOf_1 ++ []
def dkwX2_digitOf_0 : List UInt8 := [27, 154, 0, 10, 26, 16, 25, 108, 167, 0, 19, 27, 4, 160, 0, 11, 26, 8, 108, 8, 112, 167, 0, 6]
abbrev dktX2_digitOf_0 : List UInt8 := dkwX2_digitOf_0 ++ dktX2_digitOf_1
theorem dksX2_digitOf_0 : cX2_digitOf.data.toList.drop 0 = dktX2_digitOf_0 := by decide +kernel
theorem dksX2_digitOf_1 : cX2_digitOf.data.toList.drop 24 = dktX2_digitOf_1 := dk_seg dksX2_digitOf_0 24 rfl rfl
theorem dX2_digitOf_0 : decode cX2_digitOf 0 = .ok (.iload_n 1, 1) := dk_27 (dk_at dksX2_digitOf_0 0 rfl rfl)
theorem dX2_digitOf_1 : decode cX2_digitOf 1 = .ok (.ifCond .ne 10, 3) := dk_154 0 10 (dk_at dksX2_digitOf_0 1 rfl rfl)
theorem dX2_digitOf_4 : decode cX2_digitOf 4 = .ok (.iload_n 0, 1) := dk_26 (dk_at dksX2_digitOf_0 4 rfl rfl)
theorem dX2_digitOf_5 : decode cX2_digitOf 5 = .ok (.bipush 25, 2) := dk_16 25 (dk_at dksX2_digitOf_0 5 rfl rfl)
theorem dX2_digitOf_7 : decode cX2_digitOf 7 = .ok (.idiv, 1) := dk_108 (dk_at dksX2_digitOf_0 7 rfl rfl)
theorem dX2_digitOf_8 : decode cX2_digitOf 8 = .ok (.goto 19, 3) := dk_167 0 19 (dk_at dksX2_digitOf_0 8 rfl rfl)
theorem dX2_digitOf_11 : decode cX2_digitOf 11 = .ok (.iload_n 1, 1) := dk_27 (dk_at dksX2_digitOf_0 11 rfl rfl)
theorem dX2_digitOf_12 : decode cX2_digitOf 12 = .ok (.iconst 1, 1) := dk_4 (dk_at dksX2_digitOf_0 12 rfl rfl)
theorem dX2_digitOf_13 : decode cX2_digitOf 13 = .ok (.if_icmp .ne 11, 3) := dk_160 0 11 (dk_at dksX2_digitOf_0 13 rfl rfl)
theorem dX2_digitOf_16 : decode cX2_digitOf 16 = .ok (.iload_n 0, 1) := dk_26 (dk_at dksX2_digitOf_0 16 rfl rfl)
theorem dX2_digitOf_17 : decode cX2_digitOf 17 = .ok (.iconst 5, 1) := dk_8 (dk_at dksX2_digitOf_0 17 rfl rfl)
theorem dX2_digitOf_18 : decode cX2_digitOf 18 = .ok (.idiv, 1) := dk_108 (dk_at dksX2_digitOf_0 18 rfl rfl)
theorem dX2_digitOf_19 : decode cX2_digitOf 19 = .ok (.iconst 5, 1) := dk_8 (dk_at dksX2_digitOf_0 19 rfl rfl)
theorem dX2_digitOf_20 : decode cX2_digitOf 20 = .ok (.irem, 1) := dk_112 (dk_at dksX2_digitOf_0 20 rfl rfl)
theorem dX2_digitOf_21 : decode cX2_digitOf 21 = .ok (.goto 6, 3) := dk_167 0 6 (dk_at dksX2_digitOf_0 21 rfl rfl)
theorem dX2_digitOf_24 : decode cX2_digitOf 24 = .ok (.iload_n 0, 1) := dk_26 (dk_at dksX2_digitOf_1 0 rfl rfl)
theorem dX2_digitOf_25 : decode cX2_digitOf 25 = .ok (.iconst 5, 1) := dk_8 (dk_at dksX2_digitOf_1 1 rfl rfl)
theorem dX2_digitOf_26 : decode cX2_digitOf 26 = .ok (.irem, 1) := dk_112 (dk_at dksX2_digitOf_1 2 rfl rfl)
theorem dX2_digitOf_27 : decode cX2_digitOf 27 = .ok (.ireturn, 1) := dk_172 (dk_at dksX2_digitOf_1 3 rfl rfl)
abbrev cX2_countOf : ByteArray := prog_20_method_115_code
def yX2_countOf : MethodName := ⟨RX2, "countOf", "(II)I"⟩
def dkwX2_countOf_1 : List UInt8 := [96, 61, 132, 3, 1, 167, 255, 231, 28, 172]
abbrev dktX2_countOf_1 : List UInt8 := dkwX2_countOf_1 ++ []
def dkwX2_countOf_0 : List UInt8 := [3, 61, 3, 62, 29, 6, 162, 0, 26, 28, 26, 29, 184, 1, 171, 27, 160, 0, 7, 4, 167, 0, 4, 3]
abbrev dktX2_countOf_0 : List UInt8 := dkwX2_countOf_0 ++ dktX2_countOf_1
theorem dksX2_countOf_0 : cX2_countOf.data.toList.drop 0 = dktX2_countOf_0 := by decide +kernel
theorem dksX2_countOf_1 : cX2_countOf.data.toList.drop 24 = dktX2_countOf_1 := dk_seg dksX2_countOf_0 24 rfl rfl
theorem dX2_countOf_0 : decode cX2_countOf 0 = .ok (.iconst 0, 1) := dk_3 (dk_at dksX2_countOf_0 0 rfl rfl)
theorem dX2_countOf_1 : decode cX2_countOf 1 = .ok (.istore_n 2, 1) := dk_61 (dk_at dksX2_countOf_0 1 rfl rfl)
theorem dX2_countOf_2 : decode cX2_countOf 2 = .ok (.iconst 0, 1) := dk_3 (dk_at dksX2_countOf_0 2 rfl rfl)
theorem dX2_countOf_3 : decode cX2_countOf 3 = .ok (.istore_n 3, 1) := dk_62 (dk_at dksX2_countOf_0 3 rfl rfl)
theorem dX2_countOf_4 : decode cX2_countOf 4 = .ok (.iload_n 3, 1) := dk_29 (dk_at dksX2_countOf_0 4 rfl rfl)
theorem dX2_countOf_5 : decode cX2_countOf 5 = .ok (.iconst 3, 1) := dk_6 (dk_at dksX2_countOf_0 5 rfl rfl)
theorem dX2_countOf_6 : decode cX2_countOf 6 = .ok (.if_icmp .ge 26, 3) := dk_162 0 26 (dk_at dksX2_countOf_0 6 rfl rfl)
theorem dX2_countOf_9 : decode cX2_countOf 9 = .ok (.iload_n 2, 1) := dk_28 (dk_at dksX2_countOf_0 9 rfl rfl)
theorem dX2_countOf_10 : decode cX2_countOf 10 = .ok (.iload_n 0, 1) := dk_26 (dk_at dksX2_countOf_0 10 rfl rfl)
theorem dX2_countOf_11 : decode cX2_countOf 11 = .ok (.iload_n 3, 1) := dk_29 (dk_at dksX2_countOf_0 11 rfl rfl)
theorem dX2_countOf_12 : decode cX2_countOf 12 = .ok (.invokestatic 427, 3) := dk_184 1 171 (dk_at dksX2_countOf_0 12 rfl rfl)
theorem dX2_countOf_15 : decode cX2_countOf 15 = .ok (.iload_n 1, 1) := dk_27 (dk_at dksX2_countOf_0 15 rfl rfl)
theorem dX2_countOf_16 : decode cX2_countOf 16 = .ok (.if_icmp .ne 7, 3) := dk_160 0 7 (dk_at dksX2_countOf_0 16 rfl rfl)
theorem dX2_countOf_19 : decode cX2_countOf 19 = .ok (.iconst 1, 1) := dk_4 (dk_at dksX2_countOf_0 19 rfl rfl)
theorem dX2_countOf_20 : decode cX2_countOf 20 = .ok (.goto 4, 3) := dk_167 0 4 (dk_at dksX2_countOf_0 20 rfl rfl)
theorem dX2_countOf_23 : decode cX2_countOf 23 = .ok (.iconst 0, 1) := dk_3 (dk_at dksX2_countOf_0 23 rfl rfl)
theorem dX2_countOf_24 : decode cX2_countOf 24 = .ok (.iadd, 1) := dk_96 (dk_at dksX2_countOf_1 0 rfl rfl)
theorem dX2_countOf_25 : decode cX2_countOf 25 = .ok (.istore_n 2, 1) := dk_61 (dk_at dksX2_countOf_1 1 rfl rfl)
theorem dX2_countOf_26 : decode cX2_countOf 26 = .ok (.iinc 3 1, 3) := dk_132 3 1 (dk_at dksX2_countOf_1 2 rfl rfl)
theorem dX2_countOf_29 : decode cX2_countOf 29 = .ok (.goto (-25), 3) := dk_167 255 231 (dk_at dksX2_countOf_1 5 rfl rfl)
theorem dX2_countOf_32 : decode cX2_countOf 32 = .ok (.iload_n 2, 1) := dk_28 (dk_at dksX2_countOf_1 8 rfl rfl)
theorem dX2_countOf_33 : decode cX2_countOf 33 = .ok (.ireturn, 1) := dk_172 (dk_at dksX2_countOf_1 9 rfl rfl)
abbrev cX2_fits : ByteArray := prog_20_method_121_code
def yX2_fits : MethodName := ⟨RX2, "fits", "()I"⟩
theorem dX2_fits_0 : decode cX2_fits 0 = .ok (.aload_n 0, 1) := by decide +kernel
theorem dX2_fits_1 : decode cX2_fits 1 = .ok (.invokevirtual 439, 3) := by decide +kernel
theorem dX2_fits_4 : decode cX2_fits 4 = .ok (.ireturn, 1) := by decide +kernel
abbrev cX2_layFits : ByteArray := prog_20_method_120_code
def yX2_layFits : MethodName := ⟨RX2, "layFits", "()I"⟩
def dkwX2_layFits_4 : List UInt8 := [180, 0, 59, 27, 28, 79, 132, 1, 1, 132, 2, 1, 167, 255, 156, 27, 172]
abbrev dktX2_layFits_4 : List UInt8 := dkwX2_layFits_4 ++ []
def dkwX2_layFits_3 : List UInt8 := [96, 160, 0, 7, 4, 167, 0, 4, 3, 62, 132, 4, 3, 167, 255, 191, 29, 154, 0, 6, 167, 0, 13, 42]
abbrev dktX2_layFits_3 : List UInt8 := dkwX2_layFits_3 ++ dktX2_layFits_4
def dkwX2_layFits_2 : List UInt8 := [184, 1, 180, 16, 10, 42, 180, 0, 7, 21, 4, 4, 96, 46, 104, 42, 180, 0, 7, 21, 4, 5, 96, 46]
abbrev dktX2_layFits_2 : List UInt8 := dkwX2_layFits_2 ++ dktX2_layFits_3
def dkwX2_layFits_1 : List UInt8 := [180, 0, 7, 7, 46, 104, 96, 162, 0, 55, 29, 153, 0, 43, 42, 180, 0, 7, 21, 4, 46, 28]
abbrev dktX2_layFits_1 : List UInt8 := dkwX2_layFits_1 ++ dktX2_layFits_2
def dkwX2_layFits_0 : List UInt8 := [3, 60, 3, 61, 28, 16, 125, 162, 0, 100, 4, 62, 16, 107, 54, 4, 21, 4, 16, 107, 6, 42]
abbrev dktX2_layFits_0 : List UInt8 := dkwX2_layFits_0 ++ dktX2_layFits_1
theorem dksX2_layFits_0 : cX2_layFits.data.toList.drop 0 = dktX2_layFits_0 := by decide +kernel
theorem dksX2_layFits_1 : cX2_layFits.data.toList.drop 22 = dktX2_layFits_1 := dk_seg dksX2_layFits_0 22 rfl rfl
theorem dksX2_layFits_2 : cX2_layFits.data.toList.drop 44 = dktX2_layFits_2 := dk_seg dksX2_layFits_1 22 rfl rfl
theorem dksX2_layFits_3 : cX2_layFits.data.toList.drop 68 = dktX2_layFits_3 := dk_seg dksX2_layFits_2 24 rfl rfl
theorem dksX2_layFits_4 : cX2_layFits.data.toList.drop 92 = dktX2_layFits_4 := dk_seg dksX2_layFits_3 24 rfl rfl
theorem dX2_layFits_0 : decode cX2_layFits 0 = .ok (.iconst 0, 1) := dk_3 (dk_at dksX2_layFits_0 0 rfl rfl)
theorem dX2_layFits_1 : decode cX2_layFits 1 = .ok (.istore_n 1, 1) := dk_60 (dk_at dksX2_layFits_0 1 rfl rfl)
theorem dX2_layFits_2 : decode cX2_layFits 2 = .ok (.iconst 0, 1) := dk_3 (dk_at dksX2_layFits_0 2 rfl rfl)
theorem dX2_layFits_3 : decode cX2_layFits 3 = .ok (.istore_n 2, 1) := dk_61 (dk_at dksX2_layFits_0 3 rfl rfl)
theorem dX2_layFits_4 : decode cX2_layFits 4 = .ok (.iload_n 2, 1) := dk_28 (dk_at dksX2_layFits_0 4 rfl rfl)
theorem dX2_layFits_5 : decode cX2_layFits 5 = .ok (.bipush 125, 2) := dk_16 125 (dk_at dksX2_layFits_0 5 rfl rfl)
theorem dX2_layFits_7 : decode cX2_layFits 7 = .ok (.if_icmp .ge 100, 3) := dk_162 0 100 (dk_at dksX2_layFits_0 7 rfl rfl)
theorem dX2_layFits_10 : decode cX2_layFits 10 = .ok (.iconst 1, 1) := dk_4 (dk_at dksX2_layFits_0 10 rfl rfl)
theorem dX2_layFits_11 : decode cX2_layFits 11 = .ok (.istore_n 3, 1) := dk_62 (dk_at dksX2_layFits_0 11 rfl rfl)
theorem dX2_layFits_12 : decode cX2_layFits 12 = .ok (.bipush 107, 2) := dk_16 107 (dk_at dksX2_layFits_0 12 rfl rfl)
theorem dX2_layFits_14 : decode cX2_layFits 14 = .ok (.istore 4, 2) := dk_54 4 (dk_at dksX2_layFits_0 14 rfl rfl)
theorem dX2_layFits_16 : decode cX2_layFits 16 = .ok (.iload 4, 2) := dk_21 4 (dk_at dksX2_layFits_0 16 rfl rfl)
theorem dX2_layFits_18 : decode cX2_layFits 18 = .ok (.bipush 107, 2) := dk_16 107 (dk_at dksX2_layFits_0 18 rfl rfl)
theorem dX2_layFits_20 : decode cX2_layFits 20 = .ok (.iconst 3, 1) := dk_6 (dk_at dksX2_layFits_0 20 rfl rfl)
theorem dX2_layFits_21 : decode cX2_layFits 21 = .ok (.aload_n 0, 1) := dk_42 (dk_at dksX2_layFits_0 21 rfl rfl)
theorem dX2_layFits_22 : decode cX2_layFits 22 = .ok (.getfield 7, 3) := dk_180 0 7 (dk_at dksX2_layFits_1 0 rfl rfl)
theorem dX2_layFits_25 : decode cX2_layFits 25 = .ok (.iconst 4, 1) := dk_7 (dk_at dksX2_layFits_1 3 rfl rfl)
theorem dX2_layFits_26 : decode cX2_layFits 26 = .ok (.iaload, 1) := dk_46 (dk_at dksX2_layFits_1 4 rfl rfl)
theorem dX2_layFits_27 : decode cX2_layFits 27 = .ok (.imul, 1) := dk_104 (dk_at dksX2_layFits_1 5 rfl rfl)
theorem dX2_layFits_28 : decode cX2_layFits 28 = .ok (.iadd, 1) := dk_96 (dk_at dksX2_layFits_1 6 rfl rfl)
theorem dX2_layFits_29 : decode cX2_layFits 29 = .ok (.if_icmp .ge 55, 3) := dk_162 0 55 (dk_at dksX2_layFits_1 7 rfl rfl)
theorem dX2_layFits_32 : decode cX2_layFits 32 = .ok (.iload_n 3, 1) := dk_29 (dk_at dksX2_layFits_1 10 rfl rfl)
theorem dX2_layFits_33 : decode cX2_layFits 33 = .ok (.ifCond .eq 43, 3) := dk_153 0 43 (dk_at dksX2_layFits_1 11 rfl rfl)
theorem dX2_layFits_36 : decode cX2_layFits 36 = .ok (.aload_n 0, 1) := dk_42 (dk_at dksX2_layFits_1 14 rfl rfl)
theorem dX2_layFits_37 : decode cX2_layFits 37 = .ok (.getfield 7, 3) := dk_180 0 7 (dk_at dksX2_layFits_1 15 rfl rfl)
theorem dX2_layFits_40 : decode cX2_layFits 40 = .ok (.iload 4, 2) := dk_21 4 (dk_at dksX2_layFits_1 18 rfl rfl)
theorem dX2_layFits_42 : decode cX2_layFits 42 = .ok (.iaload, 1) := dk_46 (dk_at dksX2_layFits_1 20 rfl rfl)
theorem dX2_layFits_43 : decode cX2_layFits 43 = .ok (.iload_n 2, 1) := dk_28 (dk_at dksX2_layFits_1 21 rfl rfl)
theorem dX2_layFits_44 : decode cX2_layFits 44 = .ok (.invokestatic 436, 3) := dk_184 1 180 (dk_at dksX2_layFits_2 0 rfl rfl)
theorem dX2_layFits_47 : decode cX2_layFits 47 = .ok (.bipush 10, 2) := dk_16 10 (dk_at dksX2_layFits_2 3 rfl rfl)
theorem dX2_layFits_49 : decode cX2_layFits 49 = .ok (.aload_n 0, 1) := dk_42 (dk_at dksX2_layFits_2 5 rfl rfl)
theorem dX2_layFits_50 : decode cX2_layFits 50 = .ok (.getfield 7, 3) := dk_180 0 7 (dk_at dksX2_layFits_2 6 rfl rfl)
theorem dX2_layFits_53 : decode cX2_layFits 53 = .ok (.iload 4, 2) := dk_21 4 (dk_at dksX2_layFits_2 9 rfl rfl)
theorem dX2_layFits_55 : decode cX2_layFits 55 = .ok (.iconst 1, 1) := dk_4 (dk_at dksX2_layFits_2 11 rfl rfl)
theorem dX2_layFits_56 : decode cX2_layFits 56 = .ok (.iadd, 1) := dk_96 (dk_at dksX2_layFits_2 12 rfl rfl)
theorem dX2_layFits_57 : decode cX2_layFits 57 = .ok (.iaload, 1) := dk_46 (dk_at dksX2_layFits_2 13 rfl rfl)
theorem dX2_layFits_58 : decode cX2_layFits 58 = .ok (.imul, 1) := dk_104 (dk_at dksX2_layFits_2 14 rfl rfl)
theorem dX2_layFits_59 : decode cX2_layFits 59 = .ok (.aload_n 0, 1) := dk_42 (dk_at dksX2_layFits_2 15 rfl rfl)
theorem dX2_layFits_60 : decode cX2_layFits 60 = .ok (.getfield 7, 3) := dk_180 0 7 (dk_at dksX2_layFits_2 16 rfl rfl)
theorem dX2_layFits_63 : decode cX2_layFits 63 = .ok (.iload 4, 2) := dk_21 4 (dk_at dksX2_layFits_2 19 rfl rfl)
theorem dX2_layFits_65 : decode cX2_layFits 65 = .ok (.iconst 2, 1) := dk_5 (dk_at dksX2_layFits_2 21 rfl rfl)
theorem dX2_layFits_66 : decode cX2_layFits 66 = .ok (.iadd, 1) := dk_96 (dk_at dksX2_layFits_2 22 rfl rfl)
theorem dX2_layFits_67 : decode cX2_layFits 67 = .ok (.iaload, 1) := dk_46 (dk_at dksX2_layFits_2 23 rfl rfl)
theorem dX2_layFits_68 : decode cX2_layFits 68 = .ok (.iadd, 1) := dk_96 (dk_at dksX2_layFits_3 0 rfl rfl)
theorem dX2_layFits_69 : decode cX2_layFits 69 = .ok (.if_icmp .ne 7, 3) := dk_160 0 7 (dk_at dksX2_layFits_3 1 rfl rfl)
theorem dX2_layFits_72 : decode cX2_layFits 72 = .ok (.iconst 1, 1) := dk_4 (dk_at dksX2_layFits_3 4 rfl rfl)
theorem dX2_layFits_73 : decode cX2_layFits 73 = .ok (.goto 4, 3) := dk_167 0 4 (dk_at dksX2_layFits_3 5 rfl rfl)
theorem dX2_layFits_76 : decode cX2_layFits 76 = .ok (.iconst 0, 1) := dk_3 (dk_at dksX2_layFits_3 8 rfl rfl)
theorem dX2_layFits_77 : decode cX2_layFits 77 = .ok (.istore_n 3, 1) := dk_62 (dk_at dksX2_layFits_3 9 rfl rfl)
theorem dX2_layFits_78 : decode cX2_layFits 78 = .ok (.iinc 4 3, 3) := dk_132 4 3 (dk_at dksX2_layFits_3 10 rfl rfl)
theorem dX2_layFits_81 : decode cX2_layFits 81 = .ok (.goto (-65), 3) := dk_167 255 191 (dk_at dksX2_layFits_3 13 rfl rfl)
theorem dX2_layFits_84 : decode cX2_layFits 84 = .ok (.iload_n 3, 1) := dk_29 (dk_at dksX2_layFits_3 16 rfl rfl)
theorem dX2_layFits_85 : decode cX2_layFits 85 = .ok (.ifCond .ne 6, 3) := dk_154 0 6 (dk_at dksX2_layFits_3 17 rfl rfl)
theorem dX2_layFits_88 : decode cX2_layFits 88 = .ok (.goto 13, 3) := dk_167 0 13 (dk_at dksX2_layFits_3 20 rfl rfl)
theorem dX2_layFits_91 : decode cX2_layFits 91 = .ok (.aload_n 0, 1) := dk_42 (dk_at dksX2_layFits_3 23 rfl rfl)
theorem dX2_layFits_92 : decode cX2_layFits 92 = .ok (.getfield 59, 3) := dk_180 0 59 (dk_at dksX2_layFits_4 0 rfl rfl)
theorem dX2_layFits_95 : decode cX2_layFits 95 = .ok (.iload_n 1, 1) := dk_27 (dk_at dksX2_layFits_4 3 rfl rfl)
theorem dX2_layFits_96 : decode cX2_layFits 96 = .ok (.iload_n 2, 1) := dk_28 (dk_at dksX2_layFits_4 4 rfl rfl)
theorem dX2_layFits_97 : decode cX2_layFits 97 = .ok (.iastore, 1) := dk_79 (dk_at dksX2_layFits_4 5 rfl rfl)
theorem dX2_layFits_98 : decode cX2_layFits 98 = .ok (.iinc 1 1, 3) := dk_132 1 1 (dk_at dksX2_layFits_4 6 rfl rfl)
theorem dX2_layFits_101 : decode cX2_layFits 101 = .ok (.iinc 2 1, 3) := dk_132 2 1 (dk_at dksX2_layFits_4 9 rfl rfl)
theorem dX2_layFits_104 : decode cX2_layFits 104 = .ok (.goto (-100), 3) := dk_167 255 156 (dk_at dksX2_layFits_4 12 rfl rfl)
theorem dX2_layFits_107 : decode cX2_layFits 107 = .ok (.iload_n 1, 1) := dk_27 (dk_at dksX2_layFits_4 15 rfl rfl)
theorem dX2_layFits_108 : decode cX2_layFits 108 = .ok (.ireturn, 1) := dk_172 (dk_at dksX2_layFits_4 16 rfl rfl)
abbrev cX2_fit : ByteArray := prog_20_method_122_code
def yX2_fit : MethodName := ⟨RX2, "fit", "(I)I"⟩
def dkwX2_fit_1 : List UInt8 := [172]
abbrev dktX2_fit_1 : List UInt8 := dkwX2_fit_1 ++ []
def dkwX2_fit_0 : List UInt8 := [27, 3, 42, 182, 1, 183, 4, 100, 184, 0, 72, 153, 0, 12, 42, 180, 0, 59, 27, 46, 167, 0, 4, 2]
abbrev dktX2_fit_0 : List UInt8 := dkwX2_fit_0 ++ dktX2_fit_1
theorem dksX2_fit_0 : cX2_fit.data.toList.drop 0 = dktX2_fit_0 := by decide +kernel
theorem dksX2_fit_1 : cX2_fit.data.toList.drop 24 = dktX2_fit_1 := dk_seg dksX2_fit_0 24 rfl rfl
theorem dX2_fit_0 : decode cX2_fit 0 = .ok (.iload_n 1, 1) := dk_27 (dk_at dksX2_fit_0 0 rfl rfl)
theorem dX2_fit_1 : decode cX2_fit 1 = .ok (.iconst 0, 1) := dk_3 (dk_at dksX2_fit_0 1 rfl rfl)
theorem dX2_fit_2 : decode cX2_fit 2 = .ok (.aload_n 0, 1) := dk_42 (dk_at dksX2_fit_0 2 rfl rfl)
theorem dX2_fit_3 : decode cX2_fit 3 = .ok (.invokevirtual 439, 3) := dk_182 1 183 (dk_at dksX2_fit_0 3 rfl rfl)
theorem dX2_fit_6 : decode cX2_fit 6 = .ok (.iconst 1, 1) := dk_4 (dk_at dksX2_fit_0 6 rfl rfl)
theorem dX2_fit_7 : decode cX2_fit 7 = .ok (.isub, 1) := dk_100 (dk_at dksX2_fit_0 7 rfl rfl)
theorem dX2_fit_8 : decode cX2_fit 8 = .ok (.invokestatic 72, 3) := dk_184 0 72 (dk_at dksX2_fit_0 8 rfl rfl)
theorem dX2_fit_11 : decode cX2_fit 11 = .ok (.ifCond .eq 12, 3) := dk_153 0 12 (dk_at dksX2_fit_0 11 rfl rfl)
theorem dX2_fit_14 : decode cX2_fit 14 = .ok (.aload_n 0, 1) := dk_42 (dk_at dksX2_fit_0 14 rfl rfl)
theorem dX2_fit_15 : decode cX2_fit 15 = .ok (.getfield 59, 3) := dk_180 0 59 (dk_at dksX2_fit_0 15 rfl rfl)
theorem dX2_fit_18 : decode cX2_fit 18 = .ok (.iload_n 1, 1) := dk_27 (dk_at dksX2_fit_0 18 rfl rfl)
theorem dX2_fit_19 : decode cX2_fit 19 = .ok (.iaload, 1) := dk_46 (dk_at dksX2_fit_0 19 rfl rfl)
theorem dX2_fit_20 : decode cX2_fit 20 = .ok (.goto 4, 3) := dk_167 0 4 (dk_at dksX2_fit_0 20 rfl rfl)
theorem dX2_fit_23 : decode cX2_fit 23 = .ok (.iconst (-1), 1) := dk_2 (dk_at dksX2_fit_0 23 rfl rfl)
theorem dX2_fit_24 : decode cX2_fit 24 = .ok (.ireturn, 1) := dk_172 (dk_at dksX2_fit_1 0 rfl rfl)
abbrev cX2_ask : ByteArray := prog_20_method_125_code
def yX2_ask : MethodName := ⟨RX2, "ask", "()I"⟩
def dkwX2_ask_3 : List UInt8 := [132, 4, 1, 167, 255, 204, 28, 172]
abbrev dktX2_ask_3 : List UInt8 := dkwX2_ask_3 ++ []
def dkwX2_ask_2 : List UInt8 := [3, 167, 0, 4, 4, 96, 54, 5, 21, 5, 29, 161, 0, 6, 167, 0, 9, 21, 5, 62, 21, 4, 61]
abbrev dktX2_ask_2 : List UInt8 := dkwX2_ask_2 ++ dktX2_ask_3
def dkwX2_ask_1 : List UInt8 := [16, 125, 162, 0, 51, 5, 42, 21, 4, 27, 182, 1, 186, 104, 42, 21, 4, 27, 182, 1, 189, 153, 0, 7]
abbrev dktX2_ask_1 : List UInt8 := dkwX2_ask_1 ++ dktX2_ask_2
def dkwX2_ask_0 : List UInt8 := [42, 182, 1, 183, 60, 27, 5, 162, 0, 5, 2, 172, 2, 61, 19, 1, 119, 62, 3, 54, 4, 21, 4]
abbrev dktX2_ask_0 : List UInt8 := dkwX2_ask_0 ++ dktX2_ask_1
theorem dksX2_ask_0 : cX2_ask.data.toList.drop 0 = dktX2_ask_0 := by decide +kernel
theorem dksX2_ask_1 : cX2_ask.data.toList.drop 23 = dktX2_ask_1 := dk_seg dksX2_ask_0 23 rfl rfl
theorem dksX2_ask_2 : cX2_ask.data.toList.drop 47 = dktX2_ask_2 := dk_seg dksX2_ask_1 24 rfl rfl
theorem dksX2_ask_3 : cX2_ask.data.toList.drop 70 = dktX2_ask_3 := dk_seg dksX2_ask_2 23 rfl rfl
theorem dX2_ask_0 : decode cX2_ask 0 = .ok (.aload_n 0, 1) := dk_42 (dk_at dksX2_ask_0 0 rfl rfl)
theorem dX2_ask_1 : decode cX2_ask 1 = .ok (.invokevirtual 439, 3) := dk_182 1 183 (dk_at dksX2_ask_0 1 rfl rfl)
theorem dX2_ask_4 : decode cX2_ask 4 = .ok (.istore_n 1, 1) := dk_60 (dk_at dksX2_ask_0 4 rfl rfl)
theorem dX2_ask_5 : decode cX2_ask 5 = .ok (.iload_n 1, 1) := dk_27 (dk_at dksX2_ask_0 5 rfl rfl)
theorem dX2_ask_6 : decode cX2_ask 6 = .ok (.iconst 2, 1) := dk_5 (dk_at dksX2_ask_0 6 rfl rfl)
theorem dX2_ask_7 : decode cX2_ask 7 = .ok (.if_icmp .ge 5, 3) := dk_162 0 5 (dk_at dksX2_ask_0 7 rfl rfl)
theorem dX2_ask_10 : decode cX2_ask 10 = .ok (.iconst (-1), 1) := dk_2 (dk_at dksX2_ask_0 10 rfl rfl)
theorem dX2_ask_11 : decode cX2_ask 11 = .ok (.ireturn, 1) := dk_172 (dk_at dksX2_ask_0 11 rfl rfl)
theorem dX2_ask_12 : decode cX2_ask 12 = .ok (.iconst (-1), 1) := dk_2 (dk_at dksX2_ask_0 12 rfl rfl)
theorem dX2_ask_13 : decode cX2_ask 13 = .ok (.istore_n 2, 1) := dk_61 (dk_at dksX2_ask_0 13 rfl rfl)
theorem dX2_ask_14 : decode cX2_ask 14 = .ok (.ldc_w 375, 3) := dk_19 1 119 (dk_at dksX2_ask_0 14 rfl rfl)
theorem dX2_ask_17 : decode cX2_ask 17 = .ok (.istore_n 3, 1) := dk_62 (dk_at dksX2_ask_0 17 rfl rfl)
theorem dX2_ask_18 : decode cX2_ask 18 = .ok (.iconst 0, 1) := dk_3 (dk_at dksX2_ask_0 18 rfl rfl)
theorem dX2_ask_19 : decode cX2_ask 19 = .ok (.istore 4, 2) := dk_54 4 (dk_at dksX2_ask_0 19 rfl rfl)
theorem dX2_ask_21 : decode cX2_ask 21 = .ok (.iload 4, 2) := dk_21 4 (dk_at dksX2_ask_0 21 rfl rfl)
theorem dX2_ask_23 : decode cX2_ask 23 = .ok (.bipush 125, 2) := dk_16 125 (dk_at dksX2_ask_1 0 rfl rfl)
theorem dX2_ask_25 : decode cX2_ask 25 = .ok (.if_icmp .ge 51, 3) := dk_162 0 51 (dk_at dksX2_ask_1 2 rfl rfl)
theorem dX2_ask_28 : decode cX2_ask 28 = .ok (.iconst 2, 1) := dk_5 (dk_at dksX2_ask_1 5 rfl rfl)
theorem dX2_ask_29 : decode cX2_ask 29 = .ok (.aload_n 0, 1) := dk_42 (dk_at dksX2_ask_1 6 rfl rfl)
theorem dX2_ask_30 : decode cX2_ask 30 = .ok (.iload 4, 2) := dk_21 4 (dk_at dksX2_ask_1 7 rfl rfl)
theorem dX2_ask_32 : decode cX2_ask 32 = .ok (.iload_n 1, 1) := dk_27 (dk_at dksX2_ask_1 9 rfl rfl)
theorem dX2_ask_33 : decode cX2_ask 33 = .ok (.invokevirtual 442, 3) := dk_182 1 186 (dk_at dksX2_ask_1 10 rfl rfl)
theorem dX2_ask_36 : decode cX2_ask 36 = .ok (.imul, 1) := dk_104 (dk_at dksX2_ask_1 13 rfl rfl)
theorem dX2_ask_37 : decode cX2_ask 37 = .ok (.aload_n 0, 1) := dk_42 (dk_at dksX2_ask_1 14 rfl rfl)
theorem dX2_ask_38 : decode cX2_ask 38 = .ok (.iload 4, 2) := dk_21 4 (dk_at dksX2_ask_1 15 rfl rfl)
theorem dX2_ask_40 : decode cX2_ask 40 = .ok (.iload_n 1, 1) := dk_27 (dk_at dksX2_ask_1 17 rfl rfl)
theorem dX2_ask_41 : decode cX2_ask 41 = .ok (.invokevirtual 445, 3) := dk_182 1 189 (dk_at dksX2_ask_1 18 rfl rfl)
theorem dX2_ask_44 : decode cX2_ask 44 = .ok (.ifCond .eq 7, 3) := dk_153 0 7 (dk_at dksX2_ask_1 21 rfl rfl)
theorem dX2_ask_47 : decode cX2_ask 47 = .ok (.iconst 0, 1) := dk_3 (dk_at dksX2_ask_2 0 rfl rfl)
theorem dX2_ask_48 : decode cX2_ask 48 = .ok (.goto 4, 3) := dk_167 0 4 (dk_at dksX2_ask_2 1 rfl rfl)
theorem dX2_ask_51 : decode cX2_ask 51 = .ok (.iconst 1, 1) := dk_4 (dk_at dksX2_ask_2 4 rfl rfl)
theorem dX2_ask_52 : decode cX2_ask 52 = .ok (.iadd, 1) := dk_96 (dk_at dksX2_ask_2 5 rfl rfl)
theorem dX2_ask_53 : decode cX2_ask 53 = .ok (.istore 5, 2) := dk_54 5 (dk_at dksX2_ask_2 6 rfl rfl)
theorem dX2_ask_55 : decode cX2_ask 55 = .ok (.iload 5, 2) := dk_21 5 (dk_at dksX2_ask_2 8 rfl rfl)
theorem dX2_ask_57 : decode cX2_ask 57 = .ok (.iload_n 3, 1) := dk_29 (dk_at dksX2_ask_2 10 rfl rfl)
theorem dX2_ask_58 : decode cX2_ask 58 = .ok (.if_icmp .lt 6, 3) := dk_161 0 6 (dk_at dksX2_ask_2 11 rfl rfl)
theorem dX2_ask_61 : decode cX2_ask 61 = .ok (.goto 9, 3) := dk_167 0 9 (dk_at dksX2_ask_2 14 rfl rfl)
theorem dX2_ask_64 : decode cX2_ask 64 = .ok (.iload 5, 2) := dk_21 5 (dk_at dksX2_ask_2 17 rfl rfl)
theorem dX2_ask_66 : decode cX2_ask 66 = .ok (.istore_n 3, 1) := dk_62 (dk_at dksX2_ask_2 19 rfl rfl)
theorem dX2_ask_67 : decode cX2_ask 67 = .ok (.iload 4, 2) := dk_21 4 (dk_at dksX2_ask_2 20 rfl rfl)
theorem dX2_ask_69 : decode cX2_ask 69 = .ok (.istore_n 2, 1) := dk_61 (dk_at dksX2_ask_2 22 rfl rfl)
theorem dX2_ask_70 : decode cX2_ask 70 = .ok (.iinc 4 1, 3) := dk_132 4 1 (dk_at dksX2_ask_3 0 rfl rfl)
theorem dX2_ask_73 : decode cX2_ask 73 = .ok (.goto (-52), 3) := dk_167 255 204 (dk_at dksX2_ask_3 3 rfl rfl)
theorem dX2_ask_76 : decode cX2_ask 76 = .ok (.iload_n 2, 1) := dk_28 (dk_at dksX2_ask_3 6 rfl rfl)
theorem dX2_ask_77 : decode cX2_ask 77 = .ok (.ireturn, 1) := dk_172 (dk_at dksX2_ask_3 7 rfl rfl)
abbrev cX2_mostAlike : ByteArray := prog_20_method_123_code
def yX2_mostAlike : MethodName := ⟨RX2, "mostAlike", "(II)I"⟩
def dkwX2_mostAlike_3 : List UInt8 := [180, 0, 62, 21, 5, 46, 167, 0, 4, 29, 62, 132, 4, 1, 167, 255, 200, 29, 172]
abbrev dktX2_mostAlike_3 : List UInt8 := dkwX2_mostAlike_3 ++ []
def dkwX2_mostAlike_2 : List UInt8 := [180, 0, 62, 21, 5, 92, 46, 4, 96, 79, 42, 180, 0, 62, 21, 5, 46, 29, 164, 0, 13, 42]
abbrev dktX2_mostAlike_2 : List UInt8 := dkwX2_mostAlike_2 ++ dktX2_mostAlike_3
def dkwX2_mostAlike_1 : List UInt8 := [54, 4, 21, 4, 28, 162, 0, 56, 27, 42, 180, 0, 59, 21, 4, 46, 184, 1, 180, 54, 5, 42]
abbrev dktX2_mostAlike_1 : List UInt8 := dkwX2_mostAlike_1 ++ dktX2_mostAlike_2
def dkwX2_mostAlike_0 : List UInt8 := [3, 62, 29, 16, 31, 162, 0, 16, 42, 180, 0, 62, 29, 3, 79, 132, 3, 1, 167, 255, 240, 3, 62, 3]
abbrev dktX2_mostAlike_0 : List UInt8 := dkwX2_mostAlike_0 ++ dktX2_mostAlike_1
theorem dksX2_mostAlike_0 : cX2_mostAlike.data.toList.drop 0 = dktX2_mostAlike_0 := by decide +kernel
theorem dksX2_mostAlike_1 : cX2_mostAlike.data.toList.drop 24 = dktX2_mostAlike_1 := dk_seg dksX2_mostAlike_0 24 rfl rfl
theorem dksX2_mostAlike_2 : cX2_mostAlike.data.toList.drop 46 = dktX2_mostAlike_2 := dk_seg dksX2_mostAlike_1 22 rfl rfl
theorem dksX2_mostAlike_3 : cX2_mostAlike.data.toList.drop 68 = dktX2_mostAlike_3 := dk_seg dksX2_mostAlike_2 22 rfl rfl
theorem dX2_mostAlike_0 : decode cX2_mostAlike 0 = .ok (.iconst 0, 1) := dk_3 (dk_at dksX2_mostAlike_0 0 rfl rfl)
theorem dX2_mostAlike_1 : decode cX2_mostAlike 1 = .ok (.istore_n 3, 1) := dk_62 (dk_at dksX2_mostAlike_0 1 rfl rfl)
theorem dX2_mostAlike_2 : decode cX2_mostAlike 2 = .ok (.iload_n 3, 1) := dk_29 (dk_at dksX2_mostAlike_0 2 rfl rfl)
theorem dX2_mostAlike_3 : decode cX2_mostAlike 3 = .ok (.bipush 31, 2) := dk_16 31 (dk_at dksX2_mostAlike_0 3 rfl rfl)
theorem dX2_mostAlike_5 : decode cX2_mostAlike 5 = .ok (.if_icmp .ge 16, 3) := dk_162 0 16 (dk_at dksX2_mostAlike_0 5 rfl rfl)
theorem dX2_mostAlike_8 : decode cX2_mostAlike 8 = .ok (.aload_n 0, 1) := dk_42 (dk_at dksX2_mostAlike_0 8 rfl rfl)
theorem dX2_mostAlike_9 : decode cX2_mostAlike 9 = .ok (.getfield 62, 3) := dk_180 0 62 (dk_at dksX2_mostAlike_0 9 rfl rfl)
theorem dX2_mostAlike_12 : decode cX2_mostAlike 12 = .ok (.iload_n 3, 1) := dk_29 (dk_at dksX2_mostAlike_0 12 rfl rfl)
theorem dX2_mostAlike_13 : decode cX2_mostAlike 13 = .ok (.iconst 0, 1) := dk_3 (dk_at dksX2_mostAlike_0 13 rfl rfl)
theorem dX2_mostAlike_14 : decode cX2_mostAlike 14 = .ok (.iastore, 1) := dk_79 (dk_at dksX2_mostAlike_0 14 rfl rfl)
theorem dX2_mostAlike_15 : decode cX2_mostAlike 15 = .ok (.iinc 3 1, 3) := dk_132 3 1 (dk_at dksX2_mostAlike_0 15 rfl rfl)
theorem dX2_mostAlike_18 : decode cX2_mostAlike 18 = .ok (.goto (-16), 3) := dk_167 255 240 (dk_at dksX2_mostAlike_0 18 rfl rfl)
theorem dX2_mostAlike_21 : decode cX2_mostAlike 21 = .ok (.iconst 0, 1) := dk_3 (dk_at dksX2_mostAlike_0 21 rfl rfl)
theorem dX2_mostAlike_22 : decode cX2_mostAlike 22 = .ok (.istore_n 3, 1) := dk_62 (dk_at dksX2_mostAlike_0 22 rfl rfl)
theorem dX2_mostAlike_23 : decode cX2_mostAlike 23 = .ok (.iconst 0, 1) := dk_3 (dk_at dksX2_mostAlike_0 23 rfl rfl)
theorem dX2_mostAlike_24 : decode cX2_mostAlike 24 = .ok (.istore 4, 2) := dk_54 4 (dk_at dksX2_mostAlike_1 0 rfl rfl)
theorem dX2_mostAlike_26 : decode cX2_mostAlike 26 = .ok (.iload 4, 2) := dk_21 4 (dk_at dksX2_mostAlike_1 2 rfl rfl)
theorem dX2_mostAlike_28 : decode cX2_mostAlike 28 = .ok (.iload_n 2, 1) := dk_28 (dk_at dksX2_mostAlike_1 4 rfl rfl)
theorem dX2_mostAlike_29 : decode cX2_mostAlike 29 = .ok (.if_icmp .ge 56, 3) := dk_162 0 56 (dk_at dksX2_mostAlike_1 5 rfl rfl)
theorem dX2_mostAlike_32 : decode cX2_mostAlike 32 = .ok (.iload_n 1, 1) := dk_27 (dk_at dksX2_mostAlike_1 8 rfl rfl)
theorem dX2_mostAlike_33 : decode cX2_mostAlike 33 = .ok (.aload_n 0, 1) := dk_42 (dk_at dksX2_mostAlike_1 9 rfl rfl)
theorem dX2_mostAlike_34 : decode cX2_mostAlike 34 = .ok (.getfield 59, 3) := dk_180 0 59 (dk_at dksX2_mostAlike_1 10 rfl rfl)
theorem dX2_mostAlike_37 : decode cX2_mostAlike 37 = .ok (.iload 4, 2) := dk_21 4 (dk_at dksX2_mostAlike_1 13 rfl rfl)
theorem dX2_mostAlike_39 : decode cX2_mostAlike 39 = .ok (.iaload, 1) := dk_46 (dk_at dksX2_mostAlike_1 15 rfl rfl)
theorem dX2_mostAlike_40 : decode cX2_mostAlike 40 = .ok (.invokestatic 436, 3) := dk_184 1 180 (dk_at dksX2_mostAlike_1 16 rfl rfl)
theorem dX2_mostAlike_43 : decode cX2_mostAlike 43 = .ok (.istore 5, 2) := dk_54 5 (dk_at dksX2_mostAlike_1 19 rfl rfl)
theorem dX2_mostAlike_45 : decode cX2_mostAlike 45 = .ok (.aload_n 0, 1) := dk_42 (dk_at dksX2_mostAlike_1 21 rfl rfl)
theorem dX2_mostAlike_46 : decode cX2_mostAlike 46 = .ok (.getfield 62, 3) := dk_180 0 62 (dk_at dksX2_mostAlike_2 0 rfl rfl)
theorem dX2_mostAlike_49 : decode cX2_mostAlike 49 = .ok (.iload 5, 2) := dk_21 5 (dk_at dksX2_mostAlike_2 3 rfl rfl)
theorem dX2_mostAlike_51 : decode cX2_mostAlike 51 = .ok (.dup2, 1) := dk_92 (dk_at dksX2_mostAlike_2 5 rfl rfl)
theorem dX2_mostAlike_52 : decode cX2_mostAlike 52 = .ok (.iaload, 1) := dk_46 (dk_at dksX2_mostAlike_2 6 rfl rfl)
theorem dX2_mostAlike_53 : decode cX2_mostAlike 53 = .ok (.iconst 1, 1) := dk_4 (dk_at dksX2_mostAlike_2 7 rfl rfl)
theorem dX2_mostAlike_54 : decode cX2_mostAlike 54 = .ok (.iadd, 1) := dk_96 (dk_at dksX2_mostAlike_2 8 rfl rfl)
theorem dX2_mostAlike_55 : decode cX2_mostAlike 55 = .ok (.iastore, 1) := dk_79 (dk_at dksX2_mostAlike_2 9 rfl rfl)
theorem dX2_mostAlike_56 : decode cX2_mostAlike 56 = .ok (.aload_n 0, 1) := dk_42 (dk_at dksX2_mostAlike_2 10 rfl rfl)
theorem dX2_mostAlike_57 : decode cX2_mostAlike 57 = .ok (.getfield 62, 3) := dk_180 0 62 (dk_at dksX2_mostAlike_2 11 rfl rfl)
theorem dX2_mostAlike_60 : decode cX2_mostAlike 60 = .ok (.iload 5, 2) := dk_21 5 (dk_at dksX2_mostAlike_2 14 rfl rfl)
theorem dX2_mostAlike_62 : decode cX2_mostAlike 62 = .ok (.iaload, 1) := dk_46 (dk_at dksX2_mostAlike_2 16 rfl rfl)
theorem dX2_mostAlike_63 : decode cX2_mostAlike 63 = .ok (.iload_n 3, 1) := dk_29 (dk_at dksX2_mostAlike_2 17 rfl rfl)
theorem dX2_mostAlike_64 : decode cX2_mostAlike 64 = .ok (.if_icmp .le 13, 3) := dk_164 0 13 (dk_at dksX2_mostAlike_2 18 rfl rfl)
theorem dX2_mostAlike_67 : decode cX2_mostAlike 67 = .ok (.aload_n 0, 1) := dk_42 (dk_at dksX2_mostAlike_2 21 rfl rfl)
theorem dX2_mostAlike_68 : decode cX2_mostAlike 68 = .ok (.getfield 62, 3) := dk_180 0 62 (dk_at dksX2_mostAlike_3 0 rfl rfl)
theorem dX2_mostAlike_71 : decode cX2_mostAlike 71 = .ok (.iload 5, 2) := dk_21 5 (dk_at dksX2_mostAlike_3 3 rfl rfl)
theorem dX2_mostAlike_73 : decode cX2_mostAlike 73 = .ok (.iaload, 1) := dk_46 (dk_at dksX2_mostAlike_3 5 rfl rfl)
theorem dX2_mostAlike_74 : decode cX2_mostAlike 74 = .ok (.goto 4, 3) := dk_167 0 4 (dk_at dksX2_mostAlike_3 6 rfl rfl)
theorem dX2_mostAlike_77 : decode cX2_mostAlike 77 = .ok (.iload_n 3, 1) := dk_29 (dk_at dksX2_mostAlike_3 9 rfl rfl)
theorem dX2_mostAlike_78 : decode cX2_mostAlike 78 = .ok (.istore_n 3, 1) := dk_62 (dk_at dksX2_mostAlike_3 10 rfl rfl)
theorem dX2_mostAlike_79 : decode cX2_mostAlike 79 = .ok (.iinc 4 1, 3) := dk_132 4 1 (dk_at dksX2_mostAlike_3 11 rfl rfl)
theorem dX2_mostAlike_82 : decode cX2_mostAlike 82 = .ok (.goto (-56), 3) := dk_167 255 200 (dk_at dksX2_mostAlike_3 14 rfl rfl)
theorem dX2_mostAlike_85 : decode cX2_mostAlike 85 = .ok (.iload_n 3, 1) := dk_29 (dk_at dksX2_mostAlike_3 17 rfl rfl)
theorem dX2_mostAlike_86 : decode cX2_mostAlike 86 = .ok (.ireturn, 1) := dk_172 (dk_at dksX2_mostAlike_3 18 rfl rfl)
abbrev cX2_isFitting : ByteArray := prog_20_method_124_code
def yX2_isFitting : MethodName := ⟨RX2, "isFitting", "(II)Z"⟩
def dkwX2_isFitting_1 : List UInt8 := [167, 255, 236, 3, 172]
abbrev dktX2_isFitting_1 : List UInt8 := dkwX2_isFitting_1 ++ []
def dkwX2_isFitting_0 : List UInt8 := [3, 62, 29, 28, 162, 0, 21, 42, 180, 0, 59, 29, 46, 27, 160, 0, 5, 4, 172, 132, 3, 1]
abbrev dktX2_isFitting_0 : List UInt8 := dkwX2_isFitting_0 ++ dktX2_isFitting_1
theorem dksX2_isFitting_0 : cX2_isFitting.data.toList.drop 0 = dktX2_isFitting_0 := by decide +kernel
theorem dksX2_isFitting_1 : cX2_isFitting.data.toList.drop 22 = dktX2_isFitting_1 := dk_seg dksX2_isFitting_0 22 rfl rfl
theorem dX2_isFitting_0 : decode cX2_isFitting 0 = .ok (.iconst 0, 1) := dk_3 (dk_at dksX2_isFitting_0 0 rfl rfl)
theorem dX2_isFitting_1 : decode cX2_isFitting 1 = .ok (.istore_n 3, 1) := dk_62 (dk_at dksX2_isFitting_0 1 rfl rfl)
theorem dX2_isFitting_2 : decode cX2_isFitting 2 = .ok (.iload_n 3, 1) := dk_29 (dk_at dksX2_isFitting_0 2 rfl rfl)
theorem dX2_isFitting_3 : decode cX2_isFitting 3 = .ok (.iload_n 2, 1) := dk_28 (dk_at dksX2_isFitting_0 3 rfl rfl)
theorem dX2_isFitting_4 : decode cX2_isFitting 4 = .ok (.if_icmp .ge 21, 3) := dk_162 0 21 (dk_at dksX2_isFitting_0 4 rfl rfl)
theorem dX2_isFitting_7 : decode cX2_isFitting 7 = .ok (.aload_n 0, 1) := dk_42 (dk_at dksX2_isFitting_0 7 rfl rfl)
theorem dX2_isFitting_8 : decode cX2_isFitting 8 = .ok (.getfield 59, 3) := dk_180 0 59 (dk_at dksX2_isFitting_0 8 rfl rfl)
theorem dX2_isFitting_11 : decode cX2_isFitting 11 = .ok (.iload_n 3, 1) := dk_29 (dk_at dksX2_isFitting_0 11 rfl rfl)
theorem dX2_isFitting_12 : decode cX2_isFitting 12 = .ok (.iaload, 1) := dk_46 (dk_at dksX2_isFitting_0 12 rfl rfl)
theorem dX2_isFitting_13 : decode cX2_isFitting 13 = .ok (.iload_n 1, 1) := dk_27 (dk_at dksX2_isFitting_0 13 rfl rfl)
theorem dX2_isFitting_14 : decode cX2_isFitting 14 = .ok (.if_icmp .ne 5, 3) := dk_160 0 5 (dk_at dksX2_isFitting_0 14 rfl rfl)
theorem dX2_isFitting_17 : decode cX2_isFitting 17 = .ok (.iconst 1, 1) := dk_4 (dk_at dksX2_isFitting_0 17 rfl rfl)
theorem dX2_isFitting_18 : decode cX2_isFitting 18 = .ok (.ireturn, 1) := dk_172 (dk_at dksX2_isFitting_0 18 rfl rfl)
theorem dX2_isFitting_19 : decode cX2_isFitting 19 = .ok (.iinc 3 1, 3) := dk_132 3 1 (dk_at dksX2_isFitting_0 19 rfl rfl)
theorem dX2_isFitting_22 : decode cX2_isFitting 22 = .ok (.goto (-20), 3) := dk_167 255 236 (dk_at dksX2_isFitting_1 0 rfl rfl)
theorem dX2_isFitting_25 : decode cX2_isFitting 25 = .ok (.iconst 0, 1) := dk_3 (dk_at dksX2_isFitting_1 3 rfl rfl)
theorem dX2_isFitting_26 : decode cX2_isFitting 26 = .ok (.ireturn, 1) := dk_172 (dk_at dksX2_isFitting_1 4 rfl rfl)
abbrev cX2_gain : ByteArray := prog_20_method_126_code
def yX2_gain : MethodName := ⟨RX2, "gain", "(IIII)Z"⟩
def dkwX2_gain_3 : List UInt8 := [104, 96, 4, 96, 21, 4, 79, 4, 172]
abbrev dktX2_gain_3 : List UInt8 := dkwX2_gain_3 ++ []
def dkwX2_gain_2 : List UInt8 := [16, 125, 7, 27, 104, 96, 5, 28, 104, 96, 29, 79, 42, 180, 0, 7, 16, 125, 7, 27, 104, 96, 5, 28]
abbrev dktX2_gain_2 : List UInt8 := dkwX2_gain_2 ++ dktX2_gain_3
def dkwX2_gain_1 : List UInt8 := [184, 0, 72, 153, 0, 15, 21, 4, 16, 157, 16, 99, 184, 0, 72, 154, 0, 5, 3, 172, 42, 180, 0, 7]
abbrev dktX2_gain_1 : List UInt8 := dkwX2_gain_1 ++ dktX2_gain_2
def dkwX2_gain_0 : List UInt8 := [27, 3, 4, 184, 0, 72, 153, 0, 35, 28, 3, 4, 184, 0, 72, 153, 0, 26, 29, 16, 157, 16, 99]
abbrev dktX2_gain_0 : List UInt8 := dkwX2_gain_0 ++ dktX2_gain_1
theorem dksX2_gain_0 : cX2_gain.data.toList.drop 0 = dktX2_gain_0 := by decide +kernel
theorem dksX2_gain_1 : cX2_gain.data.toList.drop 23 = dktX2_gain_1 := dk_seg dksX2_gain_0 23 rfl rfl
theorem dksX2_gain_2 : cX2_gain.data.toList.drop 47 = dktX2_gain_2 := dk_seg dksX2_gain_1 24 rfl rfl
theorem dksX2_gain_3 : cX2_gain.data.toList.drop 71 = dktX2_gain_3 := dk_seg dksX2_gain_2 24 rfl rfl
theorem dX2_gain_0 : decode cX2_gain 0 = .ok (.iload_n 1, 1) := dk_27 (dk_at dksX2_gain_0 0 rfl rfl)
theorem dX2_gain_1 : decode cX2_gain 1 = .ok (.iconst 0, 1) := dk_3 (dk_at dksX2_gain_0 1 rfl rfl)
theorem dX2_gain_2 : decode cX2_gain 2 = .ok (.iconst 1, 1) := dk_4 (dk_at dksX2_gain_0 2 rfl rfl)
theorem dX2_gain_3 : decode cX2_gain 3 = .ok (.invokestatic 72, 3) := dk_184 0 72 (dk_at dksX2_gain_0 3 rfl rfl)
theorem dX2_gain_6 : decode cX2_gain 6 = .ok (.ifCond .eq 35, 3) := dk_153 0 35 (dk_at dksX2_gain_0 6 rfl rfl)
theorem dX2_gain_9 : decode cX2_gain 9 = .ok (.iload_n 2, 1) := dk_28 (dk_at dksX2_gain_0 9 rfl rfl)
theorem dX2_gain_10 : decode cX2_gain 10 = .ok (.iconst 0, 1) := dk_3 (dk_at dksX2_gain_0 10 rfl rfl)
theorem dX2_gain_11 : decode cX2_gain 11 = .ok (.iconst 1, 1) := dk_4 (dk_at dksX2_gain_0 11 rfl rfl)
theorem dX2_gain_12 : decode cX2_gain 12 = .ok (.invokestatic 72, 3) := dk_184 0 72 (dk_at dksX2_gain_0 12 rfl rfl)
theorem dX2_gain_15 : decode cX2_gain 15 = .ok (.ifCond .eq 26, 3) := dk_153 0 26 (dk_at dksX2_gain_0 15 rfl rfl)
theorem dX2_gain_18 : decode cX2_gain 18 = .ok (.iload_n 3, 1) := dk_29 (dk_at dksX2_gain_0 18 rfl rfl)
theorem dX2_gain_19 : decode cX2_gain 19 = .ok (.bipush (-99), 2) := dk_16 157 (dk_at dksX2_gain_0 19 rfl rfl)
theorem dX2_gain_21 : decode cX2_gain 21 = .ok (.bipush 99, 2) := dk_16 99 (dk_at dksX2_gain_0 21 rfl rfl)
theorem dX2_gain_23 : decode cX2_gain 23 = .ok (.invokestatic 72, 3) := dk_184 0 72 (dk_at dksX2_gain_1 0 rfl rfl)
theorem dX2_gain_26 : decode cX2_gain 26 = .ok (.ifCond .eq 15, 3) := dk_153 0 15 (dk_at dksX2_gain_1 3 rfl rfl)
theorem dX2_gain_29 : decode cX2_gain 29 = .ok (.iload 4, 2) := dk_21 4 (dk_at dksX2_gain_1 6 rfl rfl)
theorem dX2_gain_31 : decode cX2_gain 31 = .ok (.bipush (-99), 2) := dk_16 157 (dk_at dksX2_gain_1 8 rfl rfl)
theorem dX2_gain_33 : decode cX2_gain 33 = .ok (.bipush 99, 2) := dk_16 99 (dk_at dksX2_gain_1 10 rfl rfl)
theorem dX2_gain_35 : decode cX2_gain 35 = .ok (.invokestatic 72, 3) := dk_184 0 72 (dk_at dksX2_gain_1 12 rfl rfl)
theorem dX2_gain_38 : decode cX2_gain 38 = .ok (.ifCond .ne 5, 3) := dk_154 0 5 (dk_at dksX2_gain_1 15 rfl rfl)
theorem dX2_gain_41 : decode cX2_gain 41 = .ok (.iconst 0, 1) := dk_3 (dk_at dksX2_gain_1 18 rfl rfl)
theorem dX2_gain_42 : decode cX2_gain 42 = .ok (.ireturn, 1) := dk_172 (dk_at dksX2_gain_1 19 rfl rfl)
theorem dX2_gain_43 : decode cX2_gain 43 = .ok (.aload_n 0, 1) := dk_42 (dk_at dksX2_gain_1 20 rfl rfl)
theorem dX2_gain_44 : decode cX2_gain 44 = .ok (.getfield 7, 3) := dk_180 0 7 (dk_at dksX2_gain_1 21 rfl rfl)
theorem dX2_gain_47 : decode cX2_gain 47 = .ok (.bipush 125, 2) := dk_16 125 (dk_at dksX2_gain_2 0 rfl rfl)
theorem dX2_gain_49 : decode cX2_gain 49 = .ok (.iconst 4, 1) := dk_7 (dk_at dksX2_gain_2 2 rfl rfl)
theorem dX2_gain_50 : decode cX2_gain 50 = .ok (.iload_n 1, 1) := dk_27 (dk_at dksX2_gain_2 3 rfl rfl)
theorem dX2_gain_51 : decode cX2_gain 51 = .ok (.imul, 1) := dk_104 (dk_at dksX2_gain_2 4 rfl rfl)
theorem dX2_gain_52 : decode cX2_gain 52 = .ok (.iadd, 1) := dk_96 (dk_at dksX2_gain_2 5 rfl rfl)
theorem dX2_gain_53 : decode cX2_gain 53 = .ok (.iconst 2, 1) := dk_5 (dk_at dksX2_gain_2 6 rfl rfl)
theorem dX2_gain_54 : decode cX2_gain 54 = .ok (.iload_n 2, 1) := dk_28 (dk_at dksX2_gain_2 7 rfl rfl)
theorem dX2_gain_55 : decode cX2_gain 55 = .ok (.imul, 1) := dk_104 (dk_at dksX2_gain_2 8 rfl rfl)
theorem dX2_gain_56 : decode cX2_gain 56 = .ok (.iadd, 1) := dk_96 (dk_at dksX2_gain_2 9 rfl rfl)
theorem dX2_gain_57 : decode cX2_gain 57 = .ok (.iload_n 3, 1) := dk_29 (dk_at dksX2_gain_2 10 rfl rfl)
theorem dX2_gain_58 : decode cX2_gain 58 = .ok (.iastore, 1) := dk_79 (dk_at dksX2_gain_2 11 rfl rfl)
theorem dX2_gain_59 : decode cX2_gain 59 = .ok (.aload_n 0, 1) := dk_42 (dk_at dksX2_gain_2 12 rfl rfl)
theorem dX2_gain_60 : decode cX2_gain 60 = .ok (.getfield 7, 3) := dk_180 0 7 (dk_at dksX2_gain_2 13 rfl rfl)
theorem dX2_gain_63 : decode cX2_gain 63 = .ok (.bipush 125, 2) := dk_16 125 (dk_at dksX2_gain_2 16 rfl rfl)
theorem dX2_gain_65 : decode cX2_gain 65 = .ok (.iconst 4, 1) := dk_7 (dk_at dksX2_gain_2 18 rfl rfl)
theorem dX2_gain_66 : decode cX2_gain 66 = .ok (.iload_n 1, 1) := dk_27 (dk_at dksX2_gain_2 19 rfl rfl)
theorem dX2_gain_67 : decode cX2_gain 67 = .ok (.imul, 1) := dk_104 (dk_at dksX2_gain_2 20 rfl rfl)
theorem dX2_gain_68 : decode cX2_gain 68 = .ok (.iadd, 1) := dk_96 (dk_at dksX2_gain_2 21 rfl rfl)
theorem dX2_gain_69 : decode cX2_gain 69 = .ok (.iconst 2, 1) := dk_5 (dk_at dksX2_gain_2 22 rfl rfl)
theorem dX2_gain_70 : decode cX2_gain 70 = .ok (.iload_n 2, 1) := dk_28 (dk_at dksX2_gain_2 23 rfl rfl)
theorem dX2_gain_71 : decode cX2_gain 71 = .ok (.imul, 1) := dk_104 (dk_at dksX2_gain_3 0 rfl rfl)
theorem dX2_gain_72 : decode cX2_gain 72 = .ok (.iadd, 1) := dk_96 (dk_at dksX2_gain_3 1 rfl rfl)
theorem dX2_gain_73 : decode cX2_gain 73 = .ok (.iconst 1, 1) := dk_4 (dk_at dksX2_gain_3 2 rfl rfl)
theorem dX2_gain_74 : decode cX2_gain 74 = .ok (.iadd, 1) := dk_96 (dk_at dksX2_gain_3 3 rfl rfl)
theorem dX2_gain_75 : decode cX2_gain 75 = .ok (.iload 4, 2) := dk_21 4 (dk_at dksX2_gain_3 4 rfl rfl)
theorem dX2_gain_77 : decode cX2_gain 77 = .ok (.iastore, 1) := dk_79 (dk_at dksX2_gain_3 6 rfl rfl)
theorem dX2_gain_78 : decode cX2_gain 78 = .ok (.iconst 1, 1) := dk_4 (dk_at dksX2_gain_3 7 rfl rfl)
theorem dX2_gain_79 : decode cX2_gain 79 = .ok (.ireturn, 1) := dk_172 (dk_at dksX2_gain_3 8 rfl rfl)
abbrev cX2_rests : ByteArray := prog_20_method_128_code
def yX2_rests : MethodName := ⟨RX2, "rests", "()I"⟩
def dkwX2_rests_3 : List UInt8 := [167, 255, 188, 27, 172]
abbrev dktX2_rests_3 : List UInt8 := dkwX2_rests_3 ++ []
def dkwX2_rests_2 : List UInt8 := [28, 5, 108, 4, 28, 5, 112, 100, 4, 182, 1, 192, 161, 0, 9, 27, 4, 28, 120, 128, 60, 132, 2, 1]
abbrev dktX2_rests_2 : List UInt8 := dkwX2_rests_2 ++ dktX2_rests_3
def dkwX2_rests_1 : List UInt8 := [108, 100, 28, 5, 112, 3, 182, 1, 192, 161, 0, 36, 42, 28, 5, 108, 28, 5, 112, 4, 182, 1, 192, 42]
abbrev dktX2_rests_1 : List UInt8 := dkwX2_rests_1 ++ dktX2_rests_2
def dkwX2_rests_0 : List UInt8 := [3, 60, 3, 61, 28, 7, 162, 0, 69, 42, 28, 5, 108, 28, 5, 112, 3, 182, 1, 192, 42, 4, 28, 5]
abbrev dktX2_rests_0 : List UInt8 := dkwX2_rests_0 ++ dktX2_rests_1
theorem dksX2_rests_0 : cX2_rests.data.toList.drop 0 = dktX2_rests_0 := by decide +kernel
theorem dksX2_rests_1 : cX2_rests.data.toList.drop 24 = dktX2_rests_1 := dk_seg dksX2_rests_0 24 rfl rfl
theorem dksX2_rests_2 : cX2_rests.data.toList.drop 48 = dktX2_rests_2 := dk_seg dksX2_rests_1 24 rfl rfl
theorem dksX2_rests_3 : cX2_rests.data.toList.drop 72 = dktX2_rests_3 := dk_seg dksX2_rests_2 24 rfl rfl
theorem dX2_rests_0 : decode cX2_rests 0 = .ok (.iconst 0, 1) := dk_3 (dk_at dksX2_rests_0 0 rfl rfl)
theorem dX2_rests_1 : decode cX2_rests 1 = .ok (.istore_n 1, 1) := dk_60 (dk_at dksX2_rests_0 1 rfl rfl)
theorem dX2_rests_2 : decode cX2_rests 2 = .ok (.iconst 0, 1) := dk_3 (dk_at dksX2_rests_0 2 rfl rfl)
theorem dX2_rests_3 : decode cX2_rests 3 = .ok (.istore_n 2, 1) := dk_61 (dk_at dksX2_rests_0 3 rfl rfl)
theorem dX2_rests_4 : decode cX2_rests 4 = .ok (.iload_n 2, 1) := dk_28 (dk_at dksX2_rests_0 4 rfl rfl)
theorem dX2_rests_5 : decode cX2_rests 5 = .ok (.iconst 4, 1) := dk_7 (dk_at dksX2_rests_0 5 rfl rfl)
theorem dX2_rests_6 : decode cX2_rests 6 = .ok (.if_icmp .ge 69, 3) := dk_162 0 69 (dk_at dksX2_rests_0 6 rfl rfl)
theorem dX2_rests_9 : decode cX2_rests 9 = .ok (.aload_n 0, 1) := dk_42 (dk_at dksX2_rests_0 9 rfl rfl)
theorem dX2_rests_10 : decode cX2_rests 10 = .ok (.iload_n 2, 1) := dk_28 (dk_at dksX2_rests_0 10 rfl rfl)
theorem dX2_rests_11 : decode cX2_rests 11 = .ok (.iconst 2, 1) := dk_5 (dk_at dksX2_rests_0 11 rfl rfl)
theorem dX2_rests_12 : decode cX2_rests 12 = .ok (.idiv, 1) := dk_108 (dk_at dksX2_rests_0 12 rfl rfl)
theorem dX2_rests_13 : decode cX2_rests 13 = .ok (.iload_n 2, 1) := dk_28 (dk_at dksX2_rests_0 13 rfl rfl)
theorem dX2_rests_14 : decode cX2_rests 14 = .ok (.iconst 2, 1) := dk_5 (dk_at dksX2_rests_0 14 rfl rfl)
theorem dX2_rests_15 : decode cX2_rests 15 = .ok (.irem, 1) := dk_112 (dk_at dksX2_rests_0 15 rfl rfl)
theorem dX2_rests_16 : decode cX2_rests 16 = .ok (.iconst 0, 1) := dk_3 (dk_at dksX2_rests_0 16 rfl rfl)
theorem dX2_rests_17 : decode cX2_rests 17 = .ok (.invokevirtual 448, 3) := dk_182 1 192 (dk_at dksX2_rests_0 17 rfl rfl)
theorem dX2_rests_20 : decode cX2_rests 20 = .ok (.aload_n 0, 1) := dk_42 (dk_at dksX2_rests_0 20 rfl rfl)
theorem dX2_rests_21 : decode cX2_rests 21 = .ok (.iconst 1, 1) := dk_4 (dk_at dksX2_rests_0 21 rfl rfl)
theorem dX2_rests_22 : decode cX2_rests 22 = .ok (.iload_n 2, 1) := dk_28 (dk_at dksX2_rests_0 22 rfl rfl)
theorem dX2_rests_23 : decode cX2_rests 23 = .ok (.iconst 2, 1) := dk_5 (dk_at dksX2_rests_0 23 rfl rfl)
theorem dX2_rests_24 : decode cX2_rests 24 = .ok (.idiv, 1) := dk_108 (dk_at dksX2_rests_1 0 rfl rfl)
theorem dX2_rests_25 : decode cX2_rests 25 = .ok (.isub, 1) := dk_100 (dk_at dksX2_rests_1 1 rfl rfl)
theorem dX2_rests_26 : decode cX2_rests 26 = .ok (.iload_n 2, 1) := dk_28 (dk_at dksX2_rests_1 2 rfl rfl)
theorem dX2_rests_27 : decode cX2_rests 27 = .ok (.iconst 2, 1) := dk_5 (dk_at dksX2_rests_1 3 rfl rfl)
theorem dX2_rests_28 : decode cX2_rests 28 = .ok (.irem, 1) := dk_112 (dk_at dksX2_rests_1 4 rfl rfl)
theorem dX2_rests_29 : decode cX2_rests 29 = .ok (.iconst 0, 1) := dk_3 (dk_at dksX2_rests_1 5 rfl rfl)
theorem dX2_rests_30 : decode cX2_rests 30 = .ok (.invokevirtual 448, 3) := dk_182 1 192 (dk_at dksX2_rests_1 6 rfl rfl)
theorem dX2_rests_33 : decode cX2_rests 33 = .ok (.if_icmp .lt 36, 3) := dk_161 0 36 (dk_at dksX2_rests_1 9 rfl rfl)
theorem dX2_rests_36 : decode cX2_rests 36 = .ok (.aload_n 0, 1) := dk_42 (dk_at dksX2_rests_1 12 rfl rfl)
theorem dX2_rests_37 : decode cX2_rests 37 = .ok (.iload_n 2, 1) := dk_28 (dk_at dksX2_rests_1 13 rfl rfl)
theorem dX2_rests_38 : decode cX2_rests 38 = .ok (.iconst 2, 1) := dk_5 (dk_at dksX2_rests_1 14 rfl rfl)
theorem dX2_rests_39 : decode cX2_rests 39 = .ok (.idiv, 1) := dk_108 (dk_at dksX2_rests_1 15 rfl rfl)
theorem dX2_rests_40 : decode cX2_rests 40 = .ok (.iload_n 2, 1) := dk_28 (dk_at dksX2_rests_1 16 rfl rfl)
theorem dX2_rests_41 : decode cX2_rests 41 = .ok (.iconst 2, 1) := dk_5 (dk_at dksX2_rests_1 17 rfl rfl)
theorem dX2_rests_42 : decode cX2_rests 42 = .ok (.irem, 1) := dk_112 (dk_at dksX2_rests_1 18 rfl rfl)
theorem dX2_rests_43 : decode cX2_rests 43 = .ok (.iconst 1, 1) := dk_4 (dk_at dksX2_rests_1 19 rfl rfl)
theorem dX2_rests_44 : decode cX2_rests 44 = .ok (.invokevirtual 448, 3) := dk_182 1 192 (dk_at dksX2_rests_1 20 rfl rfl)
theorem dX2_rests_47 : decode cX2_rests 47 = .ok (.aload_n 0, 1) := dk_42 (dk_at dksX2_rests_1 23 rfl rfl)
theorem dX2_rests_48 : decode cX2_rests 48 = .ok (.iload_n 2, 1) := dk_28 (dk_at dksX2_rests_2 0 rfl rfl)
theorem dX2_rests_49 : decode cX2_rests 49 = .ok (.iconst 2, 1) := dk_5 (dk_at dksX2_rests_2 1 rfl rfl)
theorem dX2_rests_50 : decode cX2_rests 50 = .ok (.idiv, 1) := dk_108 (dk_at dksX2_rests_2 2 rfl rfl)
theorem dX2_rests_51 : decode cX2_rests 51 = .ok (.iconst 1, 1) := dk_4 (dk_at dksX2_rests_2 3 rfl rfl)
theorem dX2_rests_52 : decode cX2_rests 52 = .ok (.iload_n 2, 1) := dk_28 (dk_at dksX2_rests_2 4 rfl rfl)
theorem dX2_rests_53 : decode cX2_rests 53 = .ok (.iconst 2, 1) := dk_5 (dk_at dksX2_rests_2 5 rfl rfl)
theorem dX2_rests_54 : decode cX2_rests 54 = .ok (.irem, 1) := dk_112 (dk_at dksX2_rests_2 6 rfl rfl)
theorem dX2_rests_55 : decode cX2_rests 55 = .ok (.isub, 1) := dk_100 (dk_at dksX2_rests_2 7 rfl rfl)
theorem dX2_rests_56 : decode cX2_rests 56 = .ok (.iconst 1, 1) := dk_4 (dk_at dksX2_rests_2 8 rfl rfl)
theorem dX2_rests_57 : decode cX2_rests 57 = .ok (.invokevirtual 448, 3) := dk_182 1 192 (dk_at dksX2_rests_2 9 rfl rfl)
theorem dX2_rests_60 : decode cX2_rests 60 = .ok (.if_icmp .lt 9, 3) := dk_161 0 9 (dk_at dksX2_rests_2 12 rfl rfl)
theorem dX2_rests_63 : decode cX2_rests 63 = .ok (.iload_n 1, 1) := dk_27 (dk_at dksX2_rests_2 15 rfl rfl)
theorem dX2_rests_64 : decode cX2_rests 64 = .ok (.iconst 1, 1) := dk_4 (dk_at dksX2_rests_2 16 rfl rfl)
theorem dX2_rests_65 : decode cX2_rests 65 = .ok (.iload_n 2, 1) := dk_28 (dk_at dksX2_rests_2 17 rfl rfl)
theorem dX2_rests_66 : decode cX2_rests 66 = .ok (.ishl, 1) := dk_120 (dk_at dksX2_rests_2 18 rfl rfl)
theorem dX2_rests_67 : decode cX2_rests 67 = .ok (.ior, 1) := dk_128 (dk_at dksX2_rests_2 19 rfl rfl)
theorem dX2_rests_68 : decode cX2_rests 68 = .ok (.istore_n 1, 1) := dk_60 (dk_at dksX2_rests_2 20 rfl rfl)
theorem dX2_rests_69 : decode cX2_rests 69 = .ok (.iinc 2 1, 3) := dk_132 2 1 (dk_at dksX2_rests_2 21 rfl rfl)
theorem dX2_rests_72 : decode cX2_rests 72 = .ok (.goto (-68), 3) := dk_167 255 188 (dk_at dksX2_rests_3 0 rfl rfl)
theorem dX2_rests_75 : decode cX2_rests 75 = .ok (.iload_n 1, 1) := dk_27 (dk_at dksX2_rests_3 3 rfl rfl)
theorem dX2_rests_76 : decode cX2_rests 76 = .ok (.ireturn, 1) := dk_172 (dk_at dksX2_rests_3 4 rfl rfl)
abbrev cX2_gainOf : ByteArray := prog_20_method_127_code
def yX2_gainOf : MethodName := ⟨RX2, "gainOf", "(III)I"⟩
def dkwX2_gainOf_0 : List UInt8 := [42, 180, 0, 7, 16, 125, 7, 27, 104, 96, 5, 28, 104, 96, 29, 96, 46, 172]
abbrev dktX2_gainOf_0 : List UInt8 := dkwX2_gainOf_0 ++ []
theorem dksX2_gainOf_0 : cX2_gainOf.data.toList.drop 0 = dktX2_gainOf_0 := by decide +kernel
theorem dX2_gainOf_0 : decode cX2_gainOf 0 = .ok (.aload_n 0, 1) := dk_42 (dk_at dksX2_gainOf_0 0 rfl rfl)
theorem dX2_gainOf_1 : decode cX2_gainOf 1 = .ok (.getfield 7, 3) := dk_180 0 7 (dk_at dksX2_gainOf_0 1 rfl rfl)
theorem dX2_gainOf_4 : decode cX2_gainOf 4 = .ok (.bipush 125, 2) := dk_16 125 (dk_at dksX2_gainOf_0 4 rfl rfl)
theorem dX2_gainOf_6 : decode cX2_gainOf 6 = .ok (.iconst 4, 1) := dk_7 (dk_at dksX2_gainOf_0 6 rfl rfl)
theorem dX2_gainOf_7 : decode cX2_gainOf 7 = .ok (.iload_n 1, 1) := dk_27 (dk_at dksX2_gainOf_0 7 rfl rfl)
theorem dX2_gainOf_8 : decode cX2_gainOf 8 = .ok (.imul, 1) := dk_104 (dk_at dksX2_gainOf_0 8 rfl rfl)
theorem dX2_gainOf_9 : decode cX2_gainOf 9 = .ok (.iadd, 1) := dk_96 (dk_at dksX2_gainOf_0 9 rfl rfl)
theorem dX2_gainOf_10 : decode cX2_gainOf 10 = .ok (.iconst 2, 1) := dk_5 (dk_at dksX2_gainOf_0 10 rfl rfl)
theorem dX2_gainOf_11 : decode cX2_gainOf 11 = .ok (.iload_n 2, 1) := dk_28 (dk_at dksX2_gainOf_0 11 rfl rfl)
theorem dX2_gainOf_12 : decode cX2_gainOf 12 = .ok (.imul, 1) := dk_104 (dk_at dksX2_gainOf_0 12 rfl rfl)
theorem dX2_gainOf_13 : decode cX2_gainOf 13 = .ok (.iadd, 1) := dk_96 (dk_at dksX2_gainOf_0 13 rfl rfl)
theorem dX2_gainOf_14 : decode cX2_gainOf 14 = .ok (.iload_n 3, 1) := dk_29 (dk_at dksX2_gainOf_0 14 rfl rfl)
theorem dX2_gainOf_15 : decode cX2_gainOf 15 = .ok (.iadd, 1) := dk_96 (dk_at dksX2_gainOf_0 15 rfl rfl)
theorem dX2_gainOf_16 : decode cX2_gainOf 16 = .ok (.iaload, 1) := dk_46 (dk_at dksX2_gainOf_0 16 rfl rfl)
theorem dX2_gainOf_17 : decode cX2_gainOf 17 = .ok (.ireturn, 1) := dk_172 (dk_at dksX2_gainOf_0 17 rfl rfl)
abbrev cX2_mixed : ByteArray := prog_20_method_133_code
def yX2_mixed : MethodName := ⟨RX2, "mixed", "(ZZ)I"⟩
def dkwX2_mixed_2 : List UInt8 := [182, 1, 195, 42, 27, 182, 1, 199, 184, 1, 206, 108, 172]
abbrev dktX2_mixed_2 : List UInt8 := dkwX2_mixed_2 ++ []
def dkwX2_mixed_1 : List UInt8 := [182, 1, 199, 167, 0, 8, 42, 27, 182, 1, 195, 62, 29, 156, 0, 8, 29, 116, 167, 0, 4, 29, 42, 27]
abbrev dktX2_mixed_1 : List UInt8 := dkwX2_mixed_1 ++ dktX2_mixed_2
def dkwX2_mixed_0 : List UInt8 := [42, 4, 182, 1, 202, 153, 0, 11, 42, 3, 182, 1, 202, 154, 0, 5, 2, 172, 28, 153, 0, 11, 42, 27]
abbrev dktX2_mixed_0 : List UInt8 := dkwX2_mixed_0 ++ dktX2_mixed_1
theorem dksX2_mixed_0 : cX2_mixed.data.toList.drop 0 = dktX2_mixed_0 := by decide +kernel
theorem dksX2_mixed_1 : cX2_mixed.data.toList.drop 24 = dktX2_mixed_1 := dk_seg dksX2_mixed_0 24 rfl rfl
theorem dksX2_mixed_2 : cX2_mixed.data.toList.drop 48 = dktX2_mixed_2 := dk_seg dksX2_mixed_1 24 rfl rfl
theorem dX2_mixed_0 : decode cX2_mixed 0 = .ok (.aload_n 0, 1) := dk_42 (dk_at dksX2_mixed_0 0 rfl rfl)
theorem dX2_mixed_1 : decode cX2_mixed 1 = .ok (.iconst 1, 1) := dk_4 (dk_at dksX2_mixed_0 1 rfl rfl)
theorem dX2_mixed_2 : decode cX2_mixed 2 = .ok (.invokevirtual 458, 3) := dk_182 1 202 (dk_at dksX2_mixed_0 2 rfl rfl)
theorem dX2_mixed_5 : decode cX2_mixed 5 = .ok (.ifCond .eq 11, 3) := dk_153 0 11 (dk_at dksX2_mixed_0 5 rfl rfl)
theorem dX2_mixed_8 : decode cX2_mixed 8 = .ok (.aload_n 0, 1) := dk_42 (dk_at dksX2_mixed_0 8 rfl rfl)
theorem dX2_mixed_9 : decode cX2_mixed 9 = .ok (.iconst 0, 1) := dk_3 (dk_at dksX2_mixed_0 9 rfl rfl)
theorem dX2_mixed_10 : decode cX2_mixed 10 = .ok (.invokevirtual 458, 3) := dk_182 1 202 (dk_at dksX2_mixed_0 10 rfl rfl)
theorem dX2_mixed_13 : decode cX2_mixed 13 = .ok (.ifCond .ne 5, 3) := dk_154 0 5 (dk_at dksX2_mixed_0 13 rfl rfl)
theorem dX2_mixed_16 : decode cX2_mixed 16 = .ok (.iconst (-1), 1) := dk_2 (dk_at dksX2_mixed_0 16 rfl rfl)
theorem dX2_mixed_17 : decode cX2_mixed 17 = .ok (.ireturn, 1) := dk_172 (dk_at dksX2_mixed_0 17 rfl rfl)
theorem dX2_mixed_18 : decode cX2_mixed 18 = .ok (.iload_n 2, 1) := dk_28 (dk_at dksX2_mixed_0 18 rfl rfl)
theorem dX2_mixed_19 : decode cX2_mixed 19 = .ok (.ifCond .eq 11, 3) := dk_153 0 11 (dk_at dksX2_mixed_0 19 rfl rfl)
theorem dX2_mixed_22 : decode cX2_mixed 22 = .ok (.aload_n 0, 1) := dk_42 (dk_at dksX2_mixed_0 22 rfl rfl)
theorem dX2_mixed_23 : decode cX2_mixed 23 = .ok (.iload_n 1, 1) := dk_27 (dk_at dksX2_mixed_0 23 rfl rfl)
theorem dX2_mixed_24 : decode cX2_mixed 24 = .ok (.invokevirtual 455, 3) := dk_182 1 199 (dk_at dksX2_mixed_1 0 rfl rfl)
theorem dX2_mixed_27 : decode cX2_mixed 27 = .ok (.goto 8, 3) := dk_167 0 8 (dk_at dksX2_mixed_1 3 rfl rfl)
theorem dX2_mixed_30 : decode cX2_mixed 30 = .ok (.aload_n 0, 1) := dk_42 (dk_at dksX2_mixed_1 6 rfl rfl)
theorem dX2_mixed_31 : decode cX2_mixed 31 = .ok (.iload_n 1, 1) := dk_27 (dk_at dksX2_mixed_1 7 rfl rfl)
theorem dX2_mixed_32 : decode cX2_mixed 32 = .ok (.invokevirtual 451, 3) := dk_182 1 195 (dk_at dksX2_mixed_1 8 rfl rfl)
theorem dX2_mixed_35 : decode cX2_mixed 35 = .ok (.istore_n 3, 1) := dk_62 (dk_at dksX2_mixed_1 11 rfl rfl)
theorem dX2_mixed_36 : decode cX2_mixed 36 = .ok (.iload_n 3, 1) := dk_29 (dk_at dksX2_mixed_1 12 rfl rfl)
theorem dX2_mixed_37 : decode cX2_mixed 37 = .ok (.ifCond .ge 8, 3) := dk_156 0 8 (dk_at dksX2_mixed_1 13 rfl rfl)
theorem dX2_mixed_40 : decode cX2_mixed 40 = .ok (.iload_n 3, 1) := dk_29 (dk_at dksX2_mixed_1 16 rfl rfl)
theorem dX2_mixed_41 : decode cX2_mixed 41 = .ok (.ineg, 1) := dk_116 (dk_at dksX2_mixed_1 17 rfl rfl)
theorem dX2_mixed_42 : decode cX2_mixed 42 = .ok (.goto 4, 3) := dk_167 0 4 (dk_at dksX2_mixed_1 18 rfl rfl)
theorem dX2_mixed_45 : decode cX2_mixed 45 = .ok (.iload_n 3, 1) := dk_29 (dk_at dksX2_mixed_1 21 rfl rfl)
theorem dX2_mixed_46 : decode cX2_mixed 46 = .ok (.aload_n 0, 1) := dk_42 (dk_at dksX2_mixed_1 22 rfl rfl)
theorem dX2_mixed_47 : decode cX2_mixed 47 = .ok (.iload_n 1, 1) := dk_27 (dk_at dksX2_mixed_1 23 rfl rfl)
theorem dX2_mixed_48 : decode cX2_mixed 48 = .ok (.invokevirtual 451, 3) := dk_182 1 195 (dk_at dksX2_mixed_2 0 rfl rfl)
theorem dX2_mixed_51 : decode cX2_mixed 51 = .ok (.aload_n 0, 1) := dk_42 (dk_at dksX2_mixed_2 3 rfl rfl)
theorem dX2_mixed_52 : decode cX2_mixed 52 = .ok (.iload_n 1, 1) := dk_27 (dk_at dksX2_mixed_2 4 rfl rfl)
theorem dX2_mixed_53 : decode cX2_mixed 53 = .ok (.invokevirtual 455, 3) := dk_182 1 199 (dk_at dksX2_mixed_2 5 rfl rfl)
theorem dX2_mixed_56 : decode cX2_mixed 56 = .ok (.invokestatic 462, 3) := dk_184 1 206 (dk_at dksX2_mixed_2 8 rfl rfl)
theorem dX2_mixed_59 : decode cX2_mixed 59 = .ok (.idiv, 1) := dk_108 (dk_at dksX2_mixed_2 11 rfl rfl)
theorem dX2_mixed_60 : decode cX2_mixed 60 = .ok (.ireturn, 1) := dk_172 (dk_at dksX2_mixed_2 12 rfl rfl)
abbrev cX2_isBetween : ByteArray := prog_20_method_132_code
def yX2_isBetween : MethodName := ⟨RX2, "isBetween", "(Z)Z"⟩
def dkwX2_isBetween_1 : List UInt8 := [167, 0, 19, 42, 27, 182, 1, 195, 42, 27, 182, 1, 199, 4, 96, 2, 184, 0, 72, 172]
abbrev dktX2_isBetween_1 : List UInt8 := dkwX2_isBetween_1 ++ []
def dkwX2_isBetween_0 : List UInt8 := [42, 27, 182, 1, 199, 158, 0, 22, 42, 27, 182, 1, 195, 4, 42, 27, 182, 1, 199, 4, 100, 184, 0, 72]
abbrev dktX2_isBetween_0 : List UInt8 := dkwX2_isBetween_0 ++ dktX2_isBetween_1
theorem dksX2_isBetween_0 : cX2_isBetween.data.toList.drop 0 = dktX2_isBetween_0 := by decide +kernel
theorem dksX2_isBetween_1 : cX2_isBetween.data.toList.drop 24 = dktX2_isBetween_1 := dk_seg dksX2_isBetween_0 24 rfl rfl
theorem dX2_isBetween_0 : decode cX2_isBetween 0 = .ok (.aload_n 0, 1) := dk_42 (dk_at dksX2_isBetween_0 0 rfl rfl)
theorem dX2_isBetween_1 : decode cX2_isBetween 1 = .ok (.iload_n 1, 1) := dk_27 (dk_at dksX2_isBetween_0 1 rfl rfl)
theorem dX2_isBetween_2 : decode cX2_isBetween 2 = .ok (.invokevirtual 455, 3) := dk_182 1 199 (dk_at dksX2_isBetween_0 2 rfl rfl)
theorem dX2_isBetween_5 : decode cX2_isBetween 5 = .ok (.ifCond .le 22, 3) := dk_158 0 22 (dk_at dksX2_isBetween_0 5 rfl rfl)
theorem dX2_isBetween_8 : decode cX2_isBetween 8 = .ok (.aload_n 0, 1) := dk_42 (dk_at dksX2_isBetween_0 8 rfl rfl)
theorem dX2_isBetween_9 : decode cX2_isBetween 9 = .ok (.iload_n 1, 1) := dk_27 (dk_at dksX2_isBetween_0 9 rfl rfl)
theorem dX2_isBetween_10 : decode cX2_isBetween 10 = .ok (.invokevirtual 451, 3) := dk_182 1 195 (dk_at dksX2_isBetween_0 10 rfl rfl)
theorem dX2_isBetween_13 : decode cX2_isBetween 13 = .ok (.iconst 1, 1) := dk_4 (dk_at dksX2_isBetween_0 13 rfl rfl)
theorem dX2_isBetween_14 : decode cX2_isBetween 14 = .ok (.aload_n 0, 1) := dk_42 (dk_at dksX2_isBetween_0 14 rfl rfl)
theorem dX2_isBetween_15 : decode cX2_isBetween 15 = .ok (.iload_n 1, 1) := dk_27 (dk_at dksX2_isBetween_0 15 rfl rfl)
theorem dX2_isBetween_16 : decode cX2_isBetween 16 = .ok (.invokevirtual 455, 3) := dk_182 1 199 (dk_at dksX2_isBetween_0 16 rfl rfl)
theorem dX2_isBetween_19 : decode cX2_isBetween 19 = .ok (.iconst 1, 1) := dk_4 (dk_at dksX2_isBetween_0 19 rfl rfl)
theorem dX2_isBetween_20 : decode cX2_isBetween 20 = .ok (.isub, 1) := dk_100 (dk_at dksX2_isBetween_0 20 rfl rfl)
theorem dX2_isBetween_21 : decode cX2_isBetween 21 = .ok (.invokestatic 72, 3) := dk_184 0 72 (dk_at dksX2_isBetween_0 21 rfl rfl)
theorem dX2_isBetween_24 : decode cX2_isBetween 24 = .ok (.goto 19, 3) := dk_167 0 19 (dk_at dksX2_isBetween_1 0 rfl rfl)
theorem dX2_isBetween_27 : decode cX2_isBetween 27 = .ok (.aload_n 0, 1) := dk_42 (dk_at dksX2_isBetween_1 3 rfl rfl)
theorem dX2_isBetween_28 : decode cX2_isBetween 28 = .ok (.iload_n 1, 1) := dk_27 (dk_at dksX2_isBetween_1 4 rfl rfl)
theorem dX2_isBetween_29 : decode cX2_isBetween 29 = .ok (.invokevirtual 451, 3) := dk_182 1 195 (dk_at dksX2_isBetween_1 5 rfl rfl)
theorem dX2_isBetween_32 : decode cX2_isBetween 32 = .ok (.aload_n 0, 1) := dk_42 (dk_at dksX2_isBetween_1 8 rfl rfl)
theorem dX2_isBetween_33 : decode cX2_isBetween 33 = .ok (.iload_n 1, 1) := dk_27 (dk_at dksX2_isBetween_1 9 rfl rfl)
theorem dX2_isBetween_34 : decode cX2_isBetween 34 = .ok (.invokevirtual 455, 3) := dk_182 1 199 (dk_at dksX2_isBetween_1 10 rfl rfl)
theorem dX2_isBetween_37 : decode cX2_isBetween 37 = .ok (.iconst 1, 1) := dk_4 (dk_at dksX2_isBetween_1 13 rfl rfl)
theorem dX2_isBetween_38 : decode cX2_isBetween 38 = .ok (.iadd, 1) := dk_96 (dk_at dksX2_isBetween_1 14 rfl rfl)
theorem dX2_isBetween_39 : decode cX2_isBetween 39 = .ok (.iconst (-1), 1) := dk_2 (dk_at dksX2_isBetween_1 15 rfl rfl)
theorem dX2_isBetween_40 : decode cX2_isBetween 40 = .ok (.invokestatic 72, 3) := dk_184 0 72 (dk_at dksX2_isBetween_1 16 rfl rfl)
theorem dX2_isBetween_43 : decode cX2_isBetween 43 = .ok (.ireturn, 1) := dk_172 (dk_at dksX2_isBetween_1 19 rfl rfl)
abbrev cX2_lowOf : ByteArray := prog_20_method_131_code
def yX2_lowOf : MethodName := ⟨RX2, "lowOf", "(Z)I"⟩
def dkwX2_lowOf_1 : List UInt8 := [167, 0, 18, 42, 3, 4, 3, 182, 1, 192, 42, 4, 4, 3, 182, 1, 192, 100, 96, 172]
abbrev dktX2_lowOf_1 : List UInt8 := dkwX2_lowOf_1 ++ []
def dkwX2_lowOf_0 : List UInt8 := [42, 27, 182, 1, 195, 27, 153, 0, 21, 42, 4, 3, 4, 182, 1, 192, 42, 4, 4, 4, 182, 1, 192, 100]
abbrev dktX2_lowOf_0 : List UInt8 := dkwX2_lowOf_0 ++ dktX2_lowOf_1
theorem dksX2_lowOf_0 : cX2_lowOf.data.toList.drop 0 = dktX2_lowOf_0 := by decide +kernel
theorem dksX2_lowOf_1 : cX2_lowOf.data.toList.drop 24 = dktX2_lowOf_1 := dk_seg dksX2_lowOf_0 24 rfl rfl
theorem dX2_lowOf_0 : decode cX2_lowOf 0 = .ok (.aload_n 0, 1) := dk_42 (dk_at dksX2_lowOf_0 0 rfl rfl)
theorem dX2_lowOf_1 : decode cX2_lowOf 1 = .ok (.iload_n 1, 1) := dk_27 (dk_at dksX2_lowOf_0 1 rfl rfl)
theorem dX2_lowOf_2 : decode cX2_lowOf 2 = .ok (.invokevirtual 451, 3) := dk_182 1 195 (dk_at dksX2_lowOf_0 2 rfl rfl)
theorem dX2_lowOf_5 : decode cX2_lowOf 5 = .ok (.iload_n 1, 1) := dk_27 (dk_at dksX2_lowOf_0 5 rfl rfl)
theorem dX2_lowOf_6 : decode cX2_lowOf 6 = .ok (.ifCond .eq 21, 3) := dk_153 0 21 (dk_at dksX2_lowOf_0 6 rfl rfl)
theorem dX2_lowOf_9 : decode cX2_lowOf 9 = .ok (.aload_n 0, 1) := dk_42 (dk_at dksX2_lowOf_0 9 rfl rfl)
theorem dX2_lowOf_10 : decode cX2_lowOf 10 = .ok (.iconst 1, 1) := dk_4 (dk_at dksX2_lowOf_0 10 rfl rfl)
theorem dX2_lowOf_11 : decode cX2_lowOf 11 = .ok (.iconst 0, 1) := dk_3 (dk_at dksX2_lowOf_0 11 rfl rfl)
theorem dX2_lowOf_12 : decode cX2_lowOf 12 = .ok (.iconst 1, 1) := dk_4 (dk_at dksX2_lowOf_0 12 rfl rfl)
theorem dX2_lowOf_13 : decode cX2_lowOf 13 = .ok (.invokevirtual 448, 3) := dk_182 1 192 (dk_at dksX2_lowOf_0 13 rfl rfl)
theorem dX2_lowOf_16 : decode cX2_lowOf 16 = .ok (.aload_n 0, 1) := dk_42 (dk_at dksX2_lowOf_0 16 rfl rfl)
theorem dX2_lowOf_17 : decode cX2_lowOf 17 = .ok (.iconst 1, 1) := dk_4 (dk_at dksX2_lowOf_0 17 rfl rfl)
theorem dX2_lowOf_18 : decode cX2_lowOf 18 = .ok (.iconst 1, 1) := dk_4 (dk_at dksX2_lowOf_0 18 rfl rfl)
theorem dX2_lowOf_19 : decode cX2_lowOf 19 = .ok (.iconst 1, 1) := dk_4 (dk_at dksX2_lowOf_0 19 rfl rfl)
theorem dX2_lowOf_20 : decode cX2_lowOf 20 = .ok (.invokevirtual 448, 3) := dk_182 1 192 (dk_at dksX2_lowOf_0 20 rfl rfl)
theorem dX2_lowOf_23 : decode cX2_lowOf 23 = .ok (.isub, 1) := dk_100 (dk_at dksX2_lowOf_0 23 rfl rfl)
theorem dX2_lowOf_24 : decode cX2_lowOf 24 = .ok (.goto 18, 3) := dk_167 0 18 (dk_at dksX2_lowOf_1 0 rfl rfl)
theorem dX2_lowOf_27 : decode cX2_lowOf 27 = .ok (.aload_n 0, 1) := dk_42 (dk_at dksX2_lowOf_1 3 rfl rfl)
theorem dX2_lowOf_28 : decode cX2_lowOf 28 = .ok (.iconst 0, 1) := dk_3 (dk_at dksX2_lowOf_1 4 rfl rfl)
theorem dX2_lowOf_29 : decode cX2_lowOf 29 = .ok (.iconst 1, 1) := dk_4 (dk_at dksX2_lowOf_1 5 rfl rfl)
theorem dX2_lowOf_30 : decode cX2_lowOf 30 = .ok (.iconst 0, 1) := dk_3 (dk_at dksX2_lowOf_1 6 rfl rfl)
theorem dX2_lowOf_31 : decode cX2_lowOf 31 = .ok (.invokevirtual 448, 3) := dk_182 1 192 (dk_at dksX2_lowOf_1 7 rfl rfl)
theorem dX2_lowOf_34 : decode cX2_lowOf 34 = .ok (.aload_n 0, 1) := dk_42 (dk_at dksX2_lowOf_1 10 rfl rfl)
theorem dX2_lowOf_35 : decode cX2_lowOf 35 = .ok (.iconst 1, 1) := dk_4 (dk_at dksX2_lowOf_1 11 rfl rfl)
theorem dX2_lowOf_36 : decode cX2_lowOf 36 = .ok (.iconst 1, 1) := dk_4 (dk_at dksX2_lowOf_1 12 rfl rfl)
theorem dX2_lowOf_37 : decode cX2_lowOf 37 = .ok (.iconst 0, 1) := dk_3 (dk_at dksX2_lowOf_1 13 rfl rfl)
theorem dX2_lowOf_38 : decode cX2_lowOf 38 = .ok (.invokevirtual 448, 3) := dk_182 1 192 (dk_at dksX2_lowOf_1 14 rfl rfl)
theorem dX2_lowOf_41 : decode cX2_lowOf 41 = .ok (.isub, 1) := dk_100 (dk_at dksX2_lowOf_1 17 rfl rfl)
theorem dX2_lowOf_42 : decode cX2_lowOf 42 = .ok (.iadd, 1) := dk_96 (dk_at dksX2_lowOf_1 18 rfl rfl)
theorem dX2_lowOf_43 : decode cX2_lowOf 43 = .ok (.ireturn, 1) := dk_172 (dk_at dksX2_lowOf_1 19 rfl rfl)
abbrev cX2_upOf : ByteArray := prog_20_method_130_code
def yX2_upOf : MethodName := ⟨RX2, "upOf", "(Z)I"⟩
def dkwX2_upOf_1 : List UInt8 := [3, 3, 182, 1, 192, 42, 3, 3, 3, 182, 1, 192, 100, 172]
abbrev dktX2_upOf_1 : List UInt8 := dkwX2_upOf_1 ++ []
def dkwX2_upOf_0 : List UInt8 := [27, 153, 0, 21, 42, 3, 4, 4, 182, 1, 192, 42, 3, 3, 4, 182, 1, 192, 100, 167, 0, 18, 42, 4]
abbrev dktX2_upOf_0 : List UInt8 := dkwX2_upOf_0 ++ dktX2_upOf_1
theorem dksX2_upOf_0 : cX2_upOf.data.toList.drop 0 = dktX2_upOf_0 := by decide +kernel
theorem dksX2_upOf_1 : cX2_upOf.data.toList.drop 24 = dktX2_upOf_1 := dk_seg dksX2_upOf_0 24 rfl rfl
theorem dX2_upOf_0 : decode cX2_upOf 0 = .ok (.iload_n 1, 1) := dk_27 (dk_at dksX2_upOf_0 0 rfl rfl)
theorem dX2_upOf_1 : decode cX2_upOf 1 = .ok (.ifCond .eq 21, 3) := dk_153 0 21 (dk_at dksX2_upOf_0 1 rfl rfl)
theorem dX2_upOf_4 : decode cX2_upOf 4 = .ok (.aload_n 0, 1) := dk_42 (dk_at dksX2_upOf_0 4 rfl rfl)
theorem dX2_upOf_5 : decode cX2_upOf 5 = .ok (.iconst 0, 1) := dk_3 (dk_at dksX2_upOf_0 5 rfl rfl)
theorem dX2_upOf_6 : decode cX2_upOf 6 = .ok (.iconst 1, 1) := dk_4 (dk_at dksX2_upOf_0 6 rfl rfl)
theorem dX2_upOf_7 : decode cX2_upOf 7 = .ok (.iconst 1, 1) := dk_4 (dk_at dksX2_upOf_0 7 rfl rfl)
theorem dX2_upOf_8 : decode cX2_upOf 8 = .ok (.invokevirtual 448, 3) := dk_182 1 192 (dk_at dksX2_upOf_0 8 rfl rfl)
theorem dX2_upOf_11 : decode cX2_upOf 11 = .ok (.aload_n 0, 1) := dk_42 (dk_at dksX2_upOf_0 11 rfl rfl)
theorem dX2_upOf_12 : decode cX2_upOf 12 = .ok (.iconst 0, 1) := dk_3 (dk_at dksX2_upOf_0 12 rfl rfl)
theorem dX2_upOf_13 : decode cX2_upOf 13 = .ok (.iconst 0, 1) := dk_3 (dk_at dksX2_upOf_0 13 rfl rfl)
theorem dX2_upOf_14 : decode cX2_upOf 14 = .ok (.iconst 1, 1) := dk_4 (dk_at dksX2_upOf_0 14 rfl rfl)
theorem dX2_upOf_15 : decode cX2_upOf 15 = .ok (.invokevirtual 448, 3) := dk_182 1 192 (dk_at dksX2_upOf_0 15 rfl rfl)
theorem dX2_upOf_18 : decode cX2_upOf 18 = .ok (.isub, 1) := dk_100 (dk_at dksX2_upOf_0 18 rfl rfl)
theorem dX2_upOf_19 : decode cX2_upOf 19 = .ok (.goto 18, 3) := dk_167 0 18 (dk_at dksX2_upOf_0 19 rfl rfl)
theorem dX2_upOf_22 : decode cX2_upOf 22 = .ok (.aload_n 0, 1) := dk_42 (dk_at dksX2_upOf_0 22 rfl rfl)
theorem dX2_upOf_23 : decode cX2_upOf 23 = .ok (.iconst 1, 1) := dk_4 (dk_at dksX2_upOf_0 23 rfl rfl)
theorem dX2_upOf_24 : decode cX2_upOf 24 = .ok (.iconst 0, 1) := dk_3 (dk_at dksX2_upOf_1 0 rfl rfl)
theorem dX2_upOf_25 : decode cX2_upOf 25 = .ok (.iconst 0, 1) := dk_3 (dk_at dksX2_upOf_1 1 rfl rfl)
theorem dX2_upOf_26 : decode cX2_upOf 26 = .ok (.invokevirtual 448, 3) := dk_182 1 192 (dk_at dksX2_upOf_1 2 rfl rfl)
theorem dX2_upOf_29 : decode cX2_upOf 29 = .ok (.aload_n 0, 1) := dk_42 (dk_at dksX2_upOf_1 5 rfl rfl)
theorem dX2_upOf_30 : decode cX2_upOf 30 = .ok (.iconst 0, 1) := dk_3 (dk_at dksX2_upOf_1 6 rfl rfl)
theorem dX2_upOf_31 : decode cX2_upOf 31 = .ok (.iconst 0, 1) := dk_3 (dk_at dksX2_upOf_1 7 rfl rfl)
theorem dX2_upOf_32 : decode cX2_upOf 32 = .ok (.iconst 0, 1) := dk_3 (dk_at dksX2_upOf_1 8 rfl rfl)
theorem dX2_upOf_33 : decode cX2_upOf 33 = .ok (.invokevirtual 448, 3) := dk_182 1 192 (dk_at dksX2_upOf_1 9 rfl rfl)
theorem dX2_upOf_36 : decode cX2_upOf 36 = .ok (.isub, 1) := dk_100 (dk_at dksX2_upOf_1 12 rfl rfl)
theorem dX2_upOf_37 : decode cX2_upOf 37 = .ok (.ireturn, 1) := dk_172 (dk_at dksX2_upOf_1 13 rfl rfl)
abbrev cX2_divisor : ByteArray := prog_20_method_129_code
def yX2_divisor : MethodName := ⟨RX2, "divisor", "(II)I"⟩
def dkwX2_divisor_1 : List UInt8 := [156, 0, 8, 28, 116, 167, 0, 4, 28, 172]
abbrev dktX2_divisor_1 : List UInt8 := dkwX2_divisor_1 ++ []
def dkwX2_divisor_0 : List UInt8 := [26, 61, 27, 62, 29, 153, 0, 16, 28, 29, 112, 54, 4, 29, 61, 21, 4, 62, 167, 255, 242, 28]
abbrev dktX2_divisor_0 : List UInt8 := dkwX2_divisor_0 ++ dktX2_divisor_1
theorem dksX2_divisor_0 : cX2_divisor.data.toList.drop 0 = dktX2_divisor_0 := by decide +kernel
theorem dksX2_divisor_1 : cX2_divisor.data.toList.drop 22 = dktX2_divisor_1 := dk_seg dksX2_divisor_0 22 rfl rfl
theorem dX2_divisor_0 : decode cX2_divisor 0 = .ok (.iload_n 0, 1) := dk_26 (dk_at dksX2_divisor_0 0 rfl rfl)
theorem dX2_divisor_1 : decode cX2_divisor 1 = .ok (.istore_n 2, 1) := dk_61 (dk_at dksX2_divisor_0 1 rfl rfl)
theorem dX2_divisor_2 : decode cX2_divisor 2 = .ok (.iload_n 1, 1) := dk_27 (dk_at dksX2_divisor_0 2 rfl rfl)
theorem dX2_divisor_3 : decode cX2_divisor 3 = .ok (.istore_n 3, 1) := dk_62 (dk_at dksX2_divisor_0 3 rfl rfl)
theorem dX2_divisor_4 : decode cX2_divisor 4 = .ok (.iload_n 3, 1) := dk_29 (dk_at dksX2_divisor_0 4 rfl rfl)
theorem dX2_divisor_5 : decode cX2_divisor 5 = .ok (.ifCond .eq 16, 3) := dk_153 0 16 (dk_at dksX2_divisor_0 5 rfl rfl)
theorem dX2_divisor_8 : decode cX2_divisor 8 = .ok (.iload_n 2, 1) := dk_28 (dk_at dksX2_divisor_0 8 rfl rfl)
theorem dX2_divisor_9 : decode cX2_divisor 9 = .ok (.iload_n 3, 1) := dk_29 (dk_at dksX2_divisor_0 9 rfl rfl)
theorem dX2_divisor_10 : decode cX2_divisor 10 = .ok (.irem, 1) := dk_112 (dk_at dksX2_divisor_0 10 rfl rfl)
theorem dX2_divisor_11 : decode cX2_divisor 11 = .ok (.istore 4, 2) := dk_54 4 (dk_at dksX2_divisor_0 11 rfl rfl)
theorem dX2_divisor_13 : decode cX2_divisor 13 = .ok (.iload_n 3, 1) := dk_29 (dk_at dksX2_divisor_0 13 rfl rfl)
theorem dX2_divisor_14 : decode cX2_divisor 14 = .ok (.istore_n 2, 1) := dk_61 (dk_at dksX2_divisor_0 14 rfl rfl)
theorem dX2_divisor_15 : decode cX2_divisor 15 = .ok (.iload 4, 2) := dk_21 4 (dk_at dksX2_divisor_0 15 rfl rfl)
theorem dX2_divisor_17 : decode cX2_divisor 17 = .ok (.istore_n 3, 1) := dk_62 (dk_at dksX2_divisor_0 17 rfl rfl)
theorem dX2_divisor_18 : decode cX2_divisor 18 = .ok (.goto (-14), 3) := dk_167 255 242 (dk_at dksX2_divisor_0 18 rfl rfl)
theorem dX2_divisor_21 : decode cX2_divisor 21 = .ok (.iload_n 2, 1) := dk_28 (dk_at dksX2_divisor_0 21 rfl rfl)
theorem dX2_divisor_22 : decode cX2_divisor 22 = .ok (.ifCond .ge 8, 3) := dk_156 0 8 (dk_at dksX2_divisor_1 0 rfl rfl)
theorem dX2_divisor_25 : decode cX2_divisor 25 = .ok (.iload_n 2, 1) := dk_28 (dk_at dksX2_divisor_1 3 rfl rfl)
theorem dX2_divisor_26 : decode cX2_divisor 26 = .ok (.ineg, 1) := dk_116 (dk_at dksX2_divisor_1 4 rfl rfl)
theorem dX2_divisor_27 : decode cX2_divisor 27 = .ok (.goto 4, 3) := dk_167 0 4 (dk_at dksX2_divisor_1 5 rfl rfl)
theorem dX2_divisor_30 : decode cX2_divisor 30 = .ok (.iload_n 2, 1) := dk_28 (dk_at dksX2_divisor_1 8 rfl rfl)
theorem dX2_divisor_31 : decode cX2_divisor 31 = .ok (.ireturn, 1) := dk_172 (dk_at dksX2_divisor_1 9 rfl rfl)
abbrev cX2_saying : ByteArray := prog_20_method_134_code
def yX2_saying : MethodName := ⟨RX2, "saying", "(II)I"⟩
def dkwX2_saying_4 : List UInt8 := [96, 79, 42, 180, 0, 7, 8, 46, 172]
abbrev dktX2_saying_4 : List UInt8 := dkwX2_saying_4 ++ []
def dkwX2_saying_3 : List UInt8 := [17, 0, 133, 5, 42, 180, 0, 7, 8, 46, 104, 96, 4, 96, 28, 79, 42, 180, 0, 7, 8, 92, 46, 4]
abbrev dktX2_saying_3 : List UInt8 := dkwX2_saying_3 ++ dktX2_saying_4
def dkwX2_saying_2 : List UInt8 := [42, 180, 0, 7, 17, 0, 133, 5, 42, 180, 0, 7, 8, 46, 104, 96, 27, 79, 42, 180, 0, 7]
abbrev dktX2_saying_2 : List UInt8 := dkwX2_saying_2 ++ dktX2_saying_3
def dkwX2_saying_1 : List UInt8 := [28, 4, 16, 99, 184, 0, 72, 153, 0, 14, 42, 180, 0, 7, 8, 46, 16, 8, 160, 0, 6, 16, 254, 172]
abbrev dktX2_saying_1 : List UInt8 := dkwX2_saying_1 ++ dktX2_saying_2
def dkwX2_saying_0 : List UInt8 := [27, 2, 160, 0, 12, 42, 180, 0, 7, 8, 3, 79, 3, 172, 27, 3, 16, 99, 184, 0, 72, 153, 0, 24]
abbrev dktX2_saying_0 : List UInt8 := dkwX2_saying_0 ++ dktX2_saying_1
theorem dksX2_saying_0 : cX2_saying.data.toList.drop 0 = dktX2_saying_0 := by decide +kernel
theorem dksX2_saying_1 : cX2_saying.data.toList.drop 24 = dktX2_saying_1 := dk_seg dksX2_saying_0 24 rfl rfl
theorem dksX2_saying_2 : cX2_saying.data.toList.drop 48 = dktX2_saying_2 := dk_seg dksX2_saying_1 24 rfl rfl
theorem dksX2_saying_3 : cX2_saying.data.toList.drop 70 = dktX2_saying_3 := dk_seg dksX2_saying_2 22 rfl rfl
theorem dksX2_saying_4 : cX2_saying.data.toList.drop 94 = dktX2_saying_4 := dk_seg dksX2_saying_3 24 rfl rfl
theorem dX2_saying_0 : decode cX2_saying 0 = .ok (.iload_n 1, 1) := dk_27 (dk_at dksX2_saying_0 0 rfl rfl)
theorem dX2_saying_1 : decode cX2_saying 1 = .ok (.iconst (-1), 1) := dk_2 (dk_at dksX2_saying_0 1 rfl rfl)
theorem dX2_saying_2 : decode cX2_saying 2 = .ok (.if_icmp .ne 12, 3) := dk_160 0 12 (dk_at dksX2_saying_0 2 rfl rfl)
theorem dX2_saying_5 : decode cX2_saying 5 = .ok (.aload_n 0, 1) := dk_42 (dk_at dksX2_saying_0 5 rfl rfl)
theorem dX2_saying_6 : decode cX2_saying 6 = .ok (.getfield 7, 3) := dk_180 0 7 (dk_at dksX2_saying_0 6 rfl rfl)
theorem dX2_saying_9 : decode cX2_saying 9 = .ok (.iconst 5, 1) := dk_8 (dk_at dksX2_saying_0 9 rfl rfl)
theorem dX2_saying_10 : decode cX2_saying 10 = .ok (.iconst 0, 1) := dk_3 (dk_at dksX2_saying_0 10 rfl rfl)
theorem dX2_saying_11 : decode cX2_saying 11 = .ok (.iastore, 1) := dk_79 (dk_at dksX2_saying_0 11 rfl rfl)
theorem dX2_saying_12 : decode cX2_saying 12 = .ok (.iconst 0, 1) := dk_3 (dk_at dksX2_saying_0 12 rfl rfl)
theorem dX2_saying_13 : decode cX2_saying 13 = .ok (.ireturn, 1) := dk_172 (dk_at dksX2_saying_0 13 rfl rfl)
theorem dX2_saying_14 : decode cX2_saying 14 = .ok (.iload_n 1, 1) := dk_27 (dk_at dksX2_saying_0 14 rfl rfl)
theorem dX2_saying_15 : decode cX2_saying 15 = .ok (.iconst 0, 1) := dk_3 (dk_at dksX2_saying_0 15 rfl rfl)
theorem dX2_saying_16 : decode cX2_saying 16 = .ok (.bipush 99, 2) := dk_16 99 (dk_at dksX2_saying_0 16 rfl rfl)
theorem dX2_saying_18 : decode cX2_saying 18 = .ok (.invokestatic 72, 3) := dk_184 0 72 (dk_at dksX2_saying_0 18 rfl rfl)
theorem dX2_saying_21 : decode cX2_saying 21 = .ok (.ifCond .eq 24, 3) := dk_153 0 24 (dk_at dksX2_saying_0 21 rfl rfl)
theorem dX2_saying_24 : decode cX2_saying 24 = .ok (.iload_n 2, 1) := dk_28 (dk_at dksX2_saying_1 0 rfl rfl)
theorem dX2_saying_25 : decode cX2_saying 25 = .ok (.iconst 1, 1) := dk_4 (dk_at dksX2_saying_1 1 rfl rfl)
theorem dX2_saying_26 : decode cX2_saying 26 = .ok (.bipush 99, 2) := dk_16 99 (dk_at dksX2_saying_1 2 rfl rfl)
theorem dX2_saying_28 : decode cX2_saying 28 = .ok (.invokestatic 72, 3) := dk_184 0 72 (dk_at dksX2_saying_1 4 rfl rfl)
theorem dX2_saying_31 : decode cX2_saying 31 = .ok (.ifCond .eq 14, 3) := dk_153 0 14 (dk_at dksX2_saying_1 7 rfl rfl)
theorem dX2_saying_34 : decode cX2_saying 34 = .ok (.aload_n 0, 1) := dk_42 (dk_at dksX2_saying_1 10 rfl rfl)
theorem dX2_saying_35 : decode cX2_saying 35 = .ok (.getfield 7, 3) := dk_180 0 7 (dk_at dksX2_saying_1 11 rfl rfl)
theorem dX2_saying_38 : decode cX2_saying 38 = .ok (.iconst 5, 1) := dk_8 (dk_at dksX2_saying_1 14 rfl rfl)
theorem dX2_saying_39 : decode cX2_saying 39 = .ok (.iaload, 1) := dk_46 (dk_at dksX2_saying_1 15 rfl rfl)
theorem dX2_saying_40 : decode cX2_saying 40 = .ok (.bipush 8, 2) := dk_16 8 (dk_at dksX2_saying_1 16 rfl rfl)
theorem dX2_saying_42 : decode cX2_saying 42 = .ok (.if_icmp .ne 6, 3) := dk_160 0 6 (dk_at dksX2_saying_1 18 rfl rfl)
theorem dX2_saying_45 : decode cX2_saying 45 = .ok (.bipush (-2), 2) := dk_16 254 (dk_at dksX2_saying_1 21 rfl rfl)
theorem dX2_saying_47 : decode cX2_saying 47 = .ok (.ireturn, 1) := dk_172 (dk_at dksX2_saying_1 23 rfl rfl)
theorem dX2_saying_48 : decode cX2_saying 48 = .ok (.aload_n 0, 1) := dk_42 (dk_at dksX2_saying_2 0 rfl rfl)
theorem dX2_saying_49 : decode cX2_saying 49 = .ok (.getfield 7, 3) := dk_180 0 7 (dk_at dksX2_saying_2 1 rfl rfl)
theorem dX2_saying_52 : decode cX2_saying 52 = .ok (.sipush 133, 3) := dk_17 0 133 (dk_at dksX2_saying_2 4 rfl rfl)
theorem dX2_saying_55 : decode cX2_saying 55 = .ok (.iconst 2, 1) := dk_5 (dk_at dksX2_saying_2 7 rfl rfl)
theorem dX2_saying_56 : decode cX2_saying 56 = .ok (.aload_n 0, 1) := dk_42 (dk_at dksX2_saying_2 8 rfl rfl)
theorem dX2_saying_57 : decode cX2_saying 57 = .ok (.getfield 7, 3) := dk_180 0 7 (dk_at dksX2_saying_2 9 rfl rfl)
theorem dX2_saying_60 : decode cX2_saying 60 = .ok (.iconst 5, 1) := dk_8 (dk_at dksX2_saying_2 12 rfl rfl)
theorem dX2_saying_61 : decode cX2_saying 61 = .ok (.iaload, 1) := dk_46 (dk_at dksX2_saying_2 13 rfl rfl)
theorem dX2_saying_62 : decode cX2_saying 62 = .ok (.imul, 1) := dk_104 (dk_at dksX2_saying_2 14 rfl rfl)
theorem dX2_saying_63 : decode cX2_saying 63 = .ok (.iadd, 1) := dk_96 (dk_at dksX2_saying_2 15 rfl rfl)
theorem dX2_saying_64 : decode cX2_saying 64 = .ok (.iload_n 1, 1) := dk_27 (dk_at dksX2_saying_2 16 rfl rfl)
theorem dX2_saying_65 : decode cX2_saying 65 = .ok (.iastore, 1) := dk_79 (dk_at dksX2_saying_2 17 rfl rfl)
theorem dX2_saying_66 : decode cX2_saying 66 = .ok (.aload_n 0, 1) := dk_42 (dk_at dksX2_saying_2 18 rfl rfl)
theorem dX2_saying_67 : decode cX2_saying 67 = .ok (.getfield 7, 3) := dk_180 0 7 (dk_at dksX2_saying_2 19 rfl rfl)
theorem dX2_saying_70 : decode cX2_saying 70 = .ok (.sipush 133, 3) := dk_17 0 133 (dk_at dksX2_saying_3 0 rfl rfl)
theorem dX2_saying_73 : decode cX2_saying 73 = .ok (.iconst 2, 1) := dk_5 (dk_at dksX2_saying_3 3 rfl rfl)
theorem dX2_saying_74 : decode cX2_saying 74 = .ok (.aload_n 0, 1) := dk_42 (dk_at dksX2_saying_3 4 rfl rfl)
theorem dX2_saying_75 : decode cX2_saying 75 = .ok (.getfield 7, 3) := dk_180 0 7 (dk_at dksX2_saying_3 5 rfl rfl)
theorem dX2_saying_78 : decode cX2_saying 78 = .ok (.iconst 5, 1) := dk_8 (dk_at dksX2_saying_3 8 rfl rfl)
theorem dX2_saying_79 : decode cX2_saying 79 = .ok (.iaload, 1) := dk_46 (dk_at dksX2_saying_3 9 rfl rfl)
theorem dX2_saying_80 : decode cX2_saying 80 = .ok (.imul, 1) := dk_104 (dk_at dksX2_saying_3 10 rfl rfl)
theorem dX2_saying_81 : decode cX2_saying 81 = .ok (.iadd, 1) := dk_96 (dk_at dksX2_saying_3 11 rfl rfl)
theorem dX2_saying_82 : decode cX2_saying 82 = .ok (.iconst 1, 1) := dk_4 (dk_at dksX2_saying_3 12 rfl rfl)
theorem dX2_saying_83 : decode cX2_saying 83 = .ok (.iadd, 1) := dk_96 (dk_at dksX2_saying_3 13 rfl rfl)
theorem dX2_saying_84 : decode cX2_saying 84 = .ok (.iload_n 2, 1) := dk_28 (dk_at dksX2_saying_3 14 rfl rfl)
theorem dX2_saying_85 : decode cX2_saying 85 = .ok (.iastore, 1) := dk_79 (dk_at dksX2_saying_3 15 rfl rfl)
theorem dX2_saying_86 : decode cX2_saying 86 = .ok (.aload_n 0, 1) := dk_42 (dk_at dksX2_saying_3 16 rfl rfl)
theorem dX2_saying_87 : decode cX2_saying 87 = .ok (.getfield 7, 3) := dk_180 0 7 (dk_at dksX2_saying_3 17 rfl rfl)
theorem dX2_saying_90 : decode cX2_saying 90 = .ok (.iconst 5, 1) := dk_8 (dk_at dksX2_saying_3 20 rfl rfl)
theorem dX2_saying_91 : decode cX2_saying 91 = .ok (.dup2, 1) := dk_92 (dk_at dksX2_saying_3 21 rfl rfl)
theorem dX2_saying_92 : decode cX2_saying 92 = .ok (.iaload, 1) := dk_46 (dk_at dksX2_saying_3 22 rfl rfl)
theorem dX2_saying_93 : decode cX2_saying 93 = .ok (.iconst 1, 1) := dk_4 (dk_at dksX2_saying_3 23 rfl rfl)
theorem dX2_saying_94 : decode cX2_saying 94 = .ok (.iadd, 1) := dk_96 (dk_at dksX2_saying_4 0 rfl rfl)
theorem dX2_saying_95 : decode cX2_saying 95 = .ok (.iastore, 1) := dk_79 (dk_at dksX2_saying_4 1 rfl rfl)
theorem dX2_saying_96 : decode cX2_saying 96 = .ok (.aload_n 0, 1) := dk_42 (dk_at dksX2_saying_4 2 rfl rfl)
theorem dX2_saying_97 : decode cX2_saying 97 = .ok (.getfield 7, 3) := dk_180 0 7 (dk_at dksX2_saying_4 3 rfl rfl)
theorem dX2_saying_100 : decode cX2_saying 100 = .ok (.iconst 5, 1) := dk_8 (dk_at dksX2_saying_4 6 rfl rfl)
theorem dX2_saying_101 : decode cX2_saying 101 = .ok (.iaload, 1) := dk_46 (dk_at dksX2_saying_4 7 rfl rfl)
theorem dX2_saying_102 : decode cX2_saying 102 = .ok (.ireturn, 1) := dk_172 (dk_at dksX2_saying_4 8 rfl rfl)
abbrev cX2_least : ByteArray := prog_20_method_136_code
def yX2_least : MethodName := ⟨RX2, "least", "(IZ)I"⟩
def dkwX2_least_5 : List UInt8 := [182, 1, 209, 167, 0, 4, 29, 172]
abbrev dktX2_least_5 : List UInt8 := dkwX2_least_5 ++ []
def dkwX2_least_4 : List UInt8 := [62, 132, 4, 1, 167, 255, 176, 29, 2, 160, 0, 7, 2, 167, 0, 17, 28, 153, 0, 12, 42, 29, 3]
abbrev dktX2_least_4 : List UInt8 := dkwX2_least_4 ++ dktX2_least_5
def dkwX2_least_3 : List UInt8 := [21, 5, 155, 0, 20, 21, 5, 154, 0, 18, 21, 4, 184, 1, 212, 29, 184, 1, 212, 162, 0, 6, 21, 4]
abbrev dktX2_least_3 : List UInt8 := dkwX2_least_3 ++ dktX2_least_4
def dkwX2_least_2 : List UInt8 := [2, 160, 0, 7, 2, 167, 0, 17, 42, 21, 4, 3, 182, 1, 209, 42, 29, 3, 182, 1, 209, 100, 54, 5]
abbrev dktX2_least_2 : List UInt8 := dkwX2_least_2 ++ dktX2_least_3
def dkwX2_least_1 : List UInt8 := [180, 0, 7, 8, 46, 120, 162, 0, 73, 42, 21, 4, 4, 182, 1, 209, 27, 162, 0, 6, 167, 0, 53, 29]
abbrev dktX2_least_1 : List UInt8 := dkwX2_least_1 ++ dktX2_least_2
def dkwX2_least_0 : List UInt8 := [27, 3, 17, 3, 231, 184, 0, 72, 154, 0, 5, 2, 172, 2, 62, 3, 54, 4, 21, 4, 4, 42]
abbrev dktX2_least_0 : List UInt8 := dkwX2_least_0 ++ dktX2_least_1
theorem dksX2_least_0 : cX2_least.data.toList.drop 0 = dktX2_least_0 := by decide +kernel
theorem dksX2_least_1 : cX2_least.data.toList.drop 22 = dktX2_least_1 := dk_seg dksX2_least_0 22 rfl rfl
theorem dksX2_least_2 : cX2_least.data.toList.drop 46 = dktX2_least_2 := dk_seg dksX2_least_1 24 rfl rfl
theorem dksX2_least_3 : cX2_least.data.toList.drop 70 = dktX2_least_3 := dk_seg dksX2_least_2 24 rfl rfl
theorem dksX2_least_4 : cX2_least.data.toList.drop 94 = dktX2_least_4 := dk_seg dksX2_least_3 24 rfl rfl
theorem dksX2_least_5 : cX2_least.data.toList.drop 117 = dktX2_least_5 := dk_seg dksX2_least_4 23 rfl rfl
theorem dX2_least_0 : decode cX2_least 0 = .ok (.iload_n 1, 1) := dk_27 (dk_at dksX2_least_0 0 rfl rfl)
theorem dX2_least_1 : decode cX2_least 1 = .ok (.iconst 0, 1) := dk_3 (dk_at dksX2_least_0 1 rfl rfl)
theorem dX2_least_2 : decode cX2_least 2 = .ok (.sipush 999, 3) := dk_17 3 231 (dk_at dksX2_least_0 2 rfl rfl)
theorem dX2_least_5 : decode cX2_least 5 = .ok (.invokestatic 72, 3) := dk_184 0 72 (dk_at dksX2_least_0 5 rfl rfl)
theorem dX2_least_8 : decode cX2_least 8 = .ok (.ifCond .ne 5, 3) := dk_154 0 5 (dk_at dksX2_least_0 8 rfl rfl)
theorem dX2_least_11 : decode cX2_least 11 = .ok (.iconst (-1), 1) := dk_2 (dk_at dksX2_least_0 11 rfl rfl)
theorem dX2_least_12 : decode cX2_least 12 = .ok (.ireturn, 1) := dk_172 (dk_at dksX2_least_0 12 rfl rfl)
theorem dX2_least_13 : decode cX2_least 13 = .ok (.iconst (-1), 1) := dk_2 (dk_at dksX2_least_0 13 rfl rfl)
theorem dX2_least_14 : decode cX2_least 14 = .ok (.istore_n 3, 1) := dk_62 (dk_at dksX2_least_0 14 rfl rfl)
theorem dX2_least_15 : decode cX2_least 15 = .ok (.iconst 0, 1) := dk_3 (dk_at dksX2_least_0 15 rfl rfl)
theorem dX2_least_16 : decode cX2_least 16 = .ok (.istore 4, 2) := dk_54 4 (dk_at dksX2_least_0 16 rfl rfl)
theorem dX2_least_18 : decode cX2_least 18 = .ok (.iload 4, 2) := dk_21 4 (dk_at dksX2_least_0 18 rfl rfl)
theorem dX2_least_20 : decode cX2_least 20 = .ok (.iconst 1, 1) := dk_4 (dk_at dksX2_least_0 20 rfl rfl)
theorem dX2_least_21 : decode cX2_least 21 = .ok (.aload_n 0, 1) := dk_42 (dk_at dksX2_least_0 21 rfl rfl)
theorem dX2_least_22 : decode cX2_least 22 = .ok (.getfield 7, 3) := dk_180 0 7 (dk_at dksX2_least_1 0 rfl rfl)
theorem dX2_least_25 : decode cX2_least 25 = .ok (.iconst 5, 1) := dk_8 (dk_at dksX2_least_1 3 rfl rfl)
theorem dX2_least_26 : decode cX2_least 26 = .ok (.iaload, 1) := dk_46 (dk_at dksX2_least_1 4 rfl rfl)
theorem dX2_least_27 : decode cX2_least 27 = .ok (.ishl, 1) := dk_120 (dk_at dksX2_least_1 5 rfl rfl)
theorem dX2_least_28 : decode cX2_least 28 = .ok (.if_icmp .ge 73, 3) := dk_162 0 73 (dk_at dksX2_least_1 6 rfl rfl)
theorem dX2_least_31 : decode cX2_least 31 = .ok (.aload_n 0, 1) := dk_42 (dk_at dksX2_least_1 9 rfl rfl)
theorem dX2_least_32 : decode cX2_least 32 = .ok (.iload 4, 2) := dk_21 4 (dk_at dksX2_least_1 10 rfl rfl)
theorem dX2_least_34 : decode cX2_least 34 = .ok (.iconst 1, 1) := dk_4 (dk_at dksX2_least_1 12 rfl rfl)
theorem dX2_least_35 : decode cX2_least 35 = .ok (.invokevirtual 465, 3) := dk_182 1 209 (dk_at dksX2_least_1 13 rfl rfl)
theorem dX2_least_38 : decode cX2_least 38 = .ok (.iload_n 1, 1) := dk_27 (dk_at dksX2_least_1 16 rfl rfl)
theorem dX2_least_39 : decode cX2_least 39 = .ok (.if_icmp .ge 6, 3) := dk_162 0 6 (dk_at dksX2_least_1 17 rfl rfl)
theorem dX2_least_42 : decode cX2_least 42 = .ok (.goto 53, 3) := dk_167 0 53 (dk_at dksX2_least_1 20 rfl rfl)
theorem dX2_least_45 : decode cX2_least 45 = .ok (.iload_n 3, 1) := dk_29 (dk_at dksX2_least_1 23 rfl rfl)
theorem dX2_least_46 : decode cX2_least 46 = .ok (.iconst (-1), 1) := dk_2 (dk_at dksX2_least_2 0 rfl rfl)
theorem dX2_least_47 : decode cX2_least 47 = .ok (.if_icmp .ne 7, 3) := dk_160 0 7 (dk_at dksX2_least_2 1 rfl rfl)
theorem dX2_least_50 : decode cX2_least 50 = .ok (.iconst (-1), 1) := dk_2 (dk_at dksX2_least_2 4 rfl rfl)
theorem dX2_least_51 : decode cX2_least 51 = .ok (.goto 17, 3) := dk_167 0 17 (dk_at dksX2_least_2 5 rfl rfl)
theorem dX2_least_54 : decode cX2_least 54 = .ok (.aload_n 0, 1) := dk_42 (dk_at dksX2_least_2 8 rfl rfl)
theorem dX2_least_55 : decode cX2_least 55 = .ok (.iload 4, 2) := dk_21 4 (dk_at dksX2_least_2 9 rfl rfl)
theorem dX2_least_57 : decode cX2_least 57 = .ok (.iconst 0, 1) := dk_3 (dk_at dksX2_least_2 11 rfl rfl)
theorem dX2_least_58 : decode cX2_least 58 = .ok (.invokevirtual 465, 3) := dk_182 1 209 (dk_at dksX2_least_2 12 rfl rfl)
theorem dX2_least_61 : decode cX2_least 61 = .ok (.aload_n 0, 1) := dk_42 (dk_at dksX2_least_2 15 rfl rfl)
theorem dX2_least_62 : decode cX2_least 62 = .ok (.iload_n 3, 1) := dk_29 (dk_at dksX2_least_2 16 rfl rfl)
theorem dX2_least_63 : decode cX2_least 63 = .ok (.iconst 0, 1) := dk_3 (dk_at dksX2_least_2 17 rfl rfl)
theorem dX2_least_64 : decode cX2_least 64 = .ok (.invokevirtual 465, 3) := dk_182 1 209 (dk_at dksX2_least_2 18 rfl rfl)
theorem dX2_least_67 : decode cX2_least 67 = .ok (.isub, 1) := dk_100 (dk_at dksX2_least_2 21 rfl rfl)
theorem dX2_least_68 : decode cX2_least 68 = .ok (.istore 5, 2) := dk_54 5 (dk_at dksX2_least_2 22 rfl rfl)
theorem dX2_least_70 : decode cX2_least 70 = .ok (.iload 5, 2) := dk_21 5 (dk_at dksX2_least_3 0 rfl rfl)
theorem dX2_least_72 : decode cX2_least 72 = .ok (.ifCond .lt 20, 3) := dk_155 0 20 (dk_at dksX2_least_3 2 rfl rfl)
theorem dX2_least_75 : decode cX2_least 75 = .ok (.iload 5, 2) := dk_21 5 (dk_at dksX2_least_3 5 rfl rfl)
theorem dX2_least_77 : decode cX2_least 77 = .ok (.ifCond .ne 18, 3) := dk_154 0 18 (dk_at dksX2_least_3 7 rfl rfl)
theorem dX2_least_80 : decode cX2_least 80 = .ok (.iload 4, 2) := dk_21 4 (dk_at dksX2_least_3 10 rfl rfl)
theorem dX2_least_82 : decode cX2_least 82 = .ok (.invokestatic 468, 3) := dk_184 1 212 (dk_at dksX2_least_3 12 rfl rfl)
theorem dX2_least_85 : decode cX2_least 85 = .ok (.iload_n 3, 1) := dk_29 (dk_at dksX2_least_3 15 rfl rfl)
theorem dX2_least_86 : decode cX2_least 86 = .ok (.invokestatic 468, 3) := dk_184 1 212 (dk_at dksX2_least_3 16 rfl rfl)
theorem dX2_least_89 : decode cX2_least 89 = .ok (.if_icmp .ge 6, 3) := dk_162 0 6 (dk_at dksX2_least_3 19 rfl rfl)
theorem dX2_least_92 : decode cX2_least 92 = .ok (.iload 4, 2) := dk_21 4 (dk_at dksX2_least_3 22 rfl rfl)
theorem dX2_least_94 : decode cX2_least 94 = .ok (.istore_n 3, 1) := dk_62 (dk_at dksX2_least_4 0 rfl rfl)
theorem dX2_least_95 : decode cX2_least 95 = .ok (.iinc 4 1, 3) := dk_132 4 1 (dk_at dksX2_least_4 1 rfl rfl)
theorem dX2_least_98 : decode cX2_least 98 = .ok (.goto (-80), 3) := dk_167 255 176 (dk_at dksX2_least_4 4 rfl rfl)
theorem dX2_least_101 : decode cX2_least 101 = .ok (.iload_n 3, 1) := dk_29 (dk_at dksX2_least_4 7 rfl rfl)
theorem dX2_least_102 : decode cX2_least 102 = .ok (.iconst (-1), 1) := dk_2 (dk_at dksX2_least_4 8 rfl rfl)
theorem dX2_least_103 : decode cX2_least 103 = .ok (.if_icmp .ne 7, 3) := dk_160 0 7 (dk_at dksX2_least_4 9 rfl rfl)
theorem dX2_least_106 : decode cX2_least 106 = .ok (.iconst (-1), 1) := dk_2 (dk_at dksX2_least_4 12 rfl rfl)
theorem dX2_least_107 : decode cX2_least 107 = .ok (.goto 17, 3) := dk_167 0 17 (dk_at dksX2_least_4 13 rfl rfl)
theorem dX2_least_110 : decode cX2_least 110 = .ok (.iload_n 2, 1) := dk_28 (dk_at dksX2_least_4 16 rfl rfl)
theorem dX2_least_111 : decode cX2_least 111 = .ok (.ifCond .eq 12, 3) := dk_153 0 12 (dk_at dksX2_least_4 17 rfl rfl)
theorem dX2_least_114 : decode cX2_least 114 = .ok (.aload_n 0, 1) := dk_42 (dk_at dksX2_least_4 20 rfl rfl)
theorem dX2_least_115 : decode cX2_least 115 = .ok (.iload_n 3, 1) := dk_29 (dk_at dksX2_least_4 21 rfl rfl)
theorem dX2_least_116 : decode cX2_least 116 = .ok (.iconst 0, 1) := dk_3 (dk_at dksX2_least_4 22 rfl rfl)
theorem dX2_least_117 : decode cX2_least 117 = .ok (.invokevirtual 465, 3) := dk_182 1 209 (dk_at dksX2_least_5 0 rfl rfl)
theorem dX2_least_120 : decode cX2_least 120 = .ok (.goto 4, 3) := dk_167 0 4 (dk_at dksX2_least_5 3 rfl rfl)
theorem dX2_least_123 : decode cX2_least 123 = .ok (.iload_n 3, 1) := dk_29 (dk_at dksX2_least_5 6 rfl rfl)
theorem dX2_least_124 : decode cX2_least 124 = .ok (.ireturn, 1) := dk_172 (dk_at dksX2_least_5 7 rfl rfl)
abbrev cX2_sumOf : ByteArray := prog_20_method_135_code
def yX2_sumOf : MethodName := ⟨RX2, "sumOf", "(II)I"⟩
def dkwX2_sumOf_2 : List UInt8 := [132, 4, 1, 167, 255, 211, 29, 172]
abbrev dktX2_sumOf_2 : List UInt8 := dkwX2_sumOf_2 ++ []
def dkwX2_sumOf_1 : List UInt8 := [153, 0, 21, 42, 180, 0, 7, 17, 0, 133, 5, 21, 4, 104, 96, 28, 96, 46, 167, 0, 4, 3, 96, 62]
abbrev dktX2_sumOf_1 : List UInt8 := dkwX2_sumOf_1 ++ dktX2_sumOf_2
def dkwX2_sumOf_0 : List UInt8 := [3, 62, 3, 54, 4, 21, 4, 42, 180, 0, 7, 8, 46, 162, 0, 40, 29, 27, 21, 4, 184, 0, 76]
abbrev dktX2_sumOf_0 : List UInt8 := dkwX2_sumOf_0 ++ dktX2_sumOf_1
theorem dksX2_sumOf_0 : cX2_sumOf.data.toList.drop 0 = dktX2_sumOf_0 := by decide +kernel
theorem dksX2_sumOf_1 : cX2_sumOf.data.toList.drop 23 = dktX2_sumOf_1 := dk_seg dksX2_sumOf_0 23 rfl rfl
theorem dksX2_sumOf_2 : cX2_sumOf.data.toList.drop 47 = dktX2_sumOf_2 := dk_seg dksX2_sumOf_1 24 rfl rfl
theorem dX2_sumOf_0 : decode cX2_sumOf 0 = .ok (.iconst 0, 1) := dk_3 (dk_at dksX2_sumOf_0 0 rfl rfl)
theorem dX2_sumOf_1 : decode cX2_sumOf 1 = .ok (.istore_n 3, 1) := dk_62 (dk_at dksX2_sumOf_0 1 rfl rfl)
theorem dX2_sumOf_2 : decode cX2_sumOf 2 = .ok (.iconst 0, 1) := dk_3 (dk_at dksX2_sumOf_0 2 rfl rfl)
theorem dX2_sumOf_3 : decode cX2_sumOf 3 = .ok (.istore 4, 2) := dk_54 4 (dk_at dksX2_sumOf_0 3 rfl rfl)
theorem dX2_sumOf_5 : decode cX2_sumOf 5 = .ok (.iload 4, 2) := dk_21 4 (dk_at dksX2_sumOf_0 5 rfl rfl)
theorem dX2_sumOf_7 : decode cX2_sumOf 7 = .ok (.aload_n 0, 1) := dk_42 (dk_at dksX2_sumOf_0 7 rfl rfl)
theorem dX2_sumOf_8 : decode cX2_sumOf 8 = .ok (.getfield 7, 3) := dk_180 0 7 (dk_at dksX2_sumOf_0 8 rfl rfl)
theorem dX2_sumOf_11 : decode cX2_sumOf 11 = .ok (.iconst 5, 1) := dk_8 (dk_at dksX2_sumOf_0 11 rfl rfl)
theorem dX2_sumOf_12 : decode cX2_sumOf 12 = .ok (.iaload, 1) := dk_46 (dk_at dksX2_sumOf_0 12 rfl rfl)
theorem dX2_sumOf_13 : decode cX2_sumOf 13 = .ok (.if_icmp .ge 40, 3) := dk_162 0 40 (dk_at dksX2_sumOf_0 13 rfl rfl)
theorem dX2_sumOf_16 : decode cX2_sumOf 16 = .ok (.iload_n 3, 1) := dk_29 (dk_at dksX2_sumOf_0 16 rfl rfl)
theorem dX2_sumOf_17 : decode cX2_sumOf 17 = .ok (.iload_n 1, 1) := dk_27 (dk_at dksX2_sumOf_0 17 rfl rfl)
theorem dX2_sumOf_18 : decode cX2_sumOf 18 = .ok (.iload 4, 2) := dk_21 4 (dk_at dksX2_sumOf_0 18 rfl rfl)
theorem dX2_sumOf_20 : decode cX2_sumOf 20 = .ok (.invokestatic 76, 3) := dk_184 0 76 (dk_at dksX2_sumOf_0 20 rfl rfl)
theorem dX2_sumOf_23 : decode cX2_sumOf 23 = .ok (.ifCond .eq 21, 3) := dk_153 0 21 (dk_at dksX2_sumOf_1 0 rfl rfl)
theorem dX2_sumOf_26 : decode cX2_sumOf 26 = .ok (.aload_n 0, 1) := dk_42 (dk_at dksX2_sumOf_1 3 rfl rfl)
theorem dX2_sumOf_27 : decode cX2_sumOf 27 = .ok (.getfield 7, 3) := dk_180 0 7 (dk_at dksX2_sumOf_1 4 rfl rfl)
theorem dX2_sumOf_30 : decode cX2_sumOf 30 = .ok (.sipush 133, 3) := dk_17 0 133 (dk_at dksX2_sumOf_1 7 rfl rfl)
theorem dX2_sumOf_33 : decode cX2_sumOf 33 = .ok (.iconst 2, 1) := dk_5 (dk_at dksX2_sumOf_1 10 rfl rfl)
theorem dX2_sumOf_34 : decode cX2_sumOf 34 = .ok (.iload 4, 2) := dk_21 4 (dk_at dksX2_sumOf_1 11 rfl rfl)
theorem dX2_sumOf_36 : decode cX2_sumOf 36 = .ok (.imul, 1) := dk_104 (dk_at dksX2_sumOf_1 13 rfl rfl)
theorem dX2_sumOf_37 : decode cX2_sumOf 37 = .ok (.iadd, 1) := dk_96 (dk_at dksX2_sumOf_1 14 rfl rfl)
theorem dX2_sumOf_38 : decode cX2_sumOf 38 = .ok (.iload_n 2, 1) := dk_28 (dk_at dksX2_sumOf_1 15 rfl rfl)
theorem dX2_sumOf_39 : decode cX2_sumOf 39 = .ok (.iadd, 1) := dk_96 (dk_at dksX2_sumOf_1 16 rfl rfl)
theorem dX2_sumOf_40 : decode cX2_sumOf 40 = .ok (.iaload, 1) := dk_46 (dk_at dksX2_sumOf_1 17 rfl rfl)
theorem dX2_sumOf_41 : decode cX2_sumOf 41 = .ok (.goto 4, 3) := dk_167 0 4 (dk_at dksX2_sumOf_1 18 rfl rfl)
theorem dX2_sumOf_44 : decode cX2_sumOf 44 = .ok (.iconst 0, 1) := dk_3 (dk_at dksX2_sumOf_1 21 rfl rfl)
theorem dX2_sumOf_45 : decode cX2_sumOf 45 = .ok (.iadd, 1) := dk_96 (dk_at dksX2_sumOf_1 22 rfl rfl)
theorem dX2_sumOf_46 : decode cX2_sumOf 46 = .ok (.istore_n 3, 1) := dk_62 (dk_at dksX2_sumOf_1 23 rfl rfl)
theorem dX2_sumOf_47 : decode cX2_sumOf 47 = .ok (.iinc 4 1, 3) := dk_132 4 1 (dk_at dksX2_sumOf_2 0 rfl rfl)
theorem dX2_sumOf_50 : decode cX2_sumOf 50 = .ok (.goto (-45), 3) := dk_167 255 211 (dk_at dksX2_sumOf_2 3 rfl rfl)
theorem dX2_sumOf_53 : decode cX2_sumOf 53 = .ok (.iload_n 3, 1) := dk_29 (dk_at dksX2_sumOf_2 6 rfl rfl)
theorem dX2_sumOf_54 : decode cX2_sumOf 54 = .ok (.ireturn, 1) := dk_172 (dk_at dksX2_sumOf_2 7 rfl rfl)
abbrev cX2_bits : ByteArray := prog_20_method_6_code
def yX2_bits : MethodName := ⟨RX2, "bits", "(I)I"⟩
def dkwX2_bits_0 : List UInt8 := [3, 60, 26, 61, 28, 153, 0, 15, 132, 1, 1, 28, 28, 4, 100, 126, 61, 167, 255, 243, 27, 172]
abbrev dktX2_bits_0 : List UInt8 := dkwX2_bits_0 ++ []
theorem dksX2_bits_0 : cX2_bits.data.toList.drop 0 = dktX2_bits_0 := by decide +kernel
theorem dX2_bits_0 : decode cX2_bits 0 = .ok (.iconst 0, 1) := dk_3 (dk_at dksX2_bits_0 0 rfl rfl)
theorem dX2_bits_1 : decode cX2_bits 1 = .ok (.istore_n 1, 1) := dk_60 (dk_at dksX2_bits_0 1 rfl rfl)
theorem dX2_bits_2 : decode cX2_bits 2 = .ok (.iload_n 0, 1) := dk_26 (dk_at dksX2_bits_0 2 rfl rfl)
theorem dX2_bits_3 : decode cX2_bits 3 = .ok (.istore_n 2, 1) := dk_61 (dk_at dksX2_bits_0 3 rfl rfl)
theorem dX2_bits_4 : decode cX2_bits 4 = .ok (.iload_n 2, 1) := dk_28 (dk_at dksX2_bits_0 4 rfl rfl)
theorem dX2_bits_5 : decode cX2_bits 5 = .ok (.ifCond .eq 15, 3) := dk_153 0 15 (dk_at dksX2_bits_0 5 rfl rfl)
theorem dX2_bits_8 : decode cX2_bits 8 = .ok (.iinc 1 1, 3) := dk_132 1 1 (dk_at dksX2_bits_0 8 rfl rfl)
theorem dX2_bits_11 : decode cX2_bits 11 = .ok (.iload_n 2, 1) := dk_28 (dk_at dksX2_bits_0 11 rfl rfl)
theorem dX2_bits_12 : decode cX2_bits 12 = .ok (.iload_n 2, 1) := dk_28 (dk_at dksX2_bits_0 12 rfl rfl)
theorem dX2_bits_13 : decode cX2_bits 13 = .ok (.iconst 1, 1) := dk_4 (dk_at dksX2_bits_0 13 rfl rfl)
theorem dX2_bits_14 : decode cX2_bits 14 = .ok (.isub, 1) := dk_100 (dk_at dksX2_bits_0 14 rfl rfl)
theorem dX2_bits_15 : decode cX2_bits 15 = .ok (.iand, 1) := dk_126 (dk_at dksX2_bits_0 15 rfl rfl)
theorem dX2_bits_16 : decode cX2_bits 16 = .ok (.istore_n 2, 1) := dk_61 (dk_at dksX2_bits_0 16 rfl rfl)
theorem dX2_bits_17 : decode cX2_bits 17 = .ok (.goto (-13), 3) := dk_167 255 243 (dk_at dksX2_bits_0 17 rfl rfl)
theorem dX2_bits_20 : decode cX2_bits 20 = .ok (.iload_n 1, 1) := dk_27 (dk_at dksX2_bits_0 20 rfl rfl)
theorem dX2_bits_21 : decode cX2_bits 21 = .ok (.ireturn, 1) := dk_172 (dk_at dksX2_bits_0 21 rfl rfl)
abbrev cX2_near : ByteArray := prog_20_method_139_code
def yX2_near : MethodName := ⟨RX2, "near", "(IIIZ)J"⟩
def dkwX2_near_2 : List UInt8 := [55, 7, 21, 4, 153, 0, 8, 22, 7, 167, 0, 5, 22, 5, 22, 5, 22, 7, 184, 1, 220, 109, 173]
abbrev dktX2_near_2 : List UInt8 := dkwX2_near_2 ++ []
def dkwX2_near_1 : List UInt8 := [184, 0, 72, 154, 0, 7, 20, 1, 215, 173, 27, 28, 29, 184, 1, 217, 55, 5, 27, 29, 29, 184, 1, 217]
abbrev dktX2_near_1 : List UInt8 := dkwX2_near_1 ++ dktX2_near_2
def dkwX2_near_0 : List UInt8 := [27, 4, 16, 9, 184, 0, 72, 153, 0, 22, 29, 4, 16, 12, 184, 0, 72, 153, 0, 12, 28, 3, 29]
abbrev dktX2_near_0 : List UInt8 := dkwX2_near_0 ++ dktX2_near_1
theorem dksX2_near_0 : cX2_near.data.toList.drop 0 = dktX2_near_0 := by decide +kernel
theorem dksX2_near_1 : cX2_near.data.toList.drop 23 = dktX2_near_1 := dk_seg dksX2_near_0 23 rfl rfl
theorem dksX2_near_2 : cX2_near.data.toList.drop 47 = dktX2_near_2 := dk_seg dksX2_near_1 24 rfl rfl
theorem dX2_near_0 : decode cX2_near 0 = .ok (.iload_n 1, 1) := dk_27 (dk_at dksX2_near_0 0 rfl rfl)
theorem dX2_near_1 : decode cX2_near 1 = .ok (.iconst 1, 1) := dk_4 (dk_at dksX2_near_0 1 rfl rfl)
theorem dX2_near_2 : decode cX2_near 2 = .ok (.bipush 9, 2) := dk_16 9 (dk_at dksX2_near_0 2 rfl rfl)
theorem dX2_near_4 : decode cX2_near 4 = .ok (.invokestatic 72, 3) := dk_184 0 72 (dk_at dksX2_near_0 4 rfl rfl)
theorem dX2_near_7 : decode cX2_near 7 = .ok (.ifCond .eq 22, 3) := dk_153 0 22 (dk_at dksX2_near_0 7 rfl rfl)
theorem dX2_near_10 : decode cX2_near 10 = .ok (.iload_n 3, 1) := dk_29 (dk_at dksX2_near_0 10 rfl rfl)
theorem dX2_near_11 : decode cX2_near 11 = .ok (.iconst 1, 1) := dk_4 (dk_at dksX2_near_0 11 rfl rfl)
theorem dX2_near_12 : decode cX2_near 12 = .ok (.bipush 12, 2) := dk_16 12 (dk_at dksX2_near_0 12 rfl rfl)
theorem dX2_near_14 : decode cX2_near 14 = .ok (.invokestatic 72, 3) := dk_184 0 72 (dk_at dksX2_near_0 14 rfl rfl)
theorem dX2_near_17 : decode cX2_near 17 = .ok (.ifCond .eq 12, 3) := dk_153 0 12 (dk_at dksX2_near_0 17 rfl rfl)
theorem dX2_near_20 : decode cX2_near 20 = .ok (.iload_n 2, 1) := dk_28 (dk_at dksX2_near_0 20 rfl rfl)
theorem dX2_near_21 : decode cX2_near 21 = .ok (.iconst 0, 1) := dk_3 (dk_at dksX2_near_0 21 rfl rfl)
theorem dX2_near_22 : decode cX2_near 22 = .ok (.iload_n 3, 1) := dk_29 (dk_at dksX2_near_0 22 rfl rfl)
theorem dX2_near_23 : decode cX2_near 23 = .ok (.invokestatic 72, 3) := dk_184 0 72 (dk_at dksX2_near_1 0 rfl rfl)
theorem dX2_near_26 : decode cX2_near 26 = .ok (.ifCond .ne 7, 3) := dk_154 0 7 (dk_at dksX2_near_1 3 rfl rfl)
theorem dX2_near_29 : decode cX2_near 29 = .ok (.ldc2_w 471, 3) := dk_20 1 215 (dk_at dksX2_near_1 6 rfl rfl)
theorem dX2_near_32 : decode cX2_near 32 = .ok (.lreturn, 1) := dk_173 (dk_at dksX2_near_1 9 rfl rfl)
theorem dX2_near_33 : decode cX2_near 33 = .ok (.iload_n 1, 1) := dk_27 (dk_at dksX2_near_1 10 rfl rfl)
theorem dX2_near_34 : decode cX2_near 34 = .ok (.iload_n 2, 1) := dk_28 (dk_at dksX2_near_1 11 rfl rfl)
theorem dX2_near_35 : decode cX2_near 35 = .ok (.iload_n 3, 1) := dk_29 (dk_at dksX2_near_1 12 rfl rfl)
theorem dX2_near_36 : decode cX2_near 36 = .ok (.invokestatic 473, 3) := dk_184 1 217 (dk_at dksX2_near_1 13 rfl rfl)
theorem dX2_near_39 : decode cX2_near 39 = .ok (.lstore 5, 2) := dk_55 5 (dk_at dksX2_near_1 16 rfl rfl)
theorem dX2_near_41 : decode cX2_near 41 = .ok (.iload_n 1, 1) := dk_27 (dk_at dksX2_near_1 18 rfl rfl)
theorem dX2_near_42 : decode cX2_near 42 = .ok (.iload_n 3, 1) := dk_29 (dk_at dksX2_near_1 19 rfl rfl)
theorem dX2_near_43 : decode cX2_near 43 = .ok (.iload_n 3, 1) := dk_29 (dk_at dksX2_near_1 20 rfl rfl)
theorem dX2_near_44 : decode cX2_near 44 = .ok (.invokestatic 473, 3) := dk_184 1 217 (dk_at dksX2_near_1 21 rfl rfl)
theorem dX2_near_47 : decode cX2_near 47 = .ok (.lstore 7, 2) := dk_55 7 (dk_at dksX2_near_2 0 rfl rfl)
theorem dX2_near_49 : decode cX2_near 49 = .ok (.iload 4, 2) := dk_21 4 (dk_at dksX2_near_2 2 rfl rfl)
theorem dX2_near_51 : decode cX2_near 51 = .ok (.ifCond .eq 8, 3) := dk_153 0 8 (dk_at dksX2_near_2 4 rfl rfl)
theorem dX2_near_54 : decode cX2_near 54 = .ok (.lload 7, 2) := dk_22 7 (dk_at dksX2_near_2 7 rfl rfl)
theorem dX2_near_56 : decode cX2_near 56 = .ok (.goto 5, 3) := dk_167 0 5 (dk_at dksX2_near_2 9 rfl rfl)
theorem dX2_near_59 : decode cX2_near 59 = .ok (.lload 5, 2) := dk_22 5 (dk_at dksX2_near_2 12 rfl rfl)
theorem dX2_near_61 : decode cX2_near 61 = .ok (.lload 5, 2) := dk_22 5 (dk_at dksX2_near_2 14 rfl rfl)
theorem dX2_near_63 : decode cX2_near 63 = .ok (.lload 7, 2) := dk_22 7 (dk_at dksX2_near_2 16 rfl rfl)
theorem dX2_near_65 : decode cX2_near 65 = .ok (.invokestatic 476, 3) := dk_184 1 220 (dk_at dksX2_near_2 18 rfl rfl)
theorem dX2_near_68 : decode cX2_near 68 = .ok (.ldiv, 1) := dk_109 (dk_at dksX2_near_2 21 rfl rfl)
theorem dX2_near_69 : decode cX2_near 69 = .ok (.lreturn, 1) := dk_173 (dk_at dksX2_near_2 22 rfl rfl)
abbrev cX2_waysOf : ByteArray := prog_20_method_137_code
def yX2_waysOf : MethodName := ⟨RX2, "waysOf", "(III)J"⟩
def dkwX2_waysOf_2 : List UInt8 := [55, 6, 132, 8, 1, 167, 255, 223, 33, 22, 6, 97, 66, 132, 5, 1, 167, 255, 200, 33, 173]
abbrev dktX2_waysOf_2 : List UInt8 := dkwX2_waysOf_2 ++ []
def dkwX2_waysOf_1 : List UInt8 := [162, 0, 31, 22, 6, 21, 8, 21, 5, 162, 0, 11, 16, 10, 26, 100, 133, 167, 0, 5, 26, 133, 105]
abbrev dktX2_waysOf_1 : List UInt8 := dkwX2_waysOf_1 ++ dktX2_waysOf_2
def dkwX2_waysOf_0 : List UInt8 := [9, 66, 3, 54, 5, 21, 5, 27, 162, 0, 56, 10, 55, 6, 3, 54, 8, 21, 8, 28, 4, 100]
abbrev dktX2_waysOf_0 : List UInt8 := dkwX2_waysOf_0 ++ dktX2_waysOf_1
theorem dksX2_waysOf_0 : cX2_waysOf.data.toList.drop 0 = dktX2_waysOf_0 := by decide +kernel
theorem dksX2_waysOf_1 : cX2_waysOf.data.toList.drop 22 = dktX2_waysOf_1 := dk_seg dksX2_waysOf_0 22 rfl rfl
theorem dksX2_waysOf_2 : cX2_waysOf.data.toList.drop 45 = dktX2_waysOf_2 := dk_seg dksX2_waysOf_1 23 rfl rfl
theorem dX2_waysOf_0 : decode cX2_waysOf 0 = .ok (.lconst 0, 1) := dk_9 (dk_at dksX2_waysOf_0 0 rfl rfl)
theorem dX2_waysOf_1 : decode cX2_waysOf 1 = .ok (.lstore_n 3, 1) := dk_66 (dk_at dksX2_waysOf_0 1 rfl rfl)
theorem dX2_waysOf_2 : decode cX2_waysOf 2 = .ok (.iconst 0, 1) := dk_3 (dk_at dksX2_waysOf_0 2 rfl rfl)
theorem dX2_waysOf_3 : decode cX2_waysOf 3 = .ok (.istore 5, 2) := dk_54 5 (dk_at dksX2_waysOf_0 3 rfl rfl)
theorem dX2_waysOf_5 : decode cX2_waysOf 5 = .ok (.iload 5, 2) := dk_21 5 (dk_at dksX2_waysOf_0 5 rfl rfl)
theorem dX2_waysOf_7 : decode cX2_waysOf 7 = .ok (.iload_n 1, 1) := dk_27 (dk_at dksX2_waysOf_0 7 rfl rfl)
theorem dX2_waysOf_8 : decode cX2_waysOf 8 = .ok (.if_icmp .ge 56, 3) := dk_162 0 56 (dk_at dksX2_waysOf_0 8 rfl rfl)
theorem dX2_waysOf_11 : decode cX2_waysOf 11 = .ok (.lconst 1, 1) := dk_10 (dk_at dksX2_waysOf_0 11 rfl rfl)
theorem dX2_waysOf_12 : decode cX2_waysOf 12 = .ok (.lstore 6, 2) := dk_55 6 (dk_at dksX2_waysOf_0 12 rfl rfl)
theorem dX2_waysOf_14 : decode cX2_waysOf 14 = .ok (.iconst 0, 1) := dk_3 (dk_at dksX2_waysOf_0 14 rfl rfl)
theorem dX2_waysOf_15 : decode cX2_waysOf 15 = .ok (.istore 8, 2) := dk_54 8 (dk_at dksX2_waysOf_0 15 rfl rfl)
theorem dX2_waysOf_17 : decode cX2_waysOf 17 = .ok (.iload 8, 2) := dk_21 8 (dk_at dksX2_waysOf_0 17 rfl rfl)
theorem dX2_waysOf_19 : decode cX2_waysOf 19 = .ok (.iload_n 2, 1) := dk_28 (dk_at dksX2_waysOf_0 19 rfl rfl)
theorem dX2_waysOf_20 : decode cX2_waysOf 20 = .ok (.iconst 1, 1) := dk_4 (dk_at dksX2_waysOf_0 20 rfl rfl)
theorem dX2_waysOf_21 : decode cX2_waysOf 21 = .ok (.isub, 1) := dk_100 (dk_at dksX2_waysOf_0 21 rfl rfl)
theorem dX2_waysOf_22 : decode cX2_waysOf 22 = .ok (.if_icmp .ge 31, 3) := dk_162 0 31 (dk_at dksX2_waysOf_1 0 rfl rfl)
theorem dX2_waysOf_25 : decode cX2_waysOf 25 = .ok (.lload 6, 2) := dk_22 6 (dk_at dksX2_waysOf_1 3 rfl rfl)
theorem dX2_waysOf_27 : decode cX2_waysOf 27 = .ok (.iload 8, 2) := dk_21 8 (dk_at dksX2_waysOf_1 5 rfl rfl)
theorem dX2_waysOf_29 : decode cX2_waysOf 29 = .ok (.iload 5, 2) := dk_21 5 (dk_at dksX2_waysOf_1 7 rfl rfl)
theorem dX2_waysOf_31 : decode cX2_waysOf 31 = .ok (.if_icmp .ge 11, 3) := dk_162 0 11 (dk_at dksX2_waysOf_1 9 rfl rfl)
theorem dX2_waysOf_34 : decode cX2_waysOf 34 = .ok (.bipush 10, 2) := dk_16 10 (dk_at dksX2_waysOf_1 12 rfl rfl)
theorem dX2_waysOf_36 : decode cX2_waysOf 36 = .ok (.iload_n 0, 1) := dk_26 (dk_at dksX2_waysOf_1 14 rfl rfl)
theorem dX2_waysOf_37 : decode cX2_waysOf 37 = .ok (.isub, 1) := dk_100 (dk_at dksX2_waysOf_1 15 rfl rfl)
theorem dX2_waysOf_38 : decode cX2_waysOf 38 = .ok (.i2l, 1) := dk_133 (dk_at dksX2_waysOf_1 16 rfl rfl)
theorem dX2_waysOf_39 : decode cX2_waysOf 39 = .ok (.goto 5, 3) := dk_167 0 5 (dk_at dksX2_waysOf_1 17 rfl rfl)
theorem dX2_waysOf_42 : decode cX2_waysOf 42 = .ok (.iload_n 0, 1) := dk_26 (dk_at dksX2_waysOf_1 20 rfl rfl)
theorem dX2_waysOf_43 : decode cX2_waysOf 43 = .ok (.i2l, 1) := dk_133 (dk_at dksX2_waysOf_1 21 rfl rfl)
theorem dX2_waysOf_44 : decode cX2_waysOf 44 = .ok (.lmul, 1) := dk_105 (dk_at dksX2_waysOf_1 22 rfl rfl)
theorem dX2_waysOf_45 : decode cX2_waysOf 45 = .ok (.lstore 6, 2) := dk_55 6 (dk_at dksX2_waysOf_2 0 rfl rfl)
theorem dX2_waysOf_47 : decode cX2_waysOf 47 = .ok (.iinc 8 1, 3) := dk_132 8 1 (dk_at dksX2_waysOf_2 2 rfl rfl)
theorem dX2_waysOf_50 : decode cX2_waysOf 50 = .ok (.goto (-33), 3) := dk_167 255 223 (dk_at dksX2_waysOf_2 5 rfl rfl)
theorem dX2_waysOf_53 : decode cX2_waysOf 53 = .ok (.lload_n 3, 1) := dk_33 (dk_at dksX2_waysOf_2 8 rfl rfl)
theorem dX2_waysOf_54 : decode cX2_waysOf 54 = .ok (.lload 6, 2) := dk_22 6 (dk_at dksX2_waysOf_2 9 rfl rfl)
theorem dX2_waysOf_56 : decode cX2_waysOf 56 = .ok (.ladd, 1) := dk_97 (dk_at dksX2_waysOf_2 11 rfl rfl)
theorem dX2_waysOf_57 : decode cX2_waysOf 57 = .ok (.lstore_n 3, 1) := dk_66 (dk_at dksX2_waysOf_2 12 rfl rfl)
theorem dX2_waysOf_58 : decode cX2_waysOf 58 = .ok (.iinc 5 1, 3) := dk_132 5 1 (dk_at dksX2_waysOf_2 13 rfl rfl)
theorem dX2_waysOf_61 : decode cX2_waysOf 61 = .ok (.goto (-56), 3) := dk_167 255 200 (dk_at dksX2_waysOf_2 16 rfl rfl)
theorem dX2_waysOf_64 : decode cX2_waysOf 64 = .ok (.lload_n 3, 1) := dk_33 (dk_at dksX2_waysOf_2 19 rfl rfl)
theorem dX2_waysOf_65 : decode cX2_waysOf 65 = .ok (.lreturn, 1) := dk_173 (dk_at dksX2_waysOf_2 20 rfl rfl)
abbrev cX2_longDivisor : ByteArray := prog_20_method_138_code
def yX2_longDivisor : MethodName := ⟨RX2, "longDivisor", "(JJ)J"⟩
def dkwX2_longDivisor_1 : List UInt8 := [22, 8, 55, 6, 167, 255, 234, 22, 4, 173]
abbrev dktX2_longDivisor_1 : List UInt8 := dkwX2_longDivisor_1 ++ []
def dkwX2_longDivisor_0 : List UInt8 := [30, 55, 4, 32, 55, 6, 22, 6, 9, 148, 153, 0, 21, 22, 4, 22, 6, 113, 55, 8, 22, 6, 55, 4]
abbrev dktX2_longDivisor_0 : List UInt8 := dkwX2_longDivisor_0 ++ dktX2_longDivisor_1
theorem dksX2_longDivisor_0 : cX2_longDivisor.data.toList.drop 0 = dktX2_longDivisor_0 := by decide +kernel
theorem dksX2_longDivisor_1 : cX2_longDivisor.data.toList.drop 24 = dktX2_longDivisor_1 := dk_seg dksX2_longDivisor_0 24 rfl rfl
theorem dX2_longDivisor_0 : decode cX2_longDivisor 0 = .ok (.lload_n 0, 1) := dk_30 (dk_at dksX2_longDivisor_0 0 rfl rfl)
theorem dX2_longDivisor_1 : decode cX2_longDivisor 1 = .ok (.lstore 4, 2) := dk_55 4 (dk_at dksX2_longDivisor_0 1 rfl rfl)
theorem dX2_longDivisor_3 : decode cX2_longDivisor 3 = .ok (.lload_n 2, 1) := dk_32 (dk_at dksX2_longDivisor_0 3 rfl rfl)
theorem dX2_longDivisor_4 : decode cX2_longDivisor 4 = .ok (.lstore 6, 2) := dk_55 6 (dk_at dksX2_longDivisor_0 4 rfl rfl)
theorem dX2_longDivisor_6 : decode cX2_longDivisor 6 = .ok (.lload 6, 2) := dk_22 6 (dk_at dksX2_longDivisor_0 6 rfl rfl)
theorem dX2_longDivisor_8 : decode cX2_longDivisor 8 = .ok (.lconst 0, 1) := dk_9 (dk_at dksX2_longDivisor_0 8 rfl rfl)
theorem dX2_longDivisor_9 : decode cX2_longDivisor 9 = .ok (.lcmp, 1) := dk_148 (dk_at dksX2_longDivisor_0 9 rfl rfl)
theorem dX2_longDivisor_10 : decode cX2_longDivisor 10 = .ok (.ifCond .eq 21, 3) := dk_153 0 21 (dk_at dksX2_longDivisor_0 10 rfl rfl)
theorem dX2_longDivisor_13 : decode cX2_longDivisor 13 = .ok (.lload 4, 2) := dk_22 4 (dk_at dksX2_longDivisor_0 13 rfl rfl)
theorem dX2_longDivisor_15 : decode cX2_longDivisor 15 = .ok (.lload 6, 2) := dk_22 6 (dk_at dksX2_longDivisor_0 15 rfl rfl)
theorem dX2_longDivisor_17 : decode cX2_longDivisor 17 = .ok (.lrem, 1) := dk_113 (dk_at dksX2_longDivisor_0 17 rfl rfl)
theorem dX2_longDivisor_18 : decode cX2_longDivisor 18 = .ok (.lstore 8, 2) := dk_55 8 (dk_at dksX2_longDivisor_0 18 rfl rfl)
theorem dX2_longDivisor_20 : decode cX2_longDivisor 20 = .ok (.lload 6, 2) := dk_22 6 (dk_at dksX2_longDivisor_0 20 rfl rfl)
theorem dX2_longDivisor_22 : decode cX2_longDivisor 22 = .ok (.lstore 4, 2) := dk_55 4 (dk_at dksX2_longDivisor_0 22 rfl rfl)
theorem dX2_longDivisor_24 : decode cX2_longDivisor 24 = .ok (.lload 8, 2) := dk_22 8 (dk_at dksX2_longDivisor_1 0 rfl rfl)
theorem dX2_longDivisor_26 : decode cX2_longDivisor 26 = .ok (.lstore 6, 2) := dk_55 6 (dk_at dksX2_longDivisor_1 2 rfl rfl)
theorem dX2_longDivisor_28 : decode cX2_longDivisor 28 = .ok (.goto (-22), 3) := dk_167 255 234 (dk_at dksX2_longDivisor_1 4 rfl rfl)
theorem dX2_longDivisor_31 : decode cX2_longDivisor 31 = .ok (.lload 4, 2) := dk_22 4 (dk_at dksX2_longDivisor_1 7 rfl rfl)
theorem dX2_longDivisor_33 : decode cX2_longDivisor 33 = .ok (.lreturn, 1) := dk_173 (dk_at dksX2_longDivisor_1 9 rfl rfl)
abbrev cX2_game : ByteArray := prog_20_method_145_code
def yX2_game : MethodName := ⟨RX2, "game", "(II)I"⟩
def dkwX2_game_3 : List UInt8 := [167, 0, 4, 4, 172]
abbrev dktX2_game_3 : List UInt8 := dkwX2_game_3 ++ []
def dkwX2_game_2 : List UInt8 := [62, 132, 4, 1, 167, 255, 230, 42, 29, 182, 1, 236, 42, 29, 182, 1, 233, 2, 160, 0, 7, 3]
abbrev dktX2_game_2 : List UInt8 := dkwX2_game_2 ++ dktX2_game_3
def dkwX2_game_1 : List UInt8 := [54, 4, 21, 4, 8, 162, 0, 26, 16, 6, 29, 104, 21, 4, 27, 162, 0, 7, 28, 167, 0, 4, 3, 96]
abbrev dktX2_game_1 : List UInt8 := dkwX2_game_1 ++ dktX2_game_2
def dkwX2_game_0 : List UInt8 := [27, 4, 8, 184, 0, 72, 153, 0, 12, 28, 4, 8, 184, 0, 72, 154, 0, 5, 2, 172, 3, 62, 3]
abbrev dktX2_game_0 : List UInt8 := dkwX2_game_0 ++ dktX2_game_1
theorem dksX2_game_0 : cX2_game.data.toList.drop 0 = dktX2_game_0 := by decide +kernel
theorem dksX2_game_1 : cX2_game.data.toList.drop 23 = dktX2_game_1 := dk_seg dksX2_game_0 23 rfl rfl
theorem dksX2_game_2 : cX2_game.data.toList.drop 47 = dktX2_game_2 := dk_seg dksX2_game_1 24 rfl rfl
theorem dksX2_game_3 : cX2_game.data.toList.drop 69 = dktX2_game_3 := dk_seg dksX2_game_2 22 rfl rfl
theorem dX2_game_0 : decode cX2_game 0 = .ok (.iload_n 1, 1) := dk_27 (dk_at dksX2_game_0 0 rfl rfl)
theorem dX2_game_1 : decode cX2_game 1 = .ok (.iconst 1, 1) := dk_4 (dk_at dksX2_game_0 1 rfl rfl)
theorem dX2_game_2 : decode cX2_game 2 = .ok (.iconst 5, 1) := dk_8 (dk_at dksX2_game_0 2 rfl rfl)
theorem dX2_game_3 : decode cX2_game 3 = .ok (.invokestatic 72, 3) := dk_184 0 72 (dk_at dksX2_game_0 3 rfl rfl)
theorem dX2_game_6 : decode cX2_game 6 = .ok (.ifCond .eq 12, 3) := dk_153 0 12 (dk_at dksX2_game_0 6 rfl rfl)
theorem dX2_game_9 : decode cX2_game 9 = .ok (.iload_n 2, 1) := dk_28 (dk_at dksX2_game_0 9 rfl rfl)
theorem dX2_game_10 : decode cX2_game 10 = .ok (.iconst 1, 1) := dk_4 (dk_at dksX2_game_0 10 rfl rfl)
theorem dX2_game_11 : decode cX2_game 11 = .ok (.iconst 5, 1) := dk_8 (dk_at dksX2_game_0 11 rfl rfl)
theorem dX2_game_12 : decode cX2_game 12 = .ok (.invokestatic 72, 3) := dk_184 0 72 (dk_at dksX2_game_0 12 rfl rfl)
theorem dX2_game_15 : decode cX2_game 15 = .ok (.ifCond .ne 5, 3) := dk_154 0 5 (dk_at dksX2_game_0 15 rfl rfl)
theorem dX2_game_18 : decode cX2_game 18 = .ok (.iconst (-1), 1) := dk_2 (dk_at dksX2_game_0 18 rfl rfl)
theorem dX2_game_19 : decode cX2_game 19 = .ok (.ireturn, 1) := dk_172 (dk_at dksX2_game_0 19 rfl rfl)
theorem dX2_game_20 : decode cX2_game 20 = .ok (.iconst 0, 1) := dk_3 (dk_at dksX2_game_0 20 rfl rfl)
theorem dX2_game_21 : decode cX2_game 21 = .ok (.istore_n 3, 1) := dk_62 (dk_at dksX2_game_0 21 rfl rfl)
theorem dX2_game_22 : decode cX2_game 22 = .ok (.iconst 0, 1) := dk_3 (dk_at dksX2_game_0 22 rfl rfl)
theorem dX2_game_23 : decode cX2_game 23 = .ok (.istore 4, 2) := dk_54 4 (dk_at dksX2_game_1 0 rfl rfl)
theorem dX2_game_25 : decode cX2_game 25 = .ok (.iload 4, 2) := dk_21 4 (dk_at dksX2_game_1 2 rfl rfl)
theorem dX2_game_27 : decode cX2_game 27 = .ok (.iconst 5, 1) := dk_8 (dk_at dksX2_game_1 4 rfl rfl)
theorem dX2_game_28 : decode cX2_game 28 = .ok (.if_icmp .ge 26, 3) := dk_162 0 26 (dk_at dksX2_game_1 5 rfl rfl)
theorem dX2_game_31 : decode cX2_game 31 = .ok (.bipush 6, 2) := dk_16 6 (dk_at dksX2_game_1 8 rfl rfl)
theorem dX2_game_33 : decode cX2_game 33 = .ok (.iload_n 3, 1) := dk_29 (dk_at dksX2_game_1 10 rfl rfl)
theorem dX2_game_34 : decode cX2_game 34 = .ok (.imul, 1) := dk_104 (dk_at dksX2_game_1 11 rfl rfl)
theorem dX2_game_35 : decode cX2_game 35 = .ok (.iload 4, 2) := dk_21 4 (dk_at dksX2_game_1 12 rfl rfl)
theorem dX2_game_37 : decode cX2_game 37 = .ok (.iload_n 1, 1) := dk_27 (dk_at dksX2_game_1 14 rfl rfl)
theorem dX2_game_38 : decode cX2_game 38 = .ok (.if_icmp .ge 7, 3) := dk_162 0 7 (dk_at dksX2_game_1 15 rfl rfl)
theorem dX2_game_41 : decode cX2_game 41 = .ok (.iload_n 2, 1) := dk_28 (dk_at dksX2_game_1 18 rfl rfl)
theorem dX2_game_42 : decode cX2_game 42 = .ok (.goto 4, 3) := dk_167 0 4 (dk_at dksX2_game_1 19 rfl rfl)
theorem dX2_game_45 : decode cX2_game 45 = .ok (.iconst 0, 1) := dk_3 (dk_at dksX2_game_1 22 rfl rfl)
theorem dX2_game_46 : decode cX2_game 46 = .ok (.iadd, 1) := dk_96 (dk_at dksX2_game_1 23 rfl rfl)
theorem dX2_game_47 : decode cX2_game 47 = .ok (.istore_n 3, 1) := dk_62 (dk_at dksX2_game_2 0 rfl rfl)
theorem dX2_game_48 : decode cX2_game 48 = .ok (.iinc 4 1, 3) := dk_132 4 1 (dk_at dksX2_game_2 1 rfl rfl)
theorem dX2_game_51 : decode cX2_game 51 = .ok (.goto (-26), 3) := dk_167 255 230 (dk_at dksX2_game_2 4 rfl rfl)
theorem dX2_game_54 : decode cX2_game 54 = .ok (.aload_n 0, 1) := dk_42 (dk_at dksX2_game_2 7 rfl rfl)
theorem dX2_game_55 : decode cX2_game 55 = .ok (.iload_n 3, 1) := dk_29 (dk_at dksX2_game_2 8 rfl rfl)
theorem dX2_game_56 : decode cX2_game 56 = .ok (.invokevirtual 492, 3) := dk_182 1 236 (dk_at dksX2_game_2 9 rfl rfl)
theorem dX2_game_59 : decode cX2_game 59 = .ok (.aload_n 0, 1) := dk_42 (dk_at dksX2_game_2 12 rfl rfl)
theorem dX2_game_60 : decode cX2_game 60 = .ok (.iload_n 3, 1) := dk_29 (dk_at dksX2_game_2 13 rfl rfl)
theorem dX2_game_61 : decode cX2_game 61 = .ok (.invokevirtual 489, 3) := dk_182 1 233 (dk_at dksX2_game_2 14 rfl rfl)
theorem dX2_game_64 : decode cX2_game 64 = .ok (.iconst (-1), 1) := dk_2 (dk_at dksX2_game_2 17 rfl rfl)
theorem dX2_game_65 : decode cX2_game 65 = .ok (.if_icmp .ne 7, 3) := dk_160 0 7 (dk_at dksX2_game_2 18 rfl rfl)
theorem dX2_game_68 : decode cX2_game 68 = .ok (.iconst 0, 1) := dk_3 (dk_at dksX2_game_2 21 rfl rfl)
theorem dX2_game_69 : decode cX2_game 69 = .ok (.goto 4, 3) := dk_167 0 4 (dk_at dksX2_game_3 0 rfl rfl)
theorem dX2_game_72 : decode cX2_game 72 = .ok (.iconst 1, 1) := dk_4 (dk_at dksX2_game_3 3 rfl rfl)
theorem dX2_game_73 : decode cX2_game 73 = .ok (.ireturn, 1) := dk_172 (dk_at dksX2_game_3 4 rfl rfl)
abbrev cX2_layWins : ByteArray := prog_20_method_144_code
def yX2_layWins : MethodName := ⟨RX2, "layWins", "(I)V"⟩
def dkwX2_layWins_2 : List UInt8 := [167, 255, 221, 177]
abbrev dktX2_layWins_2 : List UInt8 := dkwX2_layWins_2 ++ []
def dkwX2_layWins_1 : List UInt8 := [180, 0, 65, 28, 42, 28, 182, 1, 233, 2, 159, 0, 7, 4, 167, 0, 4, 3, 84, 132, 2, 1]
abbrev dktX2_layWins_1 : List UInt8 := dkwX2_layWins_1 ++ dktX2_layWins_2
def dkwX2_layWins_0 : List UInt8 := [42, 180, 0, 65, 3, 4, 84, 4, 61, 28, 27, 162, 0, 36, 28, 184, 1, 230, 153, 0, 23, 42]
abbrev dktX2_layWins_0 : List UInt8 := dkwX2_layWins_0 ++ dktX2_layWins_1
theorem dksX2_layWins_0 : cX2_layWins.data.toList.drop 0 = dktX2_layWins_0 := by decide +kernel
theorem dksX2_layWins_1 : cX2_layWins.data.toList.drop 22 = dktX2_layWins_1 := dk_seg dksX2_layWins_0 22 rfl rfl
theorem dksX2_layWins_2 : cX2_layWins.data.toList.drop 44 = dktX2_layWins_2 := dk_seg dksX2_layWins_1 22 rfl rfl
theorem dX2_layWins_0 : decode cX2_layWins 0 = .ok (.aload_n 0, 1) := dk_42 (dk_at dksX2_layWins_0 0 rfl rfl)
theorem dX2_layWins_1 : decode cX2_layWins 1 = .ok (.getfield 65, 3) := dk_180 0 65 (dk_at dksX2_layWins_0 1 rfl rfl)
theorem dX2_layWins_4 : decode cX2_layWins 4 = .ok (.iconst 0, 1) := dk_3 (dk_at dksX2_layWins_0 4 rfl rfl)
theorem dX2_layWins_5 : decode cX2_layWins 5 = .ok (.iconst 1, 1) := dk_4 (dk_at dksX2_layWins_0 5 rfl rfl)
theorem dX2_layWins_6 : decode cX2_layWins 6 = .ok (.bastore, 1) := dk_84 (dk_at dksX2_layWins_0 6 rfl rfl)
theorem dX2_layWins_7 : decode cX2_layWins 7 = .ok (.iconst 1, 1) := dk_4 (dk_at dksX2_layWins_0 7 rfl rfl)
theorem dX2_layWins_8 : decode cX2_layWins 8 = .ok (.istore_n 2, 1) := dk_61 (dk_at dksX2_layWins_0 8 rfl rfl)
theorem dX2_layWins_9 : decode cX2_layWins 9 = .ok (.iload_n 2, 1) := dk_28 (dk_at dksX2_layWins_0 9 rfl rfl)
theorem dX2_layWins_10 : decode cX2_layWins 10 = .ok (.iload_n 1, 1) := dk_27 (dk_at dksX2_layWins_0 10 rfl rfl)
theorem dX2_layWins_11 : decode cX2_layWins 11 = .ok (.if_icmp .ge 36, 3) := dk_162 0 36 (dk_at dksX2_layWins_0 11 rfl rfl)
theorem dX2_layWins_14 : decode cX2_layWins 14 = .ok (.iload_n 2, 1) := dk_28 (dk_at dksX2_layWins_0 14 rfl rfl)
theorem dX2_layWins_15 : decode cX2_layWins 15 = .ok (.invokestatic 486, 3) := dk_184 1 230 (dk_at dksX2_layWins_0 15 rfl rfl)
theorem dX2_layWins_18 : decode cX2_layWins 18 = .ok (.ifCond .eq 23, 3) := dk_153 0 23 (dk_at dksX2_layWins_0 18 rfl rfl)
theorem dX2_layWins_21 : decode cX2_layWins 21 = .ok (.aload_n 0, 1) := dk_42 (dk_at dksX2_layWins_0 21 rfl rfl)
theorem dX2_layWins_22 : decode cX2_layWins 22 = .ok (.getfield 65, 3) := dk_180 0 65 (dk_at dksX2_layWins_1 0 rfl rfl)
theorem dX2_layWins_25 : decode cX2_layWins 25 = .ok (.iload_n 2, 1) := dk_28 (dk_at dksX2_layWins_1 3 rfl rfl)
theorem dX2_layWins_26 : decode cX2_layWins 26 = .ok (.aload_n 0, 1) := dk_42 (dk_at dksX2_layWins_1 4 rfl rfl)
theorem dX2_layWins_27 : decode cX2_layWins 27 = .ok (.iload_n 2, 1) := dk_28 (dk_at dksX2_layWins_1 5 rfl rfl)
theorem dX2_layWins_28 : decode cX2_layWins 28 = .ok (.invokevirtual 489, 3) := dk_182 1 233 (dk_at dksX2_layWins_1 6 rfl rfl)
theorem dX2_layWins_31 : decode cX2_layWins 31 = .ok (.iconst (-1), 1) := dk_2 (dk_at dksX2_layWins_1 9 rfl rfl)
theorem dX2_layWins_32 : decode cX2_layWins 32 = .ok (.if_icmp .eq 7, 3) := dk_159 0 7 (dk_at dksX2_layWins_1 10 rfl rfl)
theorem dX2_layWins_35 : decode cX2_layWins 35 = .ok (.iconst 1, 1) := dk_4 (dk_at dksX2_layWins_1 13 rfl rfl)
theorem dX2_layWins_36 : decode cX2_layWins 36 = .ok (.goto 4, 3) := dk_167 0 4 (dk_at dksX2_layWins_1 14 rfl rfl)
theorem dX2_layWins_39 : decode cX2_layWins 39 = .ok (.iconst 0, 1) := dk_3 (dk_at dksX2_layWins_1 17 rfl rfl)
theorem dX2_layWins_40 : decode cX2_layWins 40 = .ok (.bastore, 1) := dk_84 (dk_at dksX2_layWins_1 18 rfl rfl)
theorem dX2_layWins_41 : decode cX2_layWins 41 = .ok (.iinc 2 1, 3) := dk_132 2 1 (dk_at dksX2_layWins_1 19 rfl rfl)
theorem dX2_layWins_44 : decode cX2_layWins 44 = .ok (.goto (-35), 3) := dk_167 255 221 (dk_at dksX2_layWins_2 0 rfl rfl)
theorem dX2_layWins_47 : decode cX2_layWins 47 = .ok (.return_, 1) := dk_177 (dk_at dksX2_layWins_2 3 rfl rfl)
abbrev cX2_isShape : ByteArray := prog_20_method_141_code
def yX2_isShape : MethodName := ⟨RX2, "isShape", "(I)Z"⟩
def dkwX2_isShape_1 : List UInt8 := [132, 1, 1, 167, 255, 231, 4, 172]
abbrev dktX2_isShape_1 : List UInt8 := dkwX2_isShape_1 ++ []
def dkwX2_isShape_0 : List UInt8 := [4, 60, 27, 8, 162, 0, 26, 26, 27, 184, 1, 224, 26, 27, 4, 100, 184, 1, 224, 164, 0, 5, 3, 172]
abbrev dktX2_isShape_0 : List UInt8 := dkwX2_isShape_0 ++ dktX2_isShape_1
theorem dksX2_isShape_0 : cX2_isShape.data.toList.drop 0 = dktX2_isShape_0 := by decide +kernel
theorem dksX2_isShape_1 : cX2_isShape.data.toList.drop 24 = dktX2_isShape_1 := dk_seg dksX2_isShape_0 24 rfl rfl
theorem dX2_isShape_0 : decode cX2_isShape 0 = .ok (.iconst 1, 1) := dk_4 (dk_at dksX2_isShape_0 0 rfl rfl)
theorem dX2_isShape_1 : decode cX2_isShape 1 = .ok (.istore_n 1, 1) := dk_60 (dk_at dksX2_isShape_0 1 rfl rfl)
theorem dX2_isShape_2 : decode cX2_isShape 2 = .ok (.iload_n 1, 1) := dk_27 (dk_at dksX2_isShape_0 2 rfl rfl)
theorem dX2_isShape_3 : decode cX2_isShape 3 = .ok (.iconst 5, 1) := dk_8 (dk_at dksX2_isShape_0 3 rfl rfl)
theorem dX2_isShape_4 : decode cX2_isShape 4 = .ok (.if_icmp .ge 26, 3) := dk_162 0 26 (dk_at dksX2_isShape_0 4 rfl rfl)
theorem dX2_isShape_7 : decode cX2_isShape 7 = .ok (.iload_n 0, 1) := dk_26 (dk_at dksX2_isShape_0 7 rfl rfl)
theorem dX2_isShape_8 : decode cX2_isShape 8 = .ok (.iload_n 1, 1) := dk_27 (dk_at dksX2_isShape_0 8 rfl rfl)
theorem dX2_isShape_9 : decode cX2_isShape 9 = .ok (.invokestatic 480, 3) := dk_184 1 224 (dk_at dksX2_isShape_0 9 rfl rfl)
theorem dX2_isShape_12 : decode cX2_isShape 12 = .ok (.iload_n 0, 1) := dk_26 (dk_at dksX2_isShape_0 12 rfl rfl)
theorem dX2_isShape_13 : decode cX2_isShape 13 = .ok (.iload_n 1, 1) := dk_27 (dk_at dksX2_isShape_0 13 rfl rfl)
theorem dX2_isShape_14 : decode cX2_isShape 14 = .ok (.iconst 1, 1) := dk_4 (dk_at dksX2_isShape_0 14 rfl rfl)
theorem dX2_isShape_15 : decode cX2_isShape 15 = .ok (.isub, 1) := dk_100 (dk_at dksX2_isShape_0 15 rfl rfl)
theorem dX2_isShape_16 : decode cX2_isShape 16 = .ok (.invokestatic 480, 3) := dk_184 1 224 (dk_at dksX2_isShape_0 16 rfl rfl)
theorem dX2_isShape_19 : decode cX2_isShape 19 = .ok (.if_icmp .le 5, 3) := dk_164 0 5 (dk_at dksX2_isShape_0 19 rfl rfl)
theorem dX2_isShape_22 : decode cX2_isShape 22 = .ok (.iconst 0, 1) := dk_3 (dk_at dksX2_isShape_0 22 rfl rfl)
theorem dX2_isShape_23 : decode cX2_isShape 23 = .ok (.ireturn, 1) := dk_172 (dk_at dksX2_isShape_0 23 rfl rfl)
theorem dX2_isShape_24 : decode cX2_isShape 24 = .ok (.iinc 1 1, 3) := dk_132 1 1 (dk_at dksX2_isShape_1 0 rfl rfl)
theorem dX2_isShape_27 : decode cX2_isShape 27 = .ok (.goto (-25), 3) := dk_167 255 231 (dk_at dksX2_isShape_1 3 rfl rfl)
theorem dX2_isShape_30 : decode cX2_isShape 30 = .ok (.iconst 1, 1) := dk_4 (dk_at dksX2_isShape_1 6 rfl rfl)
theorem dX2_isShape_31 : decode cX2_isShape 31 = .ok (.ireturn, 1) := dk_172 (dk_at dksX2_isShape_1 7 rfl rfl)
abbrev cX2_rowOf : ByteArray := prog_20_method_140_code
def yX2_rowOf : MethodName := ⟨RX2, "rowOf", "(II)I"⟩
def dkwX2_rowOf_1 : List UInt8 := [172]
abbrev dktX2_rowOf_1 : List UInt8 := dkwX2_rowOf_1 ++ []
def dkwX2_rowOf_0 : List UInt8 := [26, 61, 7, 62, 29, 27, 164, 0, 14, 28, 16, 6, 108, 61, 132, 3, 255, 167, 255, 243, 28, 16, 6, 112]
abbrev dktX2_rowOf_0 : List UInt8 := dkwX2_rowOf_0 ++ dktX2_rowOf_1
theorem dksX2_rowOf_0 : cX2_rowOf.data.toList.drop 0 = dktX2_rowOf_0 := by decide +kernel
theorem dksX2_rowOf_1 : cX2_rowOf.data.toList.drop 24 = dktX2_rowOf_1 := dk_seg dksX2_rowOf_0 24 rfl rfl
theorem dX2_rowOf_0 : decode cX2_rowOf 0 = .ok (.iload_n 0, 1) := dk_26 (dk_at dksX2_rowOf_0 0 rfl rfl)
theorem dX2_rowOf_1 : decode cX2_rowOf 1 = .ok (.istore_n 2, 1) := dk_61 (dk_at dksX2_rowOf_0 1 rfl rfl)
theorem dX2_rowOf_2 : decode cX2_rowOf 2 = .ok (.iconst 4, 1) := dk_7 (dk_at dksX2_rowOf_0 2 rfl rfl)
theorem dX2_rowOf_3 : decode cX2_rowOf 3 = .ok (.istore_n 3, 1) := dk_62 (dk_at dksX2_rowOf_0 3 rfl rfl)
theorem dX2_rowOf_4 : decode cX2_rowOf 4 = .ok (.iload_n 3, 1) := dk_29 (dk_at dksX2_rowOf_0 4 rfl rfl)
theorem dX2_rowOf_5 : decode cX2_rowOf 5 = .ok (.iload_n 1, 1) := dk_27 (dk_at dksX2_rowOf_0 5 rfl rfl)
theorem dX2_rowOf_6 : decode cX2_rowOf 6 = .ok (.if_icmp .le 14, 3) := dk_164 0 14 (dk_at dksX2_rowOf_0 6 rfl rfl)
theorem dX2_rowOf_9 : decode cX2_rowOf 9 = .ok (.iload_n 2, 1) := dk_28 (dk_at dksX2_rowOf_0 9 rfl rfl)
theorem dX2_rowOf_10 : decode cX2_rowOf 10 = .ok (.bipush 6, 2) := dk_16 6 (dk_at dksX2_rowOf_0 10 rfl rfl)
theorem dX2_rowOf_12 : decode cX2_rowOf 12 = .ok (.idiv, 1) := dk_108 (dk_at dksX2_rowOf_0 12 rfl rfl)
theorem dX2_rowOf_13 : decode cX2_rowOf 13 = .ok (.istore_n 2, 1) := dk_61 (dk_at dksX2_rowOf_0 13 rfl rfl)
theorem dX2_rowOf_14 : decode cX2_rowOf 14 = .ok (.iinc 3 (-1), 3) := dk_132 3 255 (dk_at dksX2_rowOf_0 14 rfl rfl)
theorem dX2_rowOf_17 : decode cX2_rowOf 17 = .ok (.goto (-13), 3) := dk_167 255 243 (dk_at dksX2_rowOf_0 17 rfl rfl)
theorem dX2_rowOf_20 : decode cX2_rowOf 20 = .ok (.iload_n 2, 1) := dk_28 (dk_at dksX2_rowOf_0 20 rfl rfl)
theorem dX2_rowOf_21 : decode cX2_rowOf 21 = .ok (.bipush 6, 2) := dk_16 6 (dk_at dksX2_rowOf_0 21 rfl rfl)
theorem dX2_rowOf_23 : decode cX2_rowOf 23 = .ok (.irem, 1) := dk_112 (dk_at dksX2_rowOf_0 23 rfl rfl)
theorem dX2_rowOf_24 : decode cX2_rowOf 24 = .ok (.ireturn, 1) := dk_172 (dk_at dksX2_rowOf_1 0 rfl rfl)
abbrev cX2_biteOf : ByteArray := prog_20_method_143_code
def yX2_biteOf : MethodName := ⟨RX2, "biteOf", "(I)I"⟩
def dkwX2_biteOf_2 : List UInt8 := [167, 255, 211, 2, 172]
abbrev dktX2_biteOf_2 : List UInt8 := dkwX2_biteOf_2 ++ []
def dkwX2_biteOf_1 : List UInt8 := [29, 184, 1, 227, 51, 154, 0, 9, 8, 28, 104, 29, 96, 172, 132, 3, 1, 167, 255, 224, 132, 2, 1]
abbrev dktX2_biteOf_1 : List UInt8 := dkwX2_biteOf_1 ++ dktX2_biteOf_2
def dkwX2_biteOf_0 : List UInt8 := [3, 61, 28, 8, 162, 0, 46, 3, 62, 29, 27, 28, 184, 1, 224, 162, 0, 29, 42, 180, 0, 65, 27, 28]
abbrev dktX2_biteOf_0 : List UInt8 := dkwX2_biteOf_0 ++ dktX2_biteOf_1
theorem dksX2_biteOf_0 : cX2_biteOf.data.toList.drop 0 = dktX2_biteOf_0 := by decide +kernel
theorem dksX2_biteOf_1 : cX2_biteOf.data.toList.drop 24 = dktX2_biteOf_1 := dk_seg dksX2_biteOf_0 24 rfl rfl
theorem dksX2_biteOf_2 : cX2_biteOf.data.toList.drop 47 = dktX2_biteOf_2 := dk_seg dksX2_biteOf_1 23 rfl rfl
theorem dX2_biteOf_0 : decode cX2_biteOf 0 = .ok (.iconst 0, 1) := dk_3 (dk_at dksX2_biteOf_0 0 rfl rfl)
theorem dX2_biteOf_1 : decode cX2_biteOf 1 = .ok (.istore_n 2, 1) := dk_61 (dk_at dksX2_biteOf_0 1 rfl rfl)
theorem dX2_biteOf_2 : decode cX2_biteOf 2 = .ok (.iload_n 2, 1) := dk_28 (dk_at dksX2_biteOf_0 2 rfl rfl)
theorem dX2_biteOf_3 : decode cX2_biteOf 3 = .ok (.iconst 5, 1) := dk_8 (dk_at dksX2_biteOf_0 3 rfl rfl)
theorem dX2_biteOf_4 : decode cX2_biteOf 4 = .ok (.if_icmp .ge 46, 3) := dk_162 0 46 (dk_at dksX2_biteOf_0 4 rfl rfl)
theorem dX2_biteOf_7 : decode cX2_biteOf 7 = .ok (.iconst 0, 1) := dk_3 (dk_at dksX2_biteOf_0 7 rfl rfl)
theorem dX2_biteOf_8 : decode cX2_biteOf 8 = .ok (.istore_n 3, 1) := dk_62 (dk_at dksX2_biteOf_0 8 rfl rfl)
theorem dX2_biteOf_9 : decode cX2_biteOf 9 = .ok (.iload_n 3, 1) := dk_29 (dk_at dksX2_biteOf_0 9 rfl rfl)
theorem dX2_biteOf_10 : decode cX2_biteOf 10 = .ok (.iload_n 1, 1) := dk_27 (dk_at dksX2_biteOf_0 10 rfl rfl)
theorem dX2_biteOf_11 : decode cX2_biteOf 11 = .ok (.iload_n 2, 1) := dk_28 (dk_at dksX2_biteOf_0 11 rfl rfl)
theorem dX2_biteOf_12 : decode cX2_biteOf 12 = .ok (.invokestatic 480, 3) := dk_184 1 224 (dk_at dksX2_biteOf_0 12 rfl rfl)
theorem dX2_biteOf_15 : decode cX2_biteOf 15 = .ok (.if_icmp .ge 29, 3) := dk_162 0 29 (dk_at dksX2_biteOf_0 15 rfl rfl)
theorem dX2_biteOf_18 : decode cX2_biteOf 18 = .ok (.aload_n 0, 1) := dk_42 (dk_at dksX2_biteOf_0 18 rfl rfl)
theorem dX2_biteOf_19 : decode cX2_biteOf 19 = .ok (.getfield 65, 3) := dk_180 0 65 (dk_at dksX2_biteOf_0 19 rfl rfl)
theorem dX2_biteOf_22 : decode cX2_biteOf 22 = .ok (.iload_n 1, 1) := dk_27 (dk_at dksX2_biteOf_0 22 rfl rfl)
theorem dX2_biteOf_23 : decode cX2_biteOf 23 = .ok (.iload_n 2, 1) := dk_28 (dk_at dksX2_biteOf_0 23 rfl rfl)
theorem dX2_biteOf_24 : decode cX2_biteOf 24 = .ok (.iload_n 3, 1) := dk_29 (dk_at dksX2_biteOf_1 0 rfl rfl)
theorem dX2_biteOf_25 : decode cX2_biteOf 25 = .ok (.invokestatic 483, 3) := dk_184 1 227 (dk_at dksX2_biteOf_1 1 rfl rfl)
theorem dX2_biteOf_28 : decode cX2_biteOf 28 = .ok (.baload, 1) := dk_51 (dk_at dksX2_biteOf_1 4 rfl rfl)
theorem dX2_biteOf_29 : decode cX2_biteOf 29 = .ok (.ifCond .ne 9, 3) := dk_154 0 9 (dk_at dksX2_biteOf_1 5 rfl rfl)
theorem dX2_biteOf_32 : decode cX2_biteOf 32 = .ok (.iconst 5, 1) := dk_8 (dk_at dksX2_biteOf_1 8 rfl rfl)
theorem dX2_biteOf_33 : decode cX2_biteOf 33 = .ok (.iload_n 2, 1) := dk_28 (dk_at dksX2_biteOf_1 9 rfl rfl)
theorem dX2_biteOf_34 : decode cX2_biteOf 34 = .ok (.imul, 1) := dk_104 (dk_at dksX2_biteOf_1 10 rfl rfl)
theorem dX2_biteOf_35 : decode cX2_biteOf 35 = .ok (.iload_n 3, 1) := dk_29 (dk_at dksX2_biteOf_1 11 rfl rfl)
theorem dX2_biteOf_36 : decode cX2_biteOf 36 = .ok (.iadd, 1) := dk_96 (dk_at dksX2_biteOf_1 12 rfl rfl)
theorem dX2_biteOf_37 : decode cX2_biteOf 37 = .ok (.ireturn, 1) := dk_172 (dk_at dksX2_biteOf_1 13 rfl rfl)
theorem dX2_biteOf_38 : decode cX2_biteOf 38 = .ok (.iinc 3 1, 3) := dk_132 3 1 (dk_at dksX2_biteOf_1 14 rfl rfl)
theorem dX2_biteOf_41 : decode cX2_biteOf 41 = .ok (.goto (-32), 3) := dk_167 255 224 (dk_at dksX2_biteOf_1 17 rfl rfl)
theorem dX2_biteOf_44 : decode cX2_biteOf 44 = .ok (.iinc 2 1, 3) := dk_132 2 1 (dk_at dksX2_biteOf_1 20 rfl rfl)
theorem dX2_biteOf_47 : decode cX2_biteOf 47 = .ok (.goto (-45), 3) := dk_167 255 211 (dk_at dksX2_biteOf_2 0 rfl rfl)
theorem dX2_biteOf_50 : decode cX2_biteOf 50 = .ok (.iconst (-1), 1) := dk_2 (dk_at dksX2_biteOf_2 3 rfl rfl)
theorem dX2_biteOf_51 : decode cX2_biteOf 51 = .ok (.ireturn, 1) := dk_172 (dk_at dksX2_biteOf_2 4 rfl rfl)
abbrev cX2_bitten : ByteArray := prog_20_method_142_code
def yX2_bitten : MethodName := ⟨RX2, "bitten", "(III)I"⟩
def dkwX2_bitten_2 : List UInt8 := [167, 255, 215, 29, 172]
abbrev dktX2_bitten_2 : List UInt8 := dkwX2_bitten_2 ++ []
def dkwX2_bitten_1 : List UInt8 := [184, 1, 224, 28, 164, 0, 7, 28, 167, 0, 9, 26, 21, 4, 184, 1, 224, 96, 62, 132, 4, 1]
abbrev dktX2_bitten_1 : List UInt8 := dkwX2_bitten_1 ++ dktX2_bitten_2
def dkwX2_bitten_0 : List UInt8 := [3, 62, 3, 54, 4, 21, 4, 8, 162, 0, 41, 16, 6, 29, 104, 21, 4, 27, 161, 0, 17, 26, 21, 4]
abbrev dktX2_bitten_0 : List UInt8 := dkwX2_bitten_0 ++ dktX2_bitten_1
theorem dksX2_bitten_0 : cX2_bitten.data.toList.drop 0 = dktX2_bitten_0 := by decide +kernel
theorem dksX2_bitten_1 : cX2_bitten.data.toList.drop 24 = dktX2_bitten_1 := dk_seg dksX2_bitten_0 24 rfl rfl
theorem dksX2_bitten_2 : cX2_bitten.data.toList.drop 46 = dktX2_bitten_2 := dk_seg dksX2_bitten_1 22 rfl rfl
theorem dX2_bitten_0 : decode cX2_bitten 0 = .ok (.iconst 0, 1) := dk_3 (dk_at dksX2_bitten_0 0 rfl rfl)
theorem dX2_bitten_1 : decode cX2_bitten 1 = .ok (.istore_n 3, 1) := dk_62 (dk_at dksX2_bitten_0 1 rfl rfl)
theorem dX2_bitten_2 : decode cX2_bitten 2 = .ok (.iconst 0, 1) := dk_3 (dk_at dksX2_bitten_0 2 rfl rfl)
theorem dX2_bitten_3 : decode cX2_bitten 3 = .ok (.istore 4, 2) := dk_54 4 (dk_at dksX2_bitten_0 3 rfl rfl)
theorem dX2_bitten_5 : decode cX2_bitten 5 = .ok (.iload 4, 2) := dk_21 4 (dk_at dksX2_bitten_0 5 rfl rfl)
theorem dX2_bitten_7 : decode cX2_bitten 7 = .ok (.iconst 5, 1) := dk_8 (dk_at dksX2_bitten_0 7 rfl rfl)
theorem dX2_bitten_8 : decode cX2_bitten 8 = .ok (.if_icmp .ge 41, 3) := dk_162 0 41 (dk_at dksX2_bitten_0 8 rfl rfl)
theorem dX2_bitten_11 : decode cX2_bitten 11 = .ok (.bipush 6, 2) := dk_16 6 (dk_at dksX2_bitten_0 11 rfl rfl)
theorem dX2_bitten_13 : decode cX2_bitten 13 = .ok (.iload_n 3, 1) := dk_29 (dk_at dksX2_bitten_0 13 rfl rfl)
theorem dX2_bitten_14 : decode cX2_bitten 14 = .ok (.imul, 1) := dk_104 (dk_at dksX2_bitten_0 14 rfl rfl)
theorem dX2_bitten_15 : decode cX2_bitten 15 = .ok (.iload 4, 2) := dk_21 4 (dk_at dksX2_bitten_0 15 rfl rfl)
theorem dX2_bitten_17 : decode cX2_bitten 17 = .ok (.iload_n 1, 1) := dk_27 (dk_at dksX2_bitten_0 17 rfl rfl)
theorem dX2_bitten_18 : decode cX2_bitten 18 = .ok (.if_icmp .lt 17, 3) := dk_161 0 17 (dk_at dksX2_bitten_0 18 rfl rfl)
theorem dX2_bitten_21 : decode cX2_bitten 21 = .ok (.iload_n 0, 1) := dk_26 (dk_at dksX2_bitten_0 21 rfl rfl)
theorem dX2_bitten_22 : decode cX2_bitten 22 = .ok (.iload 4, 2) := dk_21 4 (dk_at dksX2_bitten_0 22 rfl rfl)
theorem dX2_bitten_24 : decode cX2_bitten 24 = .ok (.invokestatic 480, 3) := dk_184 1 224 (dk_at dksX2_bitten_1 0 rfl rfl)
theorem dX2_bitten_27 : decode cX2_bitten 27 = .ok (.iload_n 2, 1) := dk_28 (dk_at dksX2_bitten_1 3 rfl rfl)
theorem dX2_bitten_28 : decode cX2_bitten 28 = .ok (.if_icmp .le 7, 3) := dk_164 0 7 (dk_at dksX2_bitten_1 4 rfl rfl)
theorem dX2_bitten_31 : decode cX2_bitten 31 = .ok (.iload_n 2, 1) := dk_28 (dk_at dksX2_bitten_1 7 rfl rfl)
theorem dX2_bitten_32 : decode cX2_bitten 32 = .ok (.goto 9, 3) := dk_167 0 9 (dk_at dksX2_bitten_1 8 rfl rfl)
theorem dX2_bitten_35 : decode cX2_bitten 35 = .ok (.iload_n 0, 1) := dk_26 (dk_at dksX2_bitten_1 11 rfl rfl)
theorem dX2_bitten_36 : decode cX2_bitten 36 = .ok (.iload 4, 2) := dk_21 4 (dk_at dksX2_bitten_1 12 rfl rfl)
theorem dX2_bitten_38 : decode cX2_bitten 38 = .ok (.invokestatic 480, 3) := dk_184 1 224 (dk_at dksX2_bitten_1 14 rfl rfl)
theorem dX2_bitten_41 : decode cX2_bitten 41 = .ok (.iadd, 1) := dk_96 (dk_at dksX2_bitten_1 17 rfl rfl)
theorem dX2_bitten_42 : decode cX2_bitten 42 = .ok (.istore_n 3, 1) := dk_62 (dk_at dksX2_bitten_1 18 rfl rfl)
theorem dX2_bitten_43 : decode cX2_bitten 43 = .ok (.iinc 4 1, 3) := dk_132 4 1 (dk_at dksX2_bitten_1 19 rfl rfl)
theorem dX2_bitten_46 : decode cX2_bitten 46 = .ok (.goto (-41), 3) := dk_167 255 215 (dk_at dksX2_bitten_2 0 rfl rfl)
theorem dX2_bitten_49 : decode cX2_bitten 49 = .ok (.iload_n 3, 1) := dk_29 (dk_at dksX2_bitten_2 3 rfl rfl)
theorem dX2_bitten_50 : decode cX2_bitten 50 = .ok (.ireturn, 1) := dk_172 (dk_at dksX2_bitten_2 4 rfl rfl)
abbrev cX2_bite : ByteArray := prog_20_method_146_code
def yX2_bite : MethodName := ⟨RX2, "bite", "(IZ)I"⟩
def dkwX2_bite_4 : List UInt8 := [160, 0, 7, 2, 167, 0, 18, 28, 153, 0, 10, 21, 5, 8, 108, 167, 0, 7, 21, 5, 8, 112, 172]
abbrev dktX2_bite_4 : List UInt8 := dkwX2_bite_4 ++ []
def dkwX2_bite_3 : List UInt8 := [184, 1, 230, 154, 0, 5, 2, 172, 42, 29, 182, 1, 236, 42, 29, 182, 1, 233, 54, 5, 21, 5, 2]
abbrev dktX2_bite_3 : List UInt8 := dkwX2_bite_3 ++ dktX2_bite_4
def dkwX2_bite_2 : List UInt8 := [21, 4, 108, 16, 10, 112, 96, 62, 21, 4, 16, 10, 108, 54, 4, 132, 5, 1, 167, 255, 214, 29]
abbrev dktX2_bite_2 : List UInt8 := dkwX2_bite_2 ++ dktX2_bite_3
def dkwX2_bite_1 : List UInt8 := [21, 5, 8, 162, 0, 42, 27, 21, 4, 108, 16, 10, 112, 8, 164, 0, 5, 2, 172, 16, 6, 29, 104, 27]
abbrev dktX2_bite_1 : List UInt8 := dkwX2_bite_1 ++ dktX2_bite_2
def dkwX2_bite_0 : List UInt8 := [27, 3, 19, 1, 239, 184, 0, 72, 154, 0, 5, 2, 172, 3, 62, 17, 39, 16, 54, 4, 3, 54, 5]
abbrev dktX2_bite_0 : List UInt8 := dkwX2_bite_0 ++ dktX2_bite_1
theorem dksX2_bite_0 : cX2_bite.data.toList.drop 0 = dktX2_bite_0 := by decide +kernel
theorem dksX2_bite_1 : cX2_bite.data.toList.drop 23 = dktX2_bite_1 := dk_seg dksX2_bite_0 23 rfl rfl
theorem dksX2_bite_2 : cX2_bite.data.toList.drop 47 = dktX2_bite_2 := dk_seg dksX2_bite_1 24 rfl rfl
theorem dksX2_bite_3 : cX2_bite.data.toList.drop 69 = dktX2_bite_3 := dk_seg dksX2_bite_2 22 rfl rfl
theorem dksX2_bite_4 : cX2_bite.data.toList.drop 92 = dktX2_bite_4 := dk_seg dksX2_bite_3 23 rfl rfl
theorem dX2_bite_0 : decode cX2_bite 0 = .ok (.iload_n 1, 1) := dk_27 (dk_at dksX2_bite_0 0 rfl rfl)
theorem dX2_bite_1 : decode cX2_bite 1 = .ok (.iconst 0, 1) := dk_3 (dk_at dksX2_bite_0 1 rfl rfl)
theorem dX2_bite_2 : decode cX2_bite 2 = .ok (.ldc_w 495, 3) := dk_19 1 239 (dk_at dksX2_bite_0 2 rfl rfl)
theorem dX2_bite_5 : decode cX2_bite 5 = .ok (.invokestatic 72, 3) := dk_184 0 72 (dk_at dksX2_bite_0 5 rfl rfl)
theorem dX2_bite_8 : decode cX2_bite 8 = .ok (.ifCond .ne 5, 3) := dk_154 0 5 (dk_at dksX2_bite_0 8 rfl rfl)
theorem dX2_bite_11 : decode cX2_bite 11 = .ok (.iconst (-1), 1) := dk_2 (dk_at dksX2_bite_0 11 rfl rfl)
theorem dX2_bite_12 : decode cX2_bite 12 = .ok (.ireturn, 1) := dk_172 (dk_at dksX2_bite_0 12 rfl rfl)
theorem dX2_bite_13 : decode cX2_bite 13 = .ok (.iconst 0, 1) := dk_3 (dk_at dksX2_bite_0 13 rfl rfl)
theorem dX2_bite_14 : decode cX2_bite 14 = .ok (.istore_n 3, 1) := dk_62 (dk_at dksX2_bite_0 14 rfl rfl)
theorem dX2_bite_15 : decode cX2_bite 15 = .ok (.sipush 10000, 3) := dk_17 39 16 (dk_at dksX2_bite_0 15 rfl rfl)
theorem dX2_bite_18 : decode cX2_bite 18 = .ok (.istore 4, 2) := dk_54 4 (dk_at dksX2_bite_0 18 rfl rfl)
theorem dX2_bite_20 : decode cX2_bite 20 = .ok (.iconst 0, 1) := dk_3 (dk_at dksX2_bite_0 20 rfl rfl)
theorem dX2_bite_21 : decode cX2_bite 21 = .ok (.istore 5, 2) := dk_54 5 (dk_at dksX2_bite_0 21 rfl rfl)
theorem dX2_bite_23 : decode cX2_bite 23 = .ok (.iload 5, 2) := dk_21 5 (dk_at dksX2_bite_1 0 rfl rfl)
theorem dX2_bite_25 : decode cX2_bite 25 = .ok (.iconst 5, 1) := dk_8 (dk_at dksX2_bite_1 2 rfl rfl)
theorem dX2_bite_26 : decode cX2_bite 26 = .ok (.if_icmp .ge 42, 3) := dk_162 0 42 (dk_at dksX2_bite_1 3 rfl rfl)
theorem dX2_bite_29 : decode cX2_bite 29 = .ok (.iload_n 1, 1) := dk_27 (dk_at dksX2_bite_1 6 rfl rfl)
theorem dX2_bite_30 : decode cX2_bite 30 = .ok (.iload 4, 2) := dk_21 4 (dk_at dksX2_bite_1 7 rfl rfl)
theorem dX2_bite_32 : decode cX2_bite 32 = .ok (.idiv, 1) := dk_108 (dk_at dksX2_bite_1 9 rfl rfl)
theorem dX2_bite_33 : decode cX2_bite 33 = .ok (.bipush 10, 2) := dk_16 10 (dk_at dksX2_bite_1 10 rfl rfl)
theorem dX2_bite_35 : decode cX2_bite 35 = .ok (.irem, 1) := dk_112 (dk_at dksX2_bite_1 12 rfl rfl)
theorem dX2_bite_36 : decode cX2_bite 36 = .ok (.iconst 5, 1) := dk_8 (dk_at dksX2_bite_1 13 rfl rfl)
theorem dX2_bite_37 : decode cX2_bite 37 = .ok (.if_icmp .le 5, 3) := dk_164 0 5 (dk_at dksX2_bite_1 14 rfl rfl)
theorem dX2_bite_40 : decode cX2_bite 40 = .ok (.iconst (-1), 1) := dk_2 (dk_at dksX2_bite_1 17 rfl rfl)
theorem dX2_bite_41 : decode cX2_bite 41 = .ok (.ireturn, 1) := dk_172 (dk_at dksX2_bite_1 18 rfl rfl)
theorem dX2_bite_42 : decode cX2_bite 42 = .ok (.bipush 6, 2) := dk_16 6 (dk_at dksX2_bite_1 19 rfl rfl)
theorem dX2_bite_44 : decode cX2_bite 44 = .ok (.iload_n 3, 1) := dk_29 (dk_at dksX2_bite_1 21 rfl rfl)
theorem dX2_bite_45 : decode cX2_bite 45 = .ok (.imul, 1) := dk_104 (dk_at dksX2_bite_1 22 rfl rfl)
theorem dX2_bite_46 : decode cX2_bite 46 = .ok (.iload_n 1, 1) := dk_27 (dk_at dksX2_bite_1 23 rfl rfl)
theorem dX2_bite_47 : decode cX2_bite 47 = .ok (.iload 4, 2) := dk_21 4 (dk_at dksX2_bite_2 0 rfl rfl)
theorem dX2_bite_49 : decode cX2_bite 49 = .ok (.idiv, 1) := dk_108 (dk_at dksX2_bite_2 2 rfl rfl)
theorem dX2_bite_50 : decode cX2_bite 50 = .ok (.bipush 10, 2) := dk_16 10 (dk_at dksX2_bite_2 3 rfl rfl)
theorem dX2_bite_52 : decode cX2_bite 52 = .ok (.irem, 1) := dk_112 (dk_at dksX2_bite_2 5 rfl rfl)
theorem dX2_bite_53 : decode cX2_bite 53 = .ok (.iadd, 1) := dk_96 (dk_at dksX2_bite_2 6 rfl rfl)
theorem dX2_bite_54 : decode cX2_bite 54 = .ok (.istore_n 3, 1) := dk_62 (dk_at dksX2_bite_2 7 rfl rfl)
theorem dX2_bite_55 : decode cX2_bite 55 = .ok (.iload 4, 2) := dk_21 4 (dk_at dksX2_bite_2 8 rfl rfl)
theorem dX2_bite_57 : decode cX2_bite 57 = .ok (.bipush 10, 2) := dk_16 10 (dk_at dksX2_bite_2 10 rfl rfl)
theorem dX2_bite_59 : decode cX2_bite 59 = .ok (.idiv, 1) := dk_108 (dk_at dksX2_bite_2 12 rfl rfl)
theorem dX2_bite_60 : decode cX2_bite 60 = .ok (.istore 4, 2) := dk_54 4 (dk_at dksX2_bite_2 13 rfl rfl)
theorem dX2_bite_62 : decode cX2_bite 62 = .ok (.iinc 5 1, 3) := dk_132 5 1 (dk_at dksX2_bite_2 15 rfl rfl)
theorem dX2_bite_65 : decode cX2_bite 65 = .ok (.goto (-42), 3) := dk_167 255 214 (dk_at dksX2_bite_2 18 rfl rfl)
theorem dX2_bite_68 : decode cX2_bite 68 = .ok (.iload_n 3, 1) := dk_29 (dk_at dksX2_bite_2 21 rfl rfl)
theorem dX2_bite_69 : decode cX2_bite 69 = .ok (.invokestatic 486, 3) := dk_184 1 230 (dk_at dksX2_bite_3 0 rfl rfl)
theorem dX2_bite_72 : decode cX2_bite 72 = .ok (.ifCond .ne 5, 3) := dk_154 0 5 (dk_at dksX2_bite_3 3 rfl rfl)
theorem dX2_bite_75 : decode cX2_bite 75 = .ok (.iconst (-1), 1) := dk_2 (dk_at dksX2_bite_3 6 rfl rfl)
theorem dX2_bite_76 : decode cX2_bite 76 = .ok (.ireturn, 1) := dk_172 (dk_at dksX2_bite_3 7 rfl rfl)
theorem dX2_bite_77 : decode cX2_bite 77 = .ok (.aload_n 0, 1) := dk_42 (dk_at dksX2_bite_3 8 rfl rfl)
theorem dX2_bite_78 : decode cX2_bite 78 = .ok (.iload_n 3, 1) := dk_29 (dk_at dksX2_bite_3 9 rfl rfl)
theorem dX2_bite_79 : decode cX2_bite 79 = .ok (.invokevirtual 492, 3) := dk_182 1 236 (dk_at dksX2_bite_3 10 rfl rfl)
theorem dX2_bite_82 : decode cX2_bite 82 = .ok (.aload_n 0, 1) := dk_42 (dk_at dksX2_bite_3 13 rfl rfl)
theorem dX2_bite_83 : decode cX2_bite 83 = .ok (.iload_n 3, 1) := dk_29 (dk_at dksX2_bite_3 14 rfl rfl)
theorem dX2_bite_84 : decode cX2_bite 84 = .ok (.invokevirtual 489, 3) := dk_182 1 233 (dk_at dksX2_bite_3 15 rfl rfl)
theorem dX2_bite_87 : decode cX2_bite 87 = .ok (.istore 5, 2) := dk_54 5 (dk_at dksX2_bite_3 18 rfl rfl)
theorem dX2_bite_89 : decode cX2_bite 89 = .ok (.iload 5, 2) := dk_21 5 (dk_at dksX2_bite_3 20 rfl rfl)
theorem dX2_bite_91 : decode cX2_bite 91 = .ok (.iconst (-1), 1) := dk_2 (dk_at dksX2_bite_3 22 rfl rfl)
theorem dX2_bite_92 : decode cX2_bite 92 = .ok (.if_icmp .ne 7, 3) := dk_160 0 7 (dk_at dksX2_bite_4 0 rfl rfl)
theorem dX2_bite_95 : decode cX2_bite 95 = .ok (.iconst (-1), 1) := dk_2 (dk_at dksX2_bite_4 3 rfl rfl)
theorem dX2_bite_96 : decode cX2_bite 96 = .ok (.goto 18, 3) := dk_167 0 18 (dk_at dksX2_bite_4 4 rfl rfl)
theorem dX2_bite_99 : decode cX2_bite 99 = .ok (.iload_n 2, 1) := dk_28 (dk_at dksX2_bite_4 7 rfl rfl)
theorem dX2_bite_100 : decode cX2_bite 100 = .ok (.ifCond .eq 10, 3) := dk_153 0 10 (dk_at dksX2_bite_4 8 rfl rfl)
theorem dX2_bite_103 : decode cX2_bite 103 = .ok (.iload 5, 2) := dk_21 5 (dk_at dksX2_bite_4 11 rfl rfl)
theorem dX2_bite_105 : decode cX2_bite 105 = .ok (.iconst 5, 1) := dk_8 (dk_at dksX2_bite_4 13 rfl rfl)
theorem dX2_bite_106 : decode cX2_bite 106 = .ok (.idiv, 1) := dk_108 (dk_at dksX2_bite_4 14 rfl rfl)
theorem dX2_bite_107 : decode cX2_bite 107 = .ok (.goto 7, 3) := dk_167 0 7 (dk_at dksX2_bite_4 15 rfl rfl)
theorem dX2_bite_110 : decode cX2_bite 110 = .ok (.iload 5, 2) := dk_21 5 (dk_at dksX2_bite_4 18 rfl rfl)
theorem dX2_bite_112 : decode cX2_bite 112 = .ok (.iconst 5, 1) := dk_8 (dk_at dksX2_bite_4 20 rfl rfl)
theorem dX2_bite_113 : decode cX2_bite 113 = .ok (.irem, 1) := dk_112 (dk_at dksX2_bite_4 21 rfl rfl)
theorem dX2_bite_114 : decode cX2_bite 114 = .ok (.ireturn, 1) := dk_172 (dk_at dksX2_bite_4 22 rfl rfl)
abbrev cX2_told : ByteArray := prog_20_method_147_code
def yX2_told : MethodName := ⟨RX2, "told", "(II)I"⟩
def dkwX2_told_4 : List UInt8 := [46, 4, 96, 79, 42, 180, 0, 7, 16, 6, 46, 172]
abbrev dktX2_told_4 : List UInt8 := dkwX2_told_4 ++ []
def dkwX2_told_3 : List UInt8 := [17, 0, 149, 5, 42, 180, 0, 7, 16, 6, 46, 104, 96, 4, 96, 28, 79, 42, 180, 0, 7, 16, 6, 92]
abbrev dktX2_told_3 : List UInt8 := dkwX2_told_3 ++ dktX2_told_4
def dkwX2_told_2 : List UInt8 := [42, 180, 0, 7, 17, 0, 149, 5, 42, 180, 0, 7, 16, 6, 46, 104, 96, 27, 79, 42, 180, 0, 7]
abbrev dktX2_told_2 : List UInt8 := dkwX2_told_2 ++ dktX2_told_3
def dkwX2_told_1 : List UInt8 := [3, 16, 10, 184, 0, 72, 153, 0, 15, 42, 180, 0, 7, 16, 6, 46, 16, 8, 160, 0, 6, 16, 254, 172]
abbrev dktX2_told_1 : List UInt8 := dkwX2_told_1 ++ dktX2_told_2
def dkwX2_told_0 : List UInt8 := [27, 2, 160, 0, 13, 42, 180, 0, 7, 16, 6, 3, 79, 3, 172, 42, 27, 182, 0, 92, 153, 0, 25, 28]
abbrev dktX2_told_0 : List UInt8 := dkwX2_told_0 ++ dktX2_told_1
theorem dksX2_told_0 : cX2_told.data.toList.drop 0 = dktX2_told_0 := by decide +kernel
theorem dksX2_told_1 : cX2_told.data.toList.drop 24 = dktX2_told_1 := dk_seg dksX2_told_0 24 rfl rfl
theorem dksX2_told_2 : cX2_told.data.toList.drop 48 = dktX2_told_2 := dk_seg dksX2_told_1 24 rfl rfl
theorem dksX2_told_3 : cX2_told.data.toList.drop 71 = dktX2_told_3 := dk_seg dksX2_told_2 23 rfl rfl
theorem dksX2_told_4 : cX2_told.data.toList.drop 95 = dktX2_told_4 := dk_seg dksX2_told_3 24 rfl rfl
theorem dX2_told_0 : decode cX2_told 0 = .ok (.iload_n 1, 1) := dk_27 (dk_at dksX2_told_0 0 rfl rfl)
theorem dX2_told_1 : decode cX2_told 1 = .ok (.iconst (-1), 1) := dk_2 (dk_at dksX2_told_0 1 rfl rfl)
theorem dX2_told_2 : decode cX2_told 2 = .ok (.if_icmp .ne 13, 3) := dk_160 0 13 (dk_at dksX2_told_0 2 rfl rfl)
theorem dX2_told_5 : decode cX2_told 5 = .ok (.aload_n 0, 1) := dk_42 (dk_at dksX2_told_0 5 rfl rfl)
theorem dX2_told_6 : decode cX2_told 6 = .ok (.getfield 7, 3) := dk_180 0 7 (dk_at dksX2_told_0 6 rfl rfl)
theorem dX2_told_9 : decode cX2_told 9 = .ok (.bipush 6, 2) := dk_16 6 (dk_at dksX2_told_0 9 rfl rfl)
theorem dX2_told_11 : decode cX2_told 11 = .ok (.iconst 0, 1) := dk_3 (dk_at dksX2_told_0 11 rfl rfl)
theorem dX2_told_12 : decode cX2_told 12 = .ok (.iastore, 1) := dk_79 (dk_at dksX2_told_0 12 rfl rfl)
theorem dX2_told_13 : decode cX2_told 13 = .ok (.iconst 0, 1) := dk_3 (dk_at dksX2_told_0 13 rfl rfl)
theorem dX2_told_14 : decode cX2_told 14 = .ok (.ireturn, 1) := dk_172 (dk_at dksX2_told_0 14 rfl rfl)
theorem dX2_told_15 : decode cX2_told 15 = .ok (.aload_n 0, 1) := dk_42 (dk_at dksX2_told_0 15 rfl rfl)
theorem dX2_told_16 : decode cX2_told 16 = .ok (.iload_n 1, 1) := dk_27 (dk_at dksX2_told_0 16 rfl rfl)
theorem dX2_told_17 : decode cX2_told 17 = .ok (.invokevirtual 92, 3) := dk_182 0 92 (dk_at dksX2_told_0 17 rfl rfl)
theorem dX2_told_20 : decode cX2_told 20 = .ok (.ifCond .eq 25, 3) := dk_153 0 25 (dk_at dksX2_told_0 20 rfl rfl)
theorem dX2_told_23 : decode cX2_told 23 = .ok (.iload_n 2, 1) := dk_28 (dk_at dksX2_told_0 23 rfl rfl)
theorem dX2_told_24 : decode cX2_told 24 = .ok (.iconst 0, 1) := dk_3 (dk_at dksX2_told_1 0 rfl rfl)
theorem dX2_told_25 : decode cX2_told 25 = .ok (.bipush 10, 2) := dk_16 10 (dk_at dksX2_told_1 1 rfl rfl)
theorem dX2_told_27 : decode cX2_told 27 = .ok (.invokestatic 72, 3) := dk_184 0 72 (dk_at dksX2_told_1 3 rfl rfl)
theorem dX2_told_30 : decode cX2_told 30 = .ok (.ifCond .eq 15, 3) := dk_153 0 15 (dk_at dksX2_told_1 6 rfl rfl)
theorem dX2_told_33 : decode cX2_told 33 = .ok (.aload_n 0, 1) := dk_42 (dk_at dksX2_told_1 9 rfl rfl)
theorem dX2_told_34 : decode cX2_told 34 = .ok (.getfield 7, 3) := dk_180 0 7 (dk_at dksX2_told_1 10 rfl rfl)
theorem dX2_told_37 : decode cX2_told 37 = .ok (.bipush 6, 2) := dk_16 6 (dk_at dksX2_told_1 13 rfl rfl)
theorem dX2_told_39 : decode cX2_told 39 = .ok (.iaload, 1) := dk_46 (dk_at dksX2_told_1 15 rfl rfl)
theorem dX2_told_40 : decode cX2_told 40 = .ok (.bipush 8, 2) := dk_16 8 (dk_at dksX2_told_1 16 rfl rfl)
theorem dX2_told_42 : decode cX2_told 42 = .ok (.if_icmp .ne 6, 3) := dk_160 0 6 (dk_at dksX2_told_1 18 rfl rfl)
theorem dX2_told_45 : decode cX2_told 45 = .ok (.bipush (-2), 2) := dk_16 254 (dk_at dksX2_told_1 21 rfl rfl)
theorem dX2_told_47 : decode cX2_told 47 = .ok (.ireturn, 1) := dk_172 (dk_at dksX2_told_1 23 rfl rfl)
theorem dX2_told_48 : decode cX2_told 48 = .ok (.aload_n 0, 1) := dk_42 (dk_at dksX2_told_2 0 rfl rfl)
theorem dX2_told_49 : decode cX2_told 49 = .ok (.getfield 7, 3) := dk_180 0 7 (dk_at dksX2_told_2 1 rfl rfl)
theorem dX2_told_52 : decode cX2_told 52 = .ok (.sipush 149, 3) := dk_17 0 149 (dk_at dksX2_told_2 4 rfl rfl)
theorem dX2_told_55 : decode cX2_told 55 = .ok (.iconst 2, 1) := dk_5 (dk_at dksX2_told_2 7 rfl rfl)
theorem dX2_told_56 : decode cX2_told 56 = .ok (.aload_n 0, 1) := dk_42 (dk_at dksX2_told_2 8 rfl rfl)
theorem dX2_told_57 : decode cX2_told 57 = .ok (.getfield 7, 3) := dk_180 0 7 (dk_at dksX2_told_2 9 rfl rfl)
theorem dX2_told_60 : decode cX2_told 60 = .ok (.bipush 6, 2) := dk_16 6 (dk_at dksX2_told_2 12 rfl rfl)
theorem dX2_told_62 : decode cX2_told 62 = .ok (.iaload, 1) := dk_46 (dk_at dksX2_told_2 14 rfl rfl)
theorem dX2_told_63 : decode cX2_told 63 = .ok (.imul, 1) := dk_104 (dk_at dksX2_told_2 15 rfl rfl)
theorem dX2_told_64 : decode cX2_told 64 = .ok (.iadd, 1) := dk_96 (dk_at dksX2_told_2 16 rfl rfl)
theorem dX2_told_65 : decode cX2_told 65 = .ok (.iload_n 1, 1) := dk_27 (dk_at dksX2_told_2 17 rfl rfl)
theorem dX2_told_66 : decode cX2_told 66 = .ok (.iastore, 1) := dk_79 (dk_at dksX2_told_2 18 rfl rfl)
theorem dX2_told_67 : decode cX2_told 67 = .ok (.aload_n 0, 1) := dk_42 (dk_at dksX2_told_2 19 rfl rfl)
theorem dX2_told_68 : decode cX2_told 68 = .ok (.getfield 7, 3) := dk_180 0 7 (dk_at dksX2_told_2 20 rfl rfl)
theorem dX2_told_71 : decode cX2_told 71 = .ok (.sipush 149, 3) := dk_17 0 149 (dk_at dksX2_told_3 0 rfl rfl)
theorem dX2_told_74 : decode cX2_told 74 = .ok (.iconst 2, 1) := dk_5 (dk_at dksX2_told_3 3 rfl rfl)
theorem dX2_told_75 : decode cX2_told 75 = .ok (.aload_n 0, 1) := dk_42 (dk_at dksX2_told_3 4 rfl rfl)
theorem dX2_told_76 : decode cX2_told 76 = .ok (.getfield 7, 3) := dk_180 0 7 (dk_at dksX2_told_3 5 rfl rfl)
theorem dX2_told_79 : decode cX2_told 79 = .ok (.bipush 6, 2) := dk_16 6 (dk_at dksX2_told_3 8 rfl rfl)
theorem dX2_told_81 : decode cX2_told 81 = .ok (.iaload, 1) := dk_46 (dk_at dksX2_told_3 10 rfl rfl)
theorem dX2_told_82 : decode cX2_told 82 = .ok (.imul, 1) := dk_104 (dk_at dksX2_told_3 11 rfl rfl)
theorem dX2_told_83 : decode cX2_told 83 = .ok (.iadd, 1) := dk_96 (dk_at dksX2_told_3 12 rfl rfl)
theorem dX2_told_84 : decode cX2_told 84 = .ok (.iconst 1, 1) := dk_4 (dk_at dksX2_told_3 13 rfl rfl)
theorem dX2_told_85 : decode cX2_told 85 = .ok (.iadd, 1) := dk_96 (dk_at dksX2_told_3 14 rfl rfl)
theorem dX2_told_86 : decode cX2_told 86 = .ok (.iload_n 2, 1) := dk_28 (dk_at dksX2_told_3 15 rfl rfl)
theorem dX2_told_87 : decode cX2_told 87 = .ok (.iastore, 1) := dk_79 (dk_at dksX2_told_3 16 rfl rfl)
theorem dX2_told_88 : decode cX2_told 88 = .ok (.aload_n 0, 1) := dk_42 (dk_at dksX2_told_3 17 rfl rfl)
theorem dX2_told_89 : decode cX2_told 89 = .ok (.getfield 7, 3) := dk_180 0 7 (dk_at dksX2_told_3 18 rfl rfl)
theorem dX2_told_92 : decode cX2_told 92 = .ok (.bipush 6, 2) := dk_16 6 (dk_at dksX2_told_3 21 rfl rfl)
theorem dX2_told_94 : decode cX2_told 94 = .ok (.dup2, 1) := dk_92 (dk_at dksX2_told_3 23 rfl rfl)
theorem dX2_told_95 : decode cX2_told 95 = .ok (.iaload, 1) := dk_46 (dk_at dksX2_told_4 0 rfl rfl)
theorem dX2_told_96 : decode cX2_told 96 = .ok (.iconst 1, 1) := dk_4 (dk_at dksX2_told_4 1 rfl rfl)
theorem dX2_told_97 : decode cX2_told 97 = .ok (.iadd, 1) := dk_96 (dk_at dksX2_told_4 2 rfl rfl)
theorem dX2_told_98 : decode cX2_told 98 = .ok (.iastore, 1) := dk_79 (dk_at dksX2_told_4 3 rfl rfl)
theorem dX2_told_99 : decode cX2_told 99 = .ok (.aload_n 0, 1) := dk_42 (dk_at dksX2_told_4 4 rfl rfl)
theorem dX2_told_100 : decode cX2_told 100 = .ok (.getfield 7, 3) := dk_180 0 7 (dk_at dksX2_told_4 5 rfl rfl)
theorem dX2_told_103 : decode cX2_told 103 = .ok (.bipush 6, 2) := dk_16 6 (dk_at dksX2_told_4 8 rfl rfl)
theorem dX2_told_105 : decode cX2_told 105 = .ok (.iaload, 1) := dk_46 (dk_at dksX2_told_4 10 rfl rfl)
theorem dX2_told_106 : decode cX2_told 106 = .ok (.ireturn, 1) := dk_172 (dk_at dksX2_told_4 11 rfl rfl)
abbrev cX2_whose : ByteArray := prog_20_method_148_code
def yX2_whose : MethodName := ⟨RX2, "whose", "()I"⟩
def dkwX2_whose_4 : List UInt8 := [60, 132, 2, 1, 167, 255, 164, 27, 172]
abbrev dktX2_whose_4 : List UInt8 := dkwX2_whose_4 ++ []
def dkwX2_whose_3 : List UInt8 := [167, 0, 4, 3, 62, 132, 4, 2, 167, 255, 201, 27, 29, 153, 0, 9, 4, 28, 120, 167, 0, 4, 3, 128]
abbrev dktX2_whose_3 : List UInt8 := dkwX2_whose_3 ++ dktX2_whose_4
def dkwX2_whose_2 : List UInt8 := [180, 0, 7, 21, 4, 46, 182, 1, 68, 42, 180, 0, 7, 21, 4, 4, 96, 46, 160, 0, 7, 4]
abbrev dktX2_whose_2 : List UInt8 := dkwX2_whose_2 ++ dktX2_whose_3
def dkwX2_whose_1 : List UInt8 := [17, 0, 149, 5, 42, 180, 0, 7, 16, 6, 46, 104, 96, 162, 0, 43, 29, 153, 0, 31, 42, 28, 42]
abbrev dktX2_whose_1 : List UInt8 := dkwX2_whose_1 ++ dktX2_whose_2
def dkwX2_whose_0 : List UInt8 := [3, 60, 3, 61, 28, 42, 180, 0, 7, 4, 46, 162, 0, 88, 4, 62, 17, 0, 149, 54, 4, 21, 4]
abbrev dktX2_whose_0 : List UInt8 := dkwX2_whose_0 ++ dktX2_whose_1
theorem dksX2_whose_0 : cX2_whose.data.toList.drop 0 = dktX2_whose_0 := by decide +kernel
theorem dksX2_whose_1 : cX2_whose.data.toList.drop 23 = dktX2_whose_1 := dk_seg dksX2_whose_0 23 rfl rfl
theorem dksX2_whose_2 : cX2_whose.data.toList.drop 46 = dktX2_whose_2 := dk_seg dksX2_whose_1 23 rfl rfl
theorem dksX2_whose_3 : cX2_whose.data.toList.drop 68 = dktX2_whose_3 := dk_seg dksX2_whose_2 22 rfl rfl
theorem dksX2_whose_4 : cX2_whose.data.toList.drop 92 = dktX2_whose_4 := dk_seg dksX2_whose_3 24 rfl rfl
theorem dX2_whose_0 : decode cX2_whose 0 = .ok (.iconst 0, 1) := dk_3 (dk_at dksX2_whose_0 0 rfl rfl)
theorem dX2_whose_1 : decode cX2_whose 1 = .ok (.istore_n 1, 1) := dk_60 (dk_at dksX2_whose_0 1 rfl rfl)
theorem dX2_whose_2 : decode cX2_whose 2 = .ok (.iconst 0, 1) := dk_3 (dk_at dksX2_whose_0 2 rfl rfl)
theorem dX2_whose_3 : decode cX2_whose 3 = .ok (.istore_n 2, 1) := dk_61 (dk_at dksX2_whose_0 3 rfl rfl)
theorem dX2_whose_4 : decode cX2_whose 4 = .ok (.iload_n 2, 1) := dk_28 (dk_at dksX2_whose_0 4 rfl rfl)
theorem dX2_whose_5 : decode cX2_whose 5 = .ok (.aload_n 0, 1) := dk_42 (dk_at dksX2_whose_0 5 rfl rfl)
theorem dX2_whose_6 : decode cX2_whose 6 = .ok (.getfield 7, 3) := dk_180 0 7 (dk_at dksX2_whose_0 6 rfl rfl)
theorem dX2_whose_9 : decode cX2_whose 9 = .ok (.iconst 1, 1) := dk_4 (dk_at dksX2_whose_0 9 rfl rfl)
theorem dX2_whose_10 : decode cX2_whose 10 = .ok (.iaload, 1) := dk_46 (dk_at dksX2_whose_0 10 rfl rfl)
theorem dX2_whose_11 : decode cX2_whose 11 = .ok (.if_icmp .ge 88, 3) := dk_162 0 88 (dk_at dksX2_whose_0 11 rfl rfl)
theorem dX2_whose_14 : decode cX2_whose 14 = .ok (.iconst 1, 1) := dk_4 (dk_at dksX2_whose_0 14 rfl rfl)
theorem dX2_whose_15 : decode cX2_whose 15 = .ok (.istore_n 3, 1) := dk_62 (dk_at dksX2_whose_0 15 rfl rfl)
theorem dX2_whose_16 : decode cX2_whose 16 = .ok (.sipush 149, 3) := dk_17 0 149 (dk_at dksX2_whose_0 16 rfl rfl)
theorem dX2_whose_19 : decode cX2_whose 19 = .ok (.istore 4, 2) := dk_54 4 (dk_at dksX2_whose_0 19 rfl rfl)
theorem dX2_whose_21 : decode cX2_whose 21 = .ok (.iload 4, 2) := dk_21 4 (dk_at dksX2_whose_0 21 rfl rfl)
theorem dX2_whose_23 : decode cX2_whose 23 = .ok (.sipush 149, 3) := dk_17 0 149 (dk_at dksX2_whose_1 0 rfl rfl)
theorem dX2_whose_26 : decode cX2_whose 26 = .ok (.iconst 2, 1) := dk_5 (dk_at dksX2_whose_1 3 rfl rfl)
theorem dX2_whose_27 : decode cX2_whose 27 = .ok (.aload_n 0, 1) := dk_42 (dk_at dksX2_whose_1 4 rfl rfl)
theorem dX2_whose_28 : decode cX2_whose 28 = .ok (.getfield 7, 3) := dk_180 0 7 (dk_at dksX2_whose_1 5 rfl rfl)
theorem dX2_whose_31 : decode cX2_whose 31 = .ok (.bipush 6, 2) := dk_16 6 (dk_at dksX2_whose_1 8 rfl rfl)
theorem dX2_whose_33 : decode cX2_whose 33 = .ok (.iaload, 1) := dk_46 (dk_at dksX2_whose_1 10 rfl rfl)
theorem dX2_whose_34 : decode cX2_whose 34 = .ok (.imul, 1) := dk_104 (dk_at dksX2_whose_1 11 rfl rfl)
theorem dX2_whose_35 : decode cX2_whose 35 = .ok (.iadd, 1) := dk_96 (dk_at dksX2_whose_1 12 rfl rfl)
theorem dX2_whose_36 : decode cX2_whose 36 = .ok (.if_icmp .ge 43, 3) := dk_162 0 43 (dk_at dksX2_whose_1 13 rfl rfl)
theorem dX2_whose_39 : decode cX2_whose 39 = .ok (.iload_n 3, 1) := dk_29 (dk_at dksX2_whose_1 16 rfl rfl)
theorem dX2_whose_40 : decode cX2_whose 40 = .ok (.ifCond .eq 31, 3) := dk_153 0 31 (dk_at dksX2_whose_1 17 rfl rfl)
theorem dX2_whose_43 : decode cX2_whose 43 = .ok (.aload_n 0, 1) := dk_42 (dk_at dksX2_whose_1 20 rfl rfl)
theorem dX2_whose_44 : decode cX2_whose 44 = .ok (.iload_n 2, 1) := dk_28 (dk_at dksX2_whose_1 21 rfl rfl)
theorem dX2_whose_45 : decode cX2_whose 45 = .ok (.aload_n 0, 1) := dk_42 (dk_at dksX2_whose_1 22 rfl rfl)
theorem dX2_whose_46 : decode cX2_whose 46 = .ok (.getfield 7, 3) := dk_180 0 7 (dk_at dksX2_whose_2 0 rfl rfl)
theorem dX2_whose_49 : decode cX2_whose 49 = .ok (.iload 4, 2) := dk_21 4 (dk_at dksX2_whose_2 3 rfl rfl)
theorem dX2_whose_51 : decode cX2_whose 51 = .ok (.iaload, 1) := dk_46 (dk_at dksX2_whose_2 5 rfl rfl)
theorem dX2_whose_52 : decode cX2_whose 52 = .ok (.invokevirtual 324, 3) := dk_182 1 68 (dk_at dksX2_whose_2 6 rfl rfl)
theorem dX2_whose_55 : decode cX2_whose 55 = .ok (.aload_n 0, 1) := dk_42 (dk_at dksX2_whose_2 9 rfl rfl)
theorem dX2_whose_56 : decode cX2_whose 56 = .ok (.getfield 7, 3) := dk_180 0 7 (dk_at dksX2_whose_2 10 rfl rfl)
theorem dX2_whose_59 : decode cX2_whose 59 = .ok (.iload 4, 2) := dk_21 4 (dk_at dksX2_whose_2 13 rfl rfl)
theorem dX2_whose_61 : decode cX2_whose 61 = .ok (.iconst 1, 1) := dk_4 (dk_at dksX2_whose_2 15 rfl rfl)
theorem dX2_whose_62 : decode cX2_whose 62 = .ok (.iadd, 1) := dk_96 (dk_at dksX2_whose_2 16 rfl rfl)
theorem dX2_whose_63 : decode cX2_whose 63 = .ok (.iaload, 1) := dk_46 (dk_at dksX2_whose_2 17 rfl rfl)
theorem dX2_whose_64 : decode cX2_whose 64 = .ok (.if_icmp .ne 7, 3) := dk_160 0 7 (dk_at dksX2_whose_2 18 rfl rfl)
theorem dX2_whose_67 : decode cX2_whose 67 = .ok (.iconst 1, 1) := dk_4 (dk_at dksX2_whose_2 21 rfl rfl)
theorem dX2_whose_68 : decode cX2_whose 68 = .ok (.goto 4, 3) := dk_167 0 4 (dk_at dksX2_whose_3 0 rfl rfl)
theorem dX2_whose_71 : decode cX2_whose 71 = .ok (.iconst 0, 1) := dk_3 (dk_at dksX2_whose_3 3 rfl rfl)
theorem dX2_whose_72 : decode cX2_whose 72 = .ok (.istore_n 3, 1) := dk_62 (dk_at dksX2_whose_3 4 rfl rfl)
theorem dX2_whose_73 : decode cX2_whose 73 = .ok (.iinc 4 2, 3) := dk_132 4 2 (dk_at dksX2_whose_3 5 rfl rfl)
theorem dX2_whose_76 : decode cX2_whose 76 = .ok (.goto (-55), 3) := dk_167 255 201 (dk_at dksX2_whose_3 8 rfl rfl)
theorem dX2_whose_79 : decode cX2_whose 79 = .ok (.iload_n 1, 1) := dk_27 (dk_at dksX2_whose_3 11 rfl rfl)
theorem dX2_whose_80 : decode cX2_whose 80 = .ok (.iload_n 3, 1) := dk_29 (dk_at dksX2_whose_3 12 rfl rfl)
theorem dX2_whose_81 : decode cX2_whose 81 = .ok (.ifCond .eq 9, 3) := dk_153 0 9 (dk_at dksX2_whose_3 13 rfl rfl)
theorem dX2_whose_84 : decode cX2_whose 84 = .ok (.iconst 1, 1) := dk_4 (dk_at dksX2_whose_3 16 rfl rfl)
theorem dX2_whose_85 : decode cX2_whose 85 = .ok (.iload_n 2, 1) := dk_28 (dk_at dksX2_whose_3 17 rfl rfl)
theorem dX2_whose_86 : decode cX2_whose 86 = .ok (.ishl, 1) := dk_120 (dk_at dksX2_whose_3 18 rfl rfl)
theorem dX2_whose_87 : decode cX2_whose 87 = .ok (.goto 4, 3) := dk_167 0 4 (dk_at dksX2_whose_3 19 rfl rfl)
theorem dX2_whose_90 : decode cX2_whose 90 = .ok (.iconst 0, 1) := dk_3 (dk_at dksX2_whose_3 22 rfl rfl)
theorem dX2_whose_91 : decode cX2_whose 91 = .ok (.ior, 1) := dk_128 (dk_at dksX2_whose_3 23 rfl rfl)
theorem dX2_whose_92 : decode cX2_whose 92 = .ok (.istore_n 1, 1) := dk_60 (dk_at dksX2_whose_4 0 rfl rfl)
theorem dX2_whose_93 : decode cX2_whose 93 = .ok (.iinc 2 1, 3) := dk_132 2 1 (dk_at dksX2_whose_4 1 rfl rfl)
theorem dX2_whose_96 : decode cX2_whose 96 = .ok (.goto (-92), 3) := dk_167 255 164 (dk_at dksX2_whose_4 4 rfl rfl)
theorem dX2_whose_99 : decode cX2_whose 99 = .ok (.iload_n 1, 1) := dk_27 (dk_at dksX2_whose_4 7 rfl rfl)
theorem dX2_whose_100 : decode cX2_whose 100 = .ok (.ireturn, 1) := dk_172 (dk_at dksX2_whose_4 8 rfl rfl)
abbrev cX2_image : ByteArray := prog_20_method_149_code
def yX2_image : MethodName := ⟨RX2, "image", "()I"⟩
def dkwX2_image_0 : List UInt8 := [42, 180, 0, 7, 42, 180, 0, 13, 184, 0, 68, 42, 180, 0, 7, 16, 7, 46, 172]
abbrev dktX2_image_0 : List UInt8 := dkwX2_image_0 ++ []
theorem dksX2_image_0 : cX2_image.data.toList.drop 0 = dktX2_image_0 := by decide +kernel
theorem dX2_image_0 : decode cX2_image 0 = .ok (.aload_n 0, 1) := dk_42 (dk_at dksX2_image_0 0 rfl rfl)
theorem dX2_image_1 : decode cX2_image 1 = .ok (.getfield 7, 3) := dk_180 0 7 (dk_at dksX2_image_0 1 rfl rfl)
theorem dX2_image_4 : decode cX2_image 4 = .ok (.aload_n 0, 1) := dk_42 (dk_at dksX2_image_0 4 rfl rfl)
theorem dX2_image_5 : decode cX2_image 5 = .ok (.getfield 13, 3) := dk_180 0 13 (dk_at dksX2_image_0 5 rfl rfl)
theorem dX2_image_8 : decode cX2_image 8 = .ok (.invokestatic 68, 3) := dk_184 0 68 (dk_at dksX2_image_0 8 rfl rfl)
theorem dX2_image_11 : decode cX2_image 11 = .ok (.aload_n 0, 1) := dk_42 (dk_at dksX2_image_0 11 rfl rfl)
theorem dX2_image_12 : decode cX2_image 12 = .ok (.getfield 7, 3) := dk_180 0 7 (dk_at dksX2_image_0 12 rfl rfl)
theorem dX2_image_15 : decode cX2_image 15 = .ok (.bipush 7, 2) := dk_16 7 (dk_at dksX2_image_0 15 rfl rfl)
theorem dX2_image_17 : decode cX2_image 17 = .ok (.iaload, 1) := dk_46 (dk_at dksX2_image_0 17 rfl rfl)
theorem dX2_image_18 : decode cX2_image 18 = .ok (.ireturn, 1) := dk_172 (dk_at dksX2_image_0 18 rfl rfl)
abbrev cX2_back : ByteArray := prog_20_method_150_code
def yX2_back : MethodName := ⟨RX2, "back", "()I"⟩
def dkwX2_back_0 : List UInt8 := [42, 180, 0, 13, 42, 180, 0, 7, 184, 0, 68, 42, 180, 0, 7, 16, 7, 46, 172]
abbrev dktX2_back_0 : List UInt8 := dkwX2_back_0 ++ []
theorem dksX2_back_0 : cX2_back.data.toList.drop 0 = dktX2_back_0 := by decide +kernel
theorem dX2_back_0 : decode cX2_back 0 = .ok (.aload_n 0, 1) := dk_42 (dk_at dksX2_back_0 0 rfl rfl)
theorem dX2_back_1 : decode cX2_back 1 = .ok (.getfield 13, 3) := dk_180 0 13 (dk_at dksX2_back_0 1 rfl rfl)
theorem dX2_back_4 : decode cX2_back 4 = .ok (.aload_n 0, 1) := dk_42 (dk_at dksX2_back_0 4 rfl rfl)
theorem dX2_back_5 : decode cX2_back 5 = .ok (.getfield 7, 3) := dk_180 0 7 (dk_at dksX2_back_0 5 rfl rfl)
theorem dX2_back_8 : decode cX2_back 8 = .ok (.invokestatic 68, 3) := dk_184 0 68 (dk_at dksX2_back_0 8 rfl rfl)
theorem dX2_back_11 : decode cX2_back 11 = .ok (.aload_n 0, 1) := dk_42 (dk_at dksX2_back_0 11 rfl rfl)
theorem dX2_back_12 : decode cX2_back 12 = .ok (.getfield 7, 3) := dk_180 0 7 (dk_at dksX2_back_0 12 rfl rfl)
theorem dX2_back_15 : decode cX2_back 15 = .ok (.bipush 7, 2) := dk_16 7 (dk_at dksX2_back_0 15 rfl rfl)
theorem dX2_back_17 : decode cX2_back 17 = .ok (.iaload, 1) := dk_46 (dk_at dksX2_back_0 17 rfl rfl)
theorem dX2_back_18 : decode cX2_back 18 = .ok (.ireturn, 1) := dk_172 (dk_at dksX2_back_0 18 rfl rfl)
abbrev cX2_about : ByteArray := prog_20_method_151_code
def yX2_about : MethodName := ⟨RX2, "about", "(I)I"⟩
def dkwX2_about_1 : List UInt8 := [160, 0, 10, 42, 180, 0, 96, 167, 0, 5, 16, 254, 172]
abbrev dktX2_about_1 : List UInt8 := dkwX2_about_1 ++ []
def dkwX2_about_0 : List UInt8 := [27, 3, 16, 6, 184, 0, 72, 153, 0, 12, 42, 180, 0, 7, 27, 46, 167, 0, 18, 27, 16, 7]
abbrev dktX2_about_0 : List UInt8 := dkwX2_about_0 ++ dktX2_about_1
theorem dksX2_about_0 : cX2_about.data.toList.drop 0 = dktX2_about_0 := by decide +kernel
theorem dksX2_about_1 : cX2_about.data.toList.drop 22 = dktX2_about_1 := dk_seg dksX2_about_0 22 rfl rfl
theorem dX2_about_0 : decode cX2_about 0 = .ok (.iload_n 1, 1) := dk_27 (dk_at dksX2_about_0 0 rfl rfl)
theorem dX2_about_1 : decode cX2_about 1 = .ok (.iconst 0, 1) := dk_3 (dk_at dksX2_about_0 1 rfl rfl)
theorem dX2_about_2 : decode cX2_about 2 = .ok (.bipush 6, 2) := dk_16 6 (dk_at dksX2_about_0 2 rfl rfl)
theorem dX2_about_4 : decode cX2_about 4 = .ok (.invokestatic 72, 3) := dk_184 0 72 (dk_at dksX2_about_0 4 rfl rfl)
theorem dX2_about_7 : decode cX2_about 7 = .ok (.ifCond .eq 12, 3) := dk_153 0 12 (dk_at dksX2_about_0 7 rfl rfl)
theorem dX2_about_10 : decode cX2_about 10 = .ok (.aload_n 0, 1) := dk_42 (dk_at dksX2_about_0 10 rfl rfl)
theorem dX2_about_11 : decode cX2_about 11 = .ok (.getfield 7, 3) := dk_180 0 7 (dk_at dksX2_about_0 11 rfl rfl)
theorem dX2_about_14 : decode cX2_about 14 = .ok (.iload_n 1, 1) := dk_27 (dk_at dksX2_about_0 14 rfl rfl)
theorem dX2_about_15 : decode cX2_about 15 = .ok (.iaload, 1) := dk_46 (dk_at dksX2_about_0 15 rfl rfl)
theorem dX2_about_16 : decode cX2_about 16 = .ok (.goto 18, 3) := dk_167 0 18 (dk_at dksX2_about_0 16 rfl rfl)
theorem dX2_about_19 : decode cX2_about 19 = .ok (.iload_n 1, 1) := dk_27 (dk_at dksX2_about_0 19 rfl rfl)
theorem dX2_about_20 : decode cX2_about 20 = .ok (.bipush 7, 2) := dk_16 7 (dk_at dksX2_about_0 20 rfl rfl)
theorem dX2_about_22 : decode cX2_about 22 = .ok (.if_icmp .ne 10, 3) := dk_160 0 10 (dk_at dksX2_about_1 0 rfl rfl)
theorem dX2_about_25 : decode cX2_about 25 = .ok (.aload_n 0, 1) := dk_42 (dk_at dksX2_about_1 3 rfl rfl)
theorem dX2_about_26 : decode cX2_about 26 = .ok (.getfield 96, 3) := dk_180 0 96 (dk_at dksX2_about_1 4 rfl rfl)
theorem dX2_about_29 : decode cX2_about 29 = .ok (.goto 5, 3) := dk_167 0 5 (dk_at dksX2_about_1 7 rfl rfl)
theorem dX2_about_32 : decode cX2_about 32 = .ok (.bipush (-2), 2) := dk_16 254 (dk_at dksX2_about_1 10 rfl rfl)
theorem dX2_about_34 : decode cX2_about 34 = .ok (.ireturn, 1) := dk_172 (dk_at dksX2_about_1 12 rfl rfl)
theorem q126 : (Jvm.Cond.initialized "QuiverKinModel") ∈ lw_all := lw_g (lw_at lw_m1 4 rfl) rfl
theorem q683 : (Jvm.Cond.selects "QuiverKinModel" ({ cls := "java/lang/Object", name := "getClass", desc := "()Ljava/lang/Class;" } : Jvm.MethodName) ({ cls := "java/lang/Object", name := "getClass", desc := "()Ljava/lang/Class;" } : Jvm.MethodName)) ∈ lw_all := lw_g (lw_at lw_m3 81 rfl) rfl
theorem q1402 : (Jvm.Cond.instantiable "QuiverKinModel" (39 : Nat)) ∈ lw_all := lw_g (lw_at lw_m6 80 rfl) rfl
theorem q1404 : (Jvm.Cond.instanceMethod ({ cls := "QuiverKinModel", name := "<init>", desc := "()V" } : Jvm.MethodName)) ∈ lw_all := lw_g (lw_at lw_m6 82 rfl) rfl
theorem q1405 : (Jvm.Cond.code ({ cls := "QuiverKinModel", name := "<init>", desc := "()V" } : Jvm.MethodName) prog_20_method_1_code (1 : Nat) (Option.none : Option Jvm.ClassFile.FieldType)) ∈ lw_all := lw_g (lw_at lw_m6 83 rfl) rfl
theorem q1406 : (Jvm.Cond.methodLink "QuiverKinModel" (1 : Nat) ({ cls := "java/lang/Object", name := "<init>", desc := "()V" } : Jvm.MethodName)) ∈ lw_all := lw_g (lw_at lw_m6 84 rfl) rfl
theorem q1407 : (Jvm.Cond.methodLink "QuiverKinModel" (68 : Nat) ({ cls := "QuiverKinModel", name := "copy", desc := "([I[I)V" } : Jvm.MethodName)) ∈ lw_all := lw_g (lw_at lw_m6 85 rfl) rfl
theorem q1408 : (Jvm.Cond.static ({ cls := "QuiverKinModel", name := "copy", desc := "([I[I)V" } : Jvm.MethodName)) ∈ lw_all := lw_g (lw_at lw_m6 86 rfl) rfl
theorem q1409 : (Jvm.Cond.code ({ cls := "QuiverKinModel", name := "copy", desc := "([I[I)V" } : Jvm.MethodName) prog_20_method_2_code (3 : Nat) (Option.none : Option Jvm.ClassFile.FieldType)) ∈ lw_all := lw_g (lw_at lw_m6 87 rfl) rfl
theorem q1410 : (Jvm.Cond.fieldLink "QuiverKinModel" (7 : Nat) "QuiverKinModel" "a" "[I") ∈ lw_all := lw_g (lw_at lw_m6 88 rfl) rfl
theorem q1411 : (Jvm.Cond.fieldLink "QuiverKinModel" (13 : Nat) "QuiverKinModel" "image" "[I") ∈ lw_all := lw_g (lw_at lw_m6 89 rfl) rfl
theorem q1412 : (Jvm.Cond.fieldLink "QuiverKinModel" (16 : Nat) "QuiverKinModel" "texts" "[I") ∈ lw_all := lw_g (lw_at lw_m6 90 rfl) rfl
theorem q1413 : (Jvm.Cond.fieldLink "QuiverKinModel" (19 : Nat) "QuiverKinModel" "tape" "[I") ∈ lw_all := lw_g (lw_at lw_m6 91 rfl) rfl
theorem q1414 : (Jvm.Cond.fieldLink "QuiverKinModel" (96 : Nat) "QuiverKinModel" "taped" "I") ∈ lw_all := lw_g (lw_at lw_m6 92 rfl) rfl
theorem q1415 : (Jvm.Cond.fieldLink "QuiverKinModel" (22 : Nat) "QuiverKinModel" "fault" "I") ∈ lw_all := lw_g (lw_at lw_m6 93 rfl) rfl
theorem q1416 : (Jvm.Cond.fieldLink "QuiverKinModel" (26 : Nat) "QuiverKinModel" "faultPlace" "I") ∈ lw_all := lw_g (lw_at lw_m6 94 rfl) rfl
theorem q1417 : (Jvm.Cond.fieldLink "QuiverKinModel" (102 : Nat) "QuiverKinModel" "cursor" "I") ∈ lw_all := lw_g (lw_at lw_m6 95 rfl) rfl
theorem q1418 : (Jvm.Cond.fieldLink "QuiverKinModel" (108 : Nat) "QuiverKinModel" "place" "I") ∈ lw_all := lw_g (lw_at lw_m6 96 rfl) rfl
theorem q1419 : (Jvm.Cond.fieldLink "QuiverKinModel" (111 : Nat) "QuiverKinModel" "token" "I") ∈ lw_all := lw_g (lw_at lw_m6 97 rfl) rfl
theorem q1420 : (Jvm.Cond.fieldLink "QuiverKinModel" (117 : Nat) "QuiverKinModel" "number" "I") ∈ lw_all := lw_g (lw_at lw_m6 98 rfl) rfl
theorem q1421 : (Jvm.Cond.fieldLink "QuiverKinModel" (124 : Nat) "QuiverKinModel" "word" "J") ∈ lw_all := lw_g (lw_at lw_m6 99 rfl) rfl
theorem q1422 : (Jvm.Cond.fieldLink "QuiverKinModel" (149 : Nat) "QuiverKinModel" "text0" "I") ∈ lw_all := lw_g (lw_at lw_m6 100 rfl) rfl
theorem q1423 : (Jvm.Cond.fieldLink "QuiverKinModel" (152 : Nat) "QuiverKinModel" "written" "I") ∈ lw_all := lw_g (lw_at lw_m6 101 rfl) rfl
theorem q1424 : (Jvm.Cond.fieldLink "QuiverKinModel" (159 : Nat) "QuiverKinModel" "sort0" "I") ∈ lw_all := lw_g (lw_at lw_m6 102 rfl) rfl
theorem q1425 : (Jvm.Cond.fieldLink "QuiverKinModel" (29 : Nat) "QuiverKinModel" "pile" "[I") ∈ lw_all := lw_g (lw_at lw_m6 103 rfl) rfl
theorem q1426 : (Jvm.Cond.fieldLink "QuiverKinModel" (162 : Nat) "QuiverKinModel" "piled" "I") ∈ lw_all := lw_g (lw_at lw_m6 104 rfl) rfl
theorem q1427 : (Jvm.Cond.fieldLink "QuiverKinModel" (172 : Nat) "QuiverKinModel" "opens" "I") ∈ lw_all := lw_g (lw_at lw_m6 105 rfl) rfl
theorem q1428 : (Jvm.Cond.fieldLink "QuiverKinModel" (191 : Nat) "QuiverKinModel" "isWhole" "Z") ∈ lw_all := lw_g (lw_at lw_m6 106 rfl) rfl
theorem q1429 : (Jvm.Cond.fieldLink "QuiverKinModel" (246 : Nat) "QuiverKinModel" "once" "I") ∈ lw_all := lw_g (lw_at lw_m6 107 rfl) rfl
theorem q1430 : (Jvm.Cond.fieldLink "QuiverKinModel" (32 : Nat) "QuiverKinModel" "named" "[I") ∈ lw_all := lw_g (lw_at lw_m6 108 rfl) rfl
theorem q1431 : (Jvm.Cond.fieldLink "QuiverKinModel" (35 : Nat) "QuiverKinModel" "values" "[J") ∈ lw_all := lw_g (lw_at lw_m6 109 rfl) rfl
theorem q1432 : (Jvm.Cond.fieldLink "QuiverKinModel" (39 : Nat) "QuiverKinModel" "truth" "[Z") ∈ lw_all := lw_g (lw_at lw_m6 110 rfl) rfl
theorem q1433 : (Jvm.Cond.fieldLink "QuiverKinModel" (43 : Nat) "QuiverKinModel" "isWritten" "Z") ∈ lw_all := lw_g (lw_at lw_m6 111 rfl) rfl
theorem q1434 : (Jvm.Cond.fieldLink "QuiverKinModel" (311 : Nat) "QuiverKinModel" "loosed" "I") ∈ lw_all := lw_g (lw_at lw_m6 112 rfl) rfl
theorem q1435 : (Jvm.Cond.fieldLink "QuiverKinModel" (47 : Nat) "QuiverKinModel" "aside" "[I") ∈ lw_all := lw_g (lw_at lw_m6 113 rfl) rfl
theorem q1436 : (Jvm.Cond.fieldLink "QuiverKinModel" (50 : Nat) "QuiverKinModel" "row" "[I") ∈ lw_all := lw_g (lw_at lw_m6 114 rfl) rfl
theorem q1437 : (Jvm.Cond.fieldLink "QuiverKinModel" (53 : Nat) "QuiverKinModel" "bestRow" "[I") ∈ lw_all := lw_g (lw_at lw_m6 115 rfl) rfl
theorem q1438 : (Jvm.Cond.fieldLink "QuiverKinModel" (376 : Nat) "QuiverKinModel" "leastSpite" "I") ∈ lw_all := lw_g (lw_at lw_m6 116 rfl) rfl
theorem q1439 : (Jvm.Cond.fieldLink "QuiverKinModel" (379 : Nat) "QuiverKinModel" "asGood" "I") ∈ lw_all := lw_g (lw_at lw_m6 117 rfl) rfl
theorem q1440 : (Jvm.Cond.fieldLink "QuiverKinModel" (382 : Nat) "QuiverKinModel" "mostSpite" "I") ∈ lw_all := lw_g (lw_at lw_m6 118 rfl) rfl
theorem q1441 : (Jvm.Cond.fieldLink "QuiverKinModel" (56 : Nat) "QuiverKinModel" "hadCome" "[Z") ∈ lw_all := lw_g (lw_at lw_m6 119 rfl) rfl
theorem q1442 : (Jvm.Cond.fieldLink "QuiverKinModel" (400 : Nat) "QuiverKinModel" "flown" "I") ∈ lw_all := lw_g (lw_at lw_m6 120 rfl) rfl
theorem q1443 : (Jvm.Cond.fieldLink "QuiverKinModel" (403 : Nat) "QuiverKinModel" "lastCell" "I") ∈ lw_all := lw_g (lw_at lw_m6 121 rfl) rfl
theorem q1444 : (Jvm.Cond.fieldLink "QuiverKinModel" (406 : Nat) "QuiverKinModel" "turns" "I") ∈ lw_all := lw_g (lw_at lw_m6 122 rfl) rfl
theorem q1445 : (Jvm.Cond.fieldLink "QuiverKinModel" (409 : Nat) "QuiverKinModel" "lastWay" "I") ∈ lw_all := lw_g (lw_at lw_m6 123 rfl) rfl
theorem q1446 : (Jvm.Cond.fieldLink "QuiverKinModel" (59 : Nat) "QuiverKinModel" "fitting" "[I") ∈ lw_all := lw_g (lw_at lw_m6 124 rfl) rfl
theorem q1447 : (Jvm.Cond.fieldLink "QuiverKinModel" (62 : Nat) "QuiverKinModel" "often" "[I") ∈ lw_all := lw_g (lw_at lw_m6 125 rfl) rfl
theorem q1448 : (Jvm.Cond.fieldLink "QuiverKinModel" (65 : Nat) "QuiverKinModel" "wins" "[Z") ∈ lw_all := lw_g (lw_at lw_m6 126 rfl) rfl
theorem q1449 : (Jvm.Cond.laysFinal "QuiverKinModel" "QuiverKinModel" "a" "[I") ∈ lw_all := lw_g (lw_at lw_m6 127 rfl) rfl
theorem q1450 : (Jvm.Cond.soleField "QuiverKinModel" "a") ∈ lw_all := lw_g (lw_at lw_m6 128 rfl) rfl
theorem q1451 : (Jvm.Cond.laysFinal "QuiverKinModel" "QuiverKinModel" "image" "[I") ∈ lw_all := lw_g (lw_at lw_m6 129 rfl) rfl
theorem q1452 : (Jvm.Cond.soleField "QuiverKinModel" "image") ∈ lw_all := lw_g (lw_at lw_m6 130 rfl) rfl
theorem q1453 : (Jvm.Cond.laysFinal "QuiverKinModel" "QuiverKinModel" "texts" "[I") ∈ lw_all := lw_g (lw_at lw_m6 131 rfl) rfl
theorem q1454 : (Jvm.Cond.soleField "QuiverKinModel" "texts") ∈ lw_all := lw_g (lw_at lw_m6 132 rfl) rfl
theorem q1455 : (Jvm.Cond.laysFinal "QuiverKinModel" "QuiverKinModel" "tape" "[I") ∈ lw_all := lw_g (lw_at lw_m6 133 rfl) rfl
theorem q1456 : (Jvm.Cond.soleField "QuiverKinModel" "tape") ∈ lw_all := lw_g (lw_at lw_m6 134 rfl) rfl
theorem q1457 : (Jvm.Cond.lays "QuiverKinModel" "QuiverKinModel" "taped" "I") ∈ lw_all := lw_g (lw_at lw_m6 135 rfl) rfl
theorem q1458 : (Jvm.Cond.soleField "QuiverKinModel" "taped") ∈ lw_all := lw_g (lw_at lw_m6 136 rfl) rfl
theorem q1459 : (Jvm.Cond.lays "QuiverKinModel" "QuiverKinModel" "fault" "I") ∈ lw_all := lw_g (lw_at lw_m6 137 rfl) rfl
theorem q1460 : (Jvm.Cond.soleField "QuiverKinModel" "fault") ∈ lw_all := lw_g (lw_at lw_m6 138 rfl) rfl
theorem q1461 : (Jvm.Cond.lays "QuiverKinModel" "QuiverKinModel" "faultPlace" "I") ∈ lw_all := lw_g (lw_at lw_m6 139 rfl) rfl
theorem q1462 : (Jvm.Cond.soleField "QuiverKinModel" "faultPlace") ∈ lw_all := lw_g (lw_at lw_m6 140 rfl) rfl
theorem q1463 : (Jvm.Cond.lays "QuiverKinModel" "QuiverKinModel" "cursor" "I") ∈ lw_all := lw_g (lw_at lw_m6 141 rfl) rfl
theorem q1464 : (Jvm.Cond.soleField "QuiverKinModel" "cursor") ∈ lw_all := lw_g (lw_at lw_m6 142 rfl) rfl
theorem q1465 : (Jvm.Cond.lays "QuiverKinModel" "QuiverKinModel" "place" "I") ∈ lw_all := lw_g (lw_at lw_m6 143 rfl) rfl
theorem q1466 : (Jvm.Cond.soleField "QuiverKinModel" "place") ∈ lw_all := lw_g (lw_at lw_m6 144 rfl) rfl
theorem q1467 : (Jvm.Cond.lays "QuiverKinModel" "QuiverKinModel" "token" "I") ∈ lw_all := lw_g (lw_at lw_m6 145 rfl) rfl
theorem q1468 : (Jvm.Cond.soleField "QuiverKinModel" "token") ∈ lw_all := lw_g (lw_at lw_m6 146 rfl) rfl
theorem q1469 : (Jvm.Cond.lays "QuiverKinModel" "QuiverKinModel" "number" "I") ∈ lw_all := lw_g (lw_at lw_m6 147 rfl) rfl
theorem q1470 : (Jvm.Cond.soleField "QuiverKinModel" "number") ∈ lw_all := lw_g (lw_at lw_m6 148 rfl) rfl
theorem q1471 : (Jvm.Cond.lays "QuiverKinModel" "QuiverKinModel" "word" "J") ∈ lw_all := lw_g (lw_at lw_m6 149 rfl) rfl
theorem q1472 : (Jvm.Cond.soleField "QuiverKinModel" "word") ∈ lw_all := lw_g (lw_at lw_m6 150 rfl) rfl
theorem q1473 : (Jvm.Cond.lays "QuiverKinModel" "QuiverKinModel" "text0" "I") ∈ lw_all := lw_g (lw_at lw_m6 151 rfl) rfl
theorem q1474 : (Jvm.Cond.soleField "QuiverKinModel" "text0") ∈ lw_all := lw_g (lw_at lw_m6 152 rfl) rfl
theorem q1475 : (Jvm.Cond.lays "QuiverKinModel" "QuiverKinModel" "written" "I") ∈ lw_all := lw_g (lw_at lw_m6 153 rfl) rfl
theorem q1476 : (Jvm.Cond.soleField "QuiverKinModel" "written") ∈ lw_all := lw_g (lw_at lw_m6 154 rfl) rfl
theorem q1477 : (Jvm.Cond.lays "QuiverKinModel" "QuiverKinModel" "sort0" "I") ∈ lw_all := lw_g (lw_at lw_m6 155 rfl) rfl
theorem q1478 : (Jvm.Cond.soleField "QuiverKinModel" "sort0") ∈ lw_all := lw_g (lw_at lw_m6 156 rfl) rfl
theorem q1479 : (Jvm.Cond.laysFinal "QuiverKinModel" "QuiverKinModel" "pile" "[I") ∈ lw_all := lw_g (lw_at lw_m6 157 rfl) rfl
theorem q1480 : (Jvm.Cond.soleField "QuiverKinModel" "pile") ∈ lw_all := lw_g (lw_at lw_m6 158 rfl) rfl
theorem q1481 : (Jvm.Cond.lays "QuiverKinModel" "QuiverKinModel" "piled" "I") ∈ lw_all := lw_g (lw_at lw_m6 159 rfl) rfl
theorem q1482 : (Jvm.Cond.soleField "QuiverKinModel" "piled") ∈ lw_all := lw_g (lw_at lw_m6 160 rfl) rfl
theorem q1483 : (Jvm.Cond.lays "QuiverKinModel" "QuiverKinModel" "opens" "I") ∈ lw_all := lw_g (lw_at lw_m6 161 rfl) rfl
theorem q1484 : (Jvm.Cond.soleField "QuiverKinModel" "opens") ∈ lw_all := lw_g (lw_at lw_m6 162 rfl) rfl
theorem q1485 : (Jvm.Cond.lays "QuiverKinModel" "QuiverKinModel" "isWhole" "Z") ∈ lw_all := lw_g (lw_at lw_m6 163 rfl) rfl
theorem q1486 : (Jvm.Cond.soleField "QuiverKinModel" "isWhole") ∈ lw_all := lw_g (lw_at lw_m6 164 rfl) rfl
theorem q1487 : (Jvm.Cond.lays "QuiverKinModel" "QuiverKinModel" "once" "I") ∈ lw_all := lw_g (lw_at lw_m6 165 rfl) rfl
theorem q1488 : (Jvm.Cond.soleField "QuiverKinModel" "once") ∈ lw_all := lw_g (lw_at lw_m6 166 rfl) rfl
theorem q1489 : (Jvm.Cond.laysFinal "QuiverKinModel" "QuiverKinModel" "named" "[I") ∈ lw_all := lw_g (lw_at lw_m6 167 rfl) rfl
theorem q1490 : (Jvm.Cond.soleField "QuiverKinModel" "named") ∈ lw_all := lw_g (lw_at lw_m6 168 rfl) rfl
theorem q1491 : (Jvm.Cond.laysFinal "QuiverKinModel" "QuiverKinModel" "values" "[J") ∈ lw_all := lw_g (lw_at lw_m6 169 rfl) rfl
theorem q1492 : (Jvm.Cond.soleField "QuiverKinModel" "values") ∈ lw_all := lw_g (lw_at lw_m6 170 rfl) rfl
theorem q1493 : (Jvm.Cond.laysFinal "QuiverKinModel" "QuiverKinModel" "truth" "[Z") ∈ lw_all := lw_g (lw_at lw_m6 171 rfl) rfl
theorem q1494 : (Jvm.Cond.soleField "QuiverKinModel" "truth") ∈ lw_all := lw_g (lw_at lw_m6 172 rfl) rfl
theorem q1495 : (Jvm.Cond.lays "QuiverKinModel" "QuiverKinModel" "isWritten" "Z") ∈ lw_all := lw_g (lw_at lw_m6 173 rfl) rfl
theorem q1496 : (Jvm.Cond.soleField "QuiverKinModel" "isWritten") ∈ lw_all := lw_g (lw_at lw_m6 174 rfl) rfl
theorem q1497 : (Jvm.Cond.lays "QuiverKinModel" "QuiverKinModel" "loosed" "I") ∈ lw_all := lw_g (lw_at lw_m6 175 rfl) rfl
theorem q1498 : (Jvm.Cond.soleField "QuiverKinModel" "loosed") ∈ lw_all := lw_g (lw_at lw_m6 176 rfl) rfl
theorem q1499 : (Jvm.Cond.laysFinal "QuiverKinModel" "QuiverKinModel" "aside" "[I") ∈ lw_all := lw_g (lw_at lw_m6 177 rfl) rfl
theorem q1500 : (Jvm.Cond.soleField "QuiverKinModel" "aside") ∈ lw_all := lw_g (lw_at lw_m6 178 rfl) rfl
theorem q1501 : (Jvm.Cond.laysFinal "QuiverKinModel" "QuiverKinModel" "row" "[I") ∈ lw_all := lw_g (lw_at lw_m6 179 rfl) rfl
theorem q1502 : (Jvm.Cond.soleField "QuiverKinModel" "row") ∈ lw_all := lw_g (lw_at lw_m6 180 rfl) rfl
theorem q1503 : (Jvm.Cond.laysFinal "QuiverKinModel" "QuiverKinModel" "bestRow" "[I") ∈ lw_all := lw_g (lw_at lw_m6 181 rfl) rfl
theorem q1504 : (Jvm.Cond.soleField "QuiverKinModel" "bestRow") ∈ lw_all := lw_g (lw_at lw_m6 182 rfl) rfl
theorem q1505 : (Jvm.Cond.lays "QuiverKinModel" "QuiverKinModel" "leastSpite" "I") ∈ lw_all := lw_g (lw_at lw_m6 183 rfl) rfl
theorem q1506 : (Jvm.Cond.soleField "QuiverKinModel" "leastSpite") ∈ lw_all := lw_g (lw_at lw_m6 184 rfl) rfl
theorem q1507 : (Jvm.Cond.lays "QuiverKinModel" "QuiverKinModel" "asGood" "I") ∈ lw_all := lw_g (lw_at lw_m6 185 rfl) rfl
theorem q1508 : (Jvm.Cond.soleField "QuiverKinModel" "asGood") ∈ lw_all := lw_g (lw_at lw_m6 186 rfl) rfl
theorem q1509 : (Jvm.Cond.lays "QuiverKinModel" "QuiverKinModel" "mostSpite" "I") ∈ lw_all := lw_g (lw_at lw_m6 187 rfl) rfl
theorem q1510 : (Jvm.Cond.soleField "QuiverKinModel" "mostSpite") ∈ lw_all := lw_g (lw_at lw_m6 188 rfl) rfl
theorem q1511 : (Jvm.Cond.laysFinal "QuiverKinModel" "QuiverKinModel" "hadCome" "[Z") ∈ lw_all := lw_g (lw_at lw_m6 189 rfl) rfl
theorem q1512 : (Jvm.Cond.soleField "QuiverKinModel" "hadCome") ∈ lw_all := lw_g (lw_at lw_m6 190 rfl) rfl
theorem q1513 : (Jvm.Cond.lays "QuiverKinModel" "QuiverKinModel" "flown" "I") ∈ lw_all := lw_g (lw_at lw_m6 191 rfl) rfl
theorem q1514 : (Jvm.Cond.soleField "QuiverKinModel" "flown") ∈ lw_all := lw_g (lw_at lw_m6 192 rfl) rfl
theorem q1515 : (Jvm.Cond.lays "QuiverKinModel" "QuiverKinModel" "lastCell" "I") ∈ lw_all := lw_g (lw_at lw_m6 193 rfl) rfl
theorem q1516 : (Jvm.Cond.soleField "QuiverKinModel" "lastCell") ∈ lw_all := lw_g (lw_at lw_m6 194 rfl) rfl
theorem q1517 : (Jvm.Cond.lays "QuiverKinModel" "QuiverKinModel" "turns" "I") ∈ lw_all := lw_g (lw_at lw_m6 195 rfl) rfl
theorem q1518 : (Jvm.Cond.soleField "QuiverKinModel" "turns") ∈ lw_all := lw_g (lw_at lw_m6 196 rfl) rfl
theorem q1519 : (Jvm.Cond.lays "QuiverKinModel" "QuiverKinModel" "lastWay" "I") ∈ lw_all := lw_g (lw_at lw_m6 197 rfl) rfl
theorem q1520 : (Jvm.Cond.soleField "QuiverKinModel" "lastWay") ∈ lw_all := lw_g (lw_at lw_m6 198 rfl) rfl
theorem q1521 : (Jvm.Cond.laysFinal "QuiverKinModel" "QuiverKinModel" "fitting" "[I") ∈ lw_all := lw_g (lw_at lw_m6 199 rfl) rfl
theorem q1522 : (Jvm.Cond.soleField "QuiverKinModel" "fitting") ∈ lw_all := lw_g (lw_at lw_m6 200 rfl) rfl
theorem q1523 : (Jvm.Cond.laysFinal "QuiverKinModel" "QuiverKinModel" "often" "[I") ∈ lw_all := lw_g (lw_at lw_m6 201 rfl) rfl
theorem q1524 : (Jvm.Cond.soleField "QuiverKinModel" "often") ∈ lw_all := lw_g (lw_at lw_m6 202 rfl) rfl
theorem q1525 : (Jvm.Cond.laysFinal "QuiverKinModel" "QuiverKinModel" "wins" "[Z") ∈ lw_all := lw_g (lw_at lw_m6 203 rfl) rfl
theorem q1526 : (Jvm.Cond.soleField "QuiverKinModel" "wins") ∈ lw_all := lw_g (lw_at lw_m6 204 rfl) rfl
theorem q1527 : (Jvm.Cond.superclass "QuiverKinModel" "java/lang/Object") ∈ lw_all := lw_g (lw_at lw_m6 205 rfl) rfl
theorem q1531 : (Jvm.Cond.instanceMethod ({ cls := "QuiverKinModel", name := "kin", desc := "(II)I" } : Jvm.MethodName)) ∈ lw_all := lw_g (lw_at lw_m6 209 rfl) rfl
theorem q1532 : (Jvm.Cond.selects "QuiverKinModel" ({ cls := "QuiverKinModel", name := "kin", desc := "(II)I" } : Jvm.MethodName) ({ cls := "QuiverKinModel", name := "kin", desc := "(II)I" } : Jvm.MethodName)) ∈ lw_all := lw_g (lw_at lw_m6 210 rfl) rfl
theorem q1533 : (Jvm.Cond.code ({ cls := "QuiverKinModel", name := "kin", desc := "(II)I" } : Jvm.MethodName) prog_20_method_12_code (4 : Nat) (Option.some Jvm.ClassFile.FieldType.int)) ∈ lw_all := lw_g (lw_at lw_m6 211 rfl) rfl
theorem q1534 : (Jvm.Cond.methodLink "QuiverKinModel" (72 : Nat) ({ cls := "QuiverKinModel", name := "isIn", desc := "(III)Z" } : Jvm.MethodName)) ∈ lw_all := lw_g (lw_at lw_m6 212 rfl) rfl
theorem q1535 : (Jvm.Cond.static ({ cls := "QuiverKinModel", name := "isIn", desc := "(III)Z" } : Jvm.MethodName)) ∈ lw_all := lw_g (lw_at lw_m6 213 rfl) rfl
theorem q1536 : (Jvm.Cond.code ({ cls := "QuiverKinModel", name := "isIn", desc := "(III)Z" } : Jvm.MethodName) prog_20_method_3_code (3 : Nat) (Option.some Jvm.ClassFile.FieldType.boolean)) ∈ lw_all := lw_g (lw_at lw_m6 214 rfl) rfl
theorem q1537 : (Jvm.Cond.methodLink "QuiverKinModel" (88 : Nat) ({ cls := "QuiverKinModel", name := "begin", desc := "(I)V" } : Jvm.MethodName)) ∈ lw_all := lw_g (lw_at lw_m6 215 rfl) rfl
theorem q1538 : (Jvm.Cond.privateMethod ({ cls := "QuiverKinModel", name := "begin", desc := "(I)V" } : Jvm.MethodName)) ∈ lw_tbl := lw_at lw_m6 216 rfl
theorem q1539 : (Jvm.Cond.instanceMethod ({ cls := "QuiverKinModel", name := "begin", desc := "(I)V" } : Jvm.MethodName)) ∈ lw_all := lw_g (lw_at lw_m6 217 rfl) rfl
theorem q1540 : (Jvm.Cond.code ({ cls := "QuiverKinModel", name := "begin", desc := "(I)V" } : Jvm.MethodName) prog_20_method_13_code (2 : Nat) (Option.none : Option Jvm.ClassFile.FieldType)) ∈ lw_all := lw_g (lw_at lw_m6 218 rfl) rfl
theorem q1542 : (Jvm.Cond.instanceMethod ({ cls := "QuiverKinModel", name := "spite", desc := "(III)Z" } : Jvm.MethodName)) ∈ lw_all := lw_g (lw_at lw_m6 220 rfl) rfl
theorem q1543 : (Jvm.Cond.selects "QuiverKinModel" ({ cls := "QuiverKinModel", name := "spite", desc := "(III)Z" } : Jvm.MethodName) ({ cls := "QuiverKinModel", name := "spite", desc := "(III)Z" } : Jvm.MethodName)) ∈ lw_all := lw_g (lw_at lw_m6 221 rfl) rfl
theorem q1544 : (Jvm.Cond.code ({ cls := "QuiverKinModel", name := "spite", desc := "(III)Z" } : Jvm.MethodName) prog_20_method_14_code (4 : Nat) (Option.some Jvm.ClassFile.FieldType.boolean)) ∈ lw_all := lw_g (lw_at lw_m6 222 rfl) rfl
theorem q1545 : (Jvm.Cond.methodLink "QuiverKinModel" (92 : Nat) ({ cls := "QuiverKinModel", name := "isKin", desc := "(I)Z" } : Jvm.MethodName)) ∈ lw_all := lw_g (lw_at lw_m6 223 rfl) rfl
theorem q1546 : (Jvm.Cond.privateMethod ({ cls := "QuiverKinModel", name := "isKin", desc := "(I)Z" } : Jvm.MethodName)) ∈ lw_tbl := lw_at lw_m6 224 rfl
theorem q1547 : (Jvm.Cond.instanceMethod ({ cls := "QuiverKinModel", name := "isKin", desc := "(I)Z" } : Jvm.MethodName)) ∈ lw_all := lw_g (lw_at lw_m6 225 rfl) rfl
theorem q1548 : (Jvm.Cond.code ({ cls := "QuiverKinModel", name := "isKin", desc := "(I)Z" } : Jvm.MethodName) prog_20_method_7_code (2 : Nat) (Option.some Jvm.ClassFile.FieldType.boolean)) ∈ lw_all := lw_g (lw_at lw_m6 226 rfl) rfl
theorem q1550 : (Jvm.Cond.instanceMethod ({ cls := "QuiverKinModel", name := "feed", desc := "(IIIII)I" } : Jvm.MethodName)) ∈ lw_all := lw_g (lw_at lw_m6 228 rfl) rfl
theorem q1551 : (Jvm.Cond.selects "QuiverKinModel" ({ cls := "QuiverKinModel", name := "feed", desc := "(IIIII)I" } : Jvm.MethodName) ({ cls := "QuiverKinModel", name := "feed", desc := "(IIIII)I" } : Jvm.MethodName)) ∈ lw_all := lw_g (lw_at lw_m6 229 rfl) rfl
theorem q1552 : (Jvm.Cond.code ({ cls := "QuiverKinModel", name := "feed", desc := "(IIIII)I" } : Jvm.MethodName) prog_20_method_16_code (6 : Nat) (Option.some Jvm.ClassFile.FieldType.int)) ∈ lw_all := lw_g (lw_at lw_m6 230 rfl) rfl
theorem q1553 : (Jvm.Cond.methodLink "QuiverKinModel" (99 : Nat) ({ cls := "QuiverKinModel", name := "four", desc := "(I)V" } : Jvm.MethodName)) ∈ lw_all := lw_g (lw_at lw_m6 231 rfl) rfl
theorem q1554 : (Jvm.Cond.privateMethod ({ cls := "QuiverKinModel", name := "four", desc := "(I)V" } : Jvm.MethodName)) ∈ lw_tbl := lw_at lw_m6 232 rfl
theorem q1555 : (Jvm.Cond.instanceMethod ({ cls := "QuiverKinModel", name := "four", desc := "(I)V" } : Jvm.MethodName)) ∈ lw_all := lw_g (lw_at lw_m6 233 rfl) rfl
theorem q1556 : (Jvm.Cond.code ({ cls := "QuiverKinModel", name := "four", desc := "(I)V" } : Jvm.MethodName) prog_20_method_15_code (3 : Nat) (Option.none : Option Jvm.ClassFile.FieldType)) ∈ lw_all := lw_g (lw_at lw_m6 234 rfl) rfl
theorem q1558 : (Jvm.Cond.instanceMethod ({ cls := "QuiverKinModel", name := "end", desc := "(I)I" } : Jvm.MethodName)) ∈ lw_all := lw_g (lw_at lw_m6 236 rfl) rfl
theorem q1559 : (Jvm.Cond.selects "QuiverKinModel" ({ cls := "QuiverKinModel", name := "end", desc := "(I)I" } : Jvm.MethodName) ({ cls := "QuiverKinModel", name := "end", desc := "(I)I" } : Jvm.MethodName)) ∈ lw_all := lw_g (lw_at lw_m6 237 rfl) rfl
theorem q1560 : (Jvm.Cond.code ({ cls := "QuiverKinModel", name := "end", desc := "(I)I" } : Jvm.MethodName) prog_20_method_17_code (2 : Nat) (Option.some Jvm.ClassFile.FieldType.int)) ∈ lw_all := lw_g (lw_at lw_m6 238 rfl) rfl
theorem q1562 : (Jvm.Cond.instanceMethod ({ cls := "QuiverKinModel", name := "text", desc := "()I" } : Jvm.MethodName)) ∈ lw_all := lw_g (lw_at lw_m7 0 rfl) rfl
theorem q1563 : (Jvm.Cond.selects "QuiverKinModel" ({ cls := "QuiverKinModel", name := "text", desc := "()I" } : Jvm.MethodName) ({ cls := "QuiverKinModel", name := "text", desc := "()I" } : Jvm.MethodName)) ∈ lw_all := lw_g (lw_at lw_m7 1 rfl) rfl
theorem q1564 : (Jvm.Cond.code ({ cls := "QuiverKinModel", name := "text", desc := "()I" } : Jvm.MethodName) prog_20_method_53_code (1 : Nat) (Option.some Jvm.ClassFile.FieldType.int)) ∈ lw_all := lw_g (lw_at lw_m7 2 rfl) rfl
theorem q1565 : (Jvm.Cond.methodLink "QuiverKinModel" (255 : Nat) ({ cls := "QuiverKinModel", name := "readText", desc := "()I" } : Jvm.MethodName)) ∈ lw_all := lw_g (lw_at lw_m7 3 rfl) rfl
theorem q1566 : (Jvm.Cond.privateMethod ({ cls := "QuiverKinModel", name := "readText", desc := "()I" } : Jvm.MethodName)) ∈ lw_tbl := lw_at lw_m7 4 rfl
theorem q1567 : (Jvm.Cond.instanceMethod ({ cls := "QuiverKinModel", name := "readText", desc := "()I" } : Jvm.MethodName)) ∈ lw_all := lw_g (lw_at lw_m7 5 rfl) rfl
theorem q1568 : (Jvm.Cond.code ({ cls := "QuiverKinModel", name := "readText", desc := "()I" } : Jvm.MethodName) prog_20_method_52_code (2 : Nat) (Option.some Jvm.ClassFile.FieldType.int)) ∈ lw_all := lw_g (lw_at lw_m7 6 rfl) rfl
theorem q1569 : (Jvm.Cond.methodLink "QuiverKinModel" (182 : Nat) ({ cls := "QuiverKinModel", name := "nextToken", desc := "()V" } : Jvm.MethodName)) ∈ lw_all := lw_g (lw_at lw_m7 7 rfl) rfl
theorem q1570 : (Jvm.Cond.privateMethod ({ cls := "QuiverKinModel", name := "nextToken", desc := "()V" } : Jvm.MethodName)) ∈ lw_tbl := lw_at lw_m7 8 rfl
theorem q1571 : (Jvm.Cond.instanceMethod ({ cls := "QuiverKinModel", name := "nextToken", desc := "()V" } : Jvm.MethodName)) ∈ lw_all := lw_g (lw_at lw_m7 9 rfl) rfl
theorem q1572 : (Jvm.Cond.code ({ cls := "QuiverKinModel", name := "nextToken", desc := "()V" } : Jvm.MethodName) prog_20_method_22_code (2 : Nat) (Option.none : Option Jvm.ClassFile.FieldType)) ∈ lw_all := lw_g (lw_at lw_m7 10 rfl) rfl
theorem q1573 : (Jvm.Cond.methodLink "QuiverKinModel" (105 : Nat) ({ cls := "QuiverKinModel", name := "byteAt", desc := "(I)I" } : Jvm.MethodName)) ∈ lw_all := lw_g (lw_at lw_m7 11 rfl) rfl
theorem q1574 : (Jvm.Cond.privateMethod ({ cls := "QuiverKinModel", name := "byteAt", desc := "(I)I" } : Jvm.MethodName)) ∈ lw_tbl := lw_at lw_m7 12 rfl
theorem q1575 : (Jvm.Cond.instanceMethod ({ cls := "QuiverKinModel", name := "byteAt", desc := "(I)I" } : Jvm.MethodName)) ∈ lw_all := lw_g (lw_at lw_m7 13 rfl) rfl
theorem q1576 : (Jvm.Cond.code ({ cls := "QuiverKinModel", name := "byteAt", desc := "(I)I" } : Jvm.MethodName) prog_20_method_18_code (2 : Nat) (Option.some Jvm.ClassFile.FieldType.int)) ∈ lw_all := lw_g (lw_at lw_m7 14 rfl) rfl
theorem q1577 : (Jvm.Cond.methodLink "QuiverKinModel" (114 : Nat) ({ cls := "QuiverKinModel", name := "isFigure", desc := "(I)Z" } : Jvm.MethodName)) ∈ lw_all := lw_g (lw_at lw_m7 15 rfl) rfl
theorem q1578 : (Jvm.Cond.static ({ cls := "QuiverKinModel", name := "isFigure", desc := "(I)Z" } : Jvm.MethodName)) ∈ lw_all := lw_g (lw_at lw_m7 16 rfl) rfl
theorem q1579 : (Jvm.Cond.code ({ cls := "QuiverKinModel", name := "isFigure", desc := "(I)Z" } : Jvm.MethodName) prog_20_method_20_code (1 : Nat) (Option.some Jvm.ClassFile.FieldType.boolean)) ∈ lw_all := lw_g (lw_at lw_m7 17 rfl) rfl
theorem q1580 : (Jvm.Cond.constant "QuiverKinModel" (120 : Nat) (99999 : Int32)) ∈ lw_all := lw_g (lw_at lw_m7 18 rfl) rfl
theorem q1581 : (Jvm.Cond.methodLink "QuiverKinModel" (121 : Nat) ({ cls := "QuiverKinModel", name := "isLetterByte", desc := "(I)Z" } : Jvm.MethodName)) ∈ lw_all := lw_g (lw_at lw_m7 19 rfl) rfl
theorem q1582 : (Jvm.Cond.static ({ cls := "QuiverKinModel", name := "isLetterByte", desc := "(I)Z" } : Jvm.MethodName)) ∈ lw_all := lw_g (lw_at lw_m7 20 rfl) rfl
theorem q1583 : (Jvm.Cond.code ({ cls := "QuiverKinModel", name := "isLetterByte", desc := "(I)Z" } : Jvm.MethodName) prog_20_method_19_code (1 : Nat) (Option.some Jvm.ClassFile.FieldType.boolean)) ∈ lw_all := lw_g (lw_at lw_m7 21 rfl) rfl
theorem q1584 : (Jvm.Cond.constantLong "QuiverKinModel" (128 : Nat) (1152921504606846976 : Int64)) ∈ lw_all := lw_g (lw_at lw_m7 22 rfl) rfl
theorem q1585 : (Jvm.Cond.methodLink "QuiverKinModel" (130 : Nat) ({ cls := "QuiverKinModel", name := "isSign", desc := "(I)Z" } : Jvm.MethodName)) ∈ lw_all := lw_g (lw_at lw_m7 23 rfl) rfl
theorem q1586 : (Jvm.Cond.static ({ cls := "QuiverKinModel", name := "isSign", desc := "(I)Z" } : Jvm.MethodName)) ∈ lw_all := lw_g (lw_at lw_m7 24 rfl) rfl
theorem q1587 : (Jvm.Cond.code ({ cls := "QuiverKinModel", name := "isSign", desc := "(I)Z" } : Jvm.MethodName) prog_20_method_21_code (1 : Nat) (Option.some Jvm.ClassFile.FieldType.boolean)) ∈ lw_all := lw_g (lw_at lw_m7 25 rfl) rfl
theorem q1588 : (Jvm.Cond.methodLink "QuiverKinModel" (252 : Nat) ({ cls := "QuiverKinModel", name := "clause", desc := "()I" } : Jvm.MethodName)) ∈ lw_all := lw_g (lw_at lw_m7 26 rfl) rfl
theorem q1589 : (Jvm.Cond.privateMethod ({ cls := "QuiverKinModel", name := "clause", desc := "()I" } : Jvm.MethodName)) ∈ lw_tbl := lw_at lw_m7 27 rfl
theorem q1590 : (Jvm.Cond.instanceMethod ({ cls := "QuiverKinModel", name := "clause", desc := "()I" } : Jvm.MethodName)) ∈ lw_all := lw_g (lw_at lw_m7 28 rfl) rfl
theorem q1591 : (Jvm.Cond.code ({ cls := "QuiverKinModel", name := "clause", desc := "()I" } : Jvm.MethodName) prog_20_method_51_code (5 : Nat) (Option.some Jvm.ClassFile.FieldType.int)) ∈ lw_all := lw_g (lw_at lw_m7 29 rfl) rfl
theorem q1592 : (Jvm.Cond.methodLink "QuiverKinModel" (243 : Nat) ({ cls := "QuiverKinModel", name := "sortOf", desc := "()I" } : Jvm.MethodName)) ∈ lw_all := lw_g (lw_at lw_m7 30 rfl) rfl
theorem q1593 : (Jvm.Cond.privateMethod ({ cls := "QuiverKinModel", name := "sortOf", desc := "()I" } : Jvm.MethodName)) ∈ lw_tbl := lw_at lw_m7 31 rfl
theorem q1594 : (Jvm.Cond.instanceMethod ({ cls := "QuiverKinModel", name := "sortOf", desc := "()I" } : Jvm.MethodName)) ∈ lw_all := lw_g (lw_at lw_m7 32 rfl) rfl
theorem q1595 : (Jvm.Cond.code ({ cls := "QuiverKinModel", name := "sortOf", desc := "()I" } : Jvm.MethodName) prog_20_method_50_code (1 : Nat) (Option.some Jvm.ClassFile.FieldType.int)) ∈ lw_all := lw_g (lw_at lw_m7 33 rfl) rfl
theorem q1596 : (Jvm.Cond.methodLink "QuiverKinModel" (240 : Nat) ({ cls := "QuiverKinModel", name := "isReaches", desc := "()Z" } : Jvm.MethodName)) ∈ lw_all := lw_g (lw_at lw_m7 34 rfl) rfl
theorem q1597 : (Jvm.Cond.privateMethod ({ cls := "QuiverKinModel", name := "isReaches", desc := "()Z" } : Jvm.MethodName)) ∈ lw_tbl := lw_at lw_m7 35 rfl
theorem q1598 : (Jvm.Cond.instanceMethod ({ cls := "QuiverKinModel", name := "isReaches", desc := "()Z" } : Jvm.MethodName)) ∈ lw_all := lw_g (lw_at lw_m7 36 rfl) rfl
theorem q1599 : (Jvm.Cond.code ({ cls := "QuiverKinModel", name := "isReaches", desc := "()Z" } : Jvm.MethodName) prog_20_method_30_code (1 : Nat) (Option.some Jvm.ClassFile.FieldType.boolean)) ∈ lw_all := lw_g (lw_at lw_m7 37 rfl) rfl
theorem q1600 : (Jvm.Cond.methodLink "QuiverKinModel" (141 : Nat) ({ cls := "QuiverKinModel", name := "w4", desc := "(IIII)J" } : Jvm.MethodName)) ∈ lw_all := lw_g (lw_at lw_m7 38 rfl) rfl
theorem q1601 : (Jvm.Cond.static ({ cls := "QuiverKinModel", name := "w4", desc := "(IIII)J" } : Jvm.MethodName)) ∈ lw_all := lw_g (lw_at lw_m7 39 rfl) rfl
theorem q1602 : (Jvm.Cond.code ({ cls := "QuiverKinModel", name := "w4", desc := "(IIII)J" } : Jvm.MethodName) prog_20_method_25_code (4 : Nat) (Option.some Jvm.ClassFile.FieldType.long)) ∈ lw_all := lw_g (lw_at lw_m7 40 rfl) rfl
theorem q1603 : (Jvm.Cond.methodLink "QuiverKinModel" (137 : Nat) ({ cls := "QuiverKinModel", name := "w3", desc := "(III)J" } : Jvm.MethodName)) ∈ lw_all := lw_g (lw_at lw_m7 41 rfl) rfl
theorem q1604 : (Jvm.Cond.static ({ cls := "QuiverKinModel", name := "w3", desc := "(III)J" } : Jvm.MethodName)) ∈ lw_all := lw_g (lw_at lw_m7 42 rfl) rfl
theorem q1605 : (Jvm.Cond.code ({ cls := "QuiverKinModel", name := "w3", desc := "(III)J" } : Jvm.MethodName) prog_20_method_24_code (3 : Nat) (Option.some Jvm.ClassFile.FieldType.long)) ∈ lw_all := lw_g (lw_at lw_m7 43 rfl) rfl
theorem q1606 : (Jvm.Cond.methodLink "QuiverKinModel" (133 : Nat) ({ cls := "QuiverKinModel", name := "w2", desc := "(II)J" } : Jvm.MethodName)) ∈ lw_all := lw_g (lw_at lw_m7 44 rfl) rfl
theorem q1607 : (Jvm.Cond.static ({ cls := "QuiverKinModel", name := "w2", desc := "(II)J" } : Jvm.MethodName)) ∈ lw_all := lw_g (lw_at lw_m7 45 rfl) rfl
theorem q1608 : (Jvm.Cond.code ({ cls := "QuiverKinModel", name := "w2", desc := "(II)J" } : Jvm.MethodName) prog_20_method_23_code (2 : Nat) (Option.some Jvm.ClassFile.FieldType.long)) ∈ lw_all := lw_g (lw_at lw_m7 46 rfl) rfl
theorem q1609 : (Jvm.Cond.methodLink "QuiverKinModel" (145 : Nat) ({ cls := "QuiverKinModel", name := "w5", desc := "(IIIII)J" } : Jvm.MethodName)) ∈ lw_all := lw_g (lw_at lw_m7 47 rfl) rfl
theorem q1610 : (Jvm.Cond.static ({ cls := "QuiverKinModel", name := "w5", desc := "(IIIII)J" } : Jvm.MethodName)) ∈ lw_all := lw_g (lw_at lw_m7 48 rfl) rfl
theorem q1611 : (Jvm.Cond.code ({ cls := "QuiverKinModel", name := "w5", desc := "(IIIII)J" } : Jvm.MethodName) prog_20_method_26_code (5 : Nat) (Option.some Jvm.ClassFile.FieldType.long)) ∈ lw_all := lw_g (lw_at lw_m7 49 rfl) rfl
theorem q1612 : (Jvm.Cond.methodLink "QuiverKinModel" (200 : Nat) ({ cls := "QuiverKinModel", name := "isWord", desc := "(J)Z" } : Jvm.MethodName)) ∈ lw_all := lw_g (lw_at lw_m7 50 rfl) rfl
theorem q1613 : (Jvm.Cond.privateMethod ({ cls := "QuiverKinModel", name := "isWord", desc := "(J)Z" } : Jvm.MethodName)) ∈ lw_tbl := lw_at lw_m7 51 rfl
theorem q1614 : (Jvm.Cond.instanceMethod ({ cls := "QuiverKinModel", name := "isWord", desc := "(J)Z" } : Jvm.MethodName)) ∈ lw_all := lw_g (lw_at lw_m7 52 rfl) rfl
theorem q1615 : (Jvm.Cond.code ({ cls := "QuiverKinModel", name := "isWord", desc := "(J)Z" } : Jvm.MethodName) prog_20_method_28_code (3 : Nat) (Option.some Jvm.ClassFile.FieldType.boolean)) ∈ lw_all := lw_g (lw_at lw_m7 53 rfl) rfl
theorem q1616 : (Jvm.Cond.methodLink "QuiverKinModel" (155 : Nat) ({ cls := "QuiverKinModel", name := "w6", desc := "(IIIIII)J" } : Jvm.MethodName)) ∈ lw_all := lw_g (lw_at lw_m7 54 rfl) rfl
theorem q1617 : (Jvm.Cond.static ({ cls := "QuiverKinModel", name := "w6", desc := "(IIIIII)J" } : Jvm.MethodName)) ∈ lw_all := lw_g (lw_at lw_m7 55 rfl) rfl
theorem q1618 : (Jvm.Cond.code ({ cls := "QuiverKinModel", name := "w6", desc := "(IIIIII)J" } : Jvm.MethodName) prog_20_method_27_code (6 : Nat) (Option.some Jvm.ClassFile.FieldType.long)) ∈ lw_all := lw_g (lw_at lw_m7 56 rfl) rfl
theorem q1619 : (Jvm.Cond.methodLink "QuiverKinModel" (76 : Nat) ({ cls := "QuiverKinModel", name := "has", desc := "(II)Z" } : Jvm.MethodName)) ∈ lw_all := lw_g (lw_at lw_m7 57 rfl) rfl
theorem q1620 : (Jvm.Cond.static ({ cls := "QuiverKinModel", name := "has", desc := "(II)Z" } : Jvm.MethodName)) ∈ lw_all := lw_g (lw_at lw_m7 58 rfl) rfl
theorem q1621 : (Jvm.Cond.code ({ cls := "QuiverKinModel", name := "has", desc := "(II)Z" } : Jvm.MethodName) prog_20_method_5_code (2 : Nat) (Option.some Jvm.ClassFile.FieldType.boolean)) ∈ lw_all := lw_g (lw_at lw_m7 59 rfl) rfl
theorem q1622 : (Jvm.Cond.methodLink "QuiverKinModel" (249 : Nat) ({ cls := "QuiverKinModel", name := "body", desc := "(II)I" } : Jvm.MethodName)) ∈ lw_all := lw_g (lw_at lw_m7 60 rfl) rfl
theorem q1623 : (Jvm.Cond.privateMethod ({ cls := "QuiverKinModel", name := "body", desc := "(II)I" } : Jvm.MethodName)) ∈ lw_tbl := lw_at lw_m7 61 rfl
theorem q1624 : (Jvm.Cond.instanceMethod ({ cls := "QuiverKinModel", name := "body", desc := "(II)I" } : Jvm.MethodName)) ∈ lw_all := lw_g (lw_at lw_m7 62 rfl) rfl
theorem q1625 : (Jvm.Cond.code ({ cls := "QuiverKinModel", name := "body", desc := "(II)I" } : Jvm.MethodName) prog_20_method_49_code (3 : Nat) (Option.some Jvm.ClassFile.FieldType.int)) ∈ lw_all := lw_g (lw_at lw_m7 63 rfl) rfl
theorem q1626 : (Jvm.Cond.methodLink "QuiverKinModel" (233 : Nat) ({ cls := "QuiverKinModel", name := "pair", desc := "(IIJII)I" } : Jvm.MethodName)) ∈ lw_all := lw_g (lw_at lw_m7 64 rfl) rfl
theorem q1627 : (Jvm.Cond.privateMethod ({ cls := "QuiverKinModel", name := "pair", desc := "(IIJII)I" } : Jvm.MethodName)) ∈ lw_tbl := lw_at lw_m7 65 rfl
theorem q1628 : (Jvm.Cond.instanceMethod ({ cls := "QuiverKinModel", name := "pair", desc := "(IIJII)I" } : Jvm.MethodName)) ∈ lw_all := lw_g (lw_at lw_m7 66 rfl) rfl
theorem q1629 : (Jvm.Cond.code ({ cls := "QuiverKinModel", name := "pair", desc := "(IIJII)I" } : Jvm.MethodName) prog_20_method_48_code (8 : Nat) (Option.some Jvm.ClassFile.FieldType.int)) ∈ lw_all := lw_g (lw_at lw_m7 67 rfl) rfl
theorem q1630 : (Jvm.Cond.methodLink "QuiverKinModel" (229 : Nat) ({ cls := "QuiverKinModel", name := "figure", desc := "(III)I" } : Jvm.MethodName)) ∈ lw_all := lw_g (lw_at lw_m7 68 rfl) rfl
theorem q1631 : (Jvm.Cond.privateMethod ({ cls := "QuiverKinModel", name := "figure", desc := "(III)I" } : Jvm.MethodName)) ∈ lw_tbl := lw_at lw_m7 69 rfl
theorem q1632 : (Jvm.Cond.instanceMethod ({ cls := "QuiverKinModel", name := "figure", desc := "(III)I" } : Jvm.MethodName)) ∈ lw_all := lw_g (lw_at lw_m7 70 rfl) rfl
theorem q1633 : (Jvm.Cond.code ({ cls := "QuiverKinModel", name := "figure", desc := "(III)I" } : Jvm.MethodName) prog_20_method_46_code (4 : Nat) (Option.some Jvm.ClassFile.FieldType.int)) ∈ lw_all := lw_g (lw_at lw_m7 71 rfl) rfl
theorem q1634 : (Jvm.Cond.methodLink "QuiverKinModel" (237 : Nat) ({ cls := "QuiverKinModel", name := "lawClause", desc := "(I)I" } : Jvm.MethodName)) ∈ lw_all := lw_g (lw_at lw_m7 72 rfl) rfl
theorem q1635 : (Jvm.Cond.privateMethod ({ cls := "QuiverKinModel", name := "lawClause", desc := "(I)I" } : Jvm.MethodName)) ∈ lw_tbl := lw_at lw_m7 73 rfl
theorem q1636 : (Jvm.Cond.instanceMethod ({ cls := "QuiverKinModel", name := "lawClause", desc := "(I)I" } : Jvm.MethodName)) ∈ lw_all := lw_g (lw_at lw_m7 74 rfl) rfl
theorem q1637 : (Jvm.Cond.code ({ cls := "QuiverKinModel", name := "lawClause", desc := "(I)I" } : Jvm.MethodName) prog_20_method_47_code (3 : Nat) (Option.some Jvm.ClassFile.FieldType.int)) ∈ lw_all := lw_g (lw_at lw_m7 75 rfl) rfl
theorem q1638 : (Jvm.Cond.methodLink "QuiverKinModel" (226 : Nat) ({ cls := "QuiverKinModel", name := "summed", desc := "()I" } : Jvm.MethodName)) ∈ lw_all := lw_g (lw_at lw_m7 76 rfl) rfl
theorem q1639 : (Jvm.Cond.privateMethod ({ cls := "QuiverKinModel", name := "summed", desc := "()I" } : Jvm.MethodName)) ∈ lw_tbl := lw_at lw_m7 77 rfl
theorem q1640 : (Jvm.Cond.instanceMethod ({ cls := "QuiverKinModel", name := "summed", desc := "()I" } : Jvm.MethodName)) ∈ lw_all := lw_g (lw_at lw_m7 78 rfl) rfl
theorem q1641 : (Jvm.Cond.code ({ cls := "QuiverKinModel", name := "summed", desc := "()I" } : Jvm.MethodName) prog_20_method_45_code (2 : Nat) (Option.some Jvm.ClassFile.FieldType.int)) ∈ lw_all := lw_g (lw_at lw_m7 79 rfl) rfl
theorem q1642 : (Jvm.Cond.methodLink "QuiverKinModel" (220 : Nat) ({ cls := "QuiverKinModel", name := "behindOne", desc := "()Z" } : Jvm.MethodName)) ∈ lw_all := lw_g (lw_at lw_m7 80 rfl) rfl
theorem q1643 : (Jvm.Cond.privateMethod ({ cls := "QuiverKinModel", name := "behindOne", desc := "()Z" } : Jvm.MethodName)) ∈ lw_tbl := lw_at lw_m7 81 rfl
theorem q1644 : (Jvm.Cond.instanceMethod ({ cls := "QuiverKinModel", name := "behindOne", desc := "()Z" } : Jvm.MethodName)) ∈ lw_all := lw_g (lw_at lw_m7 82 rfl) rfl
theorem q1645 : (Jvm.Cond.code ({ cls := "QuiverKinModel", name := "behindOne", desc := "()Z" } : Jvm.MethodName) prog_20_method_44_code (4 : Nat) (Option.some Jvm.ClassFile.FieldType.boolean)) ∈ lw_all := lw_g (lw_at lw_m7 83 rfl) rfl
theorem q1646 : (Jvm.Cond.methodLink "QuiverKinModel" (214 : Nat) ({ cls := "QuiverKinModel", name := "betweenOf", desc := "()I" } : Jvm.MethodName)) ∈ lw_all := lw_g (lw_at lw_m7 84 rfl) rfl
theorem q1647 : (Jvm.Cond.privateMethod ({ cls := "QuiverKinModel", name := "betweenOf", desc := "()I" } : Jvm.MethodName)) ∈ lw_tbl := lw_at lw_m7 85 rfl
theorem q1648 : (Jvm.Cond.instanceMethod ({ cls := "QuiverKinModel", name := "betweenOf", desc := "()I" } : Jvm.MethodName)) ∈ lw_all := lw_g (lw_at lw_m7 86 rfl) rfl
theorem q1649 : (Jvm.Cond.code ({ cls := "QuiverKinModel", name := "betweenOf", desc := "()I" } : Jvm.MethodName) prog_20_method_42_code (1 : Nat) (Option.some Jvm.ClassFile.FieldType.int)) ∈ lw_all := lw_g (lw_at lw_m7 87 rfl) rfl
theorem q1650 : (Jvm.Cond.methodLink "QuiverKinModel" (179 : Nat) ({ cls := "QuiverKinModel", name := "openNow", desc := "()I" } : Jvm.MethodName)) ∈ lw_all := lw_g (lw_at lw_m7 88 rfl) rfl
theorem q1651 : (Jvm.Cond.privateMethod ({ cls := "QuiverKinModel", name := "openNow", desc := "()I" } : Jvm.MethodName)) ∈ lw_tbl := lw_at lw_m7 89 rfl
theorem q1652 : (Jvm.Cond.instanceMethod ({ cls := "QuiverKinModel", name := "openNow", desc := "()I" } : Jvm.MethodName)) ∈ lw_all := lw_g (lw_at lw_m7 90 rfl) rfl
theorem q1653 : (Jvm.Cond.code ({ cls := "QuiverKinModel", name := "openNow", desc := "()I" } : Jvm.MethodName) prog_20_method_36_code (1 : Nat) (Option.some Jvm.ClassFile.FieldType.int)) ∈ lw_all := lw_g (lw_at lw_m7 91 rfl) rfl
theorem q1654 : (Jvm.Cond.methodLink "QuiverKinModel" (175 : Nat) ({ cls := "QuiverKinModel", name := "openAt", desc := "()I" } : Jvm.MethodName)) ∈ lw_all := lw_g (lw_at lw_m7 92 rfl) rfl
theorem q1655 : (Jvm.Cond.privateMethod ({ cls := "QuiverKinModel", name := "openAt", desc := "()I" } : Jvm.MethodName)) ∈ lw_tbl := lw_at lw_m7 93 rfl
theorem q1656 : (Jvm.Cond.instanceMethod ({ cls := "QuiverKinModel", name := "openAt", desc := "()I" } : Jvm.MethodName)) ∈ lw_all := lw_g (lw_at lw_m7 94 rfl) rfl
theorem q1657 : (Jvm.Cond.code ({ cls := "QuiverKinModel", name := "openAt", desc := "()I" } : Jvm.MethodName) prog_20_method_35_code (2 : Nat) (Option.some Jvm.ClassFile.FieldType.int)) ∈ lw_all := lw_g (lw_at lw_m7 95 rfl) rfl
theorem q1658 : (Jvm.Cond.methodLink "QuiverKinModel" (208 : Nat) ({ cls := "QuiverKinModel", name := "isCompared", desc := "()Z" } : Jvm.MethodName)) ∈ lw_all := lw_g (lw_at lw_m7 96 rfl) rfl
theorem q1659 : (Jvm.Cond.privateMethod ({ cls := "QuiverKinModel", name := "isCompared", desc := "()Z" } : Jvm.MethodName)) ∈ lw_tbl := lw_at lw_m7 97 rfl
theorem q1660 : (Jvm.Cond.instanceMethod ({ cls := "QuiverKinModel", name := "isCompared", desc := "()Z" } : Jvm.MethodName)) ∈ lw_all := lw_g (lw_at lw_m7 98 rfl) rfl
theorem q1661 : (Jvm.Cond.code ({ cls := "QuiverKinModel", name := "isCompared", desc := "()Z" } : Jvm.MethodName) prog_20_method_37_code (2 : Nat) (Option.some Jvm.ClassFile.FieldType.boolean)) ∈ lw_all := lw_g (lw_at lw_m7 99 rfl) rfl
theorem q1662 : (Jvm.Cond.methodLink "QuiverKinModel" (165 : Nat) ({ cls := "QuiverKinModel", name := "rank", desc := "(I)I" } : Jvm.MethodName)) ∈ lw_all := lw_g (lw_at lw_m7 100 rfl) rfl
theorem q1663 : (Jvm.Cond.static ({ cls := "QuiverKinModel", name := "rank", desc := "(I)I" } : Jvm.MethodName)) ∈ lw_all := lw_g (lw_at lw_m7 101 rfl) rfl
theorem q1664 : (Jvm.Cond.code ({ cls := "QuiverKinModel", name := "rank", desc := "(I)I" } : Jvm.MethodName) prog_20_method_33_code (1 : Nat) (Option.some Jvm.ClassFile.FieldType.int)) ∈ lw_all := lw_g (lw_at lw_m7 102 rfl) rfl
theorem q1665 : (Jvm.Cond.methodLink "QuiverKinModel" (211 : Nat) ({ cls := "QuiverKinModel", name := "compareOf", desc := "()I" } : Jvm.MethodName)) ∈ lw_all := lw_g (lw_at lw_m7 103 rfl) rfl
theorem q1666 : (Jvm.Cond.privateMethod ({ cls := "QuiverKinModel", name := "compareOf", desc := "()I" } : Jvm.MethodName)) ∈ lw_tbl := lw_at lw_m7 104 rfl
theorem q1667 : (Jvm.Cond.instanceMethod ({ cls := "QuiverKinModel", name := "compareOf", desc := "()I" } : Jvm.MethodName)) ∈ lw_all := lw_g (lw_at lw_m7 105 rfl) rfl
theorem q1668 : (Jvm.Cond.code ({ cls := "QuiverKinModel", name := "compareOf", desc := "()I" } : Jvm.MethodName) prog_20_method_41_code (1 : Nat) (Option.some Jvm.ClassFile.FieldType.int)) ∈ lw_all := lw_g (lw_at lw_m7 106 rfl) rfl
theorem q1669 : (Jvm.Cond.methodLink "QuiverKinModel" (194 : Nat) ({ cls := "QuiverKinModel", name := "settle", desc := "(I)V" } : Jvm.MethodName)) ∈ lw_all := lw_g (lw_at lw_m7 107 rfl) rfl
theorem q1670 : (Jvm.Cond.privateMethod ({ cls := "QuiverKinModel", name := "settle", desc := "(I)V" } : Jvm.MethodName)) ∈ lw_tbl := lw_at lw_m7 108 rfl
theorem q1671 : (Jvm.Cond.instanceMethod ({ cls := "QuiverKinModel", name := "settle", desc := "(I)V" } : Jvm.MethodName)) ∈ lw_all := lw_g (lw_at lw_m7 109 rfl) rfl
theorem q1672 : (Jvm.Cond.code ({ cls := "QuiverKinModel", name := "settle", desc := "(I)V" } : Jvm.MethodName) prog_20_method_34_code (2 : Nat) (Option.none : Option Jvm.ClassFile.FieldType)) ∈ lw_all := lw_g (lw_at lw_m7 110 rfl) rfl
theorem q1673 : (Jvm.Cond.methodLink "QuiverKinModel" (168 : Nat) ({ cls := "QuiverKinModel", name := "emit", desc := "(II)V" } : Jvm.MethodName)) ∈ lw_all := lw_g (lw_at lw_m7 111 rfl) rfl
theorem q1674 : (Jvm.Cond.privateMethod ({ cls := "QuiverKinModel", name := "emit", desc := "(II)V" } : Jvm.MethodName)) ∈ lw_tbl := lw_at lw_m7 112 rfl
theorem q1675 : (Jvm.Cond.instanceMethod ({ cls := "QuiverKinModel", name := "emit", desc := "(II)V" } : Jvm.MethodName)) ∈ lw_all := lw_g (lw_at lw_m7 113 rfl) rfl
theorem q1676 : (Jvm.Cond.code ({ cls := "QuiverKinModel", name := "emit", desc := "(II)V" } : Jvm.MethodName) prog_20_method_29_code (3 : Nat) (Option.none : Option Jvm.ClassFile.FieldType)) ∈ lw_all := lw_g (lw_at lw_m7 114 rfl) rfl
theorem q1677 : (Jvm.Cond.methodLink "QuiverKinModel" (217 : Nat) ({ cls := "QuiverKinModel", name := "partOf", desc := "(I)I" } : Jvm.MethodName)) ∈ lw_all := lw_g (lw_at lw_m7 115 rfl) rfl
theorem q1678 : (Jvm.Cond.privateMethod ({ cls := "QuiverKinModel", name := "partOf", desc := "(I)I" } : Jvm.MethodName)) ∈ lw_tbl := lw_at lw_m7 116 rfl
theorem q1679 : (Jvm.Cond.instanceMethod ({ cls := "QuiverKinModel", name := "partOf", desc := "(I)I" } : Jvm.MethodName)) ∈ lw_all := lw_g (lw_at lw_m7 117 rfl) rfl
theorem q1680 : (Jvm.Cond.code ({ cls := "QuiverKinModel", name := "partOf", desc := "(I)I" } : Jvm.MethodName) prog_20_method_43_code (2 : Nat) (Option.some Jvm.ClassFile.FieldType.int)) ∈ lw_all := lw_g (lw_at lw_m7 118 rfl) rfl
theorem q1681 : (Jvm.Cond.methodLink "QuiverKinModel" (223 : Nat) ({ cls := "QuiverKinModel", name := "beginOne", desc := "()I" } : Jvm.MethodName)) ∈ lw_all := lw_g (lw_at lw_m7 119 rfl) rfl
theorem q1682 : (Jvm.Cond.privateMethod ({ cls := "QuiverKinModel", name := "beginOne", desc := "()I" } : Jvm.MethodName)) ∈ lw_tbl := lw_at lw_m7 120 rfl
theorem q1683 : (Jvm.Cond.instanceMethod ({ cls := "QuiverKinModel", name := "beginOne", desc := "()I" } : Jvm.MethodName)) ∈ lw_all := lw_g (lw_at lw_m7 121 rfl) rfl
theorem q1684 : (Jvm.Cond.code ({ cls := "QuiverKinModel", name := "beginOne", desc := "()I" } : Jvm.MethodName) prog_20_method_40_code (2 : Nat) (Option.some Jvm.ClassFile.FieldType.int)) ∈ lw_all := lw_g (lw_at lw_m7 122 rfl) rfl
theorem q1685 : (Jvm.Cond.methodLink "QuiverKinModel" (185 : Nat) ({ cls := "QuiverKinModel", name := "nameOf", desc := "()I" } : Jvm.MethodName)) ∈ lw_all := lw_g (lw_at lw_m7 123 rfl) rfl
theorem q1686 : (Jvm.Cond.privateMethod ({ cls := "QuiverKinModel", name := "nameOf", desc := "()I" } : Jvm.MethodName)) ∈ lw_tbl := lw_at lw_m7 124 rfl
theorem q1687 : (Jvm.Cond.instanceMethod ({ cls := "QuiverKinModel", name := "nameOf", desc := "()I" } : Jvm.MethodName)) ∈ lw_all := lw_g (lw_at lw_m7 125 rfl) rfl
theorem q1688 : (Jvm.Cond.code ({ cls := "QuiverKinModel", name := "nameOf", desc := "()I" } : Jvm.MethodName) prog_20_method_31_code (1 : Nat) (Option.some Jvm.ClassFile.FieldType.int)) ∈ lw_all := lw_g (lw_at lw_m7 126 rfl) rfl
theorem q1689 : (Jvm.Cond.methodLink "QuiverKinModel" (188 : Nat) ({ cls := "QuiverKinModel", name := "isOf", desc := "(I)Z" } : Jvm.MethodName)) ∈ lw_all := lw_g (lw_at lw_m7 127 rfl) rfl
theorem q1690 : (Jvm.Cond.privateMethod ({ cls := "QuiverKinModel", name := "isOf", desc := "(I)Z" } : Jvm.MethodName)) ∈ lw_tbl := lw_at lw_m7 128 rfl
theorem q1691 : (Jvm.Cond.instanceMethod ({ cls := "QuiverKinModel", name := "isOf", desc := "(I)Z" } : Jvm.MethodName)) ∈ lw_all := lw_g (lw_at lw_m7 129 rfl) rfl
theorem q1692 : (Jvm.Cond.code ({ cls := "QuiverKinModel", name := "isOf", desc := "(I)Z" } : Jvm.MethodName) prog_20_method_32_code (2 : Nat) (Option.some Jvm.ClassFile.FieldType.boolean)) ∈ lw_all := lw_g (lw_at lw_m7 130 rfl) rfl
theorem q1693 : (Jvm.Cond.methodLink "QuiverKinModel" (197 : Nat) ({ cls := "QuiverKinModel", name := "opened", desc := "(I)I" } : Jvm.MethodName)) ∈ lw_all := lw_g (lw_at lw_m7 131 rfl) rfl
theorem q1694 : (Jvm.Cond.privateMethod ({ cls := "QuiverKinModel", name := "opened", desc := "(I)I" } : Jvm.MethodName)) ∈ lw_tbl := lw_at lw_m7 132 rfl
theorem q1695 : (Jvm.Cond.instanceMethod ({ cls := "QuiverKinModel", name := "opened", desc := "(I)I" } : Jvm.MethodName)) ∈ lw_all := lw_g (lw_at lw_m7 133 rfl) rfl
theorem q1696 : (Jvm.Cond.code ({ cls := "QuiverKinModel", name := "opened", desc := "(I)I" } : Jvm.MethodName) prog_20_method_39_code (2 : Nat) (Option.some Jvm.ClassFile.FieldType.int)) ∈ lw_all := lw_g (lw_at lw_m7 134 rfl) rfl
theorem q1697 : (Jvm.Cond.methodLink "QuiverKinModel" (204 : Nat) ({ cls := "QuiverKinModel", name := "isAskAhead", desc := "()Z" } : Jvm.MethodName)) ∈ lw_all := lw_g (lw_at lw_m7 135 rfl) rfl
theorem q1698 : (Jvm.Cond.privateMethod ({ cls := "QuiverKinModel", name := "isAskAhead", desc := "()Z" } : Jvm.MethodName)) ∈ lw_tbl := lw_at lw_m7 136 rfl
theorem q1699 : (Jvm.Cond.instanceMethod ({ cls := "QuiverKinModel", name := "isAskAhead", desc := "()Z" } : Jvm.MethodName)) ∈ lw_all := lw_g (lw_at lw_m7 137 rfl) rfl
theorem q1700 : (Jvm.Cond.code ({ cls := "QuiverKinModel", name := "isAskAhead", desc := "()Z" } : Jvm.MethodName) prog_20_method_38_code (1 : Nat) (Option.some Jvm.ClassFile.FieldType.boolean)) ∈ lw_all := lw_g (lw_at lw_m7 138 rfl) rfl
theorem q1702 : (Jvm.Cond.instanceMethod ({ cls := "QuiverKinModel", name := "fault", desc := "(I)I" } : Jvm.MethodName)) ∈ lw_all := lw_g (lw_at lw_m7 140 rfl) rfl
theorem q1703 : (Jvm.Cond.selects "QuiverKinModel" ({ cls := "QuiverKinModel", name := "fault", desc := "(I)I" } : Jvm.MethodName) ({ cls := "QuiverKinModel", name := "fault", desc := "(I)I" } : Jvm.MethodName)) ∈ lw_all := lw_g (lw_at lw_m7 141 rfl) rfl
theorem q1704 : (Jvm.Cond.code ({ cls := "QuiverKinModel", name := "fault", desc := "(I)I" } : Jvm.MethodName) prog_20_method_54_code (2 : Nat) (Option.some Jvm.ClassFile.FieldType.int)) ∈ lw_all := lw_g (lw_at lw_m7 142 rfl) rfl
theorem q1706 : (Jvm.Cond.instanceMethod ({ cls := "QuiverKinModel", name := "by", desc := "(I)Z" } : Jvm.MethodName)) ∈ lw_all := lw_g (lw_at lw_m7 144 rfl) rfl
theorem q1707 : (Jvm.Cond.selects "QuiverKinModel" ({ cls := "QuiverKinModel", name := "by", desc := "(I)Z" } : Jvm.MethodName) ({ cls := "QuiverKinModel", name := "by", desc := "(I)Z" } : Jvm.MethodName)) ∈ lw_all := lw_g (lw_at lw_m7 145 rfl) rfl
theorem q1708 : (Jvm.Cond.code ({ cls := "QuiverKinModel", name := "by", desc := "(I)Z" } : Jvm.MethodName) prog_20_method_55_code (2 : Nat) (Option.some Jvm.ClassFile.FieldType.boolean)) ∈ lw_all := lw_g (lw_at lw_m7 146 rfl) rfl
theorem q1710 : (Jvm.Cond.instanceMethod ({ cls := "QuiverKinModel", name := "undo", desc := "()I" } : Jvm.MethodName)) ∈ lw_all := lw_g (lw_at lw_m7 148 rfl) rfl
theorem q1711 : (Jvm.Cond.selects "QuiverKinModel" ({ cls := "QuiverKinModel", name := "undo", desc := "()I" } : Jvm.MethodName) ({ cls := "QuiverKinModel", name := "undo", desc := "()I" } : Jvm.MethodName)) ∈ lw_all := lw_g (lw_at lw_m7 149 rfl) rfl
theorem q1712 : (Jvm.Cond.code ({ cls := "QuiverKinModel", name := "undo", desc := "()I" } : Jvm.MethodName) prog_20_method_75_code (3 : Nat) (Option.some Jvm.ClassFile.FieldType.int)) ∈ lw_all := lw_g (lw_at lw_m7 150 rfl) rfl
theorem q1714 : (Jvm.Cond.instanceMethod ({ cls := "QuiverKinModel", name := "reach", desc := "(I)I" } : Jvm.MethodName)) ∈ lw_all := lw_g (lw_at lw_m7 152 rfl) rfl
theorem q1715 : (Jvm.Cond.selects "QuiverKinModel" ({ cls := "QuiverKinModel", name := "reach", desc := "(I)I" } : Jvm.MethodName) ({ cls := "QuiverKinModel", name := "reach", desc := "(I)I" } : Jvm.MethodName)) ∈ lw_all := lw_g (lw_at lw_m7 153 rfl) rfl
theorem q1716 : (Jvm.Cond.code ({ cls := "QuiverKinModel", name := "reach", desc := "(I)I" } : Jvm.MethodName) prog_20_method_76_code (2 : Nat) (Option.some Jvm.ClassFile.FieldType.int)) ∈ lw_all := lw_g (lw_at lw_m7 154 rfl) rfl
theorem q1717 : (Jvm.Cond.methodLink "QuiverKinModel" (318 : Nat) ({ cls := "QuiverKinModel", name := "isStrapped", desc := "(I)Z" } : Jvm.MethodName)) ∈ lw_all := lw_g (lw_at lw_m7 155 rfl) rfl
theorem q1718 : (Jvm.Cond.privateMethod ({ cls := "QuiverKinModel", name := "isStrapped", desc := "(I)Z" } : Jvm.MethodName)) ∈ lw_tbl := lw_at lw_m7 156 rfl
theorem q1719 : (Jvm.Cond.instanceMethod ({ cls := "QuiverKinModel", name := "isStrapped", desc := "(I)Z" } : Jvm.MethodName)) ∈ lw_all := lw_g (lw_at lw_m7 157 rfl) rfl
theorem q1720 : (Jvm.Cond.code ({ cls := "QuiverKinModel", name := "isStrapped", desc := "(I)Z" } : Jvm.MethodName) prog_20_method_8_code (2 : Nat) (Option.some Jvm.ClassFile.FieldType.boolean)) ∈ lw_all := lw_g (lw_at lw_m7 158 rfl) rfl
theorem q1721 : (Jvm.Cond.methodLink "QuiverKinModel" (333 : Nat) ({ cls := "QuiverKinModel", name := "keep", desc := "()V" } : Jvm.MethodName)) ∈ lw_all := lw_g (lw_at lw_m7 159 rfl) rfl
theorem q1722 : (Jvm.Cond.privateMethod ({ cls := "QuiverKinModel", name := "keep", desc := "()V" } : Jvm.MethodName)) ∈ lw_tbl := lw_at lw_m7 160 rfl
theorem q1723 : (Jvm.Cond.instanceMethod ({ cls := "QuiverKinModel", name := "keep", desc := "()V" } : Jvm.MethodName)) ∈ lw_all := lw_g (lw_at lw_m7 161 rfl) rfl
theorem q1724 : (Jvm.Cond.code ({ cls := "QuiverKinModel", name := "keep", desc := "()V" } : Jvm.MethodName) prog_20_method_74_code (3 : Nat) (Option.none : Option Jvm.ClassFile.FieldType)) ∈ lw_all := lw_g (lw_at lw_m7 162 rfl) rfl
theorem q1725 : (Jvm.Cond.methodLink "QuiverKinModel" (308 : Nat) ({ cls := "QuiverKinModel", name := "more", desc := "(I)V" } : Jvm.MethodName)) ∈ lw_all := lw_g (lw_at lw_m7 163 rfl) rfl
theorem q1726 : (Jvm.Cond.privateMethod ({ cls := "QuiverKinModel", name := "more", desc := "(I)V" } : Jvm.MethodName)) ∈ lw_tbl := lw_at lw_m7 164 rfl
theorem q1727 : (Jvm.Cond.instanceMethod ({ cls := "QuiverKinModel", name := "more", desc := "(I)V" } : Jvm.MethodName)) ∈ lw_all := lw_g (lw_at lw_m7 165 rfl) rfl
theorem q1728 : (Jvm.Cond.code ({ cls := "QuiverKinModel", name := "more", desc := "(I)V" } : Jvm.MethodName) prog_20_method_69_code (2 : Nat) (Option.none : Option Jvm.ClassFile.FieldType)) ∈ lw_all := lw_g (lw_at lw_m7 166 rfl) rfl
theorem q1729 : (Jvm.Cond.methodLink "QuiverKinModel" (288 : Nat) ({ cls := "QuiverKinModel", name := "held", desc := "(JII)I" } : Jvm.MethodName)) ∈ lw_all := lw_g (lw_at lw_m7 167 rfl) rfl
theorem q1730 : (Jvm.Cond.static ({ cls := "QuiverKinModel", name := "held", desc := "(JII)I" } : Jvm.MethodName)) ∈ lw_all := lw_g (lw_at lw_m7 168 rfl) rfl
theorem q1731 : (Jvm.Cond.code ({ cls := "QuiverKinModel", name := "held", desc := "(JII)I" } : Jvm.MethodName) prog_20_method_4_code (4 : Nat) (Option.some Jvm.ClassFile.FieldType.int)) ∈ lw_all := lw_g (lw_at lw_m7 169 rfl) rfl
theorem q1733 : (Jvm.Cond.instanceMethod ({ cls := "QuiverKinModel", name := "down", desc := "(II)Z" } : Jvm.MethodName)) ∈ lw_all := lw_g (lw_at lw_m7 171 rfl) rfl
theorem q1734 : (Jvm.Cond.selects "QuiverKinModel" ({ cls := "QuiverKinModel", name := "down", desc := "(II)Z" } : Jvm.MethodName) ({ cls := "QuiverKinModel", name := "down", desc := "(II)Z" } : Jvm.MethodName)) ∈ lw_all := lw_g (lw_at lw_m7 172 rfl) rfl
theorem q1735 : (Jvm.Cond.code ({ cls := "QuiverKinModel", name := "down", desc := "(II)Z" } : Jvm.MethodName) prog_20_method_77_code (3 : Nat) (Option.some Jvm.ClassFile.FieldType.boolean)) ∈ lw_all := lw_g (lw_at lw_m7 173 rfl) rfl
theorem q1736 : (Jvm.Cond.methodLink "QuiverKinModel" (336 : Nat) ({ cls := "QuiverKinModel", name := "canDown", desc := "(II)Z" } : Jvm.MethodName)) ∈ lw_all := lw_g (lw_at lw_m7 174 rfl) rfl
theorem q1737 : (Jvm.Cond.privateMethod ({ cls := "QuiverKinModel", name := "canDown", desc := "(II)Z" } : Jvm.MethodName)) ∈ lw_tbl := lw_at lw_m7 175 rfl
theorem q1738 : (Jvm.Cond.instanceMethod ({ cls := "QuiverKinModel", name := "canDown", desc := "(II)Z" } : Jvm.MethodName)) ∈ lw_all := lw_g (lw_at lw_m7 176 rfl) rfl
theorem q1739 : (Jvm.Cond.code ({ cls := "QuiverKinModel", name := "canDown", desc := "(II)Z" } : Jvm.MethodName) prog_20_method_70_code (3 : Nat) (Option.some Jvm.ClassFile.FieldType.boolean)) ∈ lw_all := lw_g (lw_at lw_m7 177 rfl) rfl
theorem q1741 : (Jvm.Cond.instanceMethod ({ cls := "QuiverKinModel", name := "strap", desc := "(I)Z" } : Jvm.MethodName)) ∈ lw_all := lw_g (lw_at lw_m7 179 rfl) rfl
theorem q1742 : (Jvm.Cond.selects "QuiverKinModel" ({ cls := "QuiverKinModel", name := "strap", desc := "(I)Z" } : Jvm.MethodName) ({ cls := "QuiverKinModel", name := "strap", desc := "(I)Z" } : Jvm.MethodName)) ∈ lw_all := lw_g (lw_at lw_m7 180 rfl) rfl
theorem q1743 : (Jvm.Cond.code ({ cls := "QuiverKinModel", name := "strap", desc := "(I)Z" } : Jvm.MethodName) prog_20_method_78_code (2 : Nat) (Option.some Jvm.ClassFile.FieldType.boolean)) ∈ lw_all := lw_g (lw_at lw_m7 181 rfl) rfl
theorem q1745 : (Jvm.Cond.instanceMethod ({ cls := "QuiverKinModel", name := "swap", desc := "(II)Z" } : Jvm.MethodName)) ∈ lw_all := lw_g (lw_at lw_m7 183 rfl) rfl
theorem q1746 : (Jvm.Cond.selects "QuiverKinModel" ({ cls := "QuiverKinModel", name := "swap", desc := "(II)Z" } : Jvm.MethodName) ({ cls := "QuiverKinModel", name := "swap", desc := "(II)Z" } : Jvm.MethodName)) ∈ lw_all := lw_g (lw_at lw_m7 184 rfl) rfl
theorem q1747 : (Jvm.Cond.code ({ cls := "QuiverKinModel", name := "swap", desc := "(II)Z" } : Jvm.MethodName) prog_20_method_79_code (3 : Nat) (Option.some Jvm.ClassFile.FieldType.boolean)) ∈ lw_all := lw_g (lw_at lw_m7 185 rfl) rfl
theorem q1748 : (Jvm.Cond.methodLink "QuiverKinModel" (339 : Nat) ({ cls := "QuiverKinModel", name := "swapNow", desc := "(II)V" } : Jvm.MethodName)) ∈ lw_all := lw_g (lw_at lw_m7 186 rfl) rfl
theorem q1749 : (Jvm.Cond.privateMethod ({ cls := "QuiverKinModel", name := "swapNow", desc := "(II)V" } : Jvm.MethodName)) ∈ lw_tbl := lw_at lw_m7 187 rfl
theorem q1750 : (Jvm.Cond.instanceMethod ({ cls := "QuiverKinModel", name := "swapNow", desc := "(II)V" } : Jvm.MethodName)) ∈ lw_all := lw_g (lw_at lw_m7 188 rfl) rfl
theorem q1751 : (Jvm.Cond.code ({ cls := "QuiverKinModel", name := "swapNow", desc := "(II)V" } : Jvm.MethodName) prog_20_method_71_code (4 : Nat) (Option.none : Option Jvm.ClassFile.FieldType)) ∈ lw_all := lw_g (lw_at lw_m7 189 rfl) rfl
theorem q1753 : (Jvm.Cond.instanceMethod ({ cls := "QuiverKinModel", name := "dinner", desc := "(I)I" } : Jvm.MethodName)) ∈ lw_all := lw_g (lw_at lw_m7 191 rfl) rfl
theorem q1754 : (Jvm.Cond.selects "QuiverKinModel" ({ cls := "QuiverKinModel", name := "dinner", desc := "(I)I" } : Jvm.MethodName) ({ cls := "QuiverKinModel", name := "dinner", desc := "(I)I" } : Jvm.MethodName)) ∈ lw_all := lw_g (lw_at lw_m7 192 rfl) rfl
theorem q1755 : (Jvm.Cond.code ({ cls := "QuiverKinModel", name := "dinner", desc := "(I)I" } : Jvm.MethodName) prog_20_method_81_code (2 : Nat) (Option.some Jvm.ClassFile.FieldType.int)) ∈ lw_all := lw_g (lw_at lw_m7 193 rfl) rfl
theorem q1756 : (Jvm.Cond.methodLink "QuiverKinModel" (345 : Nat) ({ cls := "QuiverKinModel", name := "arePassed", desc := "(I)Z" } : Jvm.MethodName)) ∈ lw_all := lw_g (lw_at lw_m7 194 rfl) rfl
theorem q1757 : (Jvm.Cond.privateMethod ({ cls := "QuiverKinModel", name := "arePassed", desc := "(I)Z" } : Jvm.MethodName)) ∈ lw_tbl := lw_at lw_m7 195 rfl
theorem q1758 : (Jvm.Cond.instanceMethod ({ cls := "QuiverKinModel", name := "arePassed", desc := "(I)Z" } : Jvm.MethodName)) ∈ lw_all := lw_g (lw_at lw_m7 196 rfl) rfl
theorem q1759 : (Jvm.Cond.code ({ cls := "QuiverKinModel", name := "arePassed", desc := "(I)Z" } : Jvm.MethodName) prog_20_method_80_code (3 : Nat) (Option.some Jvm.ClassFile.FieldType.boolean)) ∈ lw_all := lw_g (lw_at lw_m7 197 rfl) rfl
theorem q1760 : (Jvm.Cond.methodLink "QuiverKinModel" (342 : Nat) ({ cls := "QuiverKinModel", name := "pass", desc := "()V" } : Jvm.MethodName)) ∈ lw_all := lw_g (lw_at lw_m7 198 rfl) rfl
theorem q1761 : (Jvm.Cond.privateMethod ({ cls := "QuiverKinModel", name := "pass", desc := "()V" } : Jvm.MethodName)) ∈ lw_tbl := lw_at lw_m7 199 rfl
theorem q1762 : (Jvm.Cond.instanceMethod ({ cls := "QuiverKinModel", name := "pass", desc := "()V" } : Jvm.MethodName)) ∈ lw_all := lw_g (lw_at lw_m7 200 rfl) rfl
theorem q1763 : (Jvm.Cond.code ({ cls := "QuiverKinModel", name := "pass", desc := "()V" } : Jvm.MethodName) prog_20_method_73_code (3 : Nat) (Option.none : Option Jvm.ClassFile.FieldType)) ∈ lw_all := lw_g (lw_at lw_m7 201 rfl) rfl
theorem q1764 : (Jvm.Cond.methodLink "QuiverKinModel" (80 : Nat) ({ cls := "QuiverKinModel", name := "whoAt", desc := "(I)I" } : Jvm.MethodName)) ∈ lw_all := lw_g (lw_at lw_m7 202 rfl) rfl
theorem q1765 : (Jvm.Cond.privateMethod ({ cls := "QuiverKinModel", name := "whoAt", desc := "(I)I" } : Jvm.MethodName)) ∈ lw_tbl := lw_at lw_m7 203 rfl
theorem q1766 : (Jvm.Cond.instanceMethod ({ cls := "QuiverKinModel", name := "whoAt", desc := "(I)I" } : Jvm.MethodName)) ∈ lw_all := lw_g (lw_at lw_m7 204 rfl) rfl
theorem q1767 : (Jvm.Cond.code ({ cls := "QuiverKinModel", name := "whoAt", desc := "(I)I" } : Jvm.MethodName) prog_20_method_9_code (3 : Nat) (Option.some Jvm.ClassFile.FieldType.int)) ∈ lw_all := lw_g (lw_at lw_m7 205 rfl) rfl
theorem q1768 : (Jvm.Cond.methodLink "QuiverKinModel" (321 : Nat) ({ cls := "QuiverKinModel", name := "drawnBy", desc := "(I)I" } : Jvm.MethodName)) ∈ lw_all := lw_g (lw_at lw_m7 206 rfl) rfl
theorem q1769 : (Jvm.Cond.privateMethod ({ cls := "QuiverKinModel", name := "drawnBy", desc := "(I)I" } : Jvm.MethodName)) ∈ lw_tbl := lw_at lw_m7 207 rfl
theorem q1770 : (Jvm.Cond.instanceMethod ({ cls := "QuiverKinModel", name := "drawnBy", desc := "(I)I" } : Jvm.MethodName)) ∈ lw_all := lw_g (lw_at lw_m7 208 rfl) rfl
theorem q1771 : (Jvm.Cond.code ({ cls := "QuiverKinModel", name := "drawnBy", desc := "(I)I" } : Jvm.MethodName) prog_20_method_67_code (3 : Nat) (Option.some Jvm.ClassFile.FieldType.int)) ∈ lw_all := lw_g (lw_at lw_m7 209 rfl) rfl
theorem q1772 : (Jvm.Cond.methodLink "QuiverKinModel" (299 : Nat) ({ cls := "QuiverKinModel", name := "anew", desc := "()V" } : Jvm.MethodName)) ∈ lw_all := lw_g (lw_at lw_m7 210 rfl) rfl
theorem q1773 : (Jvm.Cond.privateMethod ({ cls := "QuiverKinModel", name := "anew", desc := "()V" } : Jvm.MethodName)) ∈ lw_tbl := lw_at lw_m7 211 rfl
theorem q1774 : (Jvm.Cond.instanceMethod ({ cls := "QuiverKinModel", name := "anew", desc := "()V" } : Jvm.MethodName)) ∈ lw_all := lw_g (lw_at lw_m7 212 rfl) rfl
theorem q1775 : (Jvm.Cond.code ({ cls := "QuiverKinModel", name := "anew", desc := "()V" } : Jvm.MethodName) prog_20_method_68_code (1 : Nat) (Option.none : Option Jvm.ClassFile.FieldType)) ∈ lw_all := lw_g (lw_at lw_m7 213 rfl) rfl
theorem q1776 : (Jvm.Cond.constantLong "QuiverKinModel" (302 : Nat) (673 : Int64)) ∈ lw_all := lw_g (lw_at lw_m7 214 rfl) rfl
theorem q1777 : (Jvm.Cond.constantLong "QuiverKinModel" (304 : Nat) (547 : Int64)) ∈ lw_all := lw_g (lw_at lw_m7 215 rfl) rfl
theorem q1778 : (Jvm.Cond.constantLong "QuiverKinModel" (306 : Nat) (30971 : Int64)) ∈ lw_all := lw_g (lw_at lw_m7 216 rfl) rfl
theorem q1779 : (Jvm.Cond.methodLink "QuiverKinModel" (324 : Nat) ({ cls := "QuiverKinModel", name := "reachesOf", desc := "(II)I" } : Jvm.MethodName)) ∈ lw_all := lw_g (lw_at lw_m7 217 rfl) rfl
theorem q1780 : (Jvm.Cond.privateMethod ({ cls := "QuiverKinModel", name := "reachesOf", desc := "(II)I" } : Jvm.MethodName)) ∈ lw_tbl := lw_at lw_m7 218 rfl
theorem q1781 : (Jvm.Cond.instanceMethod ({ cls := "QuiverKinModel", name := "reachesOf", desc := "(II)I" } : Jvm.MethodName)) ∈ lw_all := lw_g (lw_at lw_m7 219 rfl) rfl
theorem q1782 : (Jvm.Cond.code ({ cls := "QuiverKinModel", name := "reachesOf", desc := "(II)I" } : Jvm.MethodName) prog_20_method_64_code (3 : Nat) (Option.some Jvm.ClassFile.FieldType.int)) ∈ lw_all := lw_g (lw_at lw_m7 220 rfl) rfl
theorem q1783 : (Jvm.Cond.methodLink "QuiverKinModel" (292 : Nat) ({ cls := "QuiverKinModel", name := "name", desc := "(I)V" } : Jvm.MethodName)) ∈ lw_all := lw_g (lw_at lw_m7 221 rfl) rfl
theorem q1784 : (Jvm.Cond.privateMethod ({ cls := "QuiverKinModel", name := "name", desc := "(I)V" } : Jvm.MethodName)) ∈ lw_tbl := lw_at lw_m7 222 rfl
theorem q1785 : (Jvm.Cond.instanceMethod ({ cls := "QuiverKinModel", name := "name", desc := "(I)V" } : Jvm.MethodName)) ∈ lw_all := lw_g (lw_at lw_m7 223 rfl) rfl
theorem q1786 : (Jvm.Cond.code ({ cls := "QuiverKinModel", name := "name", desc := "(I)V" } : Jvm.MethodName) prog_20_method_63_code (2 : Nat) (Option.none : Option Jvm.ClassFile.FieldType)) ∈ lw_all := lw_g (lw_at lw_m7 224 rfl) rfl
theorem q1787 : (Jvm.Cond.methodLink "QuiverKinModel" (84 : Nat) ({ cls := "QuiverKinModel", name := "further", desc := "(II)I" } : Jvm.MethodName)) ∈ lw_all := lw_g (lw_at lw_m7 225 rfl) rfl
theorem q1788 : (Jvm.Cond.privateMethod ({ cls := "QuiverKinModel", name := "further", desc := "(II)I" } : Jvm.MethodName)) ∈ lw_tbl := lw_at lw_m7 226 rfl
theorem q1789 : (Jvm.Cond.instanceMethod ({ cls := "QuiverKinModel", name := "further", desc := "(II)I" } : Jvm.MethodName)) ∈ lw_all := lw_g (lw_at lw_m7 227 rfl) rfl
theorem q1790 : (Jvm.Cond.code ({ cls := "QuiverKinModel", name := "further", desc := "(II)I" } : Jvm.MethodName) prog_20_method_10_code (3 : Nat) (Option.some Jvm.ClassFile.FieldType.int)) ∈ lw_all := lw_g (lw_at lw_m7 228 rfl) rfl
theorem q1791 : (Jvm.Cond.methodLink "QuiverKinModel" (295 : Nat) ({ cls := "QuiverKinModel", name := "says", desc := "(IIII)I" } : Jvm.MethodName)) ∈ lw_all := lw_g (lw_at lw_m7 229 rfl) rfl
theorem q1792 : (Jvm.Cond.privateMethod ({ cls := "QuiverKinModel", name := "says", desc := "(IIII)I" } : Jvm.MethodName)) ∈ lw_tbl := lw_at lw_m7 230 rfl
theorem q1793 : (Jvm.Cond.instanceMethod ({ cls := "QuiverKinModel", name := "says", desc := "(IIII)I" } : Jvm.MethodName)) ∈ lw_all := lw_g (lw_at lw_m7 231 rfl) rfl
theorem q1794 : (Jvm.Cond.code ({ cls := "QuiverKinModel", name := "says", desc := "(IIII)I" } : Jvm.MethodName) prog_20_method_62_code (6 : Nat) (Option.some Jvm.ClassFile.FieldType.int)) ∈ lw_all := lw_g (lw_at lw_m7 232 rfl) rfl
theorem q1795 : (Jvm.Cond.methodLink "QuiverKinModel" (285 : Nat) ({ cls := "QuiverKinModel", name := "summedUp", desc := "(II)J" } : Jvm.MethodName)) ∈ lw_all := lw_g (lw_at lw_m7 233 rfl) rfl
theorem q1796 : (Jvm.Cond.privateMethod ({ cls := "QuiverKinModel", name := "summedUp", desc := "(II)J" } : Jvm.MethodName)) ∈ lw_tbl := lw_at lw_m7 234 rfl
theorem q1797 : (Jvm.Cond.instanceMethod ({ cls := "QuiverKinModel", name := "summedUp", desc := "(II)J" } : Jvm.MethodName)) ∈ lw_all := lw_g (lw_at lw_m7 235 rfl) rfl
theorem q1798 : (Jvm.Cond.code ({ cls := "QuiverKinModel", name := "summedUp", desc := "(II)J" } : Jvm.MethodName) prog_20_method_61_code (10 : Nat) (Option.some Jvm.ClassFile.FieldType.long)) ∈ lw_all := lw_g (lw_at lw_m7 236 rfl) rfl
theorem q1799 : (Jvm.Cond.methodLink "QuiverKinModel" (269 : Nat) ({ cls := "QuiverKinModel", name := "ofOne", desc := "(IJ)J" } : Jvm.MethodName)) ∈ lw_all := lw_g (lw_at lw_m7 237 rfl) rfl
theorem q1800 : (Jvm.Cond.privateMethod ({ cls := "QuiverKinModel", name := "ofOne", desc := "(IJ)J" } : Jvm.MethodName)) ∈ lw_tbl := lw_at lw_m7 238 rfl
theorem q1801 : (Jvm.Cond.instanceMethod ({ cls := "QuiverKinModel", name := "ofOne", desc := "(IJ)J" } : Jvm.MethodName)) ∈ lw_all := lw_g (lw_at lw_m7 239 rfl) rfl
theorem q1802 : (Jvm.Cond.code ({ cls := "QuiverKinModel", name := "ofOne", desc := "(IJ)J" } : Jvm.MethodName) prog_20_method_59_code (4 : Nat) (Option.some Jvm.ClassFile.FieldType.long)) ∈ lw_all := lw_g (lw_at lw_m8 0 rfl) rfl
theorem q1803 : (Jvm.Cond.methodLink "QuiverKinModel" (266 : Nat) ({ cls := "QuiverKinModel", name := "acrossOf", desc := "(I)I" } : Jvm.MethodName)) ∈ lw_all := lw_g (lw_at lw_m8 1 rfl) rfl
theorem q1804 : (Jvm.Cond.privateMethod ({ cls := "QuiverKinModel", name := "acrossOf", desc := "(I)I" } : Jvm.MethodName)) ∈ lw_tbl := lw_at lw_m8 2 rfl
theorem q1805 : (Jvm.Cond.instanceMethod ({ cls := "QuiverKinModel", name := "acrossOf", desc := "(I)I" } : Jvm.MethodName)) ∈ lw_all := lw_g (lw_at lw_m8 3 rfl) rfl
theorem q1806 : (Jvm.Cond.code ({ cls := "QuiverKinModel", name := "acrossOf", desc := "(I)I" } : Jvm.MethodName) prog_20_method_11_code (2 : Nat) (Option.some Jvm.ClassFile.FieldType.int)) ∈ lw_all := lw_g (lw_at lw_m8 4 rfl) rfl
theorem q1807 : (Jvm.Cond.methodLink "QuiverKinModel" (273 : Nat) ({ cls := "QuiverKinModel", name := "two", desc := "(IJJ)J" } : Jvm.MethodName)) ∈ lw_all := lw_g (lw_at lw_m8 5 rfl) rfl
theorem q1808 : (Jvm.Cond.static ({ cls := "QuiverKinModel", name := "two", desc := "(IJJ)J" } : Jvm.MethodName)) ∈ lw_all := lw_g (lw_at lw_m8 6 rfl) rfl
theorem q1809 : (Jvm.Cond.code ({ cls := "QuiverKinModel", name := "two", desc := "(IJJ)J" } : Jvm.MethodName) prog_20_method_57_code (5 : Nat) (Option.some Jvm.ClassFile.FieldType.long)) ∈ lw_all := lw_g (lw_at lw_m8 7 rfl) rfl
theorem q1810 : (Jvm.Cond.methodLink "QuiverKinModel" (262 : Nat) ({ cls := "QuiverKinModel", name := "clip", desc := "(J)J" } : Jvm.MethodName)) ∈ lw_all := lw_g (lw_at lw_m8 8 rfl) rfl
theorem q1811 : (Jvm.Cond.static ({ cls := "QuiverKinModel", name := "clip", desc := "(J)J" } : Jvm.MethodName)) ∈ lw_all := lw_g (lw_at lw_m8 9 rfl) rfl
theorem q1812 : (Jvm.Cond.code ({ cls := "QuiverKinModel", name := "clip", desc := "(J)J" } : Jvm.MethodName) prog_20_method_56_code (2 : Nat) (Option.some Jvm.ClassFile.FieldType.long)) ∈ lw_all := lw_g (lw_at lw_m8 10 rfl) rfl
theorem q1813 : (Jvm.Cond.constantLong "QuiverKinModel" (258 : Nat) (1000000 : Int64)) ∈ lw_all := lw_g (lw_at lw_m8 11 rfl) rfl
theorem q1814 : (Jvm.Cond.constantLong "QuiverKinModel" (260 : Nat) (-1000000 : Int64)) ∈ lw_all := lw_g (lw_at lw_m8 12 rfl) rfl
theorem q1815 : (Jvm.Cond.methodLink "QuiverKinModel" (277 : Nat) ({ cls := "QuiverKinModel", name := "isAsked", desc := "(IJJ)Z" } : Jvm.MethodName)) ∈ lw_all := lw_g (lw_at lw_m8 13 rfl) rfl
theorem q1816 : (Jvm.Cond.static ({ cls := "QuiverKinModel", name := "isAsked", desc := "(IJJ)Z" } : Jvm.MethodName)) ∈ lw_all := lw_g (lw_at lw_m8 14 rfl) rfl
theorem q1817 : (Jvm.Cond.code ({ cls := "QuiverKinModel", name := "isAsked", desc := "(IJJ)Z" } : Jvm.MethodName) prog_20_method_58_code (5 : Nat) (Option.some Jvm.ClassFile.FieldType.boolean)) ∈ lw_all := lw_g (lw_at lw_m8 15 rfl) rfl
theorem q1818 : (Jvm.Cond.methodLink "QuiverKinModel" (281 : Nat) ({ cls := "QuiverKinModel", name := "joined", desc := "(IZZ)Z" } : Jvm.MethodName)) ∈ lw_all := lw_g (lw_at lw_m8 16 rfl) rfl
theorem q1819 : (Jvm.Cond.static ({ cls := "QuiverKinModel", name := "joined", desc := "(IZZ)Z" } : Jvm.MethodName)) ∈ lw_all := lw_g (lw_at lw_m8 17 rfl) rfl
theorem q1820 : (Jvm.Cond.code ({ cls := "QuiverKinModel", name := "joined", desc := "(IZZ)Z" } : Jvm.MethodName) prog_20_method_60_code (3 : Nat) (Option.some Jvm.ClassFile.FieldType.boolean)) ∈ lw_all := lw_g (lw_at lw_m8 18 rfl) rfl
theorem q1821 : (Jvm.Cond.methodLink "QuiverKinModel" (327 : Nat) ({ cls := "QuiverKinModel", name := "bearsOf", desc := "(I)I" } : Jvm.MethodName)) ∈ lw_all := lw_g (lw_at lw_m8 19 rfl) rfl
theorem q1822 : (Jvm.Cond.privateMethod ({ cls := "QuiverKinModel", name := "bearsOf", desc := "(I)I" } : Jvm.MethodName)) ∈ lw_tbl := lw_at lw_m8 20 rfl
theorem q1823 : (Jvm.Cond.instanceMethod ({ cls := "QuiverKinModel", name := "bearsOf", desc := "(I)I" } : Jvm.MethodName)) ∈ lw_all := lw_g (lw_at lw_m8 21 rfl) rfl
theorem q1824 : (Jvm.Cond.code ({ cls := "QuiverKinModel", name := "bearsOf", desc := "(I)I" } : Jvm.MethodName) prog_20_method_65_code (2 : Nat) (Option.some Jvm.ClassFile.FieldType.int)) ∈ lw_all := lw_g (lw_at lw_m8 22 rfl) rfl
theorem q1825 : (Jvm.Cond.methodLink "QuiverKinModel" (330 : Nat) ({ cls := "QuiverKinModel", name := "looseNow", desc := "(I)V" } : Jvm.MethodName)) ∈ lw_all := lw_g (lw_at lw_m8 23 rfl) rfl
theorem q1826 : (Jvm.Cond.privateMethod ({ cls := "QuiverKinModel", name := "looseNow", desc := "(I)V" } : Jvm.MethodName)) ∈ lw_tbl := lw_at lw_m8 24 rfl
theorem q1827 : (Jvm.Cond.instanceMethod ({ cls := "QuiverKinModel", name := "looseNow", desc := "(I)V" } : Jvm.MethodName)) ∈ lw_all := lw_g (lw_at lw_m8 25 rfl) rfl
theorem q1828 : (Jvm.Cond.code ({ cls := "QuiverKinModel", name := "looseNow", desc := "(I)V" } : Jvm.MethodName) prog_20_method_72_code (4 : Nat) (Option.none : Option Jvm.ClassFile.FieldType)) ∈ lw_all := lw_g (lw_at lw_m8 26 rfl) rfl
theorem q1829 : (Jvm.Cond.methodLink "QuiverKinModel" (314 : Nat) ({ cls := "QuiverKinModel", name := "write", desc := "(III)V" } : Jvm.MethodName)) ∈ lw_all := lw_g (lw_at lw_m8 27 rfl) rfl
theorem q1830 : (Jvm.Cond.privateMethod ({ cls := "QuiverKinModel", name := "write", desc := "(III)V" } : Jvm.MethodName)) ∈ lw_tbl := lw_at lw_m8 28 rfl
theorem q1831 : (Jvm.Cond.instanceMethod ({ cls := "QuiverKinModel", name := "write", desc := "(III)V" } : Jvm.MethodName)) ∈ lw_all := lw_g (lw_at lw_m8 29 rfl) rfl
theorem q1832 : (Jvm.Cond.code ({ cls := "QuiverKinModel", name := "write", desc := "(III)V" } : Jvm.MethodName) prog_20_method_66_code (5 : Nat) (Option.none : Option Jvm.ClassFile.FieldType)) ∈ lw_all := lw_g (lw_at lw_m8 30 rfl) rfl
theorem q1834 : (Jvm.Cond.instanceMethod ({ cls := "QuiverKinModel", name := "played", desc := "(I)I" } : Jvm.MethodName)) ∈ lw_all := lw_g (lw_at lw_m8 32 rfl) rfl
theorem q1835 : (Jvm.Cond.selects "QuiverKinModel" ({ cls := "QuiverKinModel", name := "played", desc := "(I)I" } : Jvm.MethodName) ({ cls := "QuiverKinModel", name := "played", desc := "(I)I" } : Jvm.MethodName)) ∈ lw_all := lw_g (lw_at lw_m8 33 rfl) rfl
theorem q1836 : (Jvm.Cond.code ({ cls := "QuiverKinModel", name := "played", desc := "(I)I" } : Jvm.MethodName) prog_20_method_83_code (3 : Nat) (Option.some Jvm.ClassFile.FieldType.int)) ∈ lw_all := lw_g (lw_at lw_m8 34 rfl) rfl
theorem q1837 : (Jvm.Cond.methodLink "QuiverKinModel" (363 : Nat) ({ cls := "QuiverKinModel", name := "isPlayed", desc := "(I)Z" } : Jvm.MethodName)) ∈ lw_all := lw_g (lw_at lw_m8 35 rfl) rfl
theorem q1838 : (Jvm.Cond.privateMethod ({ cls := "QuiverKinModel", name := "isPlayed", desc := "(I)Z" } : Jvm.MethodName)) ∈ lw_tbl := lw_at lw_m8 36 rfl
theorem q1839 : (Jvm.Cond.instanceMethod ({ cls := "QuiverKinModel", name := "isPlayed", desc := "(I)Z" } : Jvm.MethodName)) ∈ lw_all := lw_g (lw_at lw_m8 37 rfl) rfl
theorem q1840 : (Jvm.Cond.code ({ cls := "QuiverKinModel", name := "isPlayed", desc := "(I)Z" } : Jvm.MethodName) prog_20_method_82_code (4 : Nat) (Option.some Jvm.ClassFile.FieldType.boolean)) ∈ lw_all := lw_g (lw_at lw_m8 38 rfl) rfl
theorem q1841 : (Jvm.Cond.methodLink "QuiverKinModel" (348 : Nat) ({ cls := "QuiverKinModel", name := "kin", desc := "(II)I" } : Jvm.MethodName)) ∈ lw_all := lw_g (lw_at lw_m8 39 rfl) rfl
theorem q1842 : (Jvm.Cond.methodLink "QuiverKinModel" (351 : Nat) ({ cls := "QuiverKinModel", name := "reach", desc := "(I)I" } : Jvm.MethodName)) ∈ lw_all := lw_g (lw_at lw_m8 40 rfl) rfl
theorem q1843 : (Jvm.Cond.methodLink "QuiverKinModel" (354 : Nat) ({ cls := "QuiverKinModel", name := "down", desc := "(II)Z" } : Jvm.MethodName)) ∈ lw_all := lw_g (lw_at lw_m8 41 rfl) rfl
theorem q1844 : (Jvm.Cond.methodLink "QuiverKinModel" (357 : Nat) ({ cls := "QuiverKinModel", name := "strap", desc := "(I)Z" } : Jvm.MethodName)) ∈ lw_all := lw_g (lw_at lw_m8 42 rfl) rfl
theorem q1845 : (Jvm.Cond.methodLink "QuiverKinModel" (360 : Nat) ({ cls := "QuiverKinModel", name := "swap", desc := "(II)Z" } : Jvm.MethodName)) ∈ lw_all := lw_g (lw_at lw_m8 43 rfl) rfl
theorem q1847 : (Jvm.Cond.instanceMethod ({ cls := "QuiverKinModel", name := "years", desc := "(II)I" } : Jvm.MethodName)) ∈ lw_all := lw_g (lw_at lw_m8 45 rfl) rfl
theorem q1848 : (Jvm.Cond.selects "QuiverKinModel" ({ cls := "QuiverKinModel", name := "years", desc := "(II)I" } : Jvm.MethodName) ({ cls := "QuiverKinModel", name := "years", desc := "(II)I" } : Jvm.MethodName)) ∈ lw_all := lw_g (lw_at lw_m8 46 rfl) rfl
theorem q1849 : (Jvm.Cond.code ({ cls := "QuiverKinModel", name := "years", desc := "(II)I" } : Jvm.MethodName) prog_20_method_85_code (5 : Nat) (Option.some Jvm.ClassFile.FieldType.int)) ∈ lw_all := lw_g (lw_at lw_m8 47 rfl) rfl
theorem q1850 : (Jvm.Cond.methodLink "QuiverKinModel" (366 : Nat) ({ cls := "QuiverKinModel", name := "happensTo", desc := "(II)V" } : Jvm.MethodName)) ∈ lw_all := lw_g (lw_at lw_m8 48 rfl) rfl
theorem q1851 : (Jvm.Cond.privateMethod ({ cls := "QuiverKinModel", name := "happensTo", desc := "(II)V" } : Jvm.MethodName)) ∈ lw_tbl := lw_at lw_m8 49 rfl
theorem q1852 : (Jvm.Cond.instanceMethod ({ cls := "QuiverKinModel", name := "happensTo", desc := "(II)V" } : Jvm.MethodName)) ∈ lw_all := lw_g (lw_at lw_m8 50 rfl) rfl
theorem q1853 : (Jvm.Cond.code ({ cls := "QuiverKinModel", name := "happensTo", desc := "(II)V" } : Jvm.MethodName) prog_20_method_84_code (3 : Nat) (Option.none : Option Jvm.ClassFile.FieldType)) ∈ lw_all := lw_g (lw_at lw_m8 51 rfl) rfl
theorem q1855 : (Jvm.Cond.instanceMethod ({ cls := "QuiverKinModel", name := "of", desc := "(II)I" } : Jvm.MethodName)) ∈ lw_all := lw_g (lw_at lw_m8 53 rfl) rfl
theorem q1856 : (Jvm.Cond.selects "QuiverKinModel" ({ cls := "QuiverKinModel", name := "of", desc := "(II)I" } : Jvm.MethodName) ({ cls := "QuiverKinModel", name := "of", desc := "(II)I" } : Jvm.MethodName)) ∈ lw_all := lw_g (lw_at lw_m8 54 rfl) rfl
theorem q1857 : (Jvm.Cond.code ({ cls := "QuiverKinModel", name := "of", desc := "(II)I" } : Jvm.MethodName) prog_20_method_86_code (3 : Nat) (Option.some Jvm.ClassFile.FieldType.int)) ∈ lw_all := lw_g (lw_at lw_m8 55 rfl) rfl
theorem q1859 : (Jvm.Cond.instanceMethod ({ cls := "QuiverKinModel", name := "at", desc := "(I)I" } : Jvm.MethodName)) ∈ lw_all := lw_g (lw_at lw_m8 57 rfl) rfl
theorem q1860 : (Jvm.Cond.selects "QuiverKinModel" ({ cls := "QuiverKinModel", name := "at", desc := "(I)I" } : Jvm.MethodName) ({ cls := "QuiverKinModel", name := "at", desc := "(I)I" } : Jvm.MethodName)) ∈ lw_all := lw_g (lw_at lw_m8 58 rfl) rfl
theorem q1861 : (Jvm.Cond.code ({ cls := "QuiverKinModel", name := "at", desc := "(I)I" } : Jvm.MethodName) prog_20_method_87_code (2 : Nat) (Option.some Jvm.ClassFile.FieldType.int)) ∈ lw_all := lw_g (lw_at lw_m8 59 rfl) rfl
theorem q1863 : (Jvm.Cond.instanceMethod ({ cls := "QuiverKinModel", name := "is", desc := "(I)I" } : Jvm.MethodName)) ∈ lw_all := lw_g (lw_at lw_m8 61 rfl) rfl
theorem q1864 : (Jvm.Cond.selects "QuiverKinModel" ({ cls := "QuiverKinModel", name := "is", desc := "(I)I" } : Jvm.MethodName) ({ cls := "QuiverKinModel", name := "is", desc := "(I)I" } : Jvm.MethodName)) ∈ lw_all := lw_g (lw_at lw_m8 62 rfl) rfl
theorem q1865 : (Jvm.Cond.code ({ cls := "QuiverKinModel", name := "is", desc := "(I)I" } : Jvm.MethodName) prog_20_method_88_code (4 : Nat) (Option.some Jvm.ClassFile.FieldType.int)) ∈ lw_all := lw_g (lw_at lw_m8 63 rfl) rfl
theorem q1867 : (Jvm.Cond.instanceMethod ({ cls := "QuiverKinModel", name := "book", desc := "(II)I" } : Jvm.MethodName)) ∈ lw_all := lw_g (lw_at lw_m8 65 rfl) rfl
theorem q1868 : (Jvm.Cond.selects "QuiverKinModel" ({ cls := "QuiverKinModel", name := "book", desc := "(II)I" } : Jvm.MethodName) ({ cls := "QuiverKinModel", name := "book", desc := "(II)I" } : Jvm.MethodName)) ∈ lw_all := lw_g (lw_at lw_m8 66 rfl) rfl
theorem q1869 : (Jvm.Cond.code ({ cls := "QuiverKinModel", name := "book", desc := "(II)I" } : Jvm.MethodName) prog_20_method_90_code (3 : Nat) (Option.some Jvm.ClassFile.FieldType.int)) ∈ lw_all := lw_g (lw_at lw_m8 67 rfl) rfl
theorem q1870 : (Jvm.Cond.methodLink "QuiverKinModel" (369 : Nat) ({ cls := "QuiverKinModel", name := "lineOf", desc := "(II)I" } : Jvm.MethodName)) ∈ lw_all := lw_g (lw_at lw_m8 68 rfl) rfl
theorem q1871 : (Jvm.Cond.privateMethod ({ cls := "QuiverKinModel", name := "lineOf", desc := "(II)I" } : Jvm.MethodName)) ∈ lw_tbl := lw_at lw_m8 69 rfl
theorem q1872 : (Jvm.Cond.instanceMethod ({ cls := "QuiverKinModel", name := "lineOf", desc := "(II)I" } : Jvm.MethodName)) ∈ lw_all := lw_g (lw_at lw_m8 70 rfl) rfl
theorem q1873 : (Jvm.Cond.code ({ cls := "QuiverKinModel", name := "lineOf", desc := "(II)I" } : Jvm.MethodName) prog_20_method_89_code (4 : Nat) (Option.some Jvm.ClassFile.FieldType.int)) ∈ lw_all := lw_g (lw_at lw_m8 71 rfl) rfl
theorem q1875 : (Jvm.Cond.instanceMethod ({ cls := "QuiverKinModel", name := "ledger", desc := "(I)I" } : Jvm.MethodName)) ∈ lw_all := lw_g (lw_at lw_m8 73 rfl) rfl
theorem q1876 : (Jvm.Cond.selects "QuiverKinModel" ({ cls := "QuiverKinModel", name := "ledger", desc := "(I)I" } : Jvm.MethodName) ({ cls := "QuiverKinModel", name := "ledger", desc := "(I)I" } : Jvm.MethodName)) ∈ lw_all := lw_g (lw_at lw_m8 74 rfl) rfl
theorem q1877 : (Jvm.Cond.code ({ cls := "QuiverKinModel", name := "ledger", desc := "(I)I" } : Jvm.MethodName) prog_20_method_91_code (4 : Nat) (Option.some Jvm.ClassFile.FieldType.int)) ∈ lw_all := lw_g (lw_at lw_m8 75 rfl) rfl
theorem q1879 : (Jvm.Cond.instanceMethod ({ cls := "QuiverKinModel", name := "fullest", desc := "()I" } : Jvm.MethodName)) ∈ lw_all := lw_g (lw_at lw_m8 77 rfl) rfl
theorem q1880 : (Jvm.Cond.selects "QuiverKinModel" ({ cls := "QuiverKinModel", name := "fullest", desc := "()I" } : Jvm.MethodName) ({ cls := "QuiverKinModel", name := "fullest", desc := "()I" } : Jvm.MethodName)) ∈ lw_all := lw_g (lw_at lw_m8 78 rfl) rfl
theorem q1881 : (Jvm.Cond.code ({ cls := "QuiverKinModel", name := "fullest", desc := "()I" } : Jvm.MethodName) prog_20_method_92_code (3 : Nat) (Option.some Jvm.ClassFile.FieldType.int)) ∈ lw_all := lw_g (lw_at lw_m8 79 rfl) rfl
theorem q1883 : (Jvm.Cond.instanceMethod ({ cls := "QuiverKinModel", name := "calm", desc := "()I" } : Jvm.MethodName)) ∈ lw_all := lw_g (lw_at lw_m8 81 rfl) rfl
theorem q1884 : (Jvm.Cond.selects "QuiverKinModel" ({ cls := "QuiverKinModel", name := "calm", desc := "()I" } : Jvm.MethodName) ({ cls := "QuiverKinModel", name := "calm", desc := "()I" } : Jvm.MethodName)) ∈ lw_all := lw_g (lw_at lw_m8 82 rfl) rfl
theorem q1885 : (Jvm.Cond.code ({ cls := "QuiverKinModel", name := "calm", desc := "()I" } : Jvm.MethodName) prog_20_method_93_code (3 : Nat) (Option.some Jvm.ClassFile.FieldType.int)) ∈ lw_all := lw_g (lw_at lw_m8 83 rfl) rfl
theorem q1887 : (Jvm.Cond.instanceMethod ({ cls := "QuiverKinModel", name := "foretold", desc := "(II)I" } : Jvm.MethodName)) ∈ lw_all := lw_g (lw_at lw_m8 85 rfl) rfl
theorem q1888 : (Jvm.Cond.selects "QuiverKinModel" ({ cls := "QuiverKinModel", name := "foretold", desc := "(II)I" } : Jvm.MethodName) ({ cls := "QuiverKinModel", name := "foretold", desc := "(II)I" } : Jvm.MethodName)) ∈ lw_all := lw_g (lw_at lw_m8 86 rfl) rfl
theorem q1889 : (Jvm.Cond.code ({ cls := "QuiverKinModel", name := "foretold", desc := "(II)I" } : Jvm.MethodName) prog_20_method_94_code (5 : Nat) (Option.some Jvm.ClassFile.FieldType.int)) ∈ lw_all := lw_g (lw_at lw_m8 87 rfl) rfl
theorem q1891 : (Jvm.Cond.instanceMethod ({ cls := "QuiverKinModel", name := "round", desc := "(Z)I" } : Jvm.MethodName)) ∈ lw_all := lw_g (lw_at lw_m8 89 rfl) rfl
theorem q1892 : (Jvm.Cond.selects "QuiverKinModel" ({ cls := "QuiverKinModel", name := "round", desc := "(Z)I" } : Jvm.MethodName) ({ cls := "QuiverKinModel", name := "round", desc := "(Z)I" } : Jvm.MethodName)) ∈ lw_all := lw_g (lw_at lw_m8 90 rfl) rfl
theorem q1893 : (Jvm.Cond.code ({ cls := "QuiverKinModel", name := "round", desc := "(Z)I" } : Jvm.MethodName) prog_20_method_100_code (2 : Nat) (Option.some Jvm.ClassFile.FieldType.int)) ∈ lw_all := lw_g (lw_at lw_m8 91 rfl) rfl
theorem q1894 : (Jvm.Cond.methodLink "QuiverKinModel" (394 : Nat) ({ cls := "QuiverKinModel", name := "layBest", desc := "()V" } : Jvm.MethodName)) ∈ lw_all := lw_g (lw_at lw_m8 92 rfl) rfl
theorem q1895 : (Jvm.Cond.privateMethod ({ cls := "QuiverKinModel", name := "layBest", desc := "()V" } : Jvm.MethodName)) ∈ lw_tbl := lw_at lw_m8 93 rfl
theorem q1896 : (Jvm.Cond.instanceMethod ({ cls := "QuiverKinModel", name := "layBest", desc := "()V" } : Jvm.MethodName)) ∈ lw_all := lw_g (lw_at lw_m8 94 rfl) rfl
theorem q1897 : (Jvm.Cond.code ({ cls := "QuiverKinModel", name := "layBest", desc := "()V" } : Jvm.MethodName) prog_20_method_99_code (4 : Nat) (Option.none : Option Jvm.ClassFile.FieldType)) ∈ lw_all := lw_g (lw_at lw_m8 95 rfl) rfl
theorem q1898 : (Jvm.Cond.constant "QuiverKinModel" (375 : Nat) (1000000 : Int32)) ∈ lw_all := lw_g (lw_at lw_m8 96 rfl) rfl
theorem q1899 : (Jvm.Cond.methodLink "QuiverKinModel" (385 : Nat) ({ cls := "QuiverKinModel", name := "seatingsInAll", desc := "()I" } : Jvm.MethodName)) ∈ lw_all := lw_g (lw_at lw_m8 97 rfl) rfl
theorem q1900 : (Jvm.Cond.privateMethod ({ cls := "QuiverKinModel", name := "seatingsInAll", desc := "()I" } : Jvm.MethodName)) ∈ lw_tbl := lw_at lw_m8 98 rfl
theorem q1901 : (Jvm.Cond.instanceMethod ({ cls := "QuiverKinModel", name := "seatingsInAll", desc := "()I" } : Jvm.MethodName)) ∈ lw_all := lw_g (lw_at lw_m8 99 rfl) rfl
theorem q1902 : (Jvm.Cond.code ({ cls := "QuiverKinModel", name := "seatingsInAll", desc := "()I" } : Jvm.MethodName) prog_20_method_96_code (1 : Nat) (Option.some Jvm.ClassFile.FieldType.int)) ∈ lw_all := lw_g (lw_at lw_m8 100 rfl) rfl
theorem q1903 : (Jvm.Cond.methodLink "QuiverKinModel" (372 : Nat) ({ cls := "QuiverKinModel", name := "factorial", desc := "(I)I" } : Jvm.MethodName)) ∈ lw_all := lw_g (lw_at lw_m8 101 rfl) rfl
theorem q1904 : (Jvm.Cond.static ({ cls := "QuiverKinModel", name := "factorial", desc := "(I)I" } : Jvm.MethodName)) ∈ lw_all := lw_g (lw_at lw_m8 102 rfl) rfl
theorem q1905 : (Jvm.Cond.code ({ cls := "QuiverKinModel", name := "factorial", desc := "(I)I" } : Jvm.MethodName) prog_20_method_95_code (3 : Nat) (Option.some Jvm.ClassFile.FieldType.int)) ∈ lw_all := lw_g (lw_at lw_m8 103 rfl) rfl
theorem q1906 : (Jvm.Cond.methodLink "QuiverKinModel" (388 : Nat) ({ cls := "QuiverKinModel", name := "layRow", desc := "(I)V" } : Jvm.MethodName)) ∈ lw_all := lw_g (lw_at lw_m8 104 rfl) rfl
theorem q1907 : (Jvm.Cond.privateMethod ({ cls := "QuiverKinModel", name := "layRow", desc := "(I)V" } : Jvm.MethodName)) ∈ lw_tbl := lw_at lw_m8 105 rfl
theorem q1908 : (Jvm.Cond.instanceMethod ({ cls := "QuiverKinModel", name := "layRow", desc := "(I)V" } : Jvm.MethodName)) ∈ lw_all := lw_g (lw_at lw_m8 106 rfl) rfl
theorem q1909 : (Jvm.Cond.code ({ cls := "QuiverKinModel", name := "layRow", desc := "(I)V" } : Jvm.MethodName) prog_20_method_97_code (7 : Nat) (Option.none : Option Jvm.ClassFile.FieldType)) ∈ lw_all := lw_g (lw_at lw_m8 107 rfl) rfl
theorem q1910 : (Jvm.Cond.methodLink "QuiverKinModel" (391 : Nat) ({ cls := "QuiverKinModel", name := "spiteOfRow", desc := "()I" } : Jvm.MethodName)) ∈ lw_all := lw_g (lw_at lw_m8 108 rfl) rfl
theorem q1911 : (Jvm.Cond.privateMethod ({ cls := "QuiverKinModel", name := "spiteOfRow", desc := "()I" } : Jvm.MethodName)) ∈ lw_tbl := lw_at lw_m8 109 rfl
theorem q1912 : (Jvm.Cond.instanceMethod ({ cls := "QuiverKinModel", name := "spiteOfRow", desc := "()I" } : Jvm.MethodName)) ∈ lw_all := lw_g (lw_at lw_m8 110 rfl) rfl
theorem q1913 : (Jvm.Cond.code ({ cls := "QuiverKinModel", name := "spiteOfRow", desc := "()I" } : Jvm.MethodName) prog_20_method_98_code (4 : Nat) (Option.some Jvm.ClassFile.FieldType.int)) ∈ lw_all := lw_g (lw_at lw_m8 111 rfl) rfl
theorem q1915 : (Jvm.Cond.instanceMethod ({ cls := "QuiverKinModel", name := "seating", desc := "(I)I" } : Jvm.MethodName)) ∈ lw_all := lw_g (lw_at lw_m8 113 rfl) rfl
theorem q1916 : (Jvm.Cond.selects "QuiverKinModel" ({ cls := "QuiverKinModel", name := "seating", desc := "(I)I" } : Jvm.MethodName) ({ cls := "QuiverKinModel", name := "seating", desc := "(I)I" } : Jvm.MethodName)) ∈ lw_all := lw_g (lw_at lw_m8 114 rfl) rfl
theorem q1917 : (Jvm.Cond.code ({ cls := "QuiverKinModel", name := "seating", desc := "(I)I" } : Jvm.MethodName) prog_20_method_101_code (2 : Nat) (Option.some Jvm.ClassFile.FieldType.int)) ∈ lw_all := lw_g (lw_at lw_m8 115 rfl) rfl
theorem q1919 : (Jvm.Cond.instanceMethod ({ cls := "QuiverKinModel", name := "seatings", desc := "()I" } : Jvm.MethodName)) ∈ lw_all := lw_g (lw_at lw_m8 117 rfl) rfl
theorem q1920 : (Jvm.Cond.selects "QuiverKinModel" ({ cls := "QuiverKinModel", name := "seatings", desc := "()I" } : Jvm.MethodName) ({ cls := "QuiverKinModel", name := "seatings", desc := "()I" } : Jvm.MethodName)) ∈ lw_all := lw_g (lw_at lw_m8 118 rfl) rfl
theorem q1921 : (Jvm.Cond.code ({ cls := "QuiverKinModel", name := "seatings", desc := "()I" } : Jvm.MethodName) prog_20_method_102_code (1 : Nat) (Option.some Jvm.ClassFile.FieldType.int)) ∈ lw_all := lw_g (lw_at lw_m8 119 rfl) rfl
theorem q1923 : (Jvm.Cond.instanceMethod ({ cls := "QuiverKinModel", name := "spiteNow", desc := "()I" } : Jvm.MethodName)) ∈ lw_all := lw_g (lw_at lw_m8 121 rfl) rfl
theorem q1924 : (Jvm.Cond.selects "QuiverKinModel" ({ cls := "QuiverKinModel", name := "spiteNow", desc := "()I" } : Jvm.MethodName) ({ cls := "QuiverKinModel", name := "spiteNow", desc := "()I" } : Jvm.MethodName)) ∈ lw_all := lw_g (lw_at lw_m8 122 rfl) rfl
theorem q1925 : (Jvm.Cond.code ({ cls := "QuiverKinModel", name := "spiteNow", desc := "()I" } : Jvm.MethodName) prog_20_method_104_code (1 : Nat) (Option.some Jvm.ClassFile.FieldType.int)) ∈ lw_all := lw_g (lw_at lw_m8 123 rfl) rfl
theorem q1926 : (Jvm.Cond.methodLink "QuiverKinModel" (397 : Nat) ({ cls := "QuiverKinModel", name := "spiteOfSeats", desc := "()I" } : Jvm.MethodName)) ∈ lw_all := lw_g (lw_at lw_m8 124 rfl) rfl
theorem q1927 : (Jvm.Cond.privateMethod ({ cls := "QuiverKinModel", name := "spiteOfSeats", desc := "()I" } : Jvm.MethodName)) ∈ lw_tbl := lw_at lw_m8 125 rfl
theorem q1928 : (Jvm.Cond.instanceMethod ({ cls := "QuiverKinModel", name := "spiteOfSeats", desc := "()I" } : Jvm.MethodName)) ∈ lw_all := lw_g (lw_at lw_m8 126 rfl) rfl
theorem q1929 : (Jvm.Cond.code ({ cls := "QuiverKinModel", name := "spiteOfSeats", desc := "()I" } : Jvm.MethodName) prog_20_method_103_code (2 : Nat) (Option.some Jvm.ClassFile.FieldType.int)) ∈ lw_all := lw_g (lw_at lw_m8 127 rfl) rfl
theorem q1931 : (Jvm.Cond.instanceMethod ({ cls := "QuiverKinModel", name := "mend", desc := "(I)I" } : Jvm.MethodName)) ∈ lw_all := lw_g (lw_at lw_m8 129 rfl) rfl
theorem q1932 : (Jvm.Cond.selects "QuiverKinModel" ({ cls := "QuiverKinModel", name := "mend", desc := "(I)I" } : Jvm.MethodName) ({ cls := "QuiverKinModel", name := "mend", desc := "(I)I" } : Jvm.MethodName)) ∈ lw_all := lw_g (lw_at lw_m8 130 rfl) rfl
theorem q1933 : (Jvm.Cond.code ({ cls := "QuiverKinModel", name := "mend", desc := "(I)I" } : Jvm.MethodName) prog_20_method_105_code (7 : Nat) (Option.some Jvm.ClassFile.FieldType.int)) ∈ lw_all := lw_g (lw_at lw_m8 131 rfl) rfl
theorem q1935 : (Jvm.Cond.instanceMethod ({ cls := "QuiverKinModel", name := "hedge", desc := "(II)Z" } : Jvm.MethodName)) ∈ lw_all := lw_g (lw_at lw_m8 133 rfl) rfl
theorem q1936 : (Jvm.Cond.selects "QuiverKinModel" ({ cls := "QuiverKinModel", name := "hedge", desc := "(II)Z" } : Jvm.MethodName) ({ cls := "QuiverKinModel", name := "hedge", desc := "(II)Z" } : Jvm.MethodName)) ∈ lw_all := lw_g (lw_at lw_m8 134 rfl) rfl
theorem q1937 : (Jvm.Cond.code ({ cls := "QuiverKinModel", name := "hedge", desc := "(II)Z" } : Jvm.MethodName) prog_20_method_106_code (3 : Nat) (Option.some Jvm.ClassFile.FieldType.boolean)) ∈ lw_all := lw_g (lw_at lw_m8 135 rfl) rfl
theorem q1939 : (Jvm.Cond.instanceMethod ({ cls := "QuiverKinModel", name := "flight", desc := "(III)I" } : Jvm.MethodName)) ∈ lw_all := lw_g (lw_at lw_m8 137 rfl) rfl
theorem q1940 : (Jvm.Cond.selects "QuiverKinModel" ({ cls := "QuiverKinModel", name := "flight", desc := "(III)I" } : Jvm.MethodName) ({ cls := "QuiverKinModel", name := "flight", desc := "(III)I" } : Jvm.MethodName)) ∈ lw_all := lw_g (lw_at lw_m8 138 rfl) rfl
theorem q1941 : (Jvm.Cond.code ({ cls := "QuiverKinModel", name := "flight", desc := "(III)I" } : Jvm.MethodName) prog_20_method_111_code (4 : Nat) (Option.some Jvm.ClassFile.FieldType.int)) ∈ lw_all := lw_g (lw_at lw_m8 139 rfl) rfl
theorem q1942 : (Jvm.Cond.methodLink "QuiverKinModel" (418 : Nat) ({ cls := "QuiverKinModel", name := "isFlight", desc := "(II)Z" } : Jvm.MethodName)) ∈ lw_all := lw_g (lw_at lw_m8 140 rfl) rfl
theorem q1943 : (Jvm.Cond.static ({ cls := "QuiverKinModel", name := "isFlight", desc := "(II)Z" } : Jvm.MethodName)) ∈ lw_all := lw_g (lw_at lw_m8 141 rfl) rfl
theorem q1944 : (Jvm.Cond.code ({ cls := "QuiverKinModel", name := "isFlight", desc := "(II)Z" } : Jvm.MethodName) prog_20_method_110_code (2 : Nat) (Option.some Jvm.ClassFile.FieldType.boolean)) ∈ lw_all := lw_g (lw_at lw_m8 142 rfl) rfl
theorem q1945 : (Jvm.Cond.methodLink "QuiverKinModel" (421 : Nat) ({ cls := "QuiverKinModel", name := "isFlown", desc := "(II)Z" } : Jvm.MethodName)) ∈ lw_all := lw_g (lw_at lw_m8 143 rfl) rfl
theorem q1946 : (Jvm.Cond.privateMethod ({ cls := "QuiverKinModel", name := "isFlown", desc := "(II)Z" } : Jvm.MethodName)) ∈ lw_tbl := lw_at lw_m8 144 rfl
theorem q1947 : (Jvm.Cond.instanceMethod ({ cls := "QuiverKinModel", name := "isFlown", desc := "(II)Z" } : Jvm.MethodName)) ∈ lw_all := lw_g (lw_at lw_m8 145 rfl) rfl
theorem q1948 : (Jvm.Cond.code ({ cls := "QuiverKinModel", name := "isFlown", desc := "(II)Z" } : Jvm.MethodName) prog_20_method_109_code (4 : Nat) (Option.some Jvm.ClassFile.FieldType.boolean)) ∈ lw_all := lw_g (lw_at lw_m8 146 rfl) rfl
theorem q1949 : (Jvm.Cond.methodLink "QuiverKinModel" (412 : Nat) ({ cls := "QuiverKinModel", name := "nextBy", desc := "(II)I" } : Jvm.MethodName)) ∈ lw_all := lw_g (lw_at lw_m8 147 rfl) rfl
theorem q1950 : (Jvm.Cond.static ({ cls := "QuiverKinModel", name := "nextBy", desc := "(II)I" } : Jvm.MethodName)) ∈ lw_all := lw_g (lw_at lw_m8 148 rfl) rfl
theorem q1951 : (Jvm.Cond.code ({ cls := "QuiverKinModel", name := "nextBy", desc := "(II)I" } : Jvm.MethodName) prog_20_method_107_code (4 : Nat) (Option.some Jvm.ClassFile.FieldType.int)) ∈ lw_all := lw_g (lw_at lw_m8 149 rfl) rfl
theorem q1952 : (Jvm.Cond.methodLink "QuiverKinModel" (415 : Nat) ({ cls := "QuiverKinModel", name := "turnedBy", desc := "(II)I" } : Jvm.MethodName)) ∈ lw_all := lw_g (lw_at lw_m8 150 rfl) rfl
theorem q1953 : (Jvm.Cond.static ({ cls := "QuiverKinModel", name := "turnedBy", desc := "(II)I" } : Jvm.MethodName)) ∈ lw_all := lw_g (lw_at lw_m8 151 rfl) rfl
theorem q1954 : (Jvm.Cond.code ({ cls := "QuiverKinModel", name := "turnedBy", desc := "(II)I" } : Jvm.MethodName) prog_20_method_108_code (2 : Nat) (Option.some Jvm.ClassFile.FieldType.int)) ∈ lw_all := lw_g (lw_at lw_m8 152 rfl) rfl
theorem q1956 : (Jvm.Cond.instanceMethod ({ cls := "QuiverKinModel", name := "comes", desc := "(II)I" } : Jvm.MethodName)) ∈ lw_all := lw_g (lw_at lw_m8 154 rfl) rfl
theorem q1957 : (Jvm.Cond.selects "QuiverKinModel" ({ cls := "QuiverKinModel", name := "comes", desc := "(II)I" } : Jvm.MethodName) ({ cls := "QuiverKinModel", name := "comes", desc := "(II)I" } : Jvm.MethodName)) ∈ lw_all := lw_g (lw_at lw_m8 155 rfl) rfl
theorem q1958 : (Jvm.Cond.code ({ cls := "QuiverKinModel", name := "comes", desc := "(II)I" } : Jvm.MethodName) prog_20_method_113_code (4 : Nat) (Option.some Jvm.ClassFile.FieldType.int)) ∈ lw_all := lw_g (lw_at lw_m8 156 rfl) rfl
theorem q1959 : (Jvm.Cond.methodLink "QuiverKinModel" (424 : Nat) ({ cls := "QuiverKinModel", name := "isInwards", desc := "(II)Z" } : Jvm.MethodName)) ∈ lw_all := lw_g (lw_at lw_m8 157 rfl) rfl
theorem q1960 : (Jvm.Cond.static ({ cls := "QuiverKinModel", name := "isInwards", desc := "(II)Z" } : Jvm.MethodName)) ∈ lw_all := lw_g (lw_at lw_m8 158 rfl) rfl
theorem q1961 : (Jvm.Cond.code ({ cls := "QuiverKinModel", name := "isInwards", desc := "(II)Z" } : Jvm.MethodName) prog_20_method_112_code (2 : Nat) (Option.some Jvm.ClassFile.FieldType.boolean)) ∈ lw_all := lw_g (lw_at lw_m8 159 rfl) rfl
theorem q1963 : (Jvm.Cond.instanceMethod ({ cls := "QuiverKinModel", name := "guess", desc := "(III)I" } : Jvm.MethodName)) ∈ lw_all := lw_g (lw_at lw_m8 161 rfl) rfl
theorem q1964 : (Jvm.Cond.selects "QuiverKinModel" ({ cls := "QuiverKinModel", name := "guess", desc := "(III)I" } : Jvm.MethodName) ({ cls := "QuiverKinModel", name := "guess", desc := "(III)I" } : Jvm.MethodName)) ∈ lw_all := lw_g (lw_at lw_m8 162 rfl) rfl
theorem q1965 : (Jvm.Cond.code ({ cls := "QuiverKinModel", name := "guess", desc := "(III)I" } : Jvm.MethodName) prog_20_method_118_code (5 : Nat) (Option.some Jvm.ClassFile.FieldType.int)) ∈ lw_all := lw_g (lw_at lw_m8 163 rfl) rfl
theorem q1966 : (Jvm.Cond.methodLink "QuiverKinModel" (433 : Nat) ({ cls := "QuiverKinModel", name := "isRow", desc := "(I)Z" } : Jvm.MethodName)) ∈ lw_all := lw_g (lw_at lw_m8 164 rfl) rfl
theorem q1967 : (Jvm.Cond.static ({ cls := "QuiverKinModel", name := "isRow", desc := "(I)Z" } : Jvm.MethodName)) ∈ lw_all := lw_g (lw_at lw_m8 165 rfl) rfl
theorem q1968 : (Jvm.Cond.code ({ cls := "QuiverKinModel", name := "isRow", desc := "(I)Z" } : Jvm.MethodName) prog_20_method_117_code (1 : Nat) (Option.some Jvm.ClassFile.FieldType.boolean)) ∈ lw_all := lw_g (lw_at lw_m8 166 rfl) rfl
theorem q1970 : (Jvm.Cond.instanceMethod ({ cls := "QuiverKinModel", name := "answer", desc := "(II)I" } : Jvm.MethodName)) ∈ lw_all := lw_g (lw_at lw_m8 168 rfl) rfl
theorem q1971 : (Jvm.Cond.selects "QuiverKinModel" ({ cls := "QuiverKinModel", name := "answer", desc := "(II)I" } : Jvm.MethodName) ({ cls := "QuiverKinModel", name := "answer", desc := "(II)I" } : Jvm.MethodName)) ∈ lw_all := lw_g (lw_at lw_m8 169 rfl) rfl
theorem q1972 : (Jvm.Cond.code ({ cls := "QuiverKinModel", name := "answer", desc := "(II)I" } : Jvm.MethodName) prog_20_method_119_code (3 : Nat) (Option.some Jvm.ClassFile.FieldType.int)) ∈ lw_all := lw_g (lw_at lw_m8 170 rfl) rfl
theorem q1973 : (Jvm.Cond.methodLink "QuiverKinModel" (436 : Nat) ({ cls := "QuiverKinModel", name := "answerOf", desc := "(II)I" } : Jvm.MethodName)) ∈ lw_all := lw_g (lw_at lw_m8 171 rfl) rfl
theorem q1974 : (Jvm.Cond.static ({ cls := "QuiverKinModel", name := "answerOf", desc := "(II)I" } : Jvm.MethodName)) ∈ lw_all := lw_g (lw_at lw_m8 172 rfl) rfl
theorem q1975 : (Jvm.Cond.code ({ cls := "QuiverKinModel", name := "answerOf", desc := "(II)I" } : Jvm.MethodName) prog_20_method_116_code (5 : Nat) (Option.some Jvm.ClassFile.FieldType.int)) ∈ lw_all := lw_g (lw_at lw_m8 173 rfl) rfl
theorem q1976 : (Jvm.Cond.methodLink "QuiverKinModel" (427 : Nat) ({ cls := "QuiverKinModel", name := "digitOf", desc := "(II)I" } : Jvm.MethodName)) ∈ lw_all := lw_g (lw_at lw_m8 174 rfl) rfl
theorem q1977 : (Jvm.Cond.static ({ cls := "QuiverKinModel", name := "digitOf", desc := "(II)I" } : Jvm.MethodName)) ∈ lw_all := lw_g (lw_at lw_m8 175 rfl) rfl
theorem q1978 : (Jvm.Cond.code ({ cls := "QuiverKinModel", name := "digitOf", desc := "(II)I" } : Jvm.MethodName) prog_20_method_114_code (2 : Nat) (Option.some Jvm.ClassFile.FieldType.int)) ∈ lw_all := lw_g (lw_at lw_m8 176 rfl) rfl
theorem q1979 : (Jvm.Cond.methodLink "QuiverKinModel" (430 : Nat) ({ cls := "QuiverKinModel", name := "countOf", desc := "(II)I" } : Jvm.MethodName)) ∈ lw_all := lw_g (lw_at lw_m8 177 rfl) rfl
theorem q1980 : (Jvm.Cond.static ({ cls := "QuiverKinModel", name := "countOf", desc := "(II)I" } : Jvm.MethodName)) ∈ lw_all := lw_g (lw_at lw_m8 178 rfl) rfl
theorem q1981 : (Jvm.Cond.code ({ cls := "QuiverKinModel", name := "countOf", desc := "(II)I" } : Jvm.MethodName) prog_20_method_115_code (4 : Nat) (Option.some Jvm.ClassFile.FieldType.int)) ∈ lw_all := lw_g (lw_at lw_m8 179 rfl) rfl
theorem q1983 : (Jvm.Cond.instanceMethod ({ cls := "QuiverKinModel", name := "fits", desc := "()I" } : Jvm.MethodName)) ∈ lw_all := lw_g (lw_at lw_m8 181 rfl) rfl
theorem q1984 : (Jvm.Cond.selects "QuiverKinModel" ({ cls := "QuiverKinModel", name := "fits", desc := "()I" } : Jvm.MethodName) ({ cls := "QuiverKinModel", name := "fits", desc := "()I" } : Jvm.MethodName)) ∈ lw_all := lw_g (lw_at lw_m8 182 rfl) rfl
theorem q1985 : (Jvm.Cond.code ({ cls := "QuiverKinModel", name := "fits", desc := "()I" } : Jvm.MethodName) prog_20_method_121_code (1 : Nat) (Option.some Jvm.ClassFile.FieldType.int)) ∈ lw_all := lw_g (lw_at lw_m8 183 rfl) rfl
theorem q1986 : (Jvm.Cond.methodLink "QuiverKinModel" (439 : Nat) ({ cls := "QuiverKinModel", name := "layFits", desc := "()I" } : Jvm.MethodName)) ∈ lw_all := lw_g (lw_at lw_m8 184 rfl) rfl
theorem q1987 : (Jvm.Cond.privateMethod ({ cls := "QuiverKinModel", name := "layFits", desc := "()I" } : Jvm.MethodName)) ∈ lw_tbl := lw_at lw_m8 185 rfl
theorem q1988 : (Jvm.Cond.instanceMethod ({ cls := "QuiverKinModel", name := "layFits", desc := "()I" } : Jvm.MethodName)) ∈ lw_all := lw_g (lw_at lw_m8 186 rfl) rfl
theorem q1989 : (Jvm.Cond.code ({ cls := "QuiverKinModel", name := "layFits", desc := "()I" } : Jvm.MethodName) prog_20_method_120_code (5 : Nat) (Option.some Jvm.ClassFile.FieldType.int)) ∈ lw_all := lw_g (lw_at lw_m8 187 rfl) rfl
theorem q1991 : (Jvm.Cond.instanceMethod ({ cls := "QuiverKinModel", name := "fit", desc := "(I)I" } : Jvm.MethodName)) ∈ lw_all := lw_g (lw_at lw_m8 189 rfl) rfl
theorem q1992 : (Jvm.Cond.selects "QuiverKinModel" ({ cls := "QuiverKinModel", name := "fit", desc := "(I)I" } : Jvm.MethodName) ({ cls := "QuiverKinModel", name := "fit", desc := "(I)I" } : Jvm.MethodName)) ∈ lw_all := lw_g (lw_at lw_m8 190 rfl) rfl
theorem q1993 : (Jvm.Cond.code ({ cls := "QuiverKinModel", name := "fit", desc := "(I)I" } : Jvm.MethodName) prog_20_method_122_code (2 : Nat) (Option.some Jvm.ClassFile.FieldType.int)) ∈ lw_all := lw_g (lw_at lw_m8 191 rfl) rfl
theorem q1995 : (Jvm.Cond.instanceMethod ({ cls := "QuiverKinModel", name := "ask", desc := "()I" } : Jvm.MethodName)) ∈ lw_all := lw_g (lw_at lw_m8 193 rfl) rfl
theorem q1996 : (Jvm.Cond.selects "QuiverKinModel" ({ cls := "QuiverKinModel", name := "ask", desc := "()I" } : Jvm.MethodName) ({ cls := "QuiverKinModel", name := "ask", desc := "()I" } : Jvm.MethodName)) ∈ lw_all := lw_g (lw_at lw_m8 194 rfl) rfl
theorem q1997 : (Jvm.Cond.code ({ cls := "QuiverKinModel", name := "ask", desc := "()I" } : Jvm.MethodName) prog_20_method_125_code (6 : Nat) (Option.some Jvm.ClassFile.FieldType.int)) ∈ lw_all := lw_g (lw_at lw_m8 195 rfl) rfl
theorem q1998 : (Jvm.Cond.methodLink "QuiverKinModel" (442 : Nat) ({ cls := "QuiverKinModel", name := "mostAlike", desc := "(II)I" } : Jvm.MethodName)) ∈ lw_all := lw_g (lw_at lw_m8 196 rfl) rfl
theorem q1999 : (Jvm.Cond.privateMethod ({ cls := "QuiverKinModel", name := "mostAlike", desc := "(II)I" } : Jvm.MethodName)) ∈ lw_tbl := lw_at lw_m8 197 rfl
theorem q2000 : (Jvm.Cond.instanceMethod ({ cls := "QuiverKinModel", name := "mostAlike", desc := "(II)I" } : Jvm.MethodName)) ∈ lw_all := lw_g (lw_at lw_m8 198 rfl) rfl
theorem q2001 : (Jvm.Cond.code ({ cls := "QuiverKinModel", name := "mostAlike", desc := "(II)I" } : Jvm.MethodName) prog_20_method_123_code (6 : Nat) (Option.some Jvm.ClassFile.FieldType.int)) ∈ lw_all := lw_g (lw_at lw_m8 199 rfl) rfl
theorem q2002 : (Jvm.Cond.methodLink "QuiverKinModel" (445 : Nat) ({ cls := "QuiverKinModel", name := "isFitting", desc := "(II)Z" } : Jvm.MethodName)) ∈ lw_all := lw_g (lw_at lw_m8 200 rfl) rfl
theorem q2003 : (Jvm.Cond.privateMethod ({ cls := "QuiverKinModel", name := "isFitting", desc := "(II)Z" } : Jvm.MethodName)) ∈ lw_tbl := lw_at lw_m8 201 rfl
theorem q2004 : (Jvm.Cond.instanceMethod ({ cls := "QuiverKinModel", name := "isFitting", desc := "(II)Z" } : Jvm.MethodName)) ∈ lw_all := lw_g (lw_at lw_m8 202 rfl) rfl
theorem q2005 : (Jvm.Cond.code ({ cls := "QuiverKinModel", name := "isFitting", desc := "(II)Z" } : Jvm.MethodName) prog_20_method_124_code (4 : Nat) (Option.some Jvm.ClassFile.FieldType.boolean)) ∈ lw_all := lw_g (lw_at lw_m8 203 rfl) rfl
theorem q2007 : (Jvm.Cond.instanceMethod ({ cls := "QuiverKinModel", name := "gain", desc := "(IIII)Z" } : Jvm.MethodName)) ∈ lw_all := lw_g (lw_at lw_m8 205 rfl) rfl
theorem q2008 : (Jvm.Cond.selects "QuiverKinModel" ({ cls := "QuiverKinModel", name := "gain", desc := "(IIII)Z" } : Jvm.MethodName) ({ cls := "QuiverKinModel", name := "gain", desc := "(IIII)Z" } : Jvm.MethodName)) ∈ lw_all := lw_g (lw_at lw_m8 206 rfl) rfl
theorem q2009 : (Jvm.Cond.code ({ cls := "QuiverKinModel", name := "gain", desc := "(IIII)Z" } : Jvm.MethodName) prog_20_method_126_code (5 : Nat) (Option.some Jvm.ClassFile.FieldType.boolean)) ∈ lw_all := lw_g (lw_at lw_m8 207 rfl) rfl
theorem q2011 : (Jvm.Cond.instanceMethod ({ cls := "QuiverKinModel", name := "rests", desc := "()I" } : Jvm.MethodName)) ∈ lw_all := lw_g (lw_at lw_m8 209 rfl) rfl
theorem q2012 : (Jvm.Cond.selects "QuiverKinModel" ({ cls := "QuiverKinModel", name := "rests", desc := "()I" } : Jvm.MethodName) ({ cls := "QuiverKinModel", name := "rests", desc := "()I" } : Jvm.MethodName)) ∈ lw_all := lw_g (lw_at lw_m8 210 rfl) rfl
theorem q2013 : (Jvm.Cond.code ({ cls := "QuiverKinModel", name := "rests", desc := "()I" } : Jvm.MethodName) prog_20_method_128_code (3 : Nat) (Option.some Jvm.ClassFile.FieldType.int)) ∈ lw_all := lw_g (lw_at lw_m8 211 rfl) rfl
theorem q2014 : (Jvm.Cond.methodLink "QuiverKinModel" (448 : Nat) ({ cls := "QuiverKinModel", name := "gainOf", desc := "(III)I" } : Jvm.MethodName)) ∈ lw_all := lw_g (lw_at lw_m8 212 rfl) rfl
theorem q2015 : (Jvm.Cond.privateMethod ({ cls := "QuiverKinModel", name := "gainOf", desc := "(III)I" } : Jvm.MethodName)) ∈ lw_tbl := lw_at lw_m8 213 rfl
theorem q2016 : (Jvm.Cond.instanceMethod ({ cls := "QuiverKinModel", name := "gainOf", desc := "(III)I" } : Jvm.MethodName)) ∈ lw_all := lw_g (lw_at lw_m8 214 rfl) rfl
theorem q2017 : (Jvm.Cond.code ({ cls := "QuiverKinModel", name := "gainOf", desc := "(III)I" } : Jvm.MethodName) prog_20_method_127_code (4 : Nat) (Option.some Jvm.ClassFile.FieldType.int)) ∈ lw_all := lw_g (lw_at lw_m8 215 rfl) rfl
theorem q2019 : (Jvm.Cond.instanceMethod ({ cls := "QuiverKinModel", name := "mixed", desc := "(ZZ)I" } : Jvm.MethodName)) ∈ lw_all := lw_g (lw_at lw_m8 217 rfl) rfl
theorem q2020 : (Jvm.Cond.selects "QuiverKinModel" ({ cls := "QuiverKinModel", name := "mixed", desc := "(ZZ)I" } : Jvm.MethodName) ({ cls := "QuiverKinModel", name := "mixed", desc := "(ZZ)I" } : Jvm.MethodName)) ∈ lw_all := lw_g (lw_at lw_m8 218 rfl) rfl
theorem q2021 : (Jvm.Cond.code ({ cls := "QuiverKinModel", name := "mixed", desc := "(ZZ)I" } : Jvm.MethodName) prog_20_method_133_code (4 : Nat) (Option.some Jvm.ClassFile.FieldType.int)) ∈ lw_all := lw_g (lw_at lw_m8 219 rfl) rfl
theorem q2022 : (Jvm.Cond.methodLink "QuiverKinModel" (458 : Nat) ({ cls := "QuiverKinModel", name := "isBetween", desc := "(Z)Z" } : Jvm.MethodName)) ∈ lw_all := lw_g (lw_at lw_m8 220 rfl) rfl
theorem q2023 : (Jvm.Cond.privateMethod ({ cls := "QuiverKinModel", name := "isBetween", desc := "(Z)Z" } : Jvm.MethodName)) ∈ lw_tbl := lw_at lw_m8 221 rfl
theorem q2024 : (Jvm.Cond.instanceMethod ({ cls := "QuiverKinModel", name := "isBetween", desc := "(Z)Z" } : Jvm.MethodName)) ∈ lw_all := lw_g (lw_at lw_m8 222 rfl) rfl
theorem q2025 : (Jvm.Cond.code ({ cls := "QuiverKinModel", name := "isBetween", desc := "(Z)Z" } : Jvm.MethodName) prog_20_method_132_code (2 : Nat) (Option.some Jvm.ClassFile.FieldType.boolean)) ∈ lw_all := lw_g (lw_at lw_m8 223 rfl) rfl
theorem q2026 : (Jvm.Cond.methodLink "QuiverKinModel" (455 : Nat) ({ cls := "QuiverKinModel", name := "lowOf", desc := "(Z)I" } : Jvm.MethodName)) ∈ lw_all := lw_g (lw_at lw_m8 224 rfl) rfl
theorem q2027 : (Jvm.Cond.privateMethod ({ cls := "QuiverKinModel", name := "lowOf", desc := "(Z)I" } : Jvm.MethodName)) ∈ lw_tbl := lw_at lw_m8 225 rfl
theorem q2028 : (Jvm.Cond.instanceMethod ({ cls := "QuiverKinModel", name := "lowOf", desc := "(Z)I" } : Jvm.MethodName)) ∈ lw_all := lw_g (lw_at lw_m8 226 rfl) rfl
theorem q2029 : (Jvm.Cond.code ({ cls := "QuiverKinModel", name := "lowOf", desc := "(Z)I" } : Jvm.MethodName) prog_20_method_131_code (2 : Nat) (Option.some Jvm.ClassFile.FieldType.int)) ∈ lw_all := lw_g (lw_at lw_m8 227 rfl) rfl
theorem q2030 : (Jvm.Cond.methodLink "QuiverKinModel" (451 : Nat) ({ cls := "QuiverKinModel", name := "upOf", desc := "(Z)I" } : Jvm.MethodName)) ∈ lw_all := lw_g (lw_at lw_m8 228 rfl) rfl
theorem q2031 : (Jvm.Cond.privateMethod ({ cls := "QuiverKinModel", name := "upOf", desc := "(Z)I" } : Jvm.MethodName)) ∈ lw_tbl := lw_at lw_m8 229 rfl
theorem q2032 : (Jvm.Cond.instanceMethod ({ cls := "QuiverKinModel", name := "upOf", desc := "(Z)I" } : Jvm.MethodName)) ∈ lw_all := lw_g (lw_at lw_m8 230 rfl) rfl
theorem q2033 : (Jvm.Cond.code ({ cls := "QuiverKinModel", name := "upOf", desc := "(Z)I" } : Jvm.MethodName) prog_20_method_130_code (2 : Nat) (Option.some Jvm.ClassFile.FieldType.int)) ∈ lw_all := lw_g (lw_at lw_m8 231 rfl) rfl
theorem q2034 : (Jvm.Cond.methodLink "QuiverKinModel" (462 : Nat) ({ cls := "QuiverKinModel", name := "divisor", desc := "(II)I" } : Jvm.MethodName)) ∈ lw_all := lw_g (lw_at lw_m8 232 rfl) rfl
theorem q2035 : (Jvm.Cond.static ({ cls := "QuiverKinModel", name := "divisor", desc := "(II)I" } : Jvm.MethodName)) ∈ lw_all := lw_g (lw_at lw_m8 233 rfl) rfl
theorem q2036 : (Jvm.Cond.code ({ cls := "QuiverKinModel", name := "divisor", desc := "(II)I" } : Jvm.MethodName) prog_20_method_129_code (5 : Nat) (Option.some Jvm.ClassFile.FieldType.int)) ∈ lw_all := lw_g (lw_at lw_m8 234 rfl) rfl
theorem q2038 : (Jvm.Cond.instanceMethod ({ cls := "QuiverKinModel", name := "saying", desc := "(II)I" } : Jvm.MethodName)) ∈ lw_all := lw_g (lw_at lw_m8 236 rfl) rfl
theorem q2039 : (Jvm.Cond.selects "QuiverKinModel" ({ cls := "QuiverKinModel", name := "saying", desc := "(II)I" } : Jvm.MethodName) ({ cls := "QuiverKinModel", name := "saying", desc := "(II)I" } : Jvm.MethodName)) ∈ lw_all := lw_g (lw_at lw_m8 237 rfl) rfl
theorem q2040 : (Jvm.Cond.code ({ cls := "QuiverKinModel", name := "saying", desc := "(II)I" } : Jvm.MethodName) prog_20_method_134_code (3 : Nat) (Option.some Jvm.ClassFile.FieldType.int)) ∈ lw_all := lw_g (lw_at lw_m8 238 rfl) rfl
theorem q2042 : (Jvm.Cond.instanceMethod ({ cls := "QuiverKinModel", name := "least", desc := "(IZ)I" } : Jvm.MethodName)) ∈ lw_all := lw_g (lw_at lw_m9 0 rfl) rfl
theorem q2043 : (Jvm.Cond.selects "QuiverKinModel" ({ cls := "QuiverKinModel", name := "least", desc := "(IZ)I" } : Jvm.MethodName) ({ cls := "QuiverKinModel", name := "least", desc := "(IZ)I" } : Jvm.MethodName)) ∈ lw_all := lw_g (lw_at lw_m9 1 rfl) rfl
theorem q2044 : (Jvm.Cond.code ({ cls := "QuiverKinModel", name := "least", desc := "(IZ)I" } : Jvm.MethodName) prog_20_method_136_code (6 : Nat) (Option.some Jvm.ClassFile.FieldType.int)) ∈ lw_all := lw_g (lw_at lw_m9 2 rfl) rfl
theorem q2045 : (Jvm.Cond.methodLink "QuiverKinModel" (465 : Nat) ({ cls := "QuiverKinModel", name := "sumOf", desc := "(II)I" } : Jvm.MethodName)) ∈ lw_all := lw_g (lw_at lw_m9 3 rfl) rfl
theorem q2046 : (Jvm.Cond.privateMethod ({ cls := "QuiverKinModel", name := "sumOf", desc := "(II)I" } : Jvm.MethodName)) ∈ lw_tbl := lw_at lw_m9 4 rfl
theorem q2047 : (Jvm.Cond.instanceMethod ({ cls := "QuiverKinModel", name := "sumOf", desc := "(II)I" } : Jvm.MethodName)) ∈ lw_all := lw_g (lw_at lw_m9 5 rfl) rfl
theorem q2048 : (Jvm.Cond.code ({ cls := "QuiverKinModel", name := "sumOf", desc := "(II)I" } : Jvm.MethodName) prog_20_method_135_code (5 : Nat) (Option.some Jvm.ClassFile.FieldType.int)) ∈ lw_all := lw_g (lw_at lw_m9 6 rfl) rfl
theorem q2049 : (Jvm.Cond.methodLink "QuiverKinModel" (468 : Nat) ({ cls := "QuiverKinModel", name := "bits", desc := "(I)I" } : Jvm.MethodName)) ∈ lw_all := lw_g (lw_at lw_m9 7 rfl) rfl
theorem q2050 : (Jvm.Cond.static ({ cls := "QuiverKinModel", name := "bits", desc := "(I)I" } : Jvm.MethodName)) ∈ lw_all := lw_g (lw_at lw_m9 8 rfl) rfl
theorem q2051 : (Jvm.Cond.code ({ cls := "QuiverKinModel", name := "bits", desc := "(I)I" } : Jvm.MethodName) prog_20_method_6_code (3 : Nat) (Option.some Jvm.ClassFile.FieldType.int)) ∈ lw_all := lw_g (lw_at lw_m9 9 rfl) rfl
theorem q2053 : (Jvm.Cond.instanceMethod ({ cls := "QuiverKinModel", name := "near", desc := "(IIIZ)J" } : Jvm.MethodName)) ∈ lw_all := lw_g (lw_at lw_m9 11 rfl) rfl
theorem q2054 : (Jvm.Cond.selects "QuiverKinModel" ({ cls := "QuiverKinModel", name := "near", desc := "(IIIZ)J" } : Jvm.MethodName) ({ cls := "QuiverKinModel", name := "near", desc := "(IIIZ)J" } : Jvm.MethodName)) ∈ lw_all := lw_g (lw_at lw_m9 12 rfl) rfl
theorem q2055 : (Jvm.Cond.code ({ cls := "QuiverKinModel", name := "near", desc := "(IIIZ)J" } : Jvm.MethodName) prog_20_method_139_code (9 : Nat) (Option.some Jvm.ClassFile.FieldType.long)) ∈ lw_all := lw_g (lw_at lw_m9 13 rfl) rfl
theorem q2056 : (Jvm.Cond.constantLong "QuiverKinModel" (471 : Nat) (-1 : Int64)) ∈ lw_all := lw_g (lw_at lw_m9 14 rfl) rfl
theorem q2057 : (Jvm.Cond.methodLink "QuiverKinModel" (473 : Nat) ({ cls := "QuiverKinModel", name := "waysOf", desc := "(III)J" } : Jvm.MethodName)) ∈ lw_all := lw_g (lw_at lw_m9 15 rfl) rfl
theorem q2058 : (Jvm.Cond.static ({ cls := "QuiverKinModel", name := "waysOf", desc := "(III)J" } : Jvm.MethodName)) ∈ lw_all := lw_g (lw_at lw_m9 16 rfl) rfl
theorem q2059 : (Jvm.Cond.code ({ cls := "QuiverKinModel", name := "waysOf", desc := "(III)J" } : Jvm.MethodName) prog_20_method_137_code (9 : Nat) (Option.some Jvm.ClassFile.FieldType.long)) ∈ lw_all := lw_g (lw_at lw_m9 17 rfl) rfl
theorem q2060 : (Jvm.Cond.methodLink "QuiverKinModel" (476 : Nat) ({ cls := "QuiverKinModel", name := "longDivisor", desc := "(JJ)J" } : Jvm.MethodName)) ∈ lw_all := lw_g (lw_at lw_m9 18 rfl) rfl
theorem q2061 : (Jvm.Cond.static ({ cls := "QuiverKinModel", name := "longDivisor", desc := "(JJ)J" } : Jvm.MethodName)) ∈ lw_all := lw_g (lw_at lw_m9 19 rfl) rfl
theorem q2062 : (Jvm.Cond.code ({ cls := "QuiverKinModel", name := "longDivisor", desc := "(JJ)J" } : Jvm.MethodName) prog_20_method_138_code (10 : Nat) (Option.some Jvm.ClassFile.FieldType.long)) ∈ lw_all := lw_g (lw_at lw_m9 20 rfl) rfl
theorem q2064 : (Jvm.Cond.instanceMethod ({ cls := "QuiverKinModel", name := "game", desc := "(II)I" } : Jvm.MethodName)) ∈ lw_all := lw_g (lw_at lw_m9 22 rfl) rfl
theorem q2065 : (Jvm.Cond.selects "QuiverKinModel" ({ cls := "QuiverKinModel", name := "game", desc := "(II)I" } : Jvm.MethodName) ({ cls := "QuiverKinModel", name := "game", desc := "(II)I" } : Jvm.MethodName)) ∈ lw_all := lw_g (lw_at lw_m9 23 rfl) rfl
theorem q2066 : (Jvm.Cond.code ({ cls := "QuiverKinModel", name := "game", desc := "(II)I" } : Jvm.MethodName) prog_20_method_145_code (5 : Nat) (Option.some Jvm.ClassFile.FieldType.int)) ∈ lw_all := lw_g (lw_at lw_m9 24 rfl) rfl
theorem q2067 : (Jvm.Cond.methodLink "QuiverKinModel" (492 : Nat) ({ cls := "QuiverKinModel", name := "layWins", desc := "(I)V" } : Jvm.MethodName)) ∈ lw_all := lw_g (lw_at lw_m9 25 rfl) rfl
theorem q2068 : (Jvm.Cond.privateMethod ({ cls := "QuiverKinModel", name := "layWins", desc := "(I)V" } : Jvm.MethodName)) ∈ lw_tbl := lw_at lw_m9 26 rfl
theorem q2069 : (Jvm.Cond.instanceMethod ({ cls := "QuiverKinModel", name := "layWins", desc := "(I)V" } : Jvm.MethodName)) ∈ lw_all := lw_g (lw_at lw_m9 27 rfl) rfl
theorem q2070 : (Jvm.Cond.code ({ cls := "QuiverKinModel", name := "layWins", desc := "(I)V" } : Jvm.MethodName) prog_20_method_144_code (3 : Nat) (Option.none : Option Jvm.ClassFile.FieldType)) ∈ lw_all := lw_g (lw_at lw_m9 28 rfl) rfl
theorem q2071 : (Jvm.Cond.methodLink "QuiverKinModel" (486 : Nat) ({ cls := "QuiverKinModel", name := "isShape", desc := "(I)Z" } : Jvm.MethodName)) ∈ lw_all := lw_g (lw_at lw_m9 29 rfl) rfl
theorem q2072 : (Jvm.Cond.static ({ cls := "QuiverKinModel", name := "isShape", desc := "(I)Z" } : Jvm.MethodName)) ∈ lw_all := lw_g (lw_at lw_m9 30 rfl) rfl
theorem q2073 : (Jvm.Cond.code ({ cls := "QuiverKinModel", name := "isShape", desc := "(I)Z" } : Jvm.MethodName) prog_20_method_141_code (2 : Nat) (Option.some Jvm.ClassFile.FieldType.boolean)) ∈ lw_all := lw_g (lw_at lw_m9 31 rfl) rfl
theorem q2074 : (Jvm.Cond.methodLink "QuiverKinModel" (480 : Nat) ({ cls := "QuiverKinModel", name := "rowOf", desc := "(II)I" } : Jvm.MethodName)) ∈ lw_all := lw_g (lw_at lw_m9 32 rfl) rfl
theorem q2075 : (Jvm.Cond.static ({ cls := "QuiverKinModel", name := "rowOf", desc := "(II)I" } : Jvm.MethodName)) ∈ lw_all := lw_g (lw_at lw_m9 33 rfl) rfl
theorem q2076 : (Jvm.Cond.code ({ cls := "QuiverKinModel", name := "rowOf", desc := "(II)I" } : Jvm.MethodName) prog_20_method_140_code (4 : Nat) (Option.some Jvm.ClassFile.FieldType.int)) ∈ lw_all := lw_g (lw_at lw_m9 34 rfl) rfl
theorem q2077 : (Jvm.Cond.methodLink "QuiverKinModel" (489 : Nat) ({ cls := "QuiverKinModel", name := "biteOf", desc := "(I)I" } : Jvm.MethodName)) ∈ lw_all := lw_g (lw_at lw_m9 35 rfl) rfl
theorem q2078 : (Jvm.Cond.privateMethod ({ cls := "QuiverKinModel", name := "biteOf", desc := "(I)I" } : Jvm.MethodName)) ∈ lw_tbl := lw_at lw_m9 36 rfl
theorem q2079 : (Jvm.Cond.instanceMethod ({ cls := "QuiverKinModel", name := "biteOf", desc := "(I)I" } : Jvm.MethodName)) ∈ lw_all := lw_g (lw_at lw_m9 37 rfl) rfl
theorem q2080 : (Jvm.Cond.code ({ cls := "QuiverKinModel", name := "biteOf", desc := "(I)I" } : Jvm.MethodName) prog_20_method_143_code (4 : Nat) (Option.some Jvm.ClassFile.FieldType.int)) ∈ lw_all := lw_g (lw_at lw_m9 38 rfl) rfl
theorem q2081 : (Jvm.Cond.methodLink "QuiverKinModel" (483 : Nat) ({ cls := "QuiverKinModel", name := "bitten", desc := "(III)I" } : Jvm.MethodName)) ∈ lw_all := lw_g (lw_at lw_m9 39 rfl) rfl
theorem q2082 : (Jvm.Cond.static ({ cls := "QuiverKinModel", name := "bitten", desc := "(III)I" } : Jvm.MethodName)) ∈ lw_all := lw_g (lw_at lw_m9 40 rfl) rfl
theorem q2083 : (Jvm.Cond.code ({ cls := "QuiverKinModel", name := "bitten", desc := "(III)I" } : Jvm.MethodName) prog_20_method_142_code (5 : Nat) (Option.some Jvm.ClassFile.FieldType.int)) ∈ lw_all := lw_g (lw_at lw_m9 41 rfl) rfl
theorem q2085 : (Jvm.Cond.instanceMethod ({ cls := "QuiverKinModel", name := "bite", desc := "(IZ)I" } : Jvm.MethodName)) ∈ lw_all := lw_g (lw_at lw_m9 43 rfl) rfl
theorem q2086 : (Jvm.Cond.selects "QuiverKinModel" ({ cls := "QuiverKinModel", name := "bite", desc := "(IZ)I" } : Jvm.MethodName) ({ cls := "QuiverKinModel", name := "bite", desc := "(IZ)I" } : Jvm.MethodName)) ∈ lw_all := lw_g (lw_at lw_m9 44 rfl) rfl
theorem q2087 : (Jvm.Cond.code ({ cls := "QuiverKinModel", name := "bite", desc := "(IZ)I" } : Jvm.MethodName) prog_20_method_146_code (6 : Nat) (Option.some Jvm.ClassFile.FieldType.int)) ∈ lw_all := lw_g (lw_at lw_m9 45 rfl) rfl
theorem q2088 : (Jvm.Cond.constant "QuiverKinModel" (495 : Nat) (55555 : Int32)) ∈ lw_all := lw_g (lw_at lw_m9 46 rfl) rfl
theorem q2090 : (Jvm.Cond.instanceMethod ({ cls := "QuiverKinModel", name := "told", desc := "(II)I" } : Jvm.MethodName)) ∈ lw_all := lw_g (lw_at lw_m9 48 rfl) rfl
theorem q2091 : (Jvm.Cond.selects "QuiverKinModel" ({ cls := "QuiverKinModel", name := "told", desc := "(II)I" } : Jvm.MethodName) ({ cls := "QuiverKinModel", name := "told", desc := "(II)I" } : Jvm.MethodName)) ∈ lw_all := lw_g (lw_at lw_m9 49 rfl) rfl
theorem q2092 : (Jvm.Cond.code ({ cls := "QuiverKinModel", name := "told", desc := "(II)I" } : Jvm.MethodName) prog_20_method_147_code (3 : Nat) (Option.some Jvm.ClassFile.FieldType.int)) ∈ lw_all := lw_g (lw_at lw_m9 50 rfl) rfl
theorem q2094 : (Jvm.Cond.instanceMethod ({ cls := "QuiverKinModel", name := "whose", desc := "()I" } : Jvm.MethodName)) ∈ lw_all := lw_g (lw_at lw_m9 52 rfl) rfl
theorem q2095 : (Jvm.Cond.selects "QuiverKinModel" ({ cls := "QuiverKinModel", name := "whose", desc := "()I" } : Jvm.MethodName) ({ cls := "QuiverKinModel", name := "whose", desc := "()I" } : Jvm.MethodName)) ∈ lw_all := lw_g (lw_at lw_m9 53 rfl) rfl
theorem q2096 : (Jvm.Cond.code ({ cls := "QuiverKinModel", name := "whose", desc := "()I" } : Jvm.MethodName) prog_20_method_148_code (5 : Nat) (Option.some Jvm.ClassFile.FieldType.int)) ∈ lw_all := lw_g (lw_at lw_m9 54 rfl) rfl
theorem q2098 : (Jvm.Cond.instanceMethod ({ cls := "QuiverKinModel", name := "image", desc := "()I" } : Jvm.MethodName)) ∈ lw_all := lw_g (lw_at lw_m9 56 rfl) rfl
theorem q2099 : (Jvm.Cond.selects "QuiverKinModel" ({ cls := "QuiverKinModel", name := "image", desc := "()I" } : Jvm.MethodName) ({ cls := "QuiverKinModel", name := "image", desc := "()I" } : Jvm.MethodName)) ∈ lw_all := lw_g (lw_at lw_m9 57 rfl) rfl
theorem q2100 : (Jvm.Cond.code ({ cls := "QuiverKinModel", name := "image", desc := "()I" } : Jvm.MethodName) prog_20_method_149_code (1 : Nat) (Option.some Jvm.ClassFile.FieldType.int)) ∈ lw_all := lw_g (lw_at lw_m9 58 rfl) rfl
theorem q2102 : (Jvm.Cond.instanceMethod ({ cls := "QuiverKinModel", name := "back", desc := "()I" } : Jvm.MethodName)) ∈ lw_all := lw_g (lw_at lw_m9 60 rfl) rfl
theorem q2103 : (Jvm.Cond.selects "QuiverKinModel" ({ cls := "QuiverKinModel", name := "back", desc := "()I" } : Jvm.MethodName) ({ cls := "QuiverKinModel", name := "back", desc := "()I" } : Jvm.MethodName)) ∈ lw_all := lw_g (lw_at lw_m9 61 rfl) rfl
theorem q2104 : (Jvm.Cond.code ({ cls := "QuiverKinModel", name := "back", desc := "()I" } : Jvm.MethodName) prog_20_method_150_code (1 : Nat) (Option.some Jvm.ClassFile.FieldType.int)) ∈ lw_all := lw_g (lw_at lw_m9 62 rfl) rfl
theorem q2106 : (Jvm.Cond.instanceMethod ({ cls := "QuiverKinModel", name := "about", desc := "(I)I" } : Jvm.MethodName)) ∈ lw_all := lw_g (lw_at lw_m9 64 rfl) rfl
theorem q2107 : (Jvm.Cond.selects "QuiverKinModel" ({ cls := "QuiverKinModel", name := "about", desc := "(I)I" } : Jvm.MethodName) ({ cls := "QuiverKinModel", name := "about", desc := "(I)I" } : Jvm.MethodName)) ∈ lw_all := lw_g (lw_at lw_m9 65 rfl) rfl
theorem q2108 : (Jvm.Cond.code ({ cls := "QuiverKinModel", name := "about", desc := "(I)I" } : Jvm.MethodName) prog_20_method_151_code (2 : Nat) (Option.some Jvm.ClassFile.FieldType.int)) ∈ lw_all := lw_g (lw_at lw_m9 66 rfl) rfl
theorem q2116 : (Jvm.Cond.castable "QuiverKinModel" "java/lang/Object") ∈ lw_tbl := lw_at lw_m9 74 rfl
theorem in_X2 : ∀ w ∈ wsX20, w ∈ lw_all := lw_in wsX20 [1449, 1451, 1453, 1455, 1457, 1459, 1461, 1463, 1465, 1467, 1469, 1471, 1473, 1475, 1477, 1479, 1481, 1483, 1485, 1487, 1489, 1491, 1493, 1495, 1497, 1499, 1501, 1503, 1505, 1507, 1509, 1511, 1513, 1515, 1517, 1519, 1521, 1523, 1525] (by decide +kernel) (by decide +kernel)
