/-! QuiverKin -/
set_option maxRecDepth 100000
def RX0 : String := "QuiverKin"
def TX0 : u_T := fun k => match k with
  | 0 => ("QuiverKin", "now", "LQuiverKin$State;", true)
  | 1 => ("QuiverKin", "image", "LQuiverKin$State;", true)
  | 2 => ("QuiverKin", "tape", "[B", true)
  | 3 => ("QuiverKin", "taped", "I", false)
  | 4 => ("QuiverKin", "fault", "I", false)
  | 5 => ("QuiverKin", "faultAt", "I", false)
  | 6 => ("QuiverKin", "names", "[I", true)
  | 7 => ("QuiverKin", "tried", "[I", true)
  | 8 => ("QuiverKin", "seats", "[I", true)
  | 9 => ("QuiverKin", "bestSeats", "[I", true)
  | 10 => ("QuiverKin", "least", "I", false)
  | 11 => ("QuiverKin", "most", "I", false)
  | 12 => ("QuiverKin", "asGood", "I", false)
  | 13 => ("QuiverKin", "flown", "I", false)
  | 14 => ("QuiverKin", "flownTo", "I", false)
  | 15 => ("QuiverKin", "turned", "I", false)
  | 16 => ("QuiverKin", "wayAtLast", "I", false)
  | 17 => ("QuiverKin", "fitting", "[I", true)
  | 18 => ("QuiverKin", "nFitting", "I", false)
  | 19 => ("QuiverKin", "alike", "[I", true)
  | _ => ("QuiverKin", "known", "[B", true)
def tyX0 : Nat → FieldType := fun k => match k with
  | 0 => .object "QuiverKin$State"
  | 1 => .object "QuiverKin$State"
  | 2 => .array .byte
  | 3 => .int
  | 4 => .int
  | 5 => .int
  | 6 => .array .int
  | 7 => .array .int
  | 8 => .array .int
  | 9 => .array .int
  | 10 => .int
  | 11 => .int
  | 12 => .int
  | 13 => .int
  | 14 => .int
  | 15 => .int
  | 16 => .int
  | 17 => .array .int
  | 18 => .int
  | 19 => .array .int
  | _ => .array .byte
abbrev wsX00 : List Cond := u_ws RX0 TX0 21
set_option maxRecDepth 100000 in
theorem nmX0 : ∀ a, a < 21 → ∀ b, b < 21 → a ≠ b → (TX0 a).2.1 ≠ (TX0 b).2.1 := by decide +kernel
set_option maxRecDepth 100000 in
theorem tyX0_ok : ∀ k, k < 21 → parseFieldDescriptor (TX0 k).2.2.1 = some (tyX0 k) := by decide +kernel
abbrev cX0_init : ByteArray := prog_1_method_4_code
def yX0_init : MethodName := ⟨RX0, "<init>", "()V"⟩
def dkwX0_init_4 : List UInt8 := [17, 30, 96, 188, 8, 181, 0, 58, 42, 180, 0, 25, 42, 180, 0, 21, 182, 0, 61, 177]
abbrev dktX0_init_4 : List UInt8 := dkwX0_init_4 ++ []
def dkwX0_init_3 : List UInt8 := [16, 6, 188, 10, 181, 0, 49, 42, 16, 125, 188, 10, 181, 0, 52, 42, 16, 31, 188, 10, 181, 0, 55, 42]
abbrev dktX0_init_3 : List UInt8 := dkwX0_init_3 ++ dktX0_init_4
def dkwX0_init_2 : List UInt8 := [16, 19, 188, 10, 181, 0, 39, 42, 16, 116, 188, 10, 181, 0, 43, 42, 16, 6, 188, 10, 181, 0, 46, 42]
abbrev dktX0_init_2 : List UInt8 := dkwX0_init_2 ++ dktX0_init_3
def dkwX0_init_1 : List UInt8 := [181, 0, 25, 42, 17, 1, 44, 188, 8, 181, 0, 28, 42, 2, 181, 0, 32, 42, 2, 181, 0, 36, 42]
abbrev dktX0_init_1 : List UInt8 := dkwX0_init_1 ++ dktX0_init_2
def dkwX0_init_0 : List UInt8 := [42, 183, 0, 12, 42, 187, 0, 18, 89, 183, 0, 20, 181, 0, 21, 42, 187, 0, 18, 89, 183, 0, 20]
abbrev dktX0_init_0 : List UInt8 := dkwX0_init_0 ++ dktX0_init_1
theorem dksX0_init_0 : cX0_init.data.toList.drop 0 = dktX0_init_0 := by decide +kernel
theorem dksX0_init_1 : cX0_init.data.toList.drop 23 = dktX0_init_1 := dk_seg dksX0_init_0 23 rfl rfl
theorem dksX0_init_2 : cX0_init.data.toList.drop 46 = dktX0_init_2 := dk_seg dksX0_init_1 23 rfl rfl
theorem dksX0_init_3 : cX0_init.data.toList.drop 70 = dktX0_init_3 := dk_seg dksX0_init_2 24 rfl rfl
theorem dksX0_init_4 : cX0_init.data.toList.drop 94 = dktX0_init_4 := dk_seg dksX0_init_3 24 rfl rfl
theorem dX0_init_0 : decode cX0_init 0 = .ok (.aload_n 0, 1) := dk_42 (dk_at dksX0_init_0 0 rfl rfl)
theorem dX0_init_1 : decode cX0_init 1 = .ok (.invokespecial 12, 3) := dk_183 0 12 (dk_at dksX0_init_0 1 rfl rfl)
theorem dX0_init_4 : decode cX0_init 4 = .ok (.aload_n 0, 1) := dk_42 (dk_at dksX0_init_0 4 rfl rfl)
theorem dX0_init_5 : decode cX0_init 5 = .ok (.new 18, 3) := dk_187 0 18 (dk_at dksX0_init_0 5 rfl rfl)
theorem dX0_init_8 : decode cX0_init 8 = .ok (.dup, 1) := dk_89 (dk_at dksX0_init_0 8 rfl rfl)
theorem dX0_init_9 : decode cX0_init 9 = .ok (.invokespecial 20, 3) := dk_183 0 20 (dk_at dksX0_init_0 9 rfl rfl)
theorem dX0_init_12 : decode cX0_init 12 = .ok (.putfield 21, 3) := dk_181 0 21 (dk_at dksX0_init_0 12 rfl rfl)
theorem dX0_init_15 : decode cX0_init 15 = .ok (.aload_n 0, 1) := dk_42 (dk_at dksX0_init_0 15 rfl rfl)
theorem dX0_init_16 : decode cX0_init 16 = .ok (.new 18, 3) := dk_187 0 18 (dk_at dksX0_init_0 16 rfl rfl)
theorem dX0_init_19 : decode cX0_init 19 = .ok (.dup, 1) := dk_89 (dk_at dksX0_init_0 19 rfl rfl)
theorem dX0_init_20 : decode cX0_init 20 = .ok (.invokespecial 20, 3) := dk_183 0 20 (dk_at dksX0_init_0 20 rfl rfl)
theorem dX0_init_23 : decode cX0_init 23 = .ok (.putfield 25, 3) := dk_181 0 25 (dk_at dksX0_init_1 0 rfl rfl)
theorem dX0_init_26 : decode cX0_init 26 = .ok (.aload_n 0, 1) := dk_42 (dk_at dksX0_init_1 3 rfl rfl)
theorem dX0_init_27 : decode cX0_init 27 = .ok (.sipush 300, 3) := dk_17 1 44 (dk_at dksX0_init_1 4 rfl rfl)
theorem dX0_init_30 : decode cX0_init 30 = .ok (.newarray .byte, 2) := dk_188_8 (dk_at dksX0_init_1 7 rfl rfl)
theorem dX0_init_32 : decode cX0_init 32 = .ok (.putfield 28, 3) := dk_181 0 28 (dk_at dksX0_init_1 9 rfl rfl)
theorem dX0_init_35 : decode cX0_init 35 = .ok (.aload_n 0, 1) := dk_42 (dk_at dksX0_init_1 12 rfl rfl)
theorem dX0_init_36 : decode cX0_init 36 = .ok (.iconst (-1), 1) := dk_2 (dk_at dksX0_init_1 13 rfl rfl)
theorem dX0_init_37 : decode cX0_init 37 = .ok (.putfield 32, 3) := dk_181 0 32 (dk_at dksX0_init_1 14 rfl rfl)
theorem dX0_init_40 : decode cX0_init 40 = .ok (.aload_n 0, 1) := dk_42 (dk_at dksX0_init_1 17 rfl rfl)
theorem dX0_init_41 : decode cX0_init 41 = .ok (.iconst (-1), 1) := dk_2 (dk_at dksX0_init_1 18 rfl rfl)
theorem dX0_init_42 : decode cX0_init 42 = .ok (.putfield 36, 3) := dk_181 0 36 (dk_at dksX0_init_1 19 rfl rfl)
theorem dX0_init_45 : decode cX0_init 45 = .ok (.aload_n 0, 1) := dk_42 (dk_at dksX0_init_1 22 rfl rfl)
theorem dX0_init_46 : decode cX0_init 46 = .ok (.bipush 19, 2) := dk_16 19 (dk_at dksX0_init_2 0 rfl rfl)
theorem dX0_init_48 : decode cX0_init 48 = .ok (.newarray .int, 2) := dk_188_10 (dk_at dksX0_init_2 2 rfl rfl)
theorem dX0_init_50 : decode cX0_init 50 = .ok (.putfield 39, 3) := dk_181 0 39 (dk_at dksX0_init_2 4 rfl rfl)
theorem dX0_init_53 : decode cX0_init 53 = .ok (.aload_n 0, 1) := dk_42 (dk_at dksX0_init_2 7 rfl rfl)
theorem dX0_init_54 : decode cX0_init 54 = .ok (.bipush 116, 2) := dk_16 116 (dk_at dksX0_init_2 8 rfl rfl)
theorem dX0_init_56 : decode cX0_init 56 = .ok (.newarray .int, 2) := dk_188_10 (dk_at dksX0_init_2 10 rfl rfl)
theorem dX0_init_58 : decode cX0_init 58 = .ok (.putfield 43, 3) := dk_181 0 43 (dk_at dksX0_init_2 12 rfl rfl)
theorem dX0_init_61 : decode cX0_init 61 = .ok (.aload_n 0, 1) := dk_42 (dk_at dksX0_init_2 15 rfl rfl)
theorem dX0_init_62 : decode cX0_init 62 = .ok (.bipush 6, 2) := dk_16 6 (dk_at dksX0_init_2 16 rfl rfl)
theorem dX0_init_64 : decode cX0_init 64 = .ok (.newarray .int, 2) := dk_188_10 (dk_at dksX0_init_2 18 rfl rfl)
theorem dX0_init_66 : decode cX0_init 66 = .ok (.putfield 46, 3) := dk_181 0 46 (dk_at dksX0_init_2 20 rfl rfl)
theorem dX0_init_69 : decode cX0_init 69 = .ok (.aload_n 0, 1) := dk_42 (dk_at dksX0_init_2 23 rfl rfl)
theorem dX0_init_70 : decode cX0_init 70 = .ok (.bipush 6, 2) := dk_16 6 (dk_at dksX0_init_3 0 rfl rfl)
theorem dX0_init_72 : decode cX0_init 72 = .ok (.newarray .int, 2) := dk_188_10 (dk_at dksX0_init_3 2 rfl rfl)
theorem dX0_init_74 : decode cX0_init 74 = .ok (.putfield 49, 3) := dk_181 0 49 (dk_at dksX0_init_3 4 rfl rfl)
theorem dX0_init_77 : decode cX0_init 77 = .ok (.aload_n 0, 1) := dk_42 (dk_at dksX0_init_3 7 rfl rfl)
theorem dX0_init_78 : decode cX0_init 78 = .ok (.bipush 125, 2) := dk_16 125 (dk_at dksX0_init_3 8 rfl rfl)
theorem dX0_init_80 : decode cX0_init 80 = .ok (.newarray .int, 2) := dk_188_10 (dk_at dksX0_init_3 10 rfl rfl)
theorem dX0_init_82 : decode cX0_init 82 = .ok (.putfield 52, 3) := dk_181 0 52 (dk_at dksX0_init_3 12 rfl rfl)
theorem dX0_init_85 : decode cX0_init 85 = .ok (.aload_n 0, 1) := dk_42 (dk_at dksX0_init_3 15 rfl rfl)
theorem dX0_init_86 : decode cX0_init 86 = .ok (.bipush 31, 2) := dk_16 31 (dk_at dksX0_init_3 16 rfl rfl)
theorem dX0_init_88 : decode cX0_init 88 = .ok (.newarray .int, 2) := dk_188_10 (dk_at dksX0_init_3 18 rfl rfl)
theorem dX0_init_90 : decode cX0_init 90 = .ok (.putfield 55, 3) := dk_181 0 55 (dk_at dksX0_init_3 20 rfl rfl)
theorem dX0_init_93 : decode cX0_init 93 = .ok (.aload_n 0, 1) := dk_42 (dk_at dksX0_init_3 23 rfl rfl)
theorem dX0_init_94 : decode cX0_init 94 = .ok (.sipush 7776, 3) := dk_17 30 96 (dk_at dksX0_init_4 0 rfl rfl)
theorem dX0_init_97 : decode cX0_init 97 = .ok (.newarray .byte, 2) := dk_188_8 (dk_at dksX0_init_4 3 rfl rfl)
theorem dX0_init_99 : decode cX0_init 99 = .ok (.putfield 58, 3) := dk_181 0 58 (dk_at dksX0_init_4 5 rfl rfl)
theorem dX0_init_102 : decode cX0_init 102 = .ok (.aload_n 0, 1) := dk_42 (dk_at dksX0_init_4 8 rfl rfl)
theorem dX0_init_103 : decode cX0_init 103 = .ok (.getfield 25, 3) := dk_180 0 25 (dk_at dksX0_init_4 9 rfl rfl)
theorem dX0_init_106 : decode cX0_init 106 = .ok (.aload_n 0, 1) := dk_42 (dk_at dksX0_init_4 12 rfl rfl)
theorem dX0_init_107 : decode cX0_init 107 = .ok (.getfield 21, 3) := dk_180 0 21 (dk_at dksX0_init_4 13 rfl rfl)
theorem dX0_init_110 : decode cX0_init 110 = .ok (.invokevirtual 61, 3) := dk_182 0 61 (dk_at dksX0_init_4 16 rfl rfl)
theorem dX0_init_113 : decode cX0_init 113 = .ok (.return_, 1) := dk_177 (dk_at dksX0_init_4 19 rfl rfl)
abbrev cX0_kin : ByteArray := prog_1_method_7_code
def yX0_kin : MethodName := ⟨RX0, "kin", "(II)I"⟩
def dkwX0_kin_3 : List UInt8 := [180, 0, 21, 16, 8, 29, 96, 28, 182, 0, 79, 29, 172]
abbrev dktX0_kin_3 : List UInt8 := dkwX0_kin_3 ++ []
def dkwX0_kin_2 : List UInt8 := [180, 0, 21, 180, 0, 65, 3, 92, 46, 4, 96, 79, 42, 180, 0, 21, 5, 29, 96, 29, 182, 0, 79, 42]
abbrev dktX0_kin_2 : List UInt8 := dkwX0_kin_2 ++ dktX0_kin_3
def dkwX0_kin_1 : List UInt8 := [153, 0, 9, 29, 16, 6, 160, 0, 5, 2, 172, 42, 180, 0, 21, 180, 0, 76, 29, 27, 79, 42]
abbrev dktX0_kin_1 : List UInt8 := dkwX0_kin_1 ++ dktX0_kin_2
def dkwX0_kin_0 : List UInt8 := [42, 182, 0, 68, 62, 27, 3, 16, 9, 184, 0, 72, 153, 0, 19, 28, 3, 16, 99, 184, 0, 72]
abbrev dktX0_kin_0 : List UInt8 := dkwX0_kin_0 ++ dktX0_kin_1
theorem dksX0_kin_0 : cX0_kin.data.toList.drop 0 = dktX0_kin_0 := by decide +kernel
theorem dksX0_kin_1 : cX0_kin.data.toList.drop 22 = dktX0_kin_1 := dk_seg dksX0_kin_0 22 rfl rfl
theorem dksX0_kin_2 : cX0_kin.data.toList.drop 44 = dktX0_kin_2 := dk_seg dksX0_kin_1 22 rfl rfl
theorem dksX0_kin_3 : cX0_kin.data.toList.drop 68 = dktX0_kin_3 := dk_seg dksX0_kin_2 24 rfl rfl
theorem dX0_kin_0 : decode cX0_kin 0 = .ok (.aload_n 0, 1) := dk_42 (dk_at dksX0_kin_0 0 rfl rfl)
theorem dX0_kin_1 : decode cX0_kin 1 = .ok (.invokevirtual 68, 3) := dk_182 0 68 (dk_at dksX0_kin_0 1 rfl rfl)
theorem dX0_kin_4 : decode cX0_kin 4 = .ok (.istore_n 3, 1) := dk_62 (dk_at dksX0_kin_0 4 rfl rfl)
theorem dX0_kin_5 : decode cX0_kin 5 = .ok (.iload_n 1, 1) := dk_27 (dk_at dksX0_kin_0 5 rfl rfl)
theorem dX0_kin_6 : decode cX0_kin 6 = .ok (.iconst 0, 1) := dk_3 (dk_at dksX0_kin_0 6 rfl rfl)
theorem dX0_kin_7 : decode cX0_kin 7 = .ok (.bipush 9, 2) := dk_16 9 (dk_at dksX0_kin_0 7 rfl rfl)
theorem dX0_kin_9 : decode cX0_kin 9 = .ok (.invokestatic 72, 3) := dk_184 0 72 (dk_at dksX0_kin_0 9 rfl rfl)
theorem dX0_kin_12 : decode cX0_kin 12 = .ok (.ifCond .eq 19, 3) := dk_153 0 19 (dk_at dksX0_kin_0 12 rfl rfl)
theorem dX0_kin_15 : decode cX0_kin 15 = .ok (.iload_n 2, 1) := dk_28 (dk_at dksX0_kin_0 15 rfl rfl)
theorem dX0_kin_16 : decode cX0_kin 16 = .ok (.iconst 0, 1) := dk_3 (dk_at dksX0_kin_0 16 rfl rfl)
theorem dX0_kin_17 : decode cX0_kin 17 = .ok (.bipush 99, 2) := dk_16 99 (dk_at dksX0_kin_0 17 rfl rfl)
theorem dX0_kin_19 : decode cX0_kin 19 = .ok (.invokestatic 72, 3) := dk_184 0 72 (dk_at dksX0_kin_0 19 rfl rfl)
theorem dX0_kin_22 : decode cX0_kin 22 = .ok (.ifCond .eq 9, 3) := dk_153 0 9 (dk_at dksX0_kin_1 0 rfl rfl)
theorem dX0_kin_25 : decode cX0_kin 25 = .ok (.iload_n 3, 1) := dk_29 (dk_at dksX0_kin_1 3 rfl rfl)
theorem dX0_kin_26 : decode cX0_kin 26 = .ok (.bipush 6, 2) := dk_16 6 (dk_at dksX0_kin_1 4 rfl rfl)
theorem dX0_kin_28 : decode cX0_kin 28 = .ok (.if_icmp .ne 5, 3) := dk_160 0 5 (dk_at dksX0_kin_1 6 rfl rfl)
theorem dX0_kin_31 : decode cX0_kin 31 = .ok (.iconst (-1), 1) := dk_2 (dk_at dksX0_kin_1 9 rfl rfl)
theorem dX0_kin_32 : decode cX0_kin 32 = .ok (.ireturn, 1) := dk_172 (dk_at dksX0_kin_1 10 rfl rfl)
theorem dX0_kin_33 : decode cX0_kin 33 = .ok (.aload_n 0, 1) := dk_42 (dk_at dksX0_kin_1 11 rfl rfl)
theorem dX0_kin_34 : decode cX0_kin 34 = .ok (.getfield 21, 3) := dk_180 0 21 (dk_at dksX0_kin_1 12 rfl rfl)
theorem dX0_kin_37 : decode cX0_kin 37 = .ok (.getfield 76, 3) := dk_180 0 76 (dk_at dksX0_kin_1 15 rfl rfl)
theorem dX0_kin_40 : decode cX0_kin 40 = .ok (.iload_n 3, 1) := dk_29 (dk_at dksX0_kin_1 18 rfl rfl)
theorem dX0_kin_41 : decode cX0_kin 41 = .ok (.iload_n 1, 1) := dk_27 (dk_at dksX0_kin_1 19 rfl rfl)
theorem dX0_kin_42 : decode cX0_kin 42 = .ok (.iastore, 1) := dk_79 (dk_at dksX0_kin_1 20 rfl rfl)
theorem dX0_kin_43 : decode cX0_kin 43 = .ok (.aload_n 0, 1) := dk_42 (dk_at dksX0_kin_1 21 rfl rfl)
theorem dX0_kin_44 : decode cX0_kin 44 = .ok (.getfield 21, 3) := dk_180 0 21 (dk_at dksX0_kin_2 0 rfl rfl)
theorem dX0_kin_47 : decode cX0_kin 47 = .ok (.getfield 65, 3) := dk_180 0 65 (dk_at dksX0_kin_2 3 rfl rfl)
theorem dX0_kin_50 : decode cX0_kin 50 = .ok (.iconst 0, 1) := dk_3 (dk_at dksX0_kin_2 6 rfl rfl)
theorem dX0_kin_51 : decode cX0_kin 51 = .ok (.dup2, 1) := dk_92 (dk_at dksX0_kin_2 7 rfl rfl)
theorem dX0_kin_52 : decode cX0_kin 52 = .ok (.iaload, 1) := dk_46 (dk_at dksX0_kin_2 8 rfl rfl)
theorem dX0_kin_53 : decode cX0_kin 53 = .ok (.iconst 1, 1) := dk_4 (dk_at dksX0_kin_2 9 rfl rfl)
theorem dX0_kin_54 : decode cX0_kin 54 = .ok (.iadd, 1) := dk_96 (dk_at dksX0_kin_2 10 rfl rfl)
theorem dX0_kin_55 : decode cX0_kin 55 = .ok (.iastore, 1) := dk_79 (dk_at dksX0_kin_2 11 rfl rfl)
theorem dX0_kin_56 : decode cX0_kin 56 = .ok (.aload_n 0, 1) := dk_42 (dk_at dksX0_kin_2 12 rfl rfl)
theorem dX0_kin_57 : decode cX0_kin 57 = .ok (.getfield 21, 3) := dk_180 0 21 (dk_at dksX0_kin_2 13 rfl rfl)
theorem dX0_kin_60 : decode cX0_kin 60 = .ok (.iconst 2, 1) := dk_5 (dk_at dksX0_kin_2 16 rfl rfl)
theorem dX0_kin_61 : decode cX0_kin 61 = .ok (.iload_n 3, 1) := dk_29 (dk_at dksX0_kin_2 17 rfl rfl)
theorem dX0_kin_62 : decode cX0_kin 62 = .ok (.iadd, 1) := dk_96 (dk_at dksX0_kin_2 18 rfl rfl)
theorem dX0_kin_63 : decode cX0_kin 63 = .ok (.iload_n 3, 1) := dk_29 (dk_at dksX0_kin_2 19 rfl rfl)
theorem dX0_kin_64 : decode cX0_kin 64 = .ok (.invokevirtual 79, 3) := dk_182 0 79 (dk_at dksX0_kin_2 20 rfl rfl)
theorem dX0_kin_67 : decode cX0_kin 67 = .ok (.aload_n 0, 1) := dk_42 (dk_at dksX0_kin_2 23 rfl rfl)
theorem dX0_kin_68 : decode cX0_kin 68 = .ok (.getfield 21, 3) := dk_180 0 21 (dk_at dksX0_kin_3 0 rfl rfl)
theorem dX0_kin_71 : decode cX0_kin 71 = .ok (.bipush 8, 2) := dk_16 8 (dk_at dksX0_kin_3 3 rfl rfl)
theorem dX0_kin_73 : decode cX0_kin 73 = .ok (.iload_n 3, 1) := dk_29 (dk_at dksX0_kin_3 5 rfl rfl)
theorem dX0_kin_74 : decode cX0_kin 74 = .ok (.iadd, 1) := dk_96 (dk_at dksX0_kin_3 6 rfl rfl)
theorem dX0_kin_75 : decode cX0_kin 75 = .ok (.iload_n 2, 1) := dk_28 (dk_at dksX0_kin_3 7 rfl rfl)
theorem dX0_kin_76 : decode cX0_kin 76 = .ok (.invokevirtual 79, 3) := dk_182 0 79 (dk_at dksX0_kin_3 8 rfl rfl)
theorem dX0_kin_79 : decode cX0_kin 79 = .ok (.iload_n 3, 1) := dk_29 (dk_at dksX0_kin_3 11 rfl rfl)
theorem dX0_kin_80 : decode cX0_kin 80 = .ok (.ireturn, 1) := dk_172 (dk_at dksX0_kin_3 12 rfl rfl)
abbrev cX0_many : ByteArray := prog_1_method_5_code
def yX0_many : MethodName := ⟨RX0, "many", "()I"⟩
def dkwX0_many_0 : List UInt8 := [42, 180, 0, 21, 180, 0, 65, 3, 46, 172]
abbrev dktX0_many_0 : List UInt8 := dkwX0_many_0 ++ []
theorem dksX0_many_0 : cX0_many.data.toList.drop 0 = dktX0_many_0 := by decide +kernel
theorem dX0_many_0 : decode cX0_many 0 = .ok (.aload_n 0, 1) := dk_42 (dk_at dksX0_many_0 0 rfl rfl)
theorem dX0_many_1 : decode cX0_many 1 = .ok (.getfield 21, 3) := dk_180 0 21 (dk_at dksX0_many_0 1 rfl rfl)
theorem dX0_many_4 : decode cX0_many 4 = .ok (.getfield 65, 3) := dk_180 0 65 (dk_at dksX0_many_0 4 rfl rfl)
theorem dX0_many_7 : decode cX0_many 7 = .ok (.iconst 0, 1) := dk_3 (dk_at dksX0_many_0 7 rfl rfl)
theorem dX0_many_8 : decode cX0_many 8 = .ok (.iaload, 1) := dk_46 (dk_at dksX0_many_0 8 rfl rfl)
theorem dX0_many_9 : decode cX0_many 9 = .ok (.ireturn, 1) := dk_172 (dk_at dksX0_many_0 9 rfl rfl)
abbrev cX0_in : ByteArray := prog_1_method_1_code
def yX0_in : MethodName := ⟨RX0, "in", "(III)Z"⟩
def dkwX0_in_0 : List UInt8 := [26, 27, 161, 0, 12, 26, 28, 163, 0, 7, 4, 167, 0, 4, 3, 172]
abbrev dktX0_in_0 : List UInt8 := dkwX0_in_0 ++ []
theorem dksX0_in_0 : cX0_in.data.toList.drop 0 = dktX0_in_0 := by decide +kernel
theorem dX0_in_0 : decode cX0_in 0 = .ok (.iload_n 0, 1) := dk_26 (dk_at dksX0_in_0 0 rfl rfl)
theorem dX0_in_1 : decode cX0_in 1 = .ok (.iload_n 1, 1) := dk_27 (dk_at dksX0_in_0 1 rfl rfl)
theorem dX0_in_2 : decode cX0_in 2 = .ok (.if_icmp .lt 12, 3) := dk_161 0 12 (dk_at dksX0_in_0 2 rfl rfl)
theorem dX0_in_5 : decode cX0_in 5 = .ok (.iload_n 0, 1) := dk_26 (dk_at dksX0_in_0 5 rfl rfl)
theorem dX0_in_6 : decode cX0_in 6 = .ok (.iload_n 2, 1) := dk_28 (dk_at dksX0_in_0 6 rfl rfl)
theorem dX0_in_7 : decode cX0_in 7 = .ok (.if_icmp .gt 7, 3) := dk_163 0 7 (dk_at dksX0_in_0 7 rfl rfl)
theorem dX0_in_10 : decode cX0_in 10 = .ok (.iconst 1, 1) := dk_4 (dk_at dksX0_in_0 10 rfl rfl)
theorem dX0_in_11 : decode cX0_in 11 = .ok (.goto 4, 3) := dk_167 0 4 (dk_at dksX0_in_0 11 rfl rfl)
theorem dX0_in_14 : decode cX0_in 14 = .ok (.iconst 0, 1) := dk_3 (dk_at dksX0_in_0 14 rfl rfl)
theorem dX0_in_15 : decode cX0_in 15 = .ok (.ireturn, 1) := dk_172 (dk_at dksX0_in_0 15 rfl rfl)
abbrev cX0_feed : ByteArray := prog_1_method_9_code
def yX0_feed : MethodName := ⟨RX0, "feed", "(IIIII)I"⟩
def dkwX0_feed_2 : List UInt8 := [172]
abbrev dktX0_feed_2 : List UInt8 := dkwX0_feed_2 ++ []
def dkwX0_feed_1 : List UInt8 := [182, 0, 86, 42, 29, 182, 0, 86, 42, 21, 4, 182, 0, 86, 42, 21, 5, 182, 0, 86, 42, 180, 0, 83]
abbrev dktX0_feed_1 : List UInt8 := dkwX0_feed_1 ++ dktX0_feed_2
def dkwX0_feed_0 : List UInt8 := [42, 180, 0, 83, 16, 20, 96, 17, 1, 44, 164, 0, 5, 2, 172, 42, 27, 182, 0, 86, 42, 28]
abbrev dktX0_feed_0 : List UInt8 := dkwX0_feed_0 ++ dktX0_feed_1
theorem dksX0_feed_0 : cX0_feed.data.toList.drop 0 = dktX0_feed_0 := by decide +kernel
theorem dksX0_feed_1 : cX0_feed.data.toList.drop 22 = dktX0_feed_1 := dk_seg dksX0_feed_0 22 rfl rfl
theorem dksX0_feed_2 : cX0_feed.data.toList.drop 46 = dktX0_feed_2 := dk_seg dksX0_feed_1 24 rfl rfl
theorem dX0_feed_0 : decode cX0_feed 0 = .ok (.aload_n 0, 1) := dk_42 (dk_at dksX0_feed_0 0 rfl rfl)
theorem dX0_feed_1 : decode cX0_feed 1 = .ok (.getfield 83, 3) := dk_180 0 83 (dk_at dksX0_feed_0 1 rfl rfl)
theorem dX0_feed_4 : decode cX0_feed 4 = .ok (.bipush 20, 2) := dk_16 20 (dk_at dksX0_feed_0 4 rfl rfl)
theorem dX0_feed_6 : decode cX0_feed 6 = .ok (.iadd, 1) := dk_96 (dk_at dksX0_feed_0 6 rfl rfl)
theorem dX0_feed_7 : decode cX0_feed 7 = .ok (.sipush 300, 3) := dk_17 1 44 (dk_at dksX0_feed_0 7 rfl rfl)
theorem dX0_feed_10 : decode cX0_feed 10 = .ok (.if_icmp .le 5, 3) := dk_164 0 5 (dk_at dksX0_feed_0 10 rfl rfl)
theorem dX0_feed_13 : decode cX0_feed 13 = .ok (.iconst (-1), 1) := dk_2 (dk_at dksX0_feed_0 13 rfl rfl)
theorem dX0_feed_14 : decode cX0_feed 14 = .ok (.ireturn, 1) := dk_172 (dk_at dksX0_feed_0 14 rfl rfl)
theorem dX0_feed_15 : decode cX0_feed 15 = .ok (.aload_n 0, 1) := dk_42 (dk_at dksX0_feed_0 15 rfl rfl)
theorem dX0_feed_16 : decode cX0_feed 16 = .ok (.iload_n 1, 1) := dk_27 (dk_at dksX0_feed_0 16 rfl rfl)
theorem dX0_feed_17 : decode cX0_feed 17 = .ok (.invokevirtual 86, 3) := dk_182 0 86 (dk_at dksX0_feed_0 17 rfl rfl)
theorem dX0_feed_20 : decode cX0_feed 20 = .ok (.aload_n 0, 1) := dk_42 (dk_at dksX0_feed_0 20 rfl rfl)
theorem dX0_feed_21 : decode cX0_feed 21 = .ok (.iload_n 2, 1) := dk_28 (dk_at dksX0_feed_0 21 rfl rfl)
theorem dX0_feed_22 : decode cX0_feed 22 = .ok (.invokevirtual 86, 3) := dk_182 0 86 (dk_at dksX0_feed_1 0 rfl rfl)
theorem dX0_feed_25 : decode cX0_feed 25 = .ok (.aload_n 0, 1) := dk_42 (dk_at dksX0_feed_1 3 rfl rfl)
theorem dX0_feed_26 : decode cX0_feed 26 = .ok (.iload_n 3, 1) := dk_29 (dk_at dksX0_feed_1 4 rfl rfl)
theorem dX0_feed_27 : decode cX0_feed 27 = .ok (.invokevirtual 86, 3) := dk_182 0 86 (dk_at dksX0_feed_1 5 rfl rfl)
theorem dX0_feed_30 : decode cX0_feed 30 = .ok (.aload_n 0, 1) := dk_42 (dk_at dksX0_feed_1 8 rfl rfl)
theorem dX0_feed_31 : decode cX0_feed 31 = .ok (.iload 4, 2) := dk_21 4 (dk_at dksX0_feed_1 9 rfl rfl)
theorem dX0_feed_33 : decode cX0_feed 33 = .ok (.invokevirtual 86, 3) := dk_182 0 86 (dk_at dksX0_feed_1 11 rfl rfl)
theorem dX0_feed_36 : decode cX0_feed 36 = .ok (.aload_n 0, 1) := dk_42 (dk_at dksX0_feed_1 14 rfl rfl)
theorem dX0_feed_37 : decode cX0_feed 37 = .ok (.iload 5, 2) := dk_21 5 (dk_at dksX0_feed_1 15 rfl rfl)
theorem dX0_feed_39 : decode cX0_feed 39 = .ok (.invokevirtual 86, 3) := dk_182 0 86 (dk_at dksX0_feed_1 17 rfl rfl)
theorem dX0_feed_42 : decode cX0_feed 42 = .ok (.aload_n 0, 1) := dk_42 (dk_at dksX0_feed_1 20 rfl rfl)
theorem dX0_feed_43 : decode cX0_feed 43 = .ok (.getfield 83, 3) := dk_180 0 83 (dk_at dksX0_feed_1 21 rfl rfl)
theorem dX0_feed_46 : decode cX0_feed 46 = .ok (.ireturn, 1) := dk_172 (dk_at dksX0_feed_2 0 rfl rfl)
abbrev cX0_put : ByteArray := prog_1_method_8_code
def yX0_put : MethodName := ⟨RX0, "put", "(I)V"⟩
def dkwX0_put_1 : List UInt8 := [180, 0, 83, 4, 96, 181, 0, 83, 132, 2, 248, 167, 255, 226, 177]
abbrev dktX0_put_1 : List UInt8 := dkwX0_put_1 ++ []
def dkwX0_put_0 : List UInt8 := [16, 24, 61, 28, 155, 0, 32, 42, 180, 0, 28, 42, 180, 0, 83, 27, 28, 122, 145, 84, 42, 89]
abbrev dktX0_put_0 : List UInt8 := dkwX0_put_0 ++ dktX0_put_1
theorem dksX0_put_0 : cX0_put.data.toList.drop 0 = dktX0_put_0 := by decide +kernel
theorem dksX0_put_1 : cX0_put.data.toList.drop 22 = dktX0_put_1 := dk_seg dksX0_put_0 22 rfl rfl
theorem dX0_put_0 : decode cX0_put 0 = .ok (.bipush 24, 2) := dk_16 24 (dk_at dksX0_put_0 0 rfl rfl)
theorem dX0_put_2 : decode cX0_put 2 = .ok (.istore_n 2, 1) := dk_61 (dk_at dksX0_put_0 2 rfl rfl)
theorem dX0_put_3 : decode cX0_put 3 = .ok (.iload_n 2, 1) := dk_28 (dk_at dksX0_put_0 3 rfl rfl)
theorem dX0_put_4 : decode cX0_put 4 = .ok (.ifCond .lt 32, 3) := dk_155 0 32 (dk_at dksX0_put_0 4 rfl rfl)
theorem dX0_put_7 : decode cX0_put 7 = .ok (.aload_n 0, 1) := dk_42 (dk_at dksX0_put_0 7 rfl rfl)
theorem dX0_put_8 : decode cX0_put 8 = .ok (.getfield 28, 3) := dk_180 0 28 (dk_at dksX0_put_0 8 rfl rfl)
theorem dX0_put_11 : decode cX0_put 11 = .ok (.aload_n 0, 1) := dk_42 (dk_at dksX0_put_0 11 rfl rfl)
theorem dX0_put_12 : decode cX0_put 12 = .ok (.getfield 83, 3) := dk_180 0 83 (dk_at dksX0_put_0 12 rfl rfl)
theorem dX0_put_15 : decode cX0_put 15 = .ok (.iload_n 1, 1) := dk_27 (dk_at dksX0_put_0 15 rfl rfl)
theorem dX0_put_16 : decode cX0_put 16 = .ok (.iload_n 2, 1) := dk_28 (dk_at dksX0_put_0 16 rfl rfl)
theorem dX0_put_17 : decode cX0_put 17 = .ok (.ishr, 1) := dk_122 (dk_at dksX0_put_0 17 rfl rfl)
theorem dX0_put_18 : decode cX0_put 18 = .ok (.i2b, 1) := dk_145 (dk_at dksX0_put_0 18 rfl rfl)
theorem dX0_put_19 : decode cX0_put 19 = .ok (.bastore, 1) := dk_84 (dk_at dksX0_put_0 19 rfl rfl)
theorem dX0_put_20 : decode cX0_put 20 = .ok (.aload_n 0, 1) := dk_42 (dk_at dksX0_put_0 20 rfl rfl)
theorem dX0_put_21 : decode cX0_put 21 = .ok (.dup, 1) := dk_89 (dk_at dksX0_put_0 21 rfl rfl)
theorem dX0_put_22 : decode cX0_put 22 = .ok (.getfield 83, 3) := dk_180 0 83 (dk_at dksX0_put_1 0 rfl rfl)
theorem dX0_put_25 : decode cX0_put 25 = .ok (.iconst 1, 1) := dk_4 (dk_at dksX0_put_1 3 rfl rfl)
theorem dX0_put_26 : decode cX0_put 26 = .ok (.iadd, 1) := dk_96 (dk_at dksX0_put_1 4 rfl rfl)
theorem dX0_put_27 : decode cX0_put 27 = .ok (.putfield 83, 3) := dk_181 0 83 (dk_at dksX0_put_1 5 rfl rfl)
theorem dX0_put_30 : decode cX0_put 30 = .ok (.iinc 2 (-8), 3) := dk_132 2 248 (dk_at dksX0_put_1 8 rfl rfl)
theorem dX0_put_33 : decode cX0_put 33 = .ok (.goto (-30), 3) := dk_167 255 226 (dk_at dksX0_put_1 11 rfl rfl)
theorem dX0_put_36 : decode cX0_put 36 = .ok (.return_, 1) := dk_177 (dk_at dksX0_put_1 14 rfl rfl)
abbrev cX0_end : ByteArray := prog_1_method_10_code
def yX0_end : MethodName := ⟨RX0, "end", "(I)I"⟩
def dkwX0_end_0 : List UInt8 := [27, 3, 42, 180, 0, 83, 184, 0, 72, 154, 0, 5, 2, 172, 42, 27, 181, 0, 83, 27, 172]
abbrev dktX0_end_0 : List UInt8 := dkwX0_end_0 ++ []
theorem dksX0_end_0 : cX0_end.data.toList.drop 0 = dktX0_end_0 := by decide +kernel
theorem dX0_end_0 : decode cX0_end 0 = .ok (.iload_n 1, 1) := dk_27 (dk_at dksX0_end_0 0 rfl rfl)
theorem dX0_end_1 : decode cX0_end 1 = .ok (.iconst 0, 1) := dk_3 (dk_at dksX0_end_0 1 rfl rfl)
theorem dX0_end_2 : decode cX0_end 2 = .ok (.aload_n 0, 1) := dk_42 (dk_at dksX0_end_0 2 rfl rfl)
theorem dX0_end_3 : decode cX0_end 3 = .ok (.getfield 83, 3) := dk_180 0 83 (dk_at dksX0_end_0 3 rfl rfl)
theorem dX0_end_6 : decode cX0_end 6 = .ok (.invokestatic 72, 3) := dk_184 0 72 (dk_at dksX0_end_0 6 rfl rfl)
theorem dX0_end_9 : decode cX0_end 9 = .ok (.ifCond .ne 5, 3) := dk_154 0 5 (dk_at dksX0_end_0 9 rfl rfl)
theorem dX0_end_12 : decode cX0_end 12 = .ok (.iconst (-1), 1) := dk_2 (dk_at dksX0_end_0 12 rfl rfl)
theorem dX0_end_13 : decode cX0_end 13 = .ok (.ireturn, 1) := dk_172 (dk_at dksX0_end_0 13 rfl rfl)
theorem dX0_end_14 : decode cX0_end 14 = .ok (.aload_n 0, 1) := dk_42 (dk_at dksX0_end_0 14 rfl rfl)
theorem dX0_end_15 : decode cX0_end 15 = .ok (.iload_n 1, 1) := dk_27 (dk_at dksX0_end_0 15 rfl rfl)
theorem dX0_end_16 : decode cX0_end 16 = .ok (.putfield 83, 3) := dk_181 0 83 (dk_at dksX0_end_0 16 rfl rfl)
theorem dX0_end_19 : decode cX0_end 19 = .ok (.iload_n 1, 1) := dk_27 (dk_at dksX0_end_0 19 rfl rfl)
theorem dX0_end_20 : decode cX0_end 20 = .ok (.ireturn, 1) := dk_172 (dk_at dksX0_end_0 20 rfl rfl)
abbrev cX0_text : ByteArray := prog_1_method_11_code
def yX0_text : MethodName := ⟨RX0, "text", "()I"⟩
def dkwX0_text_5 : List UInt8 := [79, 42, 180, 0, 21, 180, 0, 65, 4, 46, 4, 100, 172]
abbrev dktX0_text_5 : List UInt8 := dkwX0_text_5 ++ []
def dkwX0_text_4 : List UInt8 := [29, 172, 58, 4, 42, 3, 181, 0, 83, 25, 4, 191, 42, 180, 0, 21, 180, 0, 65, 4, 92, 46, 4, 96]
abbrev dktX0_text_4 : List UInt8 := dkwX0_text_4 ++ dktX0_text_5
def dkwX0_text_3 : List UInt8 := [77, 42, 44, 180, 0, 105, 181, 0, 32, 42, 44, 180, 0, 106, 181, 0, 36, 2, 62, 42, 3, 181, 0, 83]
abbrev dktX0_text_3 : List UInt8 := dkwX0_text_3 ++ dktX0_text_4
def dkwX0_text_2 : List UInt8 := [187, 0, 94, 89, 42, 180, 0, 28, 27, 183, 0, 96, 182, 0, 99, 83, 42, 3, 181, 0, 83, 167, 0, 39]
abbrev dktX0_text_2 : List UInt8 := dkwX0_text_2 ++ dktX0_text_3
def dkwX0_text_1 : List UInt8 := [181, 0, 32, 42, 2, 181, 0, 36, 42, 180, 0, 21, 180, 0, 90, 42, 180, 0, 21, 180, 0, 65, 4, 46]
abbrev dktX0_text_1 : List UInt8 := dkwX0_text_1 ++ dktX0_text_2
def dkwX0_text_0 : List UInt8 := [42, 180, 0, 21, 180, 0, 65, 4, 46, 7, 160, 0, 5, 2, 172, 42, 180, 0, 83, 60, 42, 3]
abbrev dktX0_text_0 : List UInt8 := dkwX0_text_0 ++ dktX0_text_1
theorem dksX0_text_0 : cX0_text.data.toList.drop 0 = dktX0_text_0 := by decide +kernel
theorem dksX0_text_1 : cX0_text.data.toList.drop 22 = dktX0_text_1 := dk_seg dksX0_text_0 22 rfl rfl
theorem dksX0_text_2 : cX0_text.data.toList.drop 46 = dktX0_text_2 := dk_seg dksX0_text_1 24 rfl rfl
theorem dksX0_text_3 : cX0_text.data.toList.drop 70 = dktX0_text_3 := dk_seg dksX0_text_2 24 rfl rfl
theorem dksX0_text_4 : cX0_text.data.toList.drop 94 = dktX0_text_4 := dk_seg dksX0_text_3 24 rfl rfl
theorem dksX0_text_5 : cX0_text.data.toList.drop 118 = dktX0_text_5 := dk_seg dksX0_text_4 24 rfl rfl
theorem dX0_text_0 : decode cX0_text 0 = .ok (.aload_n 0, 1) := dk_42 (dk_at dksX0_text_0 0 rfl rfl)
theorem dX0_text_1 : decode cX0_text 1 = .ok (.getfield 21, 3) := dk_180 0 21 (dk_at dksX0_text_0 1 rfl rfl)
theorem dX0_text_4 : decode cX0_text 4 = .ok (.getfield 65, 3) := dk_180 0 65 (dk_at dksX0_text_0 4 rfl rfl)
theorem dX0_text_7 : decode cX0_text 7 = .ok (.iconst 1, 1) := dk_4 (dk_at dksX0_text_0 7 rfl rfl)
theorem dX0_text_8 : decode cX0_text 8 = .ok (.iaload, 1) := dk_46 (dk_at dksX0_text_0 8 rfl rfl)
theorem dX0_text_9 : decode cX0_text 9 = .ok (.iconst 4, 1) := dk_7 (dk_at dksX0_text_0 9 rfl rfl)
theorem dX0_text_10 : decode cX0_text 10 = .ok (.if_icmp .ne 5, 3) := dk_160 0 5 (dk_at dksX0_text_0 10 rfl rfl)
theorem dX0_text_13 : decode cX0_text 13 = .ok (.iconst (-1), 1) := dk_2 (dk_at dksX0_text_0 13 rfl rfl)
theorem dX0_text_14 : decode cX0_text 14 = .ok (.ireturn, 1) := dk_172 (dk_at dksX0_text_0 14 rfl rfl)
theorem dX0_text_15 : decode cX0_text 15 = .ok (.aload_n 0, 1) := dk_42 (dk_at dksX0_text_0 15 rfl rfl)
theorem dX0_text_16 : decode cX0_text 16 = .ok (.getfield 83, 3) := dk_180 0 83 (dk_at dksX0_text_0 16 rfl rfl)
theorem dX0_text_19 : decode cX0_text 19 = .ok (.istore_n 1, 1) := dk_60 (dk_at dksX0_text_0 19 rfl rfl)
theorem dX0_text_20 : decode cX0_text 20 = .ok (.aload_n 0, 1) := dk_42 (dk_at dksX0_text_0 20 rfl rfl)
theorem dX0_text_21 : decode cX0_text 21 = .ok (.iconst 0, 1) := dk_3 (dk_at dksX0_text_0 21 rfl rfl)
theorem dX0_text_22 : decode cX0_text 22 = .ok (.putfield 32, 3) := dk_181 0 32 (dk_at dksX0_text_1 0 rfl rfl)
theorem dX0_text_25 : decode cX0_text 25 = .ok (.aload_n 0, 1) := dk_42 (dk_at dksX0_text_1 3 rfl rfl)
theorem dX0_text_26 : decode cX0_text 26 = .ok (.iconst (-1), 1) := dk_2 (dk_at dksX0_text_1 4 rfl rfl)
theorem dX0_text_27 : decode cX0_text 27 = .ok (.putfield 36, 3) := dk_181 0 36 (dk_at dksX0_text_1 5 rfl rfl)
theorem dX0_text_30 : decode cX0_text 30 = .ok (.aload_n 0, 1) := dk_42 (dk_at dksX0_text_1 8 rfl rfl)
theorem dX0_text_31 : decode cX0_text 31 = .ok (.getfield 21, 3) := dk_180 0 21 (dk_at dksX0_text_1 9 rfl rfl)
theorem dX0_text_34 : decode cX0_text 34 = .ok (.getfield 90, 3) := dk_180 0 90 (dk_at dksX0_text_1 12 rfl rfl)
theorem dX0_text_37 : decode cX0_text 37 = .ok (.aload_n 0, 1) := dk_42 (dk_at dksX0_text_1 15 rfl rfl)
theorem dX0_text_38 : decode cX0_text 38 = .ok (.getfield 21, 3) := dk_180 0 21 (dk_at dksX0_text_1 16 rfl rfl)
theorem dX0_text_41 : decode cX0_text 41 = .ok (.getfield 65, 3) := dk_180 0 65 (dk_at dksX0_text_1 19 rfl rfl)
theorem dX0_text_44 : decode cX0_text 44 = .ok (.iconst 1, 1) := dk_4 (dk_at dksX0_text_1 22 rfl rfl)
theorem dX0_text_45 : decode cX0_text 45 = .ok (.iaload, 1) := dk_46 (dk_at dksX0_text_1 23 rfl rfl)
theorem dX0_text_46 : decode cX0_text 46 = .ok (.new 94, 3) := dk_187 0 94 (dk_at dksX0_text_2 0 rfl rfl)
theorem dX0_text_49 : decode cX0_text 49 = .ok (.dup, 1) := dk_89 (dk_at dksX0_text_2 3 rfl rfl)
theorem dX0_text_50 : decode cX0_text 50 = .ok (.aload_n 0, 1) := dk_42 (dk_at dksX0_text_2 4 rfl rfl)
theorem dX0_text_51 : decode cX0_text 51 = .ok (.getfield 28, 3) := dk_180 0 28 (dk_at dksX0_text_2 5 rfl rfl)
theorem dX0_text_54 : decode cX0_text 54 = .ok (.iload_n 1, 1) := dk_27 (dk_at dksX0_text_2 8 rfl rfl)
theorem dX0_text_55 : decode cX0_text 55 = .ok (.invokespecial 96, 3) := dk_183 0 96 (dk_at dksX0_text_2 9 rfl rfl)
theorem dX0_text_58 : decode cX0_text 58 = .ok (.invokevirtual 99, 3) := dk_182 0 99 (dk_at dksX0_text_2 12 rfl rfl)
theorem dX0_text_61 : decode cX0_text 61 = .ok (.aastore, 1) := dk_83 (dk_at dksX0_text_2 15 rfl rfl)
theorem dX0_text_62 : decode cX0_text 62 = .ok (.aload_n 0, 1) := dk_42 (dk_at dksX0_text_2 16 rfl rfl)
theorem dX0_text_63 : decode cX0_text 63 = .ok (.iconst 0, 1) := dk_3 (dk_at dksX0_text_2 17 rfl rfl)
theorem dX0_text_64 : decode cX0_text 64 = .ok (.putfield 83, 3) := dk_181 0 83 (dk_at dksX0_text_2 18 rfl rfl)
theorem dX0_text_67 : decode cX0_text 67 = .ok (.goto 39, 3) := dk_167 0 39 (dk_at dksX0_text_2 21 rfl rfl)
theorem dX0_text_70 : decode cX0_text 70 = .ok (.astore_n 2, 1) := dk_77 (dk_at dksX0_text_3 0 rfl rfl)
theorem dX0_text_71 : decode cX0_text 71 = .ok (.aload_n 0, 1) := dk_42 (dk_at dksX0_text_3 1 rfl rfl)
theorem dX0_text_72 : decode cX0_text 72 = .ok (.aload_n 2, 1) := dk_44 (dk_at dksX0_text_3 2 rfl rfl)
theorem dX0_text_73 : decode cX0_text 73 = .ok (.getfield 105, 3) := dk_180 0 105 (dk_at dksX0_text_3 3 rfl rfl)
theorem dX0_text_76 : decode cX0_text 76 = .ok (.putfield 32, 3) := dk_181 0 32 (dk_at dksX0_text_3 6 rfl rfl)
theorem dX0_text_79 : decode cX0_text 79 = .ok (.aload_n 0, 1) := dk_42 (dk_at dksX0_text_3 9 rfl rfl)
theorem dX0_text_80 : decode cX0_text 80 = .ok (.aload_n 2, 1) := dk_44 (dk_at dksX0_text_3 10 rfl rfl)
theorem dX0_text_81 : decode cX0_text 81 = .ok (.getfield 106, 3) := dk_180 0 106 (dk_at dksX0_text_3 11 rfl rfl)
theorem dX0_text_84 : decode cX0_text 84 = .ok (.putfield 36, 3) := dk_181 0 36 (dk_at dksX0_text_3 14 rfl rfl)
theorem dX0_text_87 : decode cX0_text 87 = .ok (.iconst (-1), 1) := dk_2 (dk_at dksX0_text_3 17 rfl rfl)
theorem dX0_text_88 : decode cX0_text 88 = .ok (.istore_n 3, 1) := dk_62 (dk_at dksX0_text_3 18 rfl rfl)
theorem dX0_text_89 : decode cX0_text 89 = .ok (.aload_n 0, 1) := dk_42 (dk_at dksX0_text_3 19 rfl rfl)
theorem dX0_text_90 : decode cX0_text 90 = .ok (.iconst 0, 1) := dk_3 (dk_at dksX0_text_3 20 rfl rfl)
theorem dX0_text_91 : decode cX0_text 91 = .ok (.putfield 83, 3) := dk_181 0 83 (dk_at dksX0_text_3 21 rfl rfl)
theorem dX0_text_94 : decode cX0_text 94 = .ok (.iload_n 3, 1) := dk_29 (dk_at dksX0_text_4 0 rfl rfl)
theorem dX0_text_95 : decode cX0_text 95 = .ok (.ireturn, 1) := dk_172 (dk_at dksX0_text_4 1 rfl rfl)
theorem dX0_text_96 : decode cX0_text 96 = .ok (.astore 4, 2) := dk_58 4 (dk_at dksX0_text_4 2 rfl rfl)
theorem dX0_text_98 : decode cX0_text 98 = .ok (.aload_n 0, 1) := dk_42 (dk_at dksX0_text_4 4 rfl rfl)
theorem dX0_text_99 : decode cX0_text 99 = .ok (.iconst 0, 1) := dk_3 (dk_at dksX0_text_4 5 rfl rfl)
theorem dX0_text_100 : decode cX0_text 100 = .ok (.putfield 83, 3) := dk_181 0 83 (dk_at dksX0_text_4 6 rfl rfl)
theorem dX0_text_103 : decode cX0_text 103 = .ok (.aload 4, 2) := dk_25 4 (dk_at dksX0_text_4 9 rfl rfl)
theorem dX0_text_105 : decode cX0_text 105 = .ok (.athrow, 1) := dk_191 (dk_at dksX0_text_4 11 rfl rfl)
theorem dX0_text_106 : decode cX0_text 106 = .ok (.aload_n 0, 1) := dk_42 (dk_at dksX0_text_4 12 rfl rfl)
theorem dX0_text_107 : decode cX0_text 107 = .ok (.getfield 21, 3) := dk_180 0 21 (dk_at dksX0_text_4 13 rfl rfl)
theorem dX0_text_110 : decode cX0_text 110 = .ok (.getfield 65, 3) := dk_180 0 65 (dk_at dksX0_text_4 16 rfl rfl)
theorem dX0_text_113 : decode cX0_text 113 = .ok (.iconst 1, 1) := dk_4 (dk_at dksX0_text_4 19 rfl rfl)
theorem dX0_text_114 : decode cX0_text 114 = .ok (.dup2, 1) := dk_92 (dk_at dksX0_text_4 20 rfl rfl)
theorem dX0_text_115 : decode cX0_text 115 = .ok (.iaload, 1) := dk_46 (dk_at dksX0_text_4 21 rfl rfl)
theorem dX0_text_116 : decode cX0_text 116 = .ok (.iconst 1, 1) := dk_4 (dk_at dksX0_text_4 22 rfl rfl)
theorem dX0_text_117 : decode cX0_text 117 = .ok (.iadd, 1) := dk_96 (dk_at dksX0_text_4 23 rfl rfl)
theorem dX0_text_118 : decode cX0_text 118 = .ok (.iastore, 1) := dk_79 (dk_at dksX0_text_5 0 rfl rfl)
theorem dX0_text_119 : decode cX0_text 119 = .ok (.aload_n 0, 1) := dk_42 (dk_at dksX0_text_5 1 rfl rfl)
theorem dX0_text_120 : decode cX0_text 120 = .ok (.getfield 21, 3) := dk_180 0 21 (dk_at dksX0_text_5 2 rfl rfl)
theorem dX0_text_123 : decode cX0_text 123 = .ok (.getfield 65, 3) := dk_180 0 65 (dk_at dksX0_text_5 5 rfl rfl)
theorem dX0_text_126 : decode cX0_text 126 = .ok (.iconst 1, 1) := dk_4 (dk_at dksX0_text_5 8 rfl rfl)
theorem dX0_text_127 : decode cX0_text 127 = .ok (.iaload, 1) := dk_46 (dk_at dksX0_text_5 9 rfl rfl)
theorem dX0_text_128 : decode cX0_text 128 = .ok (.iconst 1, 1) := dk_4 (dk_at dksX0_text_5 10 rfl rfl)
theorem dX0_text_129 : decode cX0_text 129 = .ok (.isub, 1) := dk_100 (dk_at dksX0_text_5 11 rfl rfl)
theorem dX0_text_130 : decode cX0_text 130 = .ok (.ireturn, 1) := dk_172 (dk_at dksX0_text_5 12 rfl rfl)
abbrev cX0_fault : ByteArray := prog_1_method_12_code
def yX0_fault : MethodName := ⟨RX0, "fault", "(I)I"⟩
def dkwX0_fault_1 : List UInt8 := [172]
abbrev dktX0_fault_1 : List UInt8 := dkwX0_fault_1 ++ []
def dkwX0_fault_0 : List UInt8 := [27, 154, 0, 10, 42, 180, 0, 32, 167, 0, 16, 27, 4, 160, 0, 10, 42, 180, 0, 36, 167, 0, 4, 2]
abbrev dktX0_fault_0 : List UInt8 := dkwX0_fault_0 ++ dktX0_fault_1
theorem dksX0_fault_0 : cX0_fault.data.toList.drop 0 = dktX0_fault_0 := by decide +kernel
theorem dksX0_fault_1 : cX0_fault.data.toList.drop 24 = dktX0_fault_1 := dk_seg dksX0_fault_0 24 rfl rfl
theorem dX0_fault_0 : decode cX0_fault 0 = .ok (.iload_n 1, 1) := dk_27 (dk_at dksX0_fault_0 0 rfl rfl)
theorem dX0_fault_1 : decode cX0_fault 1 = .ok (.ifCond .ne 10, 3) := dk_154 0 10 (dk_at dksX0_fault_0 1 rfl rfl)
theorem dX0_fault_4 : decode cX0_fault 4 = .ok (.aload_n 0, 1) := dk_42 (dk_at dksX0_fault_0 4 rfl rfl)
theorem dX0_fault_5 : decode cX0_fault 5 = .ok (.getfield 32, 3) := dk_180 0 32 (dk_at dksX0_fault_0 5 rfl rfl)
theorem dX0_fault_8 : decode cX0_fault 8 = .ok (.goto 16, 3) := dk_167 0 16 (dk_at dksX0_fault_0 8 rfl rfl)
theorem dX0_fault_11 : decode cX0_fault 11 = .ok (.iload_n 1, 1) := dk_27 (dk_at dksX0_fault_0 11 rfl rfl)
theorem dX0_fault_12 : decode cX0_fault 12 = .ok (.iconst 1, 1) := dk_4 (dk_at dksX0_fault_0 12 rfl rfl)
theorem dX0_fault_13 : decode cX0_fault 13 = .ok (.if_icmp .ne 10, 3) := dk_160 0 10 (dk_at dksX0_fault_0 13 rfl rfl)
theorem dX0_fault_16 : decode cX0_fault 16 = .ok (.aload_n 0, 1) := dk_42 (dk_at dksX0_fault_0 16 rfl rfl)
theorem dX0_fault_17 : decode cX0_fault 17 = .ok (.getfield 36, 3) := dk_180 0 36 (dk_at dksX0_fault_0 17 rfl rfl)
theorem dX0_fault_20 : decode cX0_fault 20 = .ok (.goto 4, 3) := dk_167 0 4 (dk_at dksX0_fault_0 20 rfl rfl)
theorem dX0_fault_23 : decode cX0_fault 23 = .ok (.iconst (-1), 1) := dk_2 (dk_at dksX0_fault_0 23 rfl rfl)
theorem dX0_fault_24 : decode cX0_fault 24 = .ok (.ireturn, 1) := dk_172 (dk_at dksX0_fault_1 0 rfl rfl)
abbrev cX0_by : ByteArray := prog_1_method_14_code
def yX0_by : MethodName := ⟨RX0, "by", "(I)Z"⟩
def dkwX0_by_1 : List UInt8 := [79, 4, 172]
abbrev dktX0_by_1 : List UInt8 := dkwX0_by_1 ++ []
def dkwX0_by_0 : List UInt8 := [27, 2, 159, 0, 13, 42, 27, 182, 0, 109, 154, 0, 5, 3, 172, 42, 180, 0, 21, 180, 0, 65, 5, 27]
abbrev dktX0_by_0 : List UInt8 := dkwX0_by_0 ++ dktX0_by_1
theorem dksX0_by_0 : cX0_by.data.toList.drop 0 = dktX0_by_0 := by decide +kernel
theorem dksX0_by_1 : cX0_by.data.toList.drop 24 = dktX0_by_1 := dk_seg dksX0_by_0 24 rfl rfl
theorem dX0_by_0 : decode cX0_by 0 = .ok (.iload_n 1, 1) := dk_27 (dk_at dksX0_by_0 0 rfl rfl)
theorem dX0_by_1 : decode cX0_by 1 = .ok (.iconst (-1), 1) := dk_2 (dk_at dksX0_by_0 1 rfl rfl)
theorem dX0_by_2 : decode cX0_by 2 = .ok (.if_icmp .eq 13, 3) := dk_159 0 13 (dk_at dksX0_by_0 2 rfl rfl)
theorem dX0_by_5 : decode cX0_by 5 = .ok (.aload_n 0, 1) := dk_42 (dk_at dksX0_by_0 5 rfl rfl)
theorem dX0_by_6 : decode cX0_by 6 = .ok (.iload_n 1, 1) := dk_27 (dk_at dksX0_by_0 6 rfl rfl)
theorem dX0_by_7 : decode cX0_by 7 = .ok (.invokevirtual 109, 3) := dk_182 0 109 (dk_at dksX0_by_0 7 rfl rfl)
theorem dX0_by_10 : decode cX0_by 10 = .ok (.ifCond .ne 5, 3) := dk_154 0 5 (dk_at dksX0_by_0 10 rfl rfl)
theorem dX0_by_13 : decode cX0_by 13 = .ok (.iconst 0, 1) := dk_3 (dk_at dksX0_by_0 13 rfl rfl)
theorem dX0_by_14 : decode cX0_by 14 = .ok (.ireturn, 1) := dk_172 (dk_at dksX0_by_0 14 rfl rfl)
theorem dX0_by_15 : decode cX0_by 15 = .ok (.aload_n 0, 1) := dk_42 (dk_at dksX0_by_0 15 rfl rfl)
theorem dX0_by_16 : decode cX0_by 16 = .ok (.getfield 21, 3) := dk_180 0 21 (dk_at dksX0_by_0 16 rfl rfl)
theorem dX0_by_19 : decode cX0_by 19 = .ok (.getfield 65, 3) := dk_180 0 65 (dk_at dksX0_by_0 19 rfl rfl)
theorem dX0_by_22 : decode cX0_by 22 = .ok (.iconst 2, 1) := dk_5 (dk_at dksX0_by_0 22 rfl rfl)
theorem dX0_by_23 : decode cX0_by 23 = .ok (.iload_n 1, 1) := dk_27 (dk_at dksX0_by_0 23 rfl rfl)
theorem dX0_by_24 : decode cX0_by 24 = .ok (.iastore, 1) := dk_79 (dk_at dksX0_by_1 0 rfl rfl)
theorem dX0_by_25 : decode cX0_by 25 = .ok (.iconst 1, 1) := dk_4 (dk_at dksX0_by_1 1 rfl rfl)
theorem dX0_by_26 : decode cX0_by 26 = .ok (.ireturn, 1) := dk_172 (dk_at dksX0_by_1 2 rfl rfl)
abbrev cX0_isText : ByteArray := prog_1_method_13_code
def yX0_isText : MethodName := ⟨RX0, "isText", "(I)Z"⟩
def dkwX0_isText_0 : List UInt8 := [27, 3, 42, 180, 0, 21, 180, 0, 65, 4, 46, 4, 100, 184, 0, 72, 172]
abbrev dktX0_isText_0 : List UInt8 := dkwX0_isText_0 ++ []
theorem dksX0_isText_0 : cX0_isText.data.toList.drop 0 = dktX0_isText_0 := by decide +kernel
theorem dX0_isText_0 : decode cX0_isText 0 = .ok (.iload_n 1, 1) := dk_27 (dk_at dksX0_isText_0 0 rfl rfl)
theorem dX0_isText_1 : decode cX0_isText 1 = .ok (.iconst 0, 1) := dk_3 (dk_at dksX0_isText_0 1 rfl rfl)
theorem dX0_isText_2 : decode cX0_isText 2 = .ok (.aload_n 0, 1) := dk_42 (dk_at dksX0_isText_0 2 rfl rfl)
theorem dX0_isText_3 : decode cX0_isText 3 = .ok (.getfield 21, 3) := dk_180 0 21 (dk_at dksX0_isText_0 3 rfl rfl)
theorem dX0_isText_6 : decode cX0_isText 6 = .ok (.getfield 65, 3) := dk_180 0 65 (dk_at dksX0_isText_0 6 rfl rfl)
theorem dX0_isText_9 : decode cX0_isText 9 = .ok (.iconst 1, 1) := dk_4 (dk_at dksX0_isText_0 9 rfl rfl)
theorem dX0_isText_10 : decode cX0_isText 10 = .ok (.iaload, 1) := dk_46 (dk_at dksX0_isText_0 10 rfl rfl)
theorem dX0_isText_11 : decode cX0_isText 11 = .ok (.iconst 1, 1) := dk_4 (dk_at dksX0_isText_0 11 rfl rfl)
theorem dX0_isText_12 : decode cX0_isText 12 = .ok (.isub, 1) := dk_100 (dk_at dksX0_isText_0 12 rfl rfl)
theorem dX0_isText_13 : decode cX0_isText 13 = .ok (.invokestatic 72, 3) := dk_184 0 72 (dk_at dksX0_isText_0 13 rfl rfl)
theorem dX0_isText_16 : decode cX0_isText 16 = .ok (.ireturn, 1) := dk_172 (dk_at dksX0_isText_0 16 rfl rfl)
abbrev cX0_reach : ByteArray := prog_1_method_27_code
def yX0_reach : MethodName := ⟨RX0, "reach", "(I)I"⟩
def dkwX0_reach_1 : List UInt8 := [27, 184, 0, 171, 42, 180, 0, 21, 180, 0, 155, 16, 8, 27, 96, 46, 172]
abbrev dktX0_reach_1 : List UInt8 := dkwX0_reach_1 ++ []
def dkwX0_reach_0 : List UInt8 := [42, 27, 182, 0, 165, 154, 0, 5, 2, 172, 42, 180, 0, 21, 182, 0, 168, 42, 180, 0, 21, 180, 0, 155]
abbrev dktX0_reach_0 : List UInt8 := dkwX0_reach_0 ++ dktX0_reach_1
theorem dksX0_reach_0 : cX0_reach.data.toList.drop 0 = dktX0_reach_0 := by decide +kernel
theorem dksX0_reach_1 : cX0_reach.data.toList.drop 24 = dktX0_reach_1 := dk_seg dksX0_reach_0 24 rfl rfl
theorem dX0_reach_0 : decode cX0_reach 0 = .ok (.aload_n 0, 1) := dk_42 (dk_at dksX0_reach_0 0 rfl rfl)
theorem dX0_reach_1 : decode cX0_reach 1 = .ok (.iload_n 1, 1) := dk_27 (dk_at dksX0_reach_0 1 rfl rfl)
theorem dX0_reach_2 : decode cX0_reach 2 = .ok (.invokevirtual 165, 3) := dk_182 0 165 (dk_at dksX0_reach_0 2 rfl rfl)
theorem dX0_reach_5 : decode cX0_reach 5 = .ok (.ifCond .ne 5, 3) := dk_154 0 5 (dk_at dksX0_reach_0 5 rfl rfl)
theorem dX0_reach_8 : decode cX0_reach 8 = .ok (.iconst (-1), 1) := dk_2 (dk_at dksX0_reach_0 8 rfl rfl)
theorem dX0_reach_9 : decode cX0_reach 9 = .ok (.ireturn, 1) := dk_172 (dk_at dksX0_reach_0 9 rfl rfl)
theorem dX0_reach_10 : decode cX0_reach 10 = .ok (.aload_n 0, 1) := dk_42 (dk_at dksX0_reach_0 10 rfl rfl)
theorem dX0_reach_11 : decode cX0_reach 11 = .ok (.getfield 21, 3) := dk_180 0 21 (dk_at dksX0_reach_0 11 rfl rfl)
theorem dX0_reach_14 : decode cX0_reach 14 = .ok (.invokevirtual 168, 3) := dk_182 0 168 (dk_at dksX0_reach_0 14 rfl rfl)
theorem dX0_reach_17 : decode cX0_reach 17 = .ok (.aload_n 0, 1) := dk_42 (dk_at dksX0_reach_0 17 rfl rfl)
theorem dX0_reach_18 : decode cX0_reach 18 = .ok (.getfield 21, 3) := dk_180 0 21 (dk_at dksX0_reach_0 18 rfl rfl)
theorem dX0_reach_21 : decode cX0_reach 21 = .ok (.getfield 155, 3) := dk_180 0 155 (dk_at dksX0_reach_0 21 rfl rfl)
theorem dX0_reach_24 : decode cX0_reach 24 = .ok (.iload_n 1, 1) := dk_27 (dk_at dksX0_reach_1 0 rfl rfl)
theorem dX0_reach_25 : decode cX0_reach 25 = .ok (.invokestatic 171, 3) := dk_184 0 171 (dk_at dksX0_reach_1 1 rfl rfl)
theorem dX0_reach_28 : decode cX0_reach 28 = .ok (.aload_n 0, 1) := dk_42 (dk_at dksX0_reach_1 4 rfl rfl)
theorem dX0_reach_29 : decode cX0_reach 29 = .ok (.getfield 21, 3) := dk_180 0 21 (dk_at dksX0_reach_1 5 rfl rfl)
theorem dX0_reach_32 : decode cX0_reach 32 = .ok (.getfield 155, 3) := dk_180 0 155 (dk_at dksX0_reach_1 8 rfl rfl)
theorem dX0_reach_35 : decode cX0_reach 35 = .ok (.bipush 8, 2) := dk_16 8 (dk_at dksX0_reach_1 11 rfl rfl)
theorem dX0_reach_37 : decode cX0_reach 37 = .ok (.iload_n 1, 1) := dk_27 (dk_at dksX0_reach_1 13 rfl rfl)
theorem dX0_reach_38 : decode cX0_reach 38 = .ok (.iadd, 1) := dk_96 (dk_at dksX0_reach_1 14 rfl rfl)
theorem dX0_reach_39 : decode cX0_reach 39 = .ok (.iaload, 1) := dk_46 (dk_at dksX0_reach_1 15 rfl rfl)
theorem dX0_reach_40 : decode cX0_reach 40 = .ok (.ireturn, 1) := dk_172 (dk_at dksX0_reach_1 16 rfl rfl)
abbrev cX0_canReach : ByteArray := prog_1_method_22_code
def yX0_canReach : MethodName := ⟨RX0, "canReach", "(I)Z"⟩
def dkwX0_canReach_1 : List UInt8 := [154, 0, 7, 4, 167, 0, 4, 3, 172]
abbrev dktX0_canReach_1 : List UInt8 := dkwX0_canReach_1 ++ []
def dkwX0_canReach_0 : List UInt8 := [42, 27, 182, 0, 152, 153, 0, 24, 42, 180, 0, 21, 180, 0, 155, 16, 14, 46, 27, 184, 0, 158]
abbrev dktX0_canReach_0 : List UInt8 := dkwX0_canReach_0 ++ dktX0_canReach_1
theorem dksX0_canReach_0 : cX0_canReach.data.toList.drop 0 = dktX0_canReach_0 := by decide +kernel
theorem dksX0_canReach_1 : cX0_canReach.data.toList.drop 22 = dktX0_canReach_1 := dk_seg dksX0_canReach_0 22 rfl rfl
theorem dX0_canReach_0 : decode cX0_canReach 0 = .ok (.aload_n 0, 1) := dk_42 (dk_at dksX0_canReach_0 0 rfl rfl)
theorem dX0_canReach_1 : decode cX0_canReach 1 = .ok (.iload_n 1, 1) := dk_27 (dk_at dksX0_canReach_0 1 rfl rfl)
theorem dX0_canReach_2 : decode cX0_canReach 2 = .ok (.invokevirtual 152, 3) := dk_182 0 152 (dk_at dksX0_canReach_0 2 rfl rfl)
theorem dX0_canReach_5 : decode cX0_canReach 5 = .ok (.ifCond .eq 24, 3) := dk_153 0 24 (dk_at dksX0_canReach_0 5 rfl rfl)
theorem dX0_canReach_8 : decode cX0_canReach 8 = .ok (.aload_n 0, 1) := dk_42 (dk_at dksX0_canReach_0 8 rfl rfl)
theorem dX0_canReach_9 : decode cX0_canReach 9 = .ok (.getfield 21, 3) := dk_180 0 21 (dk_at dksX0_canReach_0 9 rfl rfl)
theorem dX0_canReach_12 : decode cX0_canReach 12 = .ok (.getfield 155, 3) := dk_180 0 155 (dk_at dksX0_canReach_0 12 rfl rfl)
theorem dX0_canReach_15 : decode cX0_canReach 15 = .ok (.bipush 14, 2) := dk_16 14 (dk_at dksX0_canReach_0 15 rfl rfl)
theorem dX0_canReach_17 : decode cX0_canReach 17 = .ok (.iaload, 1) := dk_46 (dk_at dksX0_canReach_0 17 rfl rfl)
theorem dX0_canReach_18 : decode cX0_canReach 18 = .ok (.iload_n 1, 1) := dk_27 (dk_at dksX0_canReach_0 18 rfl rfl)
theorem dX0_canReach_19 : decode cX0_canReach 19 = .ok (.invokestatic 158, 3) := dk_184 0 158 (dk_at dksX0_canReach_0 19 rfl rfl)
theorem dX0_canReach_22 : decode cX0_canReach 22 = .ok (.ifCond .ne 7, 3) := dk_154 0 7 (dk_at dksX0_canReach_1 0 rfl rfl)
theorem dX0_canReach_25 : decode cX0_canReach 25 = .ok (.iconst 1, 1) := dk_4 (dk_at dksX0_canReach_1 3 rfl rfl)
theorem dX0_canReach_26 : decode cX0_canReach 26 = .ok (.goto 4, 3) := dk_167 0 4 (dk_at dksX0_canReach_1 4 rfl rfl)
theorem dX0_canReach_29 : decode cX0_canReach 29 = .ok (.iconst 0, 1) := dk_3 (dk_at dksX0_canReach_1 7 rfl rfl)
theorem dX0_canReach_30 : decode cX0_canReach 30 = .ok (.ireturn, 1) := dk_172 (dk_at dksX0_canReach_1 8 rfl rfl)
abbrev cX0_isKin : ByteArray := prog_1_method_6_code
def yX0_isKin : MethodName := ⟨RX0, "isKin", "(I)Z"⟩
def dkwX0_isKin_0 : List UInt8 := [27, 3, 42, 182, 0, 68, 4, 100, 184, 0, 72, 172]
abbrev dktX0_isKin_0 : List UInt8 := dkwX0_isKin_0 ++ []
theorem dksX0_isKin_0 : cX0_isKin.data.toList.drop 0 = dktX0_isKin_0 := by decide +kernel
theorem dX0_isKin_0 : decode cX0_isKin 0 = .ok (.iload_n 1, 1) := dk_27 (dk_at dksX0_isKin_0 0 rfl rfl)
theorem dX0_isKin_1 : decode cX0_isKin 1 = .ok (.iconst 0, 1) := dk_3 (dk_at dksX0_isKin_0 1 rfl rfl)
theorem dX0_isKin_2 : decode cX0_isKin 2 = .ok (.aload_n 0, 1) := dk_42 (dk_at dksX0_isKin_0 2 rfl rfl)
theorem dX0_isKin_3 : decode cX0_isKin 3 = .ok (.invokevirtual 68, 3) := dk_182 0 68 (dk_at dksX0_isKin_0 3 rfl rfl)
theorem dX0_isKin_6 : decode cX0_isKin 6 = .ok (.iconst 1, 1) := dk_4 (dk_at dksX0_isKin_0 6 rfl rfl)
theorem dX0_isKin_7 : decode cX0_isKin 7 = .ok (.isub, 1) := dk_100 (dk_at dksX0_isKin_0 7 rfl rfl)
theorem dX0_isKin_8 : decode cX0_isKin 8 = .ok (.invokestatic 72, 3) := dk_184 0 72 (dk_at dksX0_isKin_0 8 rfl rfl)
theorem dX0_isKin_11 : decode cX0_isKin 11 = .ok (.ireturn, 1) := dk_172 (dk_at dksX0_isKin_0 11 rfl rfl)
abbrev cX0_has : ByteArray := prog_1_method_2_code
def yX0_has : MethodName := ⟨RX0, "has", "(II)Z"⟩
def dkwX0_has_0 : List UInt8 := [26, 27, 122, 4, 126, 4, 160, 0, 7, 4, 167, 0, 4, 3, 172]
abbrev dktX0_has_0 : List UInt8 := dkwX0_has_0 ++ []
theorem dksX0_has_0 : cX0_has.data.toList.drop 0 = dktX0_has_0 := by decide +kernel
theorem dX0_has_0 : decode cX0_has 0 = .ok (.iload_n 0, 1) := dk_26 (dk_at dksX0_has_0 0 rfl rfl)
theorem dX0_has_1 : decode cX0_has 1 = .ok (.iload_n 1, 1) := dk_27 (dk_at dksX0_has_0 1 rfl rfl)
theorem dX0_has_2 : decode cX0_has 2 = .ok (.ishr, 1) := dk_122 (dk_at dksX0_has_0 2 rfl rfl)
theorem dX0_has_3 : decode cX0_has 3 = .ok (.iconst 1, 1) := dk_4 (dk_at dksX0_has_0 3 rfl rfl)
theorem dX0_has_4 : decode cX0_has 4 = .ok (.iand, 1) := dk_126 (dk_at dksX0_has_0 4 rfl rfl)
theorem dX0_has_5 : decode cX0_has 5 = .ok (.iconst 1, 1) := dk_4 (dk_at dksX0_has_0 5 rfl rfl)
theorem dX0_has_6 : decode cX0_has 6 = .ok (.if_icmp .ne 7, 3) := dk_160 0 7 (dk_at dksX0_has_0 6 rfl rfl)
theorem dX0_has_9 : decode cX0_has 9 = .ok (.iconst 1, 1) := dk_4 (dk_at dksX0_has_0 9 rfl rfl)
theorem dX0_has_10 : decode cX0_has 10 = .ok (.goto 4, 3) := dk_167 0 4 (dk_at dksX0_has_0 10 rfl rfl)
theorem dX0_has_13 : decode cX0_has 13 = .ok (.iconst 0, 1) := dk_3 (dk_at dksX0_has_0 13 rfl rfl)
theorem dX0_has_14 : decode cX0_has 14 = .ok (.ireturn, 1) := dk_172 (dk_at dksX0_has_0 14 rfl rfl)
abbrev cX0_reaches : ByteArray := prog_1_method_23_code
def yX0_reaches : MethodName := ⟨RX0, "reaches", "([II)V"⟩
def dkwX0_reaches_0 : List UInt8 := [42, 16, 8, 27, 96, 16, 99, 42, 16, 8, 27, 96, 46, 4, 96, 184, 0, 162, 79, 177]
abbrev dktX0_reaches_0 : List UInt8 := dkwX0_reaches_0 ++ []
theorem dksX0_reaches_0 : cX0_reaches.data.toList.drop 0 = dktX0_reaches_0 := by decide +kernel
theorem dX0_reaches_0 : decode cX0_reaches 0 = .ok (.aload_n 0, 1) := dk_42 (dk_at dksX0_reaches_0 0 rfl rfl)
theorem dX0_reaches_1 : decode cX0_reaches 1 = .ok (.bipush 8, 2) := dk_16 8 (dk_at dksX0_reaches_0 1 rfl rfl)
theorem dX0_reaches_3 : decode cX0_reaches 3 = .ok (.iload_n 1, 1) := dk_27 (dk_at dksX0_reaches_0 3 rfl rfl)
theorem dX0_reaches_4 : decode cX0_reaches 4 = .ok (.iadd, 1) := dk_96 (dk_at dksX0_reaches_0 4 rfl rfl)
theorem dX0_reaches_5 : decode cX0_reaches 5 = .ok (.bipush 99, 2) := dk_16 99 (dk_at dksX0_reaches_0 5 rfl rfl)
theorem dX0_reaches_7 : decode cX0_reaches 7 = .ok (.aload_n 0, 1) := dk_42 (dk_at dksX0_reaches_0 7 rfl rfl)
theorem dX0_reaches_8 : decode cX0_reaches 8 = .ok (.bipush 8, 2) := dk_16 8 (dk_at dksX0_reaches_0 8 rfl rfl)
theorem dX0_reaches_10 : decode cX0_reaches 10 = .ok (.iload_n 1, 1) := dk_27 (dk_at dksX0_reaches_0 10 rfl rfl)
theorem dX0_reaches_11 : decode cX0_reaches 11 = .ok (.iadd, 1) := dk_96 (dk_at dksX0_reaches_0 11 rfl rfl)
theorem dX0_reaches_12 : decode cX0_reaches 12 = .ok (.iaload, 1) := dk_46 (dk_at dksX0_reaches_0 12 rfl rfl)
theorem dX0_reaches_13 : decode cX0_reaches 13 = .ok (.iconst 1, 1) := dk_4 (dk_at dksX0_reaches_0 13 rfl rfl)
theorem dX0_reaches_14 : decode cX0_reaches 14 = .ok (.iadd, 1) := dk_96 (dk_at dksX0_reaches_0 14 rfl rfl)
theorem dX0_reaches_15 : decode cX0_reaches 15 = .ok (.invokestatic 162, 3) := dk_184 0 162 (dk_at dksX0_reaches_0 15 rfl rfl)
theorem dX0_reaches_18 : decode cX0_reaches 18 = .ok (.iastore, 1) := dk_79 (dk_at dksX0_reaches_0 18 rfl rfl)
theorem dX0_reaches_19 : decode cX0_reaches 19 = .ok (.return_, 1) := dk_177 (dk_at dksX0_reaches_0 19 rfl rfl)
abbrev cX0_down : ByteArray := prog_1_method_28_code
def yX0_down : MethodName := ⟨RX0, "down", "(II)Z"⟩
def dkwX0_down_1 : List UInt8 := [180, 0, 21, 182, 0, 168, 42, 180, 0, 21, 180, 0, 155, 16, 8, 27, 96, 92, 46, 28, 100, 79, 4, 172]
abbrev dktX0_down_1 : List UInt8 := dkwX0_down_1 ++ []
def dkwX0_down_0 : List UInt8 := [28, 4, 16, 99, 184, 0, 72, 153, 0, 12, 42, 27, 28, 182, 0, 174, 154, 0, 5, 3, 172, 42]
abbrev dktX0_down_0 : List UInt8 := dkwX0_down_0 ++ dktX0_down_1
theorem dksX0_down_0 : cX0_down.data.toList.drop 0 = dktX0_down_0 := by decide +kernel
theorem dksX0_down_1 : cX0_down.data.toList.drop 22 = dktX0_down_1 := dk_seg dksX0_down_0 22 rfl rfl
theorem dX0_down_0 : decode cX0_down 0 = .ok (.iload_n 2, 1) := dk_28 (dk_at dksX0_down_0 0 rfl rfl)
theorem dX0_down_1 : decode cX0_down 1 = .ok (.iconst 1, 1) := dk_4 (dk_at dksX0_down_0 1 rfl rfl)
theorem dX0_down_2 : decode cX0_down 2 = .ok (.bipush 99, 2) := dk_16 99 (dk_at dksX0_down_0 2 rfl rfl)
theorem dX0_down_4 : decode cX0_down 4 = .ok (.invokestatic 72, 3) := dk_184 0 72 (dk_at dksX0_down_0 4 rfl rfl)
theorem dX0_down_7 : decode cX0_down 7 = .ok (.ifCond .eq 12, 3) := dk_153 0 12 (dk_at dksX0_down_0 7 rfl rfl)
theorem dX0_down_10 : decode cX0_down 10 = .ok (.aload_n 0, 1) := dk_42 (dk_at dksX0_down_0 10 rfl rfl)
theorem dX0_down_11 : decode cX0_down 11 = .ok (.iload_n 1, 1) := dk_27 (dk_at dksX0_down_0 11 rfl rfl)
theorem dX0_down_12 : decode cX0_down 12 = .ok (.iload_n 2, 1) := dk_28 (dk_at dksX0_down_0 12 rfl rfl)
theorem dX0_down_13 : decode cX0_down 13 = .ok (.invokevirtual 174, 3) := dk_182 0 174 (dk_at dksX0_down_0 13 rfl rfl)
theorem dX0_down_16 : decode cX0_down 16 = .ok (.ifCond .ne 5, 3) := dk_154 0 5 (dk_at dksX0_down_0 16 rfl rfl)
theorem dX0_down_19 : decode cX0_down 19 = .ok (.iconst 0, 1) := dk_3 (dk_at dksX0_down_0 19 rfl rfl)
theorem dX0_down_20 : decode cX0_down 20 = .ok (.ireturn, 1) := dk_172 (dk_at dksX0_down_0 20 rfl rfl)
theorem dX0_down_21 : decode cX0_down 21 = .ok (.aload_n 0, 1) := dk_42 (dk_at dksX0_down_0 21 rfl rfl)
theorem dX0_down_22 : decode cX0_down 22 = .ok (.getfield 21, 3) := dk_180 0 21 (dk_at dksX0_down_1 0 rfl rfl)
theorem dX0_down_25 : decode cX0_down 25 = .ok (.invokevirtual 168, 3) := dk_182 0 168 (dk_at dksX0_down_1 3 rfl rfl)
theorem dX0_down_28 : decode cX0_down 28 = .ok (.aload_n 0, 1) := dk_42 (dk_at dksX0_down_1 6 rfl rfl)
theorem dX0_down_29 : decode cX0_down 29 = .ok (.getfield 21, 3) := dk_180 0 21 (dk_at dksX0_down_1 7 rfl rfl)
theorem dX0_down_32 : decode cX0_down 32 = .ok (.getfield 155, 3) := dk_180 0 155 (dk_at dksX0_down_1 10 rfl rfl)
theorem dX0_down_35 : decode cX0_down 35 = .ok (.bipush 8, 2) := dk_16 8 (dk_at dksX0_down_1 13 rfl rfl)
theorem dX0_down_37 : decode cX0_down 37 = .ok (.iload_n 1, 1) := dk_27 (dk_at dksX0_down_1 15 rfl rfl)
theorem dX0_down_38 : decode cX0_down 38 = .ok (.iadd, 1) := dk_96 (dk_at dksX0_down_1 16 rfl rfl)
theorem dX0_down_39 : decode cX0_down 39 = .ok (.dup2, 1) := dk_92 (dk_at dksX0_down_1 17 rfl rfl)
theorem dX0_down_40 : decode cX0_down 40 = .ok (.iaload, 1) := dk_46 (dk_at dksX0_down_1 18 rfl rfl)
theorem dX0_down_41 : decode cX0_down 41 = .ok (.iload_n 2, 1) := dk_28 (dk_at dksX0_down_1 19 rfl rfl)
theorem dX0_down_42 : decode cX0_down 42 = .ok (.isub, 1) := dk_100 (dk_at dksX0_down_1 20 rfl rfl)
theorem dX0_down_43 : decode cX0_down 43 = .ok (.iastore, 1) := dk_79 (dk_at dksX0_down_1 21 rfl rfl)
theorem dX0_down_44 : decode cX0_down 44 = .ok (.iconst 1, 1) := dk_4 (dk_at dksX0_down_1 22 rfl rfl)
theorem dX0_down_45 : decode cX0_down 45 = .ok (.ireturn, 1) := dk_172 (dk_at dksX0_down_1 23 rfl rfl)
abbrev cX0_canPut : ByteArray := prog_1_method_24_code
def yX0_canPut : MethodName := ⟨RX0, "canPut", "(II)Z"⟩
def dkwX0_canPut_1 : List UInt8 := [4, 167, 0, 4, 3, 172]
abbrev dktX0_canPut_1 : List UInt8 := dkwX0_canPut_1 ++ []
def dkwX0_canPut_0 : List UInt8 := [42, 27, 182, 0, 152, 153, 0, 23, 42, 180, 0, 21, 180, 0, 155, 16, 8, 27, 96, 46, 28, 161, 0, 7]
abbrev dktX0_canPut_0 : List UInt8 := dkwX0_canPut_0 ++ dktX0_canPut_1
theorem dksX0_canPut_0 : cX0_canPut.data.toList.drop 0 = dktX0_canPut_0 := by decide +kernel
theorem dksX0_canPut_1 : cX0_canPut.data.toList.drop 24 = dktX0_canPut_1 := dk_seg dksX0_canPut_0 24 rfl rfl
theorem dX0_canPut_0 : decode cX0_canPut 0 = .ok (.aload_n 0, 1) := dk_42 (dk_at dksX0_canPut_0 0 rfl rfl)
theorem dX0_canPut_1 : decode cX0_canPut 1 = .ok (.iload_n 1, 1) := dk_27 (dk_at dksX0_canPut_0 1 rfl rfl)
theorem dX0_canPut_2 : decode cX0_canPut 2 = .ok (.invokevirtual 152, 3) := dk_182 0 152 (dk_at dksX0_canPut_0 2 rfl rfl)
theorem dX0_canPut_5 : decode cX0_canPut 5 = .ok (.ifCond .eq 23, 3) := dk_153 0 23 (dk_at dksX0_canPut_0 5 rfl rfl)
theorem dX0_canPut_8 : decode cX0_canPut 8 = .ok (.aload_n 0, 1) := dk_42 (dk_at dksX0_canPut_0 8 rfl rfl)
theorem dX0_canPut_9 : decode cX0_canPut 9 = .ok (.getfield 21, 3) := dk_180 0 21 (dk_at dksX0_canPut_0 9 rfl rfl)
theorem dX0_canPut_12 : decode cX0_canPut 12 = .ok (.getfield 155, 3) := dk_180 0 155 (dk_at dksX0_canPut_0 12 rfl rfl)
theorem dX0_canPut_15 : decode cX0_canPut 15 = .ok (.bipush 8, 2) := dk_16 8 (dk_at dksX0_canPut_0 15 rfl rfl)
theorem dX0_canPut_17 : decode cX0_canPut 17 = .ok (.iload_n 1, 1) := dk_27 (dk_at dksX0_canPut_0 17 rfl rfl)
theorem dX0_canPut_18 : decode cX0_canPut 18 = .ok (.iadd, 1) := dk_96 (dk_at dksX0_canPut_0 18 rfl rfl)
theorem dX0_canPut_19 : decode cX0_canPut 19 = .ok (.iaload, 1) := dk_46 (dk_at dksX0_canPut_0 19 rfl rfl)
theorem dX0_canPut_20 : decode cX0_canPut 20 = .ok (.iload_n 2, 1) := dk_28 (dk_at dksX0_canPut_0 20 rfl rfl)
theorem dX0_canPut_21 : decode cX0_canPut 21 = .ok (.if_icmp .lt 7, 3) := dk_161 0 7 (dk_at dksX0_canPut_0 21 rfl rfl)
theorem dX0_canPut_24 : decode cX0_canPut 24 = .ok (.iconst 1, 1) := dk_4 (dk_at dksX0_canPut_1 0 rfl rfl)
theorem dX0_canPut_25 : decode cX0_canPut 25 = .ok (.goto 4, 3) := dk_167 0 4 (dk_at dksX0_canPut_1 1 rfl rfl)
theorem dX0_canPut_28 : decode cX0_canPut 28 = .ok (.iconst 0, 1) := dk_3 (dk_at dksX0_canPut_1 4 rfl rfl)
theorem dX0_canPut_29 : decode cX0_canPut 29 = .ok (.ireturn, 1) := dk_172 (dk_at dksX0_canPut_1 5 rfl rfl)
abbrev cX0_strap : ByteArray := prog_1_method_29_code
def yX0_strap : MethodName := ⟨RX0, "strap", "(I)Z"⟩
def dkwX0_strap_1 : List UInt8 := [16, 14, 92, 46, 4, 27, 120, 130, 79, 4, 172]
abbrev dktX0_strap_1 : List UInt8 := dkwX0_strap_1 ++ []
def dkwX0_strap_0 : List UInt8 := [42, 27, 182, 0, 152, 154, 0, 5, 3, 172, 42, 180, 0, 21, 182, 0, 168, 42, 180, 0, 21, 180, 0, 155]
abbrev dktX0_strap_0 : List UInt8 := dkwX0_strap_0 ++ dktX0_strap_1
theorem dksX0_strap_0 : cX0_strap.data.toList.drop 0 = dktX0_strap_0 := by decide +kernel
theorem dksX0_strap_1 : cX0_strap.data.toList.drop 24 = dktX0_strap_1 := dk_seg dksX0_strap_0 24 rfl rfl
theorem dX0_strap_0 : decode cX0_strap 0 = .ok (.aload_n 0, 1) := dk_42 (dk_at dksX0_strap_0 0 rfl rfl)
theorem dX0_strap_1 : decode cX0_strap 1 = .ok (.iload_n 1, 1) := dk_27 (dk_at dksX0_strap_0 1 rfl rfl)
theorem dX0_strap_2 : decode cX0_strap 2 = .ok (.invokevirtual 152, 3) := dk_182 0 152 (dk_at dksX0_strap_0 2 rfl rfl)
theorem dX0_strap_5 : decode cX0_strap 5 = .ok (.ifCond .ne 5, 3) := dk_154 0 5 (dk_at dksX0_strap_0 5 rfl rfl)
theorem dX0_strap_8 : decode cX0_strap 8 = .ok (.iconst 0, 1) := dk_3 (dk_at dksX0_strap_0 8 rfl rfl)
theorem dX0_strap_9 : decode cX0_strap 9 = .ok (.ireturn, 1) := dk_172 (dk_at dksX0_strap_0 9 rfl rfl)
theorem dX0_strap_10 : decode cX0_strap 10 = .ok (.aload_n 0, 1) := dk_42 (dk_at dksX0_strap_0 10 rfl rfl)
theorem dX0_strap_11 : decode cX0_strap 11 = .ok (.getfield 21, 3) := dk_180 0 21 (dk_at dksX0_strap_0 11 rfl rfl)
theorem dX0_strap_14 : decode cX0_strap 14 = .ok (.invokevirtual 168, 3) := dk_182 0 168 (dk_at dksX0_strap_0 14 rfl rfl)
theorem dX0_strap_17 : decode cX0_strap 17 = .ok (.aload_n 0, 1) := dk_42 (dk_at dksX0_strap_0 17 rfl rfl)
theorem dX0_strap_18 : decode cX0_strap 18 = .ok (.getfield 21, 3) := dk_180 0 21 (dk_at dksX0_strap_0 18 rfl rfl)
theorem dX0_strap_21 : decode cX0_strap 21 = .ok (.getfield 155, 3) := dk_180 0 155 (dk_at dksX0_strap_0 21 rfl rfl)
theorem dX0_strap_24 : decode cX0_strap 24 = .ok (.bipush 14, 2) := dk_16 14 (dk_at dksX0_strap_1 0 rfl rfl)
theorem dX0_strap_26 : decode cX0_strap 26 = .ok (.dup2, 1) := dk_92 (dk_at dksX0_strap_1 2 rfl rfl)
theorem dX0_strap_27 : decode cX0_strap 27 = .ok (.iaload, 1) := dk_46 (dk_at dksX0_strap_1 3 rfl rfl)
theorem dX0_strap_28 : decode cX0_strap 28 = .ok (.iconst 1, 1) := dk_4 (dk_at dksX0_strap_1 4 rfl rfl)
theorem dX0_strap_29 : decode cX0_strap 29 = .ok (.iload_n 1, 1) := dk_27 (dk_at dksX0_strap_1 5 rfl rfl)
theorem dX0_strap_30 : decode cX0_strap 30 = .ok (.ishl, 1) := dk_120 (dk_at dksX0_strap_1 6 rfl rfl)
theorem dX0_strap_31 : decode cX0_strap 31 = .ok (.ixor, 1) := dk_130 (dk_at dksX0_strap_1 7 rfl rfl)
theorem dX0_strap_32 : decode cX0_strap 32 = .ok (.iastore, 1) := dk_79 (dk_at dksX0_strap_1 8 rfl rfl)
theorem dX0_strap_33 : decode cX0_strap 33 = .ok (.iconst 1, 1) := dk_4 (dk_at dksX0_strap_1 9 rfl rfl)
theorem dX0_strap_34 : decode cX0_strap 34 = .ok (.ireturn, 1) := dk_172 (dk_at dksX0_strap_1 10 rfl rfl)
abbrev cX0_swap : ByteArray := prog_1_method_30_code
def yX0_swap : MethodName := ⟨RX0, "swap", "(II)Z"⟩
def dkwX0_swap_2 : List UInt8 := [182, 0, 117, 184, 0, 180, 4, 172]
abbrev dktX0_swap_2 : List UInt8 := dkwX0_swap_2 ++ []
def dkwX0_swap_1 : List UInt8 := [180, 0, 155, 42, 42, 180, 0, 21, 180, 0, 155, 27, 182, 0, 117, 42, 42, 180, 0, 21, 180, 0, 155, 28]
abbrev dktX0_swap_1 : List UInt8 := dkwX0_swap_1 ++ dktX0_swap_2
def dkwX0_swap_0 : List UInt8 := [42, 27, 28, 182, 0, 177, 154, 0, 5, 3, 172, 42, 180, 0, 21, 182, 0, 168, 42, 180, 0, 21]
abbrev dktX0_swap_0 : List UInt8 := dkwX0_swap_0 ++ dktX0_swap_1
theorem dksX0_swap_0 : cX0_swap.data.toList.drop 0 = dktX0_swap_0 := by decide +kernel
theorem dksX0_swap_1 : cX0_swap.data.toList.drop 22 = dktX0_swap_1 := dk_seg dksX0_swap_0 22 rfl rfl
theorem dksX0_swap_2 : cX0_swap.data.toList.drop 46 = dktX0_swap_2 := dk_seg dksX0_swap_1 24 rfl rfl
theorem dX0_swap_0 : decode cX0_swap 0 = .ok (.aload_n 0, 1) := dk_42 (dk_at dksX0_swap_0 0 rfl rfl)
theorem dX0_swap_1 : decode cX0_swap 1 = .ok (.iload_n 1, 1) := dk_27 (dk_at dksX0_swap_0 1 rfl rfl)
theorem dX0_swap_2 : decode cX0_swap 2 = .ok (.iload_n 2, 1) := dk_28 (dk_at dksX0_swap_0 2 rfl rfl)
theorem dX0_swap_3 : decode cX0_swap 3 = .ok (.invokevirtual 177, 3) := dk_182 0 177 (dk_at dksX0_swap_0 3 rfl rfl)
theorem dX0_swap_6 : decode cX0_swap 6 = .ok (.ifCond .ne 5, 3) := dk_154 0 5 (dk_at dksX0_swap_0 6 rfl rfl)
theorem dX0_swap_9 : decode cX0_swap 9 = .ok (.iconst 0, 1) := dk_3 (dk_at dksX0_swap_0 9 rfl rfl)
theorem dX0_swap_10 : decode cX0_swap 10 = .ok (.ireturn, 1) := dk_172 (dk_at dksX0_swap_0 10 rfl rfl)
theorem dX0_swap_11 : decode cX0_swap 11 = .ok (.aload_n 0, 1) := dk_42 (dk_at dksX0_swap_0 11 rfl rfl)
theorem dX0_swap_12 : decode cX0_swap 12 = .ok (.getfield 21, 3) := dk_180 0 21 (dk_at dksX0_swap_0 12 rfl rfl)
theorem dX0_swap_15 : decode cX0_swap 15 = .ok (.invokevirtual 168, 3) := dk_182 0 168 (dk_at dksX0_swap_0 15 rfl rfl)
theorem dX0_swap_18 : decode cX0_swap 18 = .ok (.aload_n 0, 1) := dk_42 (dk_at dksX0_swap_0 18 rfl rfl)
theorem dX0_swap_19 : decode cX0_swap 19 = .ok (.getfield 21, 3) := dk_180 0 21 (dk_at dksX0_swap_0 19 rfl rfl)
theorem dX0_swap_22 : decode cX0_swap 22 = .ok (.getfield 155, 3) := dk_180 0 155 (dk_at dksX0_swap_1 0 rfl rfl)
theorem dX0_swap_25 : decode cX0_swap 25 = .ok (.aload_n 0, 1) := dk_42 (dk_at dksX0_swap_1 3 rfl rfl)
theorem dX0_swap_26 : decode cX0_swap 26 = .ok (.aload_n 0, 1) := dk_42 (dk_at dksX0_swap_1 4 rfl rfl)
theorem dX0_swap_27 : decode cX0_swap 27 = .ok (.getfield 21, 3) := dk_180 0 21 (dk_at dksX0_swap_1 5 rfl rfl)
theorem dX0_swap_30 : decode cX0_swap 30 = .ok (.getfield 155, 3) := dk_180 0 155 (dk_at dksX0_swap_1 8 rfl rfl)
theorem dX0_swap_33 : decode cX0_swap 33 = .ok (.iload_n 1, 1) := dk_27 (dk_at dksX0_swap_1 11 rfl rfl)
theorem dX0_swap_34 : decode cX0_swap 34 = .ok (.invokevirtual 117, 3) := dk_182 0 117 (dk_at dksX0_swap_1 12 rfl rfl)
theorem dX0_swap_37 : decode cX0_swap 37 = .ok (.aload_n 0, 1) := dk_42 (dk_at dksX0_swap_1 15 rfl rfl)
theorem dX0_swap_38 : decode cX0_swap 38 = .ok (.aload_n 0, 1) := dk_42 (dk_at dksX0_swap_1 16 rfl rfl)
theorem dX0_swap_39 : decode cX0_swap 39 = .ok (.getfield 21, 3) := dk_180 0 21 (dk_at dksX0_swap_1 17 rfl rfl)
theorem dX0_swap_42 : decode cX0_swap 42 = .ok (.getfield 155, 3) := dk_180 0 155 (dk_at dksX0_swap_1 20 rfl rfl)
theorem dX0_swap_45 : decode cX0_swap 45 = .ok (.iload_n 2, 1) := dk_28 (dk_at dksX0_swap_1 23 rfl rfl)
theorem dX0_swap_46 : decode cX0_swap 46 = .ok (.invokevirtual 117, 3) := dk_182 0 117 (dk_at dksX0_swap_2 0 rfl rfl)
theorem dX0_swap_49 : decode cX0_swap 49 = .ok (.invokestatic 180, 3) := dk_184 0 180 (dk_at dksX0_swap_2 3 rfl rfl)
theorem dX0_swap_52 : decode cX0_swap 52 = .ok (.iconst 1, 1) := dk_4 (dk_at dksX0_swap_2 6 rfl rfl)
theorem dX0_swap_53 : decode cX0_swap 53 = .ok (.ireturn, 1) := dk_172 (dk_at dksX0_swap_2 7 rfl rfl)
abbrev cX0_canSwap : ByteArray := prog_1_method_25_code
def yX0_canSwap : MethodName := ⟨RX0, "canSwap", "(II)Z"⟩
def dkwX0_canSwap_1 : List UInt8 := [167, 0, 4, 3, 172]
abbrev dktX0_canSwap_1 : List UInt8 := dkwX0_canSwap_1 ++ []
def dkwX0_canSwap_0 : List UInt8 := [42, 27, 182, 0, 152, 153, 0, 20, 42, 28, 182, 0, 152, 153, 0, 12, 27, 28, 159, 0, 7, 4]
abbrev dktX0_canSwap_0 : List UInt8 := dkwX0_canSwap_0 ++ dktX0_canSwap_1
theorem dksX0_canSwap_0 : cX0_canSwap.data.toList.drop 0 = dktX0_canSwap_0 := by decide +kernel
theorem dksX0_canSwap_1 : cX0_canSwap.data.toList.drop 22 = dktX0_canSwap_1 := dk_seg dksX0_canSwap_0 22 rfl rfl
theorem dX0_canSwap_0 : decode cX0_canSwap 0 = .ok (.aload_n 0, 1) := dk_42 (dk_at dksX0_canSwap_0 0 rfl rfl)
theorem dX0_canSwap_1 : decode cX0_canSwap 1 = .ok (.iload_n 1, 1) := dk_27 (dk_at dksX0_canSwap_0 1 rfl rfl)
theorem dX0_canSwap_2 : decode cX0_canSwap 2 = .ok (.invokevirtual 152, 3) := dk_182 0 152 (dk_at dksX0_canSwap_0 2 rfl rfl)
theorem dX0_canSwap_5 : decode cX0_canSwap 5 = .ok (.ifCond .eq 20, 3) := dk_153 0 20 (dk_at dksX0_canSwap_0 5 rfl rfl)
theorem dX0_canSwap_8 : decode cX0_canSwap 8 = .ok (.aload_n 0, 1) := dk_42 (dk_at dksX0_canSwap_0 8 rfl rfl)
theorem dX0_canSwap_9 : decode cX0_canSwap 9 = .ok (.iload_n 2, 1) := dk_28 (dk_at dksX0_canSwap_0 9 rfl rfl)
theorem dX0_canSwap_10 : decode cX0_canSwap 10 = .ok (.invokevirtual 152, 3) := dk_182 0 152 (dk_at dksX0_canSwap_0 10 rfl rfl)
theorem dX0_canSwap_13 : decode cX0_canSwap 13 = .ok (.ifCond .eq 12, 3) := dk_153 0 12 (dk_at dksX0_canSwap_0 13 rfl rfl)
theorem dX0_canSwap_16 : decode cX0_canSwap 16 = .ok (.iload_n 1, 1) := dk_27 (dk_at dksX0_canSwap_0 16 rfl rfl)
theorem dX0_canSwap_17 : decode cX0_canSwap 17 = .ok (.iload_n 2, 1) := dk_28 (dk_at dksX0_canSwap_0 17 rfl rfl)
theorem dX0_canSwap_18 : decode cX0_canSwap 18 = .ok (.if_icmp .eq 7, 3) := dk_159 0 7 (dk_at dksX0_canSwap_0 18 rfl rfl)
theorem dX0_canSwap_21 : decode cX0_canSwap 21 = .ok (.iconst 1, 1) := dk_4 (dk_at dksX0_canSwap_0 21 rfl rfl)
theorem dX0_canSwap_22 : decode cX0_canSwap 22 = .ok (.goto 4, 3) := dk_167 0 4 (dk_at dksX0_canSwap_1 0 rfl rfl)
theorem dX0_canSwap_25 : decode cX0_canSwap 25 = .ok (.iconst 0, 1) := dk_3 (dk_at dksX0_canSwap_1 3 rfl rfl)
theorem dX0_canSwap_26 : decode cX0_canSwap 26 = .ok (.ireturn, 1) := dk_172 (dk_at dksX0_canSwap_1 4 rfl rfl)
abbrev cX0_seatOf : ByteArray := prog_1_method_16_code
def yX0_seatOf : MethodName := ⟨RX0, "seatOf", "([II)I"⟩
def dkwX0_seatOf_0 : List UInt8 := [3, 62, 43, 5, 29, 96, 46, 28, 159, 0, 9, 132, 3, 1, 167, 255, 244, 29, 172]
abbrev dktX0_seatOf_0 : List UInt8 := dkwX0_seatOf_0 ++ []
theorem dksX0_seatOf_0 : cX0_seatOf.data.toList.drop 0 = dktX0_seatOf_0 := by decide +kernel
theorem dX0_seatOf_0 : decode cX0_seatOf 0 = .ok (.iconst 0, 1) := dk_3 (dk_at dksX0_seatOf_0 0 rfl rfl)
theorem dX0_seatOf_1 : decode cX0_seatOf 1 = .ok (.istore_n 3, 1) := dk_62 (dk_at dksX0_seatOf_0 1 rfl rfl)
theorem dX0_seatOf_2 : decode cX0_seatOf 2 = .ok (.aload_n 1, 1) := dk_43 (dk_at dksX0_seatOf_0 2 rfl rfl)
theorem dX0_seatOf_3 : decode cX0_seatOf 3 = .ok (.iconst 2, 1) := dk_5 (dk_at dksX0_seatOf_0 3 rfl rfl)
theorem dX0_seatOf_4 : decode cX0_seatOf 4 = .ok (.iload_n 3, 1) := dk_29 (dk_at dksX0_seatOf_0 4 rfl rfl)
theorem dX0_seatOf_5 : decode cX0_seatOf 5 = .ok (.iadd, 1) := dk_96 (dk_at dksX0_seatOf_0 5 rfl rfl)
theorem dX0_seatOf_6 : decode cX0_seatOf 6 = .ok (.iaload, 1) := dk_46 (dk_at dksX0_seatOf_0 6 rfl rfl)
theorem dX0_seatOf_7 : decode cX0_seatOf 7 = .ok (.iload_n 2, 1) := dk_28 (dk_at dksX0_seatOf_0 7 rfl rfl)
theorem dX0_seatOf_8 : decode cX0_seatOf 8 = .ok (.if_icmp .eq 9, 3) := dk_159 0 9 (dk_at dksX0_seatOf_0 8 rfl rfl)
theorem dX0_seatOf_11 : decode cX0_seatOf 11 = .ok (.iinc 3 1, 3) := dk_132 3 1 (dk_at dksX0_seatOf_0 11 rfl rfl)
theorem dX0_seatOf_14 : decode cX0_seatOf 14 = .ok (.goto (-12), 3) := dk_167 255 244 (dk_at dksX0_seatOf_0 14 rfl rfl)
theorem dX0_seatOf_17 : decode cX0_seatOf 17 = .ok (.iload_n 3, 1) := dk_29 (dk_at dksX0_seatOf_0 17 rfl rfl)
theorem dX0_seatOf_18 : decode cX0_seatOf 18 = .ok (.ireturn, 1) := dk_172 (dk_at dksX0_seatOf_0 18 rfl rfl)
abbrev cX0_swaps : ByteArray := prog_1_method_26_code
def yX0_swaps : MethodName := ⟨RX0, "swaps", "([III)V"⟩
def dkwX0_swaps_0 : List UInt8 := [42, 5, 27, 96, 46, 62, 42, 5, 27, 96, 42, 5, 28, 96, 46, 79, 42, 5, 28, 96, 29, 79, 177]
abbrev dktX0_swaps_0 : List UInt8 := dkwX0_swaps_0 ++ []
theorem dksX0_swaps_0 : cX0_swaps.data.toList.drop 0 = dktX0_swaps_0 := by decide +kernel
theorem dX0_swaps_0 : decode cX0_swaps 0 = .ok (.aload_n 0, 1) := dk_42 (dk_at dksX0_swaps_0 0 rfl rfl)
theorem dX0_swaps_1 : decode cX0_swaps 1 = .ok (.iconst 2, 1) := dk_5 (dk_at dksX0_swaps_0 1 rfl rfl)
theorem dX0_swaps_2 : decode cX0_swaps 2 = .ok (.iload_n 1, 1) := dk_27 (dk_at dksX0_swaps_0 2 rfl rfl)
theorem dX0_swaps_3 : decode cX0_swaps 3 = .ok (.iadd, 1) := dk_96 (dk_at dksX0_swaps_0 3 rfl rfl)
theorem dX0_swaps_4 : decode cX0_swaps 4 = .ok (.iaload, 1) := dk_46 (dk_at dksX0_swaps_0 4 rfl rfl)
theorem dX0_swaps_5 : decode cX0_swaps 5 = .ok (.istore_n 3, 1) := dk_62 (dk_at dksX0_swaps_0 5 rfl rfl)
theorem dX0_swaps_6 : decode cX0_swaps 6 = .ok (.aload_n 0, 1) := dk_42 (dk_at dksX0_swaps_0 6 rfl rfl)
theorem dX0_swaps_7 : decode cX0_swaps 7 = .ok (.iconst 2, 1) := dk_5 (dk_at dksX0_swaps_0 7 rfl rfl)
theorem dX0_swaps_8 : decode cX0_swaps 8 = .ok (.iload_n 1, 1) := dk_27 (dk_at dksX0_swaps_0 8 rfl rfl)
theorem dX0_swaps_9 : decode cX0_swaps 9 = .ok (.iadd, 1) := dk_96 (dk_at dksX0_swaps_0 9 rfl rfl)
theorem dX0_swaps_10 : decode cX0_swaps 10 = .ok (.aload_n 0, 1) := dk_42 (dk_at dksX0_swaps_0 10 rfl rfl)
theorem dX0_swaps_11 : decode cX0_swaps 11 = .ok (.iconst 2, 1) := dk_5 (dk_at dksX0_swaps_0 11 rfl rfl)
theorem dX0_swaps_12 : decode cX0_swaps 12 = .ok (.iload_n 2, 1) := dk_28 (dk_at dksX0_swaps_0 12 rfl rfl)
theorem dX0_swaps_13 : decode cX0_swaps 13 = .ok (.iadd, 1) := dk_96 (dk_at dksX0_swaps_0 13 rfl rfl)
theorem dX0_swaps_14 : decode cX0_swaps 14 = .ok (.iaload, 1) := dk_46 (dk_at dksX0_swaps_0 14 rfl rfl)
theorem dX0_swaps_15 : decode cX0_swaps 15 = .ok (.iastore, 1) := dk_79 (dk_at dksX0_swaps_0 15 rfl rfl)
theorem dX0_swaps_16 : decode cX0_swaps 16 = .ok (.aload_n 0, 1) := dk_42 (dk_at dksX0_swaps_0 16 rfl rfl)
theorem dX0_swaps_17 : decode cX0_swaps 17 = .ok (.iconst 2, 1) := dk_5 (dk_at dksX0_swaps_0 17 rfl rfl)
theorem dX0_swaps_18 : decode cX0_swaps 18 = .ok (.iload_n 2, 1) := dk_28 (dk_at dksX0_swaps_0 18 rfl rfl)
theorem dX0_swaps_19 : decode cX0_swaps 19 = .ok (.iadd, 1) := dk_96 (dk_at dksX0_swaps_0 19 rfl rfl)
theorem dX0_swaps_20 : decode cX0_swaps 20 = .ok (.iload_n 3, 1) := dk_29 (dk_at dksX0_swaps_0 20 rfl rfl)
theorem dX0_swaps_21 : decode cX0_swaps 21 = .ok (.iastore, 1) := dk_79 (dk_at dksX0_swaps_0 21 rfl rfl)
theorem dX0_swaps_22 : decode cX0_swaps 22 = .ok (.return_, 1) := dk_177 (dk_at dksX0_swaps_0 22 rfl rfl)
abbrev cX0_dinner : ByteArray := prog_1_method_35_code
def yX0_dinner : MethodName := ⟨RX0, "dinner", "(I)I"⟩
def dkwX0_dinner_2 : List UInt8 := [180, 0, 21, 180, 0, 155, 182, 0, 207, 96, 61, 132, 3, 1, 167, 255, 227, 28, 172]
abbrev dktX0_dinner_2 : List UInt8 := dkwX0_dinner_2 ++ []
def dkwX0_dinner_1 : List UInt8 := [164, 0, 5, 2, 172, 3, 61, 3, 62, 29, 27, 162, 0, 30, 42, 180, 0, 21, 182, 0, 168, 28, 42, 42]
abbrev dktX0_dinner_1 : List UInt8 := dkwX0_dinner_1 ++ dktX0_dinner_2
def dkwX0_dinner_0 : List UInt8 := [27, 4, 16, 60, 184, 0, 72, 153, 0, 20, 42, 180, 0, 21, 180, 0, 155, 3, 46, 27, 96, 17, 39, 15]
abbrev dktX0_dinner_0 : List UInt8 := dkwX0_dinner_0 ++ dktX0_dinner_1
theorem dksX0_dinner_0 : cX0_dinner.data.toList.drop 0 = dktX0_dinner_0 := by decide +kernel
theorem dksX0_dinner_1 : cX0_dinner.data.toList.drop 24 = dktX0_dinner_1 := dk_seg dksX0_dinner_0 24 rfl rfl
theorem dksX0_dinner_2 : cX0_dinner.data.toList.drop 48 = dktX0_dinner_2 := dk_seg dksX0_dinner_1 24 rfl rfl
theorem dX0_dinner_0 : decode cX0_dinner 0 = .ok (.iload_n 1, 1) := dk_27 (dk_at dksX0_dinner_0 0 rfl rfl)
theorem dX0_dinner_1 : decode cX0_dinner 1 = .ok (.iconst 1, 1) := dk_4 (dk_at dksX0_dinner_0 1 rfl rfl)
theorem dX0_dinner_2 : decode cX0_dinner 2 = .ok (.bipush 60, 2) := dk_16 60 (dk_at dksX0_dinner_0 2 rfl rfl)
theorem dX0_dinner_4 : decode cX0_dinner 4 = .ok (.invokestatic 72, 3) := dk_184 0 72 (dk_at dksX0_dinner_0 4 rfl rfl)
theorem dX0_dinner_7 : decode cX0_dinner 7 = .ok (.ifCond .eq 20, 3) := dk_153 0 20 (dk_at dksX0_dinner_0 7 rfl rfl)
theorem dX0_dinner_10 : decode cX0_dinner 10 = .ok (.aload_n 0, 1) := dk_42 (dk_at dksX0_dinner_0 10 rfl rfl)
theorem dX0_dinner_11 : decode cX0_dinner 11 = .ok (.getfield 21, 3) := dk_180 0 21 (dk_at dksX0_dinner_0 11 rfl rfl)
theorem dX0_dinner_14 : decode cX0_dinner 14 = .ok (.getfield 155, 3) := dk_180 0 155 (dk_at dksX0_dinner_0 14 rfl rfl)
theorem dX0_dinner_17 : decode cX0_dinner 17 = .ok (.iconst 0, 1) := dk_3 (dk_at dksX0_dinner_0 17 rfl rfl)
theorem dX0_dinner_18 : decode cX0_dinner 18 = .ok (.iaload, 1) := dk_46 (dk_at dksX0_dinner_0 18 rfl rfl)
theorem dX0_dinner_19 : decode cX0_dinner 19 = .ok (.iload_n 1, 1) := dk_27 (dk_at dksX0_dinner_0 19 rfl rfl)
theorem dX0_dinner_20 : decode cX0_dinner 20 = .ok (.iadd, 1) := dk_96 (dk_at dksX0_dinner_0 20 rfl rfl)
theorem dX0_dinner_21 : decode cX0_dinner 21 = .ok (.sipush 9999, 3) := dk_17 39 15 (dk_at dksX0_dinner_0 21 rfl rfl)
theorem dX0_dinner_24 : decode cX0_dinner 24 = .ok (.if_icmp .le 5, 3) := dk_164 0 5 (dk_at dksX0_dinner_1 0 rfl rfl)
theorem dX0_dinner_27 : decode cX0_dinner 27 = .ok (.iconst (-1), 1) := dk_2 (dk_at dksX0_dinner_1 3 rfl rfl)
theorem dX0_dinner_28 : decode cX0_dinner 28 = .ok (.ireturn, 1) := dk_172 (dk_at dksX0_dinner_1 4 rfl rfl)
theorem dX0_dinner_29 : decode cX0_dinner 29 = .ok (.iconst 0, 1) := dk_3 (dk_at dksX0_dinner_1 5 rfl rfl)
theorem dX0_dinner_30 : decode cX0_dinner 30 = .ok (.istore_n 2, 1) := dk_61 (dk_at dksX0_dinner_1 6 rfl rfl)
theorem dX0_dinner_31 : decode cX0_dinner 31 = .ok (.iconst 0, 1) := dk_3 (dk_at dksX0_dinner_1 7 rfl rfl)
theorem dX0_dinner_32 : decode cX0_dinner 32 = .ok (.istore_n 3, 1) := dk_62 (dk_at dksX0_dinner_1 8 rfl rfl)
theorem dX0_dinner_33 : decode cX0_dinner 33 = .ok (.iload_n 3, 1) := dk_29 (dk_at dksX0_dinner_1 9 rfl rfl)
theorem dX0_dinner_34 : decode cX0_dinner 34 = .ok (.iload_n 1, 1) := dk_27 (dk_at dksX0_dinner_1 10 rfl rfl)
theorem dX0_dinner_35 : decode cX0_dinner 35 = .ok (.if_icmp .ge 30, 3) := dk_162 0 30 (dk_at dksX0_dinner_1 11 rfl rfl)
theorem dX0_dinner_38 : decode cX0_dinner 38 = .ok (.aload_n 0, 1) := dk_42 (dk_at dksX0_dinner_1 14 rfl rfl)
theorem dX0_dinner_39 : decode cX0_dinner 39 = .ok (.getfield 21, 3) := dk_180 0 21 (dk_at dksX0_dinner_1 15 rfl rfl)
theorem dX0_dinner_42 : decode cX0_dinner 42 = .ok (.invokevirtual 168, 3) := dk_182 0 168 (dk_at dksX0_dinner_1 18 rfl rfl)
theorem dX0_dinner_45 : decode cX0_dinner 45 = .ok (.iload_n 2, 1) := dk_28 (dk_at dksX0_dinner_1 21 rfl rfl)
theorem dX0_dinner_46 : decode cX0_dinner 46 = .ok (.aload_n 0, 1) := dk_42 (dk_at dksX0_dinner_1 22 rfl rfl)
theorem dX0_dinner_47 : decode cX0_dinner 47 = .ok (.aload_n 0, 1) := dk_42 (dk_at dksX0_dinner_1 23 rfl rfl)
theorem dX0_dinner_48 : decode cX0_dinner 48 = .ok (.getfield 21, 3) := dk_180 0 21 (dk_at dksX0_dinner_2 0 rfl rfl)
theorem dX0_dinner_51 : decode cX0_dinner 51 = .ok (.getfield 155, 3) := dk_180 0 155 (dk_at dksX0_dinner_2 3 rfl rfl)
theorem dX0_dinner_54 : decode cX0_dinner 54 = .ok (.invokevirtual 207, 3) := dk_182 0 207 (dk_at dksX0_dinner_2 6 rfl rfl)
theorem dX0_dinner_57 : decode cX0_dinner 57 = .ok (.iadd, 1) := dk_96 (dk_at dksX0_dinner_2 9 rfl rfl)
theorem dX0_dinner_58 : decode cX0_dinner 58 = .ok (.istore_n 2, 1) := dk_61 (dk_at dksX0_dinner_2 10 rfl rfl)
theorem dX0_dinner_59 : decode cX0_dinner 59 = .ok (.iinc 3 1, 3) := dk_132 3 1 (dk_at dksX0_dinner_2 11 rfl rfl)
theorem dX0_dinner_62 : decode cX0_dinner 62 = .ok (.goto (-29), 3) := dk_167 255 227 (dk_at dksX0_dinner_2 14 rfl rfl)
theorem dX0_dinner_65 : decode cX0_dinner 65 = .ok (.iload_n 2, 1) := dk_28 (dk_at dksX0_dinner_2 17 rfl rfl)
theorem dX0_dinner_66 : decode cX0_dinner 66 = .ok (.ireturn, 1) := dk_172 (dk_at dksX0_dinner_2 18 rfl rfl)
abbrev cX0_passes : ByteArray := prog_1_method_34_code
def yX0_passes : MethodName := ⟨RX0, "passes", "([I)I"⟩
def dkwX0_passes_5 : List UInt8 := [132, 3, 1, 167, 255, 196, 43, 3, 92, 46, 4, 96, 79, 28, 172]
abbrev dktX0_passes_5 : List UInt8 := dkwX0_passes_5 ++ []
def dkwX0_passes_4 : List UInt8 := [43, 21, 4, 182, 0, 201, 163, 0, 6, 167, 0, 13, 42, 43, 21, 4, 182, 0, 204, 132, 2, 1]
abbrev dktX0_passes_4 : List UInt8 := dkwX0_passes_4 ++ dktX0_passes_5
def dkwX0_passes_3 : List UInt8 := [96, 46, 54, 4, 43, 16, 14, 46, 21, 4, 184, 0, 158, 154, 0, 33, 43, 16, 8, 21, 4, 96, 46, 42]
abbrev dktX0_passes_3 : List UInt8 := dkwX0_passes_3 ++ dktX0_passes_4
def dkwX0_passes_2 : List UInt8 := [184, 0, 171, 132, 2, 1, 167, 255, 204, 3, 61, 3, 62, 29, 42, 182, 0, 68, 162, 0, 58, 43, 5, 29]
abbrev dktX0_passes_2 : List UInt8 := dkwX0_passes_2 ++ dktX0_passes_3
def dkwX0_passes_1 : List UInt8 := [154, 0, 27, 43, 16, 10, 184, 0, 194, 42, 42, 182, 0, 147, 43, 29, 182, 0, 197, 162, 0, 8, 43, 29]
abbrev dktX0_passes_1 : List UInt8 := dkwX0_passes_1 ++ dktX0_passes_2
def dkwX0_passes_0 : List UInt8 := [3, 61, 28, 42, 182, 0, 68, 162, 0, 50, 43, 5, 28, 96, 46, 62, 43, 16, 14, 46, 29, 184, 0, 158]
abbrev dktX0_passes_0 : List UInt8 := dkwX0_passes_0 ++ dktX0_passes_1
theorem dksX0_passes_0 : cX0_passes.data.toList.drop 0 = dktX0_passes_0 := by decide +kernel
theorem dksX0_passes_1 : cX0_passes.data.toList.drop 24 = dktX0_passes_1 := dk_seg dksX0_passes_0 24 rfl rfl
theorem dksX0_passes_2 : cX0_passes.data.toList.drop 48 = dktX0_passes_2 := dk_seg dksX0_passes_1 24 rfl rfl
theorem dksX0_passes_3 : cX0_passes.data.toList.drop 72 = dktX0_passes_3 := dk_seg dksX0_passes_2 24 rfl rfl
theorem dksX0_passes_4 : cX0_passes.data.toList.drop 96 = dktX0_passes_4 := dk_seg dksX0_passes_3 24 rfl rfl
theorem dksX0_passes_5 : cX0_passes.data.toList.drop 118 = dktX0_passes_5 := dk_seg dksX0_passes_4 22 rfl rfl
theorem dX0_passes_0 : decode cX0_passes 0 = .ok (.iconst 0, 1) := dk_3 (dk_at dksX0_passes_0 0 rfl rfl)
theorem dX0_passes_1 : decode cX0_passes 1 = .ok (.istore_n 2, 1) := dk_61 (dk_at dksX0_passes_0 1 rfl rfl)
theorem dX0_passes_2 : decode cX0_passes 2 = .ok (.iload_n 2, 1) := dk_28 (dk_at dksX0_passes_0 2 rfl rfl)
theorem dX0_passes_3 : decode cX0_passes 3 = .ok (.aload_n 0, 1) := dk_42 (dk_at dksX0_passes_0 3 rfl rfl)
theorem dX0_passes_4 : decode cX0_passes 4 = .ok (.invokevirtual 68, 3) := dk_182 0 68 (dk_at dksX0_passes_0 4 rfl rfl)
theorem dX0_passes_7 : decode cX0_passes 7 = .ok (.if_icmp .ge 50, 3) := dk_162 0 50 (dk_at dksX0_passes_0 7 rfl rfl)
theorem dX0_passes_10 : decode cX0_passes 10 = .ok (.aload_n 1, 1) := dk_43 (dk_at dksX0_passes_0 10 rfl rfl)
theorem dX0_passes_11 : decode cX0_passes 11 = .ok (.iconst 2, 1) := dk_5 (dk_at dksX0_passes_0 11 rfl rfl)
theorem dX0_passes_12 : decode cX0_passes 12 = .ok (.iload_n 2, 1) := dk_28 (dk_at dksX0_passes_0 12 rfl rfl)
theorem dX0_passes_13 : decode cX0_passes 13 = .ok (.iadd, 1) := dk_96 (dk_at dksX0_passes_0 13 rfl rfl)
theorem dX0_passes_14 : decode cX0_passes 14 = .ok (.iaload, 1) := dk_46 (dk_at dksX0_passes_0 14 rfl rfl)
theorem dX0_passes_15 : decode cX0_passes 15 = .ok (.istore_n 3, 1) := dk_62 (dk_at dksX0_passes_0 15 rfl rfl)
theorem dX0_passes_16 : decode cX0_passes 16 = .ok (.aload_n 1, 1) := dk_43 (dk_at dksX0_passes_0 16 rfl rfl)
theorem dX0_passes_17 : decode cX0_passes 17 = .ok (.bipush 14, 2) := dk_16 14 (dk_at dksX0_passes_0 17 rfl rfl)
theorem dX0_passes_19 : decode cX0_passes 19 = .ok (.iaload, 1) := dk_46 (dk_at dksX0_passes_0 19 rfl rfl)
theorem dX0_passes_20 : decode cX0_passes 20 = .ok (.iload_n 3, 1) := dk_29 (dk_at dksX0_passes_0 20 rfl rfl)
theorem dX0_passes_21 : decode cX0_passes 21 = .ok (.invokestatic 158, 3) := dk_184 0 158 (dk_at dksX0_passes_0 21 rfl rfl)
theorem dX0_passes_24 : decode cX0_passes 24 = .ok (.ifCond .ne 27, 3) := dk_154 0 27 (dk_at dksX0_passes_1 0 rfl rfl)
theorem dX0_passes_27 : decode cX0_passes 27 = .ok (.aload_n 1, 1) := dk_43 (dk_at dksX0_passes_1 3 rfl rfl)
theorem dX0_passes_28 : decode cX0_passes 28 = .ok (.bipush 10, 2) := dk_16 10 (dk_at dksX0_passes_1 4 rfl rfl)
theorem dX0_passes_30 : decode cX0_passes 30 = .ok (.invokestatic 194, 3) := dk_184 0 194 (dk_at dksX0_passes_1 6 rfl rfl)
theorem dX0_passes_33 : decode cX0_passes 33 = .ok (.aload_n 0, 1) := dk_42 (dk_at dksX0_passes_1 9 rfl rfl)
theorem dX0_passes_34 : decode cX0_passes 34 = .ok (.aload_n 0, 1) := dk_42 (dk_at dksX0_passes_1 10 rfl rfl)
theorem dX0_passes_35 : decode cX0_passes 35 = .ok (.invokevirtual 147, 3) := dk_182 0 147 (dk_at dksX0_passes_1 11 rfl rfl)
theorem dX0_passes_38 : decode cX0_passes 38 = .ok (.aload_n 1, 1) := dk_43 (dk_at dksX0_passes_1 14 rfl rfl)
theorem dX0_passes_39 : decode cX0_passes 39 = .ok (.iload_n 3, 1) := dk_29 (dk_at dksX0_passes_1 15 rfl rfl)
theorem dX0_passes_40 : decode cX0_passes 40 = .ok (.invokevirtual 197, 3) := dk_182 0 197 (dk_at dksX0_passes_1 16 rfl rfl)
theorem dX0_passes_43 : decode cX0_passes 43 = .ok (.if_icmp .ge 8, 3) := dk_162 0 8 (dk_at dksX0_passes_1 19 rfl rfl)
theorem dX0_passes_46 : decode cX0_passes 46 = .ok (.aload_n 1, 1) := dk_43 (dk_at dksX0_passes_1 22 rfl rfl)
theorem dX0_passes_47 : decode cX0_passes 47 = .ok (.iload_n 3, 1) := dk_29 (dk_at dksX0_passes_1 23 rfl rfl)
theorem dX0_passes_48 : decode cX0_passes 48 = .ok (.invokestatic 171, 3) := dk_184 0 171 (dk_at dksX0_passes_2 0 rfl rfl)
theorem dX0_passes_51 : decode cX0_passes 51 = .ok (.iinc 2 1, 3) := dk_132 2 1 (dk_at dksX0_passes_2 3 rfl rfl)
theorem dX0_passes_54 : decode cX0_passes 54 = .ok (.goto (-52), 3) := dk_167 255 204 (dk_at dksX0_passes_2 6 rfl rfl)
theorem dX0_passes_57 : decode cX0_passes 57 = .ok (.iconst 0, 1) := dk_3 (dk_at dksX0_passes_2 9 rfl rfl)
theorem dX0_passes_58 : decode cX0_passes 58 = .ok (.istore_n 2, 1) := dk_61 (dk_at dksX0_passes_2 10 rfl rfl)
theorem dX0_passes_59 : decode cX0_passes 59 = .ok (.iconst 0, 1) := dk_3 (dk_at dksX0_passes_2 11 rfl rfl)
theorem dX0_passes_60 : decode cX0_passes 60 = .ok (.istore_n 3, 1) := dk_62 (dk_at dksX0_passes_2 12 rfl rfl)
theorem dX0_passes_61 : decode cX0_passes 61 = .ok (.iload_n 3, 1) := dk_29 (dk_at dksX0_passes_2 13 rfl rfl)
theorem dX0_passes_62 : decode cX0_passes 62 = .ok (.aload_n 0, 1) := dk_42 (dk_at dksX0_passes_2 14 rfl rfl)
theorem dX0_passes_63 : decode cX0_passes 63 = .ok (.invokevirtual 68, 3) := dk_182 0 68 (dk_at dksX0_passes_2 15 rfl rfl)
theorem dX0_passes_66 : decode cX0_passes 66 = .ok (.if_icmp .ge 58, 3) := dk_162 0 58 (dk_at dksX0_passes_2 18 rfl rfl)
theorem dX0_passes_69 : decode cX0_passes 69 = .ok (.aload_n 1, 1) := dk_43 (dk_at dksX0_passes_2 21 rfl rfl)
theorem dX0_passes_70 : decode cX0_passes 70 = .ok (.iconst 2, 1) := dk_5 (dk_at dksX0_passes_2 22 rfl rfl)
theorem dX0_passes_71 : decode cX0_passes 71 = .ok (.iload_n 3, 1) := dk_29 (dk_at dksX0_passes_2 23 rfl rfl)
theorem dX0_passes_72 : decode cX0_passes 72 = .ok (.iadd, 1) := dk_96 (dk_at dksX0_passes_3 0 rfl rfl)
theorem dX0_passes_73 : decode cX0_passes 73 = .ok (.iaload, 1) := dk_46 (dk_at dksX0_passes_3 1 rfl rfl)
theorem dX0_passes_74 : decode cX0_passes 74 = .ok (.istore 4, 2) := dk_54 4 (dk_at dksX0_passes_3 2 rfl rfl)
theorem dX0_passes_76 : decode cX0_passes 76 = .ok (.aload_n 1, 1) := dk_43 (dk_at dksX0_passes_3 4 rfl rfl)
theorem dX0_passes_77 : decode cX0_passes 77 = .ok (.bipush 14, 2) := dk_16 14 (dk_at dksX0_passes_3 5 rfl rfl)
theorem dX0_passes_79 : decode cX0_passes 79 = .ok (.iaload, 1) := dk_46 (dk_at dksX0_passes_3 7 rfl rfl)
theorem dX0_passes_80 : decode cX0_passes 80 = .ok (.iload 4, 2) := dk_21 4 (dk_at dksX0_passes_3 8 rfl rfl)
theorem dX0_passes_82 : decode cX0_passes 82 = .ok (.invokestatic 158, 3) := dk_184 0 158 (dk_at dksX0_passes_3 10 rfl rfl)
theorem dX0_passes_85 : decode cX0_passes 85 = .ok (.ifCond .ne 33, 3) := dk_154 0 33 (dk_at dksX0_passes_3 13 rfl rfl)
theorem dX0_passes_88 : decode cX0_passes 88 = .ok (.aload_n 1, 1) := dk_43 (dk_at dksX0_passes_3 16 rfl rfl)
theorem dX0_passes_89 : decode cX0_passes 89 = .ok (.bipush 8, 2) := dk_16 8 (dk_at dksX0_passes_3 17 rfl rfl)
theorem dX0_passes_91 : decode cX0_passes 91 = .ok (.iload 4, 2) := dk_21 4 (dk_at dksX0_passes_3 19 rfl rfl)
theorem dX0_passes_93 : decode cX0_passes 93 = .ok (.iadd, 1) := dk_96 (dk_at dksX0_passes_3 21 rfl rfl)
theorem dX0_passes_94 : decode cX0_passes 94 = .ok (.iaload, 1) := dk_46 (dk_at dksX0_passes_3 22 rfl rfl)
theorem dX0_passes_95 : decode cX0_passes 95 = .ok (.aload_n 0, 1) := dk_42 (dk_at dksX0_passes_3 23 rfl rfl)
theorem dX0_passes_96 : decode cX0_passes 96 = .ok (.aload_n 1, 1) := dk_43 (dk_at dksX0_passes_4 0 rfl rfl)
theorem dX0_passes_97 : decode cX0_passes 97 = .ok (.iload 4, 2) := dk_21 4 (dk_at dksX0_passes_4 1 rfl rfl)
theorem dX0_passes_99 : decode cX0_passes 99 = .ok (.invokevirtual 201, 3) := dk_182 0 201 (dk_at dksX0_passes_4 3 rfl rfl)
theorem dX0_passes_102 : decode cX0_passes 102 = .ok (.if_icmp .gt 6, 3) := dk_163 0 6 (dk_at dksX0_passes_4 6 rfl rfl)
theorem dX0_passes_105 : decode cX0_passes 105 = .ok (.goto 13, 3) := dk_167 0 13 (dk_at dksX0_passes_4 9 rfl rfl)
theorem dX0_passes_108 : decode cX0_passes 108 = .ok (.aload_n 0, 1) := dk_42 (dk_at dksX0_passes_4 12 rfl rfl)
theorem dX0_passes_109 : decode cX0_passes 109 = .ok (.aload_n 1, 1) := dk_43 (dk_at dksX0_passes_4 13 rfl rfl)
theorem dX0_passes_110 : decode cX0_passes 110 = .ok (.iload 4, 2) := dk_21 4 (dk_at dksX0_passes_4 14 rfl rfl)
theorem dX0_passes_112 : decode cX0_passes 112 = .ok (.invokevirtual 204, 3) := dk_182 0 204 (dk_at dksX0_passes_4 16 rfl rfl)
theorem dX0_passes_115 : decode cX0_passes 115 = .ok (.iinc 2 1, 3) := dk_132 2 1 (dk_at dksX0_passes_4 19 rfl rfl)
theorem dX0_passes_118 : decode cX0_passes 118 = .ok (.iinc 3 1, 3) := dk_132 3 1 (dk_at dksX0_passes_5 0 rfl rfl)
theorem dX0_passes_121 : decode cX0_passes 121 = .ok (.goto (-60), 3) := dk_167 255 196 (dk_at dksX0_passes_5 3 rfl rfl)
theorem dX0_passes_124 : decode cX0_passes 124 = .ok (.aload_n 1, 1) := dk_43 (dk_at dksX0_passes_5 6 rfl rfl)
theorem dX0_passes_125 : decode cX0_passes 125 = .ok (.iconst 0, 1) := dk_3 (dk_at dksX0_passes_5 7 rfl rfl)
theorem dX0_passes_126 : decode cX0_passes 126 = .ok (.dup2, 1) := dk_92 (dk_at dksX0_passes_5 8 rfl rfl)
theorem dX0_passes_127 : decode cX0_passes 127 = .ok (.iaload, 1) := dk_46 (dk_at dksX0_passes_5 9 rfl rfl)
theorem dX0_passes_128 : decode cX0_passes 128 = .ok (.iconst 1, 1) := dk_4 (dk_at dksX0_passes_5 10 rfl rfl)
theorem dX0_passes_129 : decode cX0_passes 129 = .ok (.iadd, 1) := dk_96 (dk_at dksX0_passes_5 11 rfl rfl)
theorem dX0_passes_130 : decode cX0_passes 130 = .ok (.iastore, 1) := dk_79 (dk_at dksX0_passes_5 12 rfl rfl)
theorem dX0_passes_131 : decode cX0_passes 131 = .ok (.iload_n 2, 1) := dk_28 (dk_at dksX0_passes_5 13 rfl rfl)
theorem dX0_passes_132 : decode cX0_passes 132 = .ok (.ireturn, 1) := dk_172 (dk_at dksX0_passes_5 14 rfl rfl)
abbrev cX0_drawn : ByteArray := prog_1_method_31_code
def yX0_drawn : MethodName := ⟨RX0, "drawn", "([II)I"⟩
def dkwX0_drawn_1 : List UInt8 := [28, 172]
abbrev dktX0_drawn_1 : List UInt8 := dkwX0_drawn_1 ++ []
def dkwX0_drawn_0 : List UInt8 := [42, 4, 46, 27, 112, 61, 42, 4, 42, 4, 46, 17, 2, 161, 104, 17, 2, 35, 96, 17, 120, 251, 112, 79]
abbrev dktX0_drawn_0 : List UInt8 := dkwX0_drawn_0 ++ dktX0_drawn_1
theorem dksX0_drawn_0 : cX0_drawn.data.toList.drop 0 = dktX0_drawn_0 := by decide +kernel
theorem dksX0_drawn_1 : cX0_drawn.data.toList.drop 24 = dktX0_drawn_1 := dk_seg dksX0_drawn_0 24 rfl rfl
theorem dX0_drawn_0 : decode cX0_drawn 0 = .ok (.aload_n 0, 1) := dk_42 (dk_at dksX0_drawn_0 0 rfl rfl)
theorem dX0_drawn_1 : decode cX0_drawn 1 = .ok (.iconst 1, 1) := dk_4 (dk_at dksX0_drawn_0 1 rfl rfl)
theorem dX0_drawn_2 : decode cX0_drawn 2 = .ok (.iaload, 1) := dk_46 (dk_at dksX0_drawn_0 2 rfl rfl)
theorem dX0_drawn_3 : decode cX0_drawn 3 = .ok (.iload_n 1, 1) := dk_27 (dk_at dksX0_drawn_0 3 rfl rfl)
theorem dX0_drawn_4 : decode cX0_drawn 4 = .ok (.irem, 1) := dk_112 (dk_at dksX0_drawn_0 4 rfl rfl)
theorem dX0_drawn_5 : decode cX0_drawn 5 = .ok (.istore_n 2, 1) := dk_61 (dk_at dksX0_drawn_0 5 rfl rfl)
theorem dX0_drawn_6 : decode cX0_drawn 6 = .ok (.aload_n 0, 1) := dk_42 (dk_at dksX0_drawn_0 6 rfl rfl)
theorem dX0_drawn_7 : decode cX0_drawn 7 = .ok (.iconst 1, 1) := dk_4 (dk_at dksX0_drawn_0 7 rfl rfl)
theorem dX0_drawn_8 : decode cX0_drawn 8 = .ok (.aload_n 0, 1) := dk_42 (dk_at dksX0_drawn_0 8 rfl rfl)
theorem dX0_drawn_9 : decode cX0_drawn 9 = .ok (.iconst 1, 1) := dk_4 (dk_at dksX0_drawn_0 9 rfl rfl)
theorem dX0_drawn_10 : decode cX0_drawn 10 = .ok (.iaload, 1) := dk_46 (dk_at dksX0_drawn_0 10 rfl rfl)
theorem dX0_drawn_11 : decode cX0_drawn 11 = .ok (.sipush 673, 3) := dk_17 2 161 (dk_at dksX0_drawn_0 11 rfl rfl)
theorem dX0_drawn_14 : decode cX0_drawn 14 = .ok (.imul, 1) := dk_104 (dk_at dksX0_drawn_0 14 rfl rfl)
theorem dX0_drawn_15 : decode cX0_drawn 15 = .ok (.sipush 547, 3) := dk_17 2 35 (dk_at dksX0_drawn_0 15 rfl rfl)
theorem dX0_drawn_18 : decode cX0_drawn 18 = .ok (.iadd, 1) := dk_96 (dk_at dksX0_drawn_0 18 rfl rfl)
theorem dX0_drawn_19 : decode cX0_drawn 19 = .ok (.sipush 30971, 3) := dk_17 120 251 (dk_at dksX0_drawn_0 19 rfl rfl)
theorem dX0_drawn_22 : decode cX0_drawn 22 = .ok (.irem, 1) := dk_112 (dk_at dksX0_drawn_0 22 rfl rfl)
theorem dX0_drawn_23 : decode cX0_drawn 23 = .ok (.iastore, 1) := dk_79 (dk_at dksX0_drawn_0 23 rfl rfl)
theorem dX0_drawn_24 : decode cX0_drawn 24 = .ok (.iload_n 2, 1) := dk_28 (dk_at dksX0_drawn_1 0 rfl rfl)
theorem dX0_drawn_25 : decode cX0_drawn 25 = .ok (.ireturn, 1) := dk_172 (dk_at dksX0_drawn_1 1 rfl rfl)
abbrev cX0_rules : ByteArray := prog_1_method_15_code
def yX0_rules : MethodName := ⟨RX0, "rules", "()LQuiverKin$Text;"⟩
def dkwX0_rules_1 : List UInt8 := [180, 0, 90, 42, 180, 0, 21, 180, 0, 65, 5, 46, 50, 176]
abbrev dktX0_rules_1 : List UInt8 := dkwX0_rules_1 ++ []
def dkwX0_rules_0 : List UInt8 := [42, 180, 0, 21, 180, 0, 65, 5, 46, 2, 160, 0, 9, 178, 0, 113, 167, 0, 20, 42, 180, 0, 21]
abbrev dktX0_rules_0 : List UInt8 := dkwX0_rules_0 ++ dktX0_rules_1
theorem dksX0_rules_0 : cX0_rules.data.toList.drop 0 = dktX0_rules_0 := by decide +kernel
theorem dksX0_rules_1 : cX0_rules.data.toList.drop 23 = dktX0_rules_1 := dk_seg dksX0_rules_0 23 rfl rfl
theorem dX0_rules_0 : decode cX0_rules 0 = .ok (.aload_n 0, 1) := dk_42 (dk_at dksX0_rules_0 0 rfl rfl)
theorem dX0_rules_1 : decode cX0_rules 1 = .ok (.getfield 21, 3) := dk_180 0 21 (dk_at dksX0_rules_0 1 rfl rfl)
theorem dX0_rules_4 : decode cX0_rules 4 = .ok (.getfield 65, 3) := dk_180 0 65 (dk_at dksX0_rules_0 4 rfl rfl)
theorem dX0_rules_7 : decode cX0_rules 7 = .ok (.iconst 2, 1) := dk_5 (dk_at dksX0_rules_0 7 rfl rfl)
theorem dX0_rules_8 : decode cX0_rules 8 = .ok (.iaload, 1) := dk_46 (dk_at dksX0_rules_0 8 rfl rfl)
theorem dX0_rules_9 : decode cX0_rules 9 = .ok (.iconst (-1), 1) := dk_2 (dk_at dksX0_rules_0 9 rfl rfl)
theorem dX0_rules_10 : decode cX0_rules 10 = .ok (.if_icmp .ne 9, 3) := dk_160 0 9 (dk_at dksX0_rules_0 10 rfl rfl)
theorem dX0_rules_13 : decode cX0_rules 13 = .ok (.getstatic 113, 3) := dk_178 0 113 (dk_at dksX0_rules_0 13 rfl rfl)
theorem dX0_rules_16 : decode cX0_rules 16 = .ok (.goto 20, 3) := dk_167 0 20 (dk_at dksX0_rules_0 16 rfl rfl)
theorem dX0_rules_19 : decode cX0_rules 19 = .ok (.aload_n 0, 1) := dk_42 (dk_at dksX0_rules_0 19 rfl rfl)
theorem dX0_rules_20 : decode cX0_rules 20 = .ok (.getfield 21, 3) := dk_180 0 21 (dk_at dksX0_rules_0 20 rfl rfl)
theorem dX0_rules_23 : decode cX0_rules 23 = .ok (.getfield 90, 3) := dk_180 0 90 (dk_at dksX0_rules_1 0 rfl rfl)
theorem dX0_rules_26 : decode cX0_rules 26 = .ok (.aload_n 0, 1) := dk_42 (dk_at dksX0_rules_1 3 rfl rfl)
theorem dX0_rules_27 : decode cX0_rules 27 = .ok (.getfield 21, 3) := dk_180 0 21 (dk_at dksX0_rules_1 4 rfl rfl)
theorem dX0_rules_30 : decode cX0_rules 30 = .ok (.getfield 65, 3) := dk_180 0 65 (dk_at dksX0_rules_1 7 rfl rfl)
theorem dX0_rules_33 : decode cX0_rules 33 = .ok (.iconst 2, 1) := dk_5 (dk_at dksX0_rules_1 10 rfl rfl)
theorem dX0_rules_34 : decode cX0_rules 34 = .ok (.iaload, 1) := dk_46 (dk_at dksX0_rules_1 11 rfl rfl)
theorem dX0_rules_35 : decode cX0_rules 35 = .ok (.aaload, 1) := dk_50 (dk_at dksX0_rules_1 12 rfl rfl)
theorem dX0_rules_36 : decode cX0_rules 36 = .ok (.areturn, 1) := dk_176 (dk_at dksX0_rules_1 13 rfl rfl)
abbrev cX0_reachesBy : ByteArray := prog_1_method_20_code
def yX0_reachesBy : MethodName := ⟨RX0, "reachesBy", "(LQuiverKin$Text;[II)I"⟩
def dkwX0_reachesBy_4 : List UInt8 := [172]
abbrev dktX0_reachesBy_4 : List UInt8 := dkwX0_reachesBy_4 ++ []
def dkwX0_reachesBy_3 : List UInt8 := [167, 0, 18, 43, 180, 0, 131, 3, 50, 42, 180, 0, 39, 185, 0, 137, 2, 0, 3, 16, 10, 184, 0, 143]
abbrev dktX0_reachesBy_3 : List UInt8 := dkwX0_reachesBy_3 ++ dktX0_reachesBy_4
def dkwX0_reachesBy_2 : List UInt8 := [182, 0, 121, 96, 46, 96, 79, 43, 180, 0, 131, 3, 50, 199, 0, 13, 42, 180, 0, 39, 5, 46, 133]
abbrev dktX0_reachesBy_2 : List UInt8 := dkwX0_reachesBy_2 ++ dktX0_reachesBy_3
def dkwX0_reachesBy_1 : List UInt8 := [182, 0, 121, 96, 46, 44, 16, 8, 42, 44, 42, 180, 0, 39, 7, 46, 42, 182, 0, 68, 96, 4, 100]
abbrev dktX0_reachesBy_1 : List UInt8 := dkwX0_reachesBy_1 ++ dktX0_reachesBy_2
def dkwX0_reachesBy_0 : List UInt8 := [42, 44, 29, 182, 0, 127, 42, 180, 0, 39, 8, 44, 16, 8, 42, 44, 42, 180, 0, 39, 7, 46, 4, 96]
abbrev dktX0_reachesBy_0 : List UInt8 := dkwX0_reachesBy_0 ++ dktX0_reachesBy_1
theorem dksX0_reachesBy_0 : cX0_reachesBy.data.toList.drop 0 = dktX0_reachesBy_0 := by decide +kernel
theorem dksX0_reachesBy_1 : cX0_reachesBy.data.toList.drop 24 = dktX0_reachesBy_1 := dk_seg dksX0_reachesBy_0 24 rfl rfl
theorem dksX0_reachesBy_2 : cX0_reachesBy.data.toList.drop 47 = dktX0_reachesBy_2 := dk_seg dksX0_reachesBy_1 23 rfl rfl
theorem dksX0_reachesBy_3 : cX0_reachesBy.data.toList.drop 70 = dktX0_reachesBy_3 := dk_seg dksX0_reachesBy_2 23 rfl rfl
theorem dksX0_reachesBy_4 : cX0_reachesBy.data.toList.drop 94 = dktX0_reachesBy_4 := dk_seg dksX0_reachesBy_3 24 rfl rfl
theorem dX0_reachesBy_0 : decode cX0_reachesBy 0 = .ok (.aload_n 0, 1) := dk_42 (dk_at dksX0_reachesBy_0 0 rfl rfl)
theorem dX0_reachesBy_1 : decode cX0_reachesBy 1 = .ok (.aload_n 2, 1) := dk_44 (dk_at dksX0_reachesBy_0 1 rfl rfl)
theorem dX0_reachesBy_2 : decode cX0_reachesBy 2 = .ok (.iload_n 3, 1) := dk_29 (dk_at dksX0_reachesBy_0 2 rfl rfl)
theorem dX0_reachesBy_3 : decode cX0_reachesBy 3 = .ok (.invokevirtual 127, 3) := dk_182 0 127 (dk_at dksX0_reachesBy_0 3 rfl rfl)
theorem dX0_reachesBy_6 : decode cX0_reachesBy 6 = .ok (.aload_n 0, 1) := dk_42 (dk_at dksX0_reachesBy_0 6 rfl rfl)
theorem dX0_reachesBy_7 : decode cX0_reachesBy 7 = .ok (.getfield 39, 3) := dk_180 0 39 (dk_at dksX0_reachesBy_0 7 rfl rfl)
theorem dX0_reachesBy_10 : decode cX0_reachesBy 10 = .ok (.iconst 5, 1) := dk_8 (dk_at dksX0_reachesBy_0 10 rfl rfl)
theorem dX0_reachesBy_11 : decode cX0_reachesBy 11 = .ok (.aload_n 2, 1) := dk_44 (dk_at dksX0_reachesBy_0 11 rfl rfl)
theorem dX0_reachesBy_12 : decode cX0_reachesBy 12 = .ok (.bipush 8, 2) := dk_16 8 (dk_at dksX0_reachesBy_0 12 rfl rfl)
theorem dX0_reachesBy_14 : decode cX0_reachesBy 14 = .ok (.aload_n 0, 1) := dk_42 (dk_at dksX0_reachesBy_0 14 rfl rfl)
theorem dX0_reachesBy_15 : decode cX0_reachesBy 15 = .ok (.aload_n 2, 1) := dk_44 (dk_at dksX0_reachesBy_0 15 rfl rfl)
theorem dX0_reachesBy_16 : decode cX0_reachesBy 16 = .ok (.aload_n 0, 1) := dk_42 (dk_at dksX0_reachesBy_0 16 rfl rfl)
theorem dX0_reachesBy_17 : decode cX0_reachesBy 17 = .ok (.getfield 39, 3) := dk_180 0 39 (dk_at dksX0_reachesBy_0 17 rfl rfl)
theorem dX0_reachesBy_20 : decode cX0_reachesBy 20 = .ok (.iconst 4, 1) := dk_7 (dk_at dksX0_reachesBy_0 20 rfl rfl)
theorem dX0_reachesBy_21 : decode cX0_reachesBy 21 = .ok (.iaload, 1) := dk_46 (dk_at dksX0_reachesBy_0 21 rfl rfl)
theorem dX0_reachesBy_22 : decode cX0_reachesBy 22 = .ok (.iconst 1, 1) := dk_4 (dk_at dksX0_reachesBy_0 22 rfl rfl)
theorem dX0_reachesBy_23 : decode cX0_reachesBy 23 = .ok (.iadd, 1) := dk_96 (dk_at dksX0_reachesBy_0 23 rfl rfl)
theorem dX0_reachesBy_24 : decode cX0_reachesBy 24 = .ok (.invokevirtual 121, 3) := dk_182 0 121 (dk_at dksX0_reachesBy_1 0 rfl rfl)
theorem dX0_reachesBy_27 : decode cX0_reachesBy 27 = .ok (.iadd, 1) := dk_96 (dk_at dksX0_reachesBy_1 3 rfl rfl)
theorem dX0_reachesBy_28 : decode cX0_reachesBy 28 = .ok (.iaload, 1) := dk_46 (dk_at dksX0_reachesBy_1 4 rfl rfl)
theorem dX0_reachesBy_29 : decode cX0_reachesBy 29 = .ok (.aload_n 2, 1) := dk_44 (dk_at dksX0_reachesBy_1 5 rfl rfl)
theorem dX0_reachesBy_30 : decode cX0_reachesBy 30 = .ok (.bipush 8, 2) := dk_16 8 (dk_at dksX0_reachesBy_1 6 rfl rfl)
theorem dX0_reachesBy_32 : decode cX0_reachesBy 32 = .ok (.aload_n 0, 1) := dk_42 (dk_at dksX0_reachesBy_1 8 rfl rfl)
theorem dX0_reachesBy_33 : decode cX0_reachesBy 33 = .ok (.aload_n 2, 1) := dk_44 (dk_at dksX0_reachesBy_1 9 rfl rfl)
theorem dX0_reachesBy_34 : decode cX0_reachesBy 34 = .ok (.aload_n 0, 1) := dk_42 (dk_at dksX0_reachesBy_1 10 rfl rfl)
theorem dX0_reachesBy_35 : decode cX0_reachesBy 35 = .ok (.getfield 39, 3) := dk_180 0 39 (dk_at dksX0_reachesBy_1 11 rfl rfl)
theorem dX0_reachesBy_38 : decode cX0_reachesBy 38 = .ok (.iconst 4, 1) := dk_7 (dk_at dksX0_reachesBy_1 14 rfl rfl)
theorem dX0_reachesBy_39 : decode cX0_reachesBy 39 = .ok (.iaload, 1) := dk_46 (dk_at dksX0_reachesBy_1 15 rfl rfl)
theorem dX0_reachesBy_40 : decode cX0_reachesBy 40 = .ok (.aload_n 0, 1) := dk_42 (dk_at dksX0_reachesBy_1 16 rfl rfl)
theorem dX0_reachesBy_41 : decode cX0_reachesBy 41 = .ok (.invokevirtual 68, 3) := dk_182 0 68 (dk_at dksX0_reachesBy_1 17 rfl rfl)
theorem dX0_reachesBy_44 : decode cX0_reachesBy 44 = .ok (.iadd, 1) := dk_96 (dk_at dksX0_reachesBy_1 20 rfl rfl)
theorem dX0_reachesBy_45 : decode cX0_reachesBy 45 = .ok (.iconst 1, 1) := dk_4 (dk_at dksX0_reachesBy_1 21 rfl rfl)
theorem dX0_reachesBy_46 : decode cX0_reachesBy 46 = .ok (.isub, 1) := dk_100 (dk_at dksX0_reachesBy_1 22 rfl rfl)
theorem dX0_reachesBy_47 : decode cX0_reachesBy 47 = .ok (.invokevirtual 121, 3) := dk_182 0 121 (dk_at dksX0_reachesBy_2 0 rfl rfl)
theorem dX0_reachesBy_50 : decode cX0_reachesBy 50 = .ok (.iadd, 1) := dk_96 (dk_at dksX0_reachesBy_2 3 rfl rfl)
theorem dX0_reachesBy_51 : decode cX0_reachesBy 51 = .ok (.iaload, 1) := dk_46 (dk_at dksX0_reachesBy_2 4 rfl rfl)
theorem dX0_reachesBy_52 : decode cX0_reachesBy 52 = .ok (.iadd, 1) := dk_96 (dk_at dksX0_reachesBy_2 5 rfl rfl)
theorem dX0_reachesBy_53 : decode cX0_reachesBy 53 = .ok (.iastore, 1) := dk_79 (dk_at dksX0_reachesBy_2 6 rfl rfl)
theorem dX0_reachesBy_54 : decode cX0_reachesBy 54 = .ok (.aload_n 1, 1) := dk_43 (dk_at dksX0_reachesBy_2 7 rfl rfl)
theorem dX0_reachesBy_55 : decode cX0_reachesBy 55 = .ok (.getfield 131, 3) := dk_180 0 131 (dk_at dksX0_reachesBy_2 8 rfl rfl)
theorem dX0_reachesBy_58 : decode cX0_reachesBy 58 = .ok (.iconst 0, 1) := dk_3 (dk_at dksX0_reachesBy_2 11 rfl rfl)
theorem dX0_reachesBy_59 : decode cX0_reachesBy 59 = .ok (.aaload, 1) := dk_50 (dk_at dksX0_reachesBy_2 12 rfl rfl)
theorem dX0_reachesBy_60 : decode cX0_reachesBy 60 = .ok (.ifnonnull 13, 3) := dk_199 0 13 (dk_at dksX0_reachesBy_2 13 rfl rfl)
theorem dX0_reachesBy_63 : decode cX0_reachesBy 63 = .ok (.aload_n 0, 1) := dk_42 (dk_at dksX0_reachesBy_2 16 rfl rfl)
theorem dX0_reachesBy_64 : decode cX0_reachesBy 64 = .ok (.getfield 39, 3) := dk_180 0 39 (dk_at dksX0_reachesBy_2 17 rfl rfl)
theorem dX0_reachesBy_67 : decode cX0_reachesBy 67 = .ok (.iconst 2, 1) := dk_5 (dk_at dksX0_reachesBy_2 20 rfl rfl)
theorem dX0_reachesBy_68 : decode cX0_reachesBy 68 = .ok (.iaload, 1) := dk_46 (dk_at dksX0_reachesBy_2 21 rfl rfl)
theorem dX0_reachesBy_69 : decode cX0_reachesBy 69 = .ok (.i2l, 1) := dk_133 (dk_at dksX0_reachesBy_2 22 rfl rfl)
theorem dX0_reachesBy_70 : decode cX0_reachesBy 70 = .ok (.goto 18, 3) := dk_167 0 18 (dk_at dksX0_reachesBy_3 0 rfl rfl)
theorem dX0_reachesBy_73 : decode cX0_reachesBy 73 = .ok (.aload_n 1, 1) := dk_43 (dk_at dksX0_reachesBy_3 3 rfl rfl)
theorem dX0_reachesBy_74 : decode cX0_reachesBy 74 = .ok (.getfield 131, 3) := dk_180 0 131 (dk_at dksX0_reachesBy_3 4 rfl rfl)
theorem dX0_reachesBy_77 : decode cX0_reachesBy 77 = .ok (.iconst 0, 1) := dk_3 (dk_at dksX0_reachesBy_3 7 rfl rfl)
theorem dX0_reachesBy_78 : decode cX0_reachesBy 78 = .ok (.aaload, 1) := dk_50 (dk_at dksX0_reachesBy_3 8 rfl rfl)
theorem dX0_reachesBy_79 : decode cX0_reachesBy 79 = .ok (.aload_n 0, 1) := dk_42 (dk_at dksX0_reachesBy_3 9 rfl rfl)
theorem dX0_reachesBy_80 : decode cX0_reachesBy 80 = .ok (.getfield 39, 3) := dk_180 0 39 (dk_at dksX0_reachesBy_3 10 rfl rfl)
theorem dX0_reachesBy_83 : decode cX0_reachesBy 83 = .ok (.invokeinterface 137 2, 5) := by decide +kernel
theorem dX0_reachesBy_88 : decode cX0_reachesBy 88 = .ok (.iconst 0, 1) := dk_3 (dk_at dksX0_reachesBy_3 18 rfl rfl)
theorem dX0_reachesBy_89 : decode cX0_reachesBy 89 = .ok (.bipush 10, 2) := dk_16 10 (dk_at dksX0_reachesBy_3 19 rfl rfl)
theorem dX0_reachesBy_91 : decode cX0_reachesBy 91 = .ok (.invokestatic 143, 3) := dk_184 0 143 (dk_at dksX0_reachesBy_3 21 rfl rfl)
theorem dX0_reachesBy_94 : decode cX0_reachesBy 94 = .ok (.ireturn, 1) := dk_172 (dk_at dksX0_reachesBy_4 0 rfl rfl)
abbrev cX0_namesOf : ByteArray := prog_1_method_19_code
def yX0_namesOf : MethodName := ⟨RX0, "namesOf", "([II)V"⟩
def dkwX0_namesOf_5 : List UInt8 := [3, 79, 132, 3, 1, 167, 255, 193, 177]
abbrev dktX0_namesOf_5 : List UInt8 := dkwX0_namesOf_5 ++ []
def dkwX0_namesOf_4 : List UInt8 := [180, 0, 39, 16, 13, 29, 96, 29, 42, 182, 0, 68, 162, 0, 12, 43, 16, 8, 29, 96, 46, 167, 0, 4]
abbrev dktX0_namesOf_4 : List UInt8 := dkwX0_namesOf_4 ++ dktX0_namesOf_5
def dkwX0_namesOf_3 : List UInt8 := [16, 7, 29, 96, 29, 42, 182, 0, 68, 162, 0, 12, 42, 43, 29, 182, 0, 124, 167, 0, 4, 3, 79, 42]
abbrev dktX0_namesOf_3 : List UInt8 := dkwX0_namesOf_3 ++ dktX0_namesOf_4
def dkwX0_namesOf_2 : List UInt8 := [180, 0, 39, 7, 42, 43, 28, 182, 0, 117, 79, 3, 62, 29, 16, 6, 162, 0, 63, 42, 180, 0, 39]
abbrev dktX0_namesOf_2 : List UInt8 := dkwX0_namesOf_2 ++ dktX0_namesOf_3
def dkwX0_namesOf_1 : List UInt8 := [180, 0, 21, 180, 0, 76, 28, 46, 79, 42, 180, 0, 39, 6, 43, 16, 8, 28, 96, 46, 79, 42]
abbrev dktX0_namesOf_1 : List UInt8 := dkwX0_namesOf_1 ++ dktX0_namesOf_2
def dkwX0_namesOf_0 : List UInt8 := [42, 180, 0, 39, 3, 43, 3, 46, 79, 42, 180, 0, 39, 4, 28, 79, 42, 180, 0, 39, 5, 42]
abbrev dktX0_namesOf_0 : List UInt8 := dkwX0_namesOf_0 ++ dktX0_namesOf_1
theorem dksX0_namesOf_0 : cX0_namesOf.data.toList.drop 0 = dktX0_namesOf_0 := by decide +kernel
theorem dksX0_namesOf_1 : cX0_namesOf.data.toList.drop 22 = dktX0_namesOf_1 := dk_seg dksX0_namesOf_0 22 rfl rfl
theorem dksX0_namesOf_2 : cX0_namesOf.data.toList.drop 44 = dktX0_namesOf_2 := dk_seg dksX0_namesOf_1 22 rfl rfl
theorem dksX0_namesOf_3 : cX0_namesOf.data.toList.drop 67 = dktX0_namesOf_3 := dk_seg dksX0_namesOf_2 23 rfl rfl
theorem dksX0_namesOf_4 : cX0_namesOf.data.toList.drop 91 = dktX0_namesOf_4 := dk_seg dksX0_namesOf_3 24 rfl rfl
theorem dksX0_namesOf_5 : cX0_namesOf.data.toList.drop 115 = dktX0_namesOf_5 := dk_seg dksX0_namesOf_4 24 rfl rfl
theorem dX0_namesOf_0 : decode cX0_namesOf 0 = .ok (.aload_n 0, 1) := dk_42 (dk_at dksX0_namesOf_0 0 rfl rfl)
theorem dX0_namesOf_1 : decode cX0_namesOf 1 = .ok (.getfield 39, 3) := dk_180 0 39 (dk_at dksX0_namesOf_0 1 rfl rfl)
theorem dX0_namesOf_4 : decode cX0_namesOf 4 = .ok (.iconst 0, 1) := dk_3 (dk_at dksX0_namesOf_0 4 rfl rfl)
theorem dX0_namesOf_5 : decode cX0_namesOf 5 = .ok (.aload_n 1, 1) := dk_43 (dk_at dksX0_namesOf_0 5 rfl rfl)
theorem dX0_namesOf_6 : decode cX0_namesOf 6 = .ok (.iconst 0, 1) := dk_3 (dk_at dksX0_namesOf_0 6 rfl rfl)
theorem dX0_namesOf_7 : decode cX0_namesOf 7 = .ok (.iaload, 1) := dk_46 (dk_at dksX0_namesOf_0 7 rfl rfl)
theorem dX0_namesOf_8 : decode cX0_namesOf 8 = .ok (.iastore, 1) := dk_79 (dk_at dksX0_namesOf_0 8 rfl rfl)
theorem dX0_namesOf_9 : decode cX0_namesOf 9 = .ok (.aload_n 0, 1) := dk_42 (dk_at dksX0_namesOf_0 9 rfl rfl)
theorem dX0_namesOf_10 : decode cX0_namesOf 10 = .ok (.getfield 39, 3) := dk_180 0 39 (dk_at dksX0_namesOf_0 10 rfl rfl)
theorem dX0_namesOf_13 : decode cX0_namesOf 13 = .ok (.iconst 1, 1) := dk_4 (dk_at dksX0_namesOf_0 13 rfl rfl)
theorem dX0_namesOf_14 : decode cX0_namesOf 14 = .ok (.iload_n 2, 1) := dk_28 (dk_at dksX0_namesOf_0 14 rfl rfl)
theorem dX0_namesOf_15 : decode cX0_namesOf 15 = .ok (.iastore, 1) := dk_79 (dk_at dksX0_namesOf_0 15 rfl rfl)
theorem dX0_namesOf_16 : decode cX0_namesOf 16 = .ok (.aload_n 0, 1) := dk_42 (dk_at dksX0_namesOf_0 16 rfl rfl)
theorem dX0_namesOf_17 : decode cX0_namesOf 17 = .ok (.getfield 39, 3) := dk_180 0 39 (dk_at dksX0_namesOf_0 17 rfl rfl)
theorem dX0_namesOf_20 : decode cX0_namesOf 20 = .ok (.iconst 2, 1) := dk_5 (dk_at dksX0_namesOf_0 20 rfl rfl)
theorem dX0_namesOf_21 : decode cX0_namesOf 21 = .ok (.aload_n 0, 1) := dk_42 (dk_at dksX0_namesOf_0 21 rfl rfl)
theorem dX0_namesOf_22 : decode cX0_namesOf 22 = .ok (.getfield 21, 3) := dk_180 0 21 (dk_at dksX0_namesOf_1 0 rfl rfl)
theorem dX0_namesOf_25 : decode cX0_namesOf 25 = .ok (.getfield 76, 3) := dk_180 0 76 (dk_at dksX0_namesOf_1 3 rfl rfl)
theorem dX0_namesOf_28 : decode cX0_namesOf 28 = .ok (.iload_n 2, 1) := dk_28 (dk_at dksX0_namesOf_1 6 rfl rfl)
theorem dX0_namesOf_29 : decode cX0_namesOf 29 = .ok (.iaload, 1) := dk_46 (dk_at dksX0_namesOf_1 7 rfl rfl)
theorem dX0_namesOf_30 : decode cX0_namesOf 30 = .ok (.iastore, 1) := dk_79 (dk_at dksX0_namesOf_1 8 rfl rfl)
theorem dX0_namesOf_31 : decode cX0_namesOf 31 = .ok (.aload_n 0, 1) := dk_42 (dk_at dksX0_namesOf_1 9 rfl rfl)
theorem dX0_namesOf_32 : decode cX0_namesOf 32 = .ok (.getfield 39, 3) := dk_180 0 39 (dk_at dksX0_namesOf_1 10 rfl rfl)
theorem dX0_namesOf_35 : decode cX0_namesOf 35 = .ok (.iconst 3, 1) := dk_6 (dk_at dksX0_namesOf_1 13 rfl rfl)
theorem dX0_namesOf_36 : decode cX0_namesOf 36 = .ok (.aload_n 1, 1) := dk_43 (dk_at dksX0_namesOf_1 14 rfl rfl)
theorem dX0_namesOf_37 : decode cX0_namesOf 37 = .ok (.bipush 8, 2) := dk_16 8 (dk_at dksX0_namesOf_1 15 rfl rfl)
theorem dX0_namesOf_39 : decode cX0_namesOf 39 = .ok (.iload_n 2, 1) := dk_28 (dk_at dksX0_namesOf_1 17 rfl rfl)
theorem dX0_namesOf_40 : decode cX0_namesOf 40 = .ok (.iadd, 1) := dk_96 (dk_at dksX0_namesOf_1 18 rfl rfl)
theorem dX0_namesOf_41 : decode cX0_namesOf 41 = .ok (.iaload, 1) := dk_46 (dk_at dksX0_namesOf_1 19 rfl rfl)
theorem dX0_namesOf_42 : decode cX0_namesOf 42 = .ok (.iastore, 1) := dk_79 (dk_at dksX0_namesOf_1 20 rfl rfl)
theorem dX0_namesOf_43 : decode cX0_namesOf 43 = .ok (.aload_n 0, 1) := dk_42 (dk_at dksX0_namesOf_1 21 rfl rfl)
theorem dX0_namesOf_44 : decode cX0_namesOf 44 = .ok (.getfield 39, 3) := dk_180 0 39 (dk_at dksX0_namesOf_2 0 rfl rfl)
theorem dX0_namesOf_47 : decode cX0_namesOf 47 = .ok (.iconst 4, 1) := dk_7 (dk_at dksX0_namesOf_2 3 rfl rfl)
theorem dX0_namesOf_48 : decode cX0_namesOf 48 = .ok (.aload_n 0, 1) := dk_42 (dk_at dksX0_namesOf_2 4 rfl rfl)
theorem dX0_namesOf_49 : decode cX0_namesOf 49 = .ok (.aload_n 1, 1) := dk_43 (dk_at dksX0_namesOf_2 5 rfl rfl)
theorem dX0_namesOf_50 : decode cX0_namesOf 50 = .ok (.iload_n 2, 1) := dk_28 (dk_at dksX0_namesOf_2 6 rfl rfl)
theorem dX0_namesOf_51 : decode cX0_namesOf 51 = .ok (.invokevirtual 117, 3) := dk_182 0 117 (dk_at dksX0_namesOf_2 7 rfl rfl)
theorem dX0_namesOf_54 : decode cX0_namesOf 54 = .ok (.iastore, 1) := dk_79 (dk_at dksX0_namesOf_2 10 rfl rfl)
theorem dX0_namesOf_55 : decode cX0_namesOf 55 = .ok (.iconst 0, 1) := dk_3 (dk_at dksX0_namesOf_2 11 rfl rfl)
theorem dX0_namesOf_56 : decode cX0_namesOf 56 = .ok (.istore_n 3, 1) := dk_62 (dk_at dksX0_namesOf_2 12 rfl rfl)
theorem dX0_namesOf_57 : decode cX0_namesOf 57 = .ok (.iload_n 3, 1) := dk_29 (dk_at dksX0_namesOf_2 13 rfl rfl)
theorem dX0_namesOf_58 : decode cX0_namesOf 58 = .ok (.bipush 6, 2) := dk_16 6 (dk_at dksX0_namesOf_2 14 rfl rfl)
theorem dX0_namesOf_60 : decode cX0_namesOf 60 = .ok (.if_icmp .ge 63, 3) := dk_162 0 63 (dk_at dksX0_namesOf_2 16 rfl rfl)
theorem dX0_namesOf_63 : decode cX0_namesOf 63 = .ok (.aload_n 0, 1) := dk_42 (dk_at dksX0_namesOf_2 19 rfl rfl)
theorem dX0_namesOf_64 : decode cX0_namesOf 64 = .ok (.getfield 39, 3) := dk_180 0 39 (dk_at dksX0_namesOf_2 20 rfl rfl)
theorem dX0_namesOf_67 : decode cX0_namesOf 67 = .ok (.bipush 7, 2) := dk_16 7 (dk_at dksX0_namesOf_3 0 rfl rfl)
theorem dX0_namesOf_69 : decode cX0_namesOf 69 = .ok (.iload_n 3, 1) := dk_29 (dk_at dksX0_namesOf_3 2 rfl rfl)
theorem dX0_namesOf_70 : decode cX0_namesOf 70 = .ok (.iadd, 1) := dk_96 (dk_at dksX0_namesOf_3 3 rfl rfl)
theorem dX0_namesOf_71 : decode cX0_namesOf 71 = .ok (.iload_n 3, 1) := dk_29 (dk_at dksX0_namesOf_3 4 rfl rfl)
theorem dX0_namesOf_72 : decode cX0_namesOf 72 = .ok (.aload_n 0, 1) := dk_42 (dk_at dksX0_namesOf_3 5 rfl rfl)
theorem dX0_namesOf_73 : decode cX0_namesOf 73 = .ok (.invokevirtual 68, 3) := dk_182 0 68 (dk_at dksX0_namesOf_3 6 rfl rfl)
theorem dX0_namesOf_76 : decode cX0_namesOf 76 = .ok (.if_icmp .ge 12, 3) := dk_162 0 12 (dk_at dksX0_namesOf_3 9 rfl rfl)
theorem dX0_namesOf_79 : decode cX0_namesOf 79 = .ok (.aload_n 0, 1) := dk_42 (dk_at dksX0_namesOf_3 12 rfl rfl)
theorem dX0_namesOf_80 : decode cX0_namesOf 80 = .ok (.aload_n 1, 1) := dk_43 (dk_at dksX0_namesOf_3 13 rfl rfl)
theorem dX0_namesOf_81 : decode cX0_namesOf 81 = .ok (.iload_n 3, 1) := dk_29 (dk_at dksX0_namesOf_3 14 rfl rfl)
theorem dX0_namesOf_82 : decode cX0_namesOf 82 = .ok (.invokevirtual 124, 3) := dk_182 0 124 (dk_at dksX0_namesOf_3 15 rfl rfl)
theorem dX0_namesOf_85 : decode cX0_namesOf 85 = .ok (.goto 4, 3) := dk_167 0 4 (dk_at dksX0_namesOf_3 18 rfl rfl)
theorem dX0_namesOf_88 : decode cX0_namesOf 88 = .ok (.iconst 0, 1) := dk_3 (dk_at dksX0_namesOf_3 21 rfl rfl)
theorem dX0_namesOf_89 : decode cX0_namesOf 89 = .ok (.iastore, 1) := dk_79 (dk_at dksX0_namesOf_3 22 rfl rfl)
theorem dX0_namesOf_90 : decode cX0_namesOf 90 = .ok (.aload_n 0, 1) := dk_42 (dk_at dksX0_namesOf_3 23 rfl rfl)
theorem dX0_namesOf_91 : decode cX0_namesOf 91 = .ok (.getfield 39, 3) := dk_180 0 39 (dk_at dksX0_namesOf_4 0 rfl rfl)
theorem dX0_namesOf_94 : decode cX0_namesOf 94 = .ok (.bipush 13, 2) := dk_16 13 (dk_at dksX0_namesOf_4 3 rfl rfl)
theorem dX0_namesOf_96 : decode cX0_namesOf 96 = .ok (.iload_n 3, 1) := dk_29 (dk_at dksX0_namesOf_4 5 rfl rfl)
theorem dX0_namesOf_97 : decode cX0_namesOf 97 = .ok (.iadd, 1) := dk_96 (dk_at dksX0_namesOf_4 6 rfl rfl)
theorem dX0_namesOf_98 : decode cX0_namesOf 98 = .ok (.iload_n 3, 1) := dk_29 (dk_at dksX0_namesOf_4 7 rfl rfl)
theorem dX0_namesOf_99 : decode cX0_namesOf 99 = .ok (.aload_n 0, 1) := dk_42 (dk_at dksX0_namesOf_4 8 rfl rfl)
theorem dX0_namesOf_100 : decode cX0_namesOf 100 = .ok (.invokevirtual 68, 3) := dk_182 0 68 (dk_at dksX0_namesOf_4 9 rfl rfl)
theorem dX0_namesOf_103 : decode cX0_namesOf 103 = .ok (.if_icmp .ge 12, 3) := dk_162 0 12 (dk_at dksX0_namesOf_4 12 rfl rfl)
theorem dX0_namesOf_106 : decode cX0_namesOf 106 = .ok (.aload_n 1, 1) := dk_43 (dk_at dksX0_namesOf_4 15 rfl rfl)
theorem dX0_namesOf_107 : decode cX0_namesOf 107 = .ok (.bipush 8, 2) := dk_16 8 (dk_at dksX0_namesOf_4 16 rfl rfl)
theorem dX0_namesOf_109 : decode cX0_namesOf 109 = .ok (.iload_n 3, 1) := dk_29 (dk_at dksX0_namesOf_4 18 rfl rfl)
theorem dX0_namesOf_110 : decode cX0_namesOf 110 = .ok (.iadd, 1) := dk_96 (dk_at dksX0_namesOf_4 19 rfl rfl)
theorem dX0_namesOf_111 : decode cX0_namesOf 111 = .ok (.iaload, 1) := dk_46 (dk_at dksX0_namesOf_4 20 rfl rfl)
theorem dX0_namesOf_112 : decode cX0_namesOf 112 = .ok (.goto 4, 3) := dk_167 0 4 (dk_at dksX0_namesOf_4 21 rfl rfl)
theorem dX0_namesOf_115 : decode cX0_namesOf 115 = .ok (.iconst 0, 1) := dk_3 (dk_at dksX0_namesOf_5 0 rfl rfl)
theorem dX0_namesOf_116 : decode cX0_namesOf 116 = .ok (.iastore, 1) := dk_79 (dk_at dksX0_namesOf_5 1 rfl rfl)
theorem dX0_namesOf_117 : decode cX0_namesOf 117 = .ok (.iinc 3 1, 3) := dk_132 3 1 (dk_at dksX0_namesOf_5 2 rfl rfl)
theorem dX0_namesOf_120 : decode cX0_namesOf 120 = .ok (.goto (-63), 3) := dk_167 255 193 (dk_at dksX0_namesOf_5 5 rfl rfl)
theorem dX0_namesOf_123 : decode cX0_namesOf 123 = .ok (.return_, 1) := dk_177 (dk_at dksX0_namesOf_5 8 rfl rfl)
abbrev cX0_acrossOf : ByteArray := prog_1_method_18_code
def yX0_acrossOf : MethodName := ⟨RX0, "acrossOf", "([II)I"⟩
def dkwX0_acrossOf_0 : List UInt8 := [42, 43, 42, 43, 28, 182, 0, 117, 42, 182, 0, 68, 5, 108, 96, 182, 0, 121, 172]
abbrev dktX0_acrossOf_0 : List UInt8 := dkwX0_acrossOf_0 ++ []
theorem dksX0_acrossOf_0 : cX0_acrossOf.data.toList.drop 0 = dktX0_acrossOf_0 := by decide +kernel
theorem dX0_acrossOf_0 : decode cX0_acrossOf 0 = .ok (.aload_n 0, 1) := dk_42 (dk_at dksX0_acrossOf_0 0 rfl rfl)
theorem dX0_acrossOf_1 : decode cX0_acrossOf 1 = .ok (.aload_n 1, 1) := dk_43 (dk_at dksX0_acrossOf_0 1 rfl rfl)
theorem dX0_acrossOf_2 : decode cX0_acrossOf 2 = .ok (.aload_n 0, 1) := dk_42 (dk_at dksX0_acrossOf_0 2 rfl rfl)
theorem dX0_acrossOf_3 : decode cX0_acrossOf 3 = .ok (.aload_n 1, 1) := dk_43 (dk_at dksX0_acrossOf_0 3 rfl rfl)
theorem dX0_acrossOf_4 : decode cX0_acrossOf 4 = .ok (.iload_n 2, 1) := dk_28 (dk_at dksX0_acrossOf_0 4 rfl rfl)
theorem dX0_acrossOf_5 : decode cX0_acrossOf 5 = .ok (.invokevirtual 117, 3) := dk_182 0 117 (dk_at dksX0_acrossOf_0 5 rfl rfl)
theorem dX0_acrossOf_8 : decode cX0_acrossOf 8 = .ok (.aload_n 0, 1) := dk_42 (dk_at dksX0_acrossOf_0 8 rfl rfl)
theorem dX0_acrossOf_9 : decode cX0_acrossOf 9 = .ok (.invokevirtual 68, 3) := dk_182 0 68 (dk_at dksX0_acrossOf_0 9 rfl rfl)
theorem dX0_acrossOf_12 : decode cX0_acrossOf 12 = .ok (.iconst 2, 1) := dk_5 (dk_at dksX0_acrossOf_0 12 rfl rfl)
theorem dX0_acrossOf_13 : decode cX0_acrossOf 13 = .ok (.idiv, 1) := dk_108 (dk_at dksX0_acrossOf_0 13 rfl rfl)
theorem dX0_acrossOf_14 : decode cX0_acrossOf 14 = .ok (.iadd, 1) := dk_96 (dk_at dksX0_acrossOf_0 14 rfl rfl)
theorem dX0_acrossOf_15 : decode cX0_acrossOf 15 = .ok (.invokevirtual 121, 3) := dk_182 0 121 (dk_at dksX0_acrossOf_0 15 rfl rfl)
theorem dX0_acrossOf_18 : decode cX0_acrossOf 18 = .ok (.ireturn, 1) := dk_172 (dk_at dksX0_acrossOf_0 18 rfl rfl)
abbrev cX0_whoAt : ByteArray := prog_1_method_17_code
def yX0_whoAt : MethodName := ⟨RX0, "whoAt", "([II)I"⟩
def dkwX0_whoAt_0 : List UInt8 := [43, 5, 28, 42, 182, 0, 68, 112, 96, 46, 172]
abbrev dktX0_whoAt_0 : List UInt8 := dkwX0_whoAt_0 ++ []
theorem dksX0_whoAt_0 : cX0_whoAt.data.toList.drop 0 = dktX0_whoAt_0 := by decide +kernel
theorem dX0_whoAt_0 : decode cX0_whoAt 0 = .ok (.aload_n 1, 1) := dk_43 (dk_at dksX0_whoAt_0 0 rfl rfl)
theorem dX0_whoAt_1 : decode cX0_whoAt 1 = .ok (.iconst 2, 1) := dk_5 (dk_at dksX0_whoAt_0 1 rfl rfl)
theorem dX0_whoAt_2 : decode cX0_whoAt 2 = .ok (.iload_n 2, 1) := dk_28 (dk_at dksX0_whoAt_0 2 rfl rfl)
theorem dX0_whoAt_3 : decode cX0_whoAt 3 = .ok (.aload_n 0, 1) := dk_42 (dk_at dksX0_whoAt_0 3 rfl rfl)
theorem dX0_whoAt_4 : decode cX0_whoAt 4 = .ok (.invokevirtual 68, 3) := dk_182 0 68 (dk_at dksX0_whoAt_0 4 rfl rfl)
theorem dX0_whoAt_7 : decode cX0_whoAt 7 = .ok (.irem, 1) := dk_112 (dk_at dksX0_whoAt_0 7 rfl rfl)
theorem dX0_whoAt_8 : decode cX0_whoAt 8 = .ok (.iadd, 1) := dk_96 (dk_at dksX0_whoAt_0 8 rfl rfl)
theorem dX0_whoAt_9 : decode cX0_whoAt 9 = .ok (.iaload, 1) := dk_46 (dk_at dksX0_whoAt_0 9 rfl rfl)
theorem dX0_whoAt_10 : decode cX0_whoAt 10 = .ok (.ireturn, 1) := dk_172 (dk_at dksX0_whoAt_0 10 rfl rfl)
abbrev cX0_held : ByteArray := prog_1_method_3_code
def yX0_held : MethodName := ⟨RX0, "held", "(JII)I"⟩
def dkwX0_held_0 : List UInt8 := [28, 133, 29, 133, 30, 184, 0, 3, 184, 0, 9, 136, 172]
abbrev dktX0_held_0 : List UInt8 := dkwX0_held_0 ++ []
theorem dksX0_held_0 : cX0_held.data.toList.drop 0 = dktX0_held_0 := by decide +kernel
theorem dX0_held_0 : decode cX0_held 0 = .ok (.iload_n 2, 1) := dk_28 (dk_at dksX0_held_0 0 rfl rfl)
theorem dX0_held_1 : decode cX0_held 1 = .ok (.i2l, 1) := dk_133 (dk_at dksX0_held_0 1 rfl rfl)
theorem dX0_held_2 : decode cX0_held 2 = .ok (.iload_n 3, 1) := dk_29 (dk_at dksX0_held_0 2 rfl rfl)
theorem dX0_held_3 : decode cX0_held 3 = .ok (.i2l, 1) := dk_133 (dk_at dksX0_held_0 3 rfl rfl)
theorem dX0_held_4 : decode cX0_held 4 = .ok (.lload_n 0, 1) := dk_30 (dk_at dksX0_held_0 4 rfl rfl)
theorem dX0_held_5 : decode cX0_held 5 = .ok (.invokestatic 3, 3) := dk_184 0 3 (dk_at dksX0_held_0 5 rfl rfl)
theorem dX0_held_8 : decode cX0_held 8 = .ok (.invokestatic 9, 3) := dk_184 0 9 (dk_at dksX0_held_0 8 rfl rfl)
theorem dX0_held_11 : decode cX0_held 11 = .ok (.l2i, 1) := dk_136 (dk_at dksX0_held_0 11 rfl rfl)
theorem dX0_held_12 : decode cX0_held 12 = .ok (.ireturn, 1) := dk_172 (dk_at dksX0_held_0 12 rfl rfl)
abbrev cX0_bearsOf : ByteArray := prog_1_method_21_code
def yX0_bearsOf : MethodName := ⟨RX0, "bearsOf", "([II)I"⟩
def dkwX0_bearsOf_2 : List UInt8 := [185, 0, 137, 2, 0, 3, 16, 99, 184, 0, 143, 172]
abbrev dktX0_bearsOf_2 : List UInt8 := dkwX0_bearsOf_2 ++ []
def dkwX0_bearsOf_1 : List UInt8 := [4, 50, 199, 0, 9, 20, 0, 150, 167, 0, 21, 42, 182, 0, 147, 180, 0, 131, 4, 50, 42, 180, 0, 39]
abbrev dktX0_bearsOf_1 : List UInt8 := dkwX0_bearsOf_1 ++ dktX0_bearsOf_2
def dkwX0_bearsOf_0 : List UInt8 := [42, 43, 28, 182, 0, 127, 42, 180, 0, 39, 16, 6, 43, 16, 15, 46, 79, 42, 182, 0, 147, 180, 0, 131]
abbrev dktX0_bearsOf_0 : List UInt8 := dkwX0_bearsOf_0 ++ dktX0_bearsOf_1
theorem dksX0_bearsOf_0 : cX0_bearsOf.data.toList.drop 0 = dktX0_bearsOf_0 := by decide +kernel
theorem dksX0_bearsOf_1 : cX0_bearsOf.data.toList.drop 24 = dktX0_bearsOf_1 := dk_seg dksX0_bearsOf_0 24 rfl rfl
theorem dksX0_bearsOf_2 : cX0_bearsOf.data.toList.drop 48 = dktX0_bearsOf_2 := dk_seg dksX0_bearsOf_1 24 rfl rfl
theorem dX0_bearsOf_0 : decode cX0_bearsOf 0 = .ok (.aload_n 0, 1) := dk_42 (dk_at dksX0_bearsOf_0 0 rfl rfl)
theorem dX0_bearsOf_1 : decode cX0_bearsOf 1 = .ok (.aload_n 1, 1) := dk_43 (dk_at dksX0_bearsOf_0 1 rfl rfl)
theorem dX0_bearsOf_2 : decode cX0_bearsOf 2 = .ok (.iload_n 2, 1) := dk_28 (dk_at dksX0_bearsOf_0 2 rfl rfl)
theorem dX0_bearsOf_3 : decode cX0_bearsOf 3 = .ok (.invokevirtual 127, 3) := dk_182 0 127 (dk_at dksX0_bearsOf_0 3 rfl rfl)
theorem dX0_bearsOf_6 : decode cX0_bearsOf 6 = .ok (.aload_n 0, 1) := dk_42 (dk_at dksX0_bearsOf_0 6 rfl rfl)
theorem dX0_bearsOf_7 : decode cX0_bearsOf 7 = .ok (.getfield 39, 3) := dk_180 0 39 (dk_at dksX0_bearsOf_0 7 rfl rfl)
theorem dX0_bearsOf_10 : decode cX0_bearsOf 10 = .ok (.bipush 6, 2) := dk_16 6 (dk_at dksX0_bearsOf_0 10 rfl rfl)
theorem dX0_bearsOf_12 : decode cX0_bearsOf 12 = .ok (.aload_n 1, 1) := dk_43 (dk_at dksX0_bearsOf_0 12 rfl rfl)
theorem dX0_bearsOf_13 : decode cX0_bearsOf 13 = .ok (.bipush 15, 2) := dk_16 15 (dk_at dksX0_bearsOf_0 13 rfl rfl)
theorem dX0_bearsOf_15 : decode cX0_bearsOf 15 = .ok (.iaload, 1) := dk_46 (dk_at dksX0_bearsOf_0 15 rfl rfl)
theorem dX0_bearsOf_16 : decode cX0_bearsOf 16 = .ok (.iastore, 1) := dk_79 (dk_at dksX0_bearsOf_0 16 rfl rfl)
theorem dX0_bearsOf_17 : decode cX0_bearsOf 17 = .ok (.aload_n 0, 1) := dk_42 (dk_at dksX0_bearsOf_0 17 rfl rfl)
theorem dX0_bearsOf_18 : decode cX0_bearsOf 18 = .ok (.invokevirtual 147, 3) := dk_182 0 147 (dk_at dksX0_bearsOf_0 18 rfl rfl)
theorem dX0_bearsOf_21 : decode cX0_bearsOf 21 = .ok (.getfield 131, 3) := dk_180 0 131 (dk_at dksX0_bearsOf_0 21 rfl rfl)
theorem dX0_bearsOf_24 : decode cX0_bearsOf 24 = .ok (.iconst 1, 1) := dk_4 (dk_at dksX0_bearsOf_1 0 rfl rfl)
theorem dX0_bearsOf_25 : decode cX0_bearsOf 25 = .ok (.aaload, 1) := dk_50 (dk_at dksX0_bearsOf_1 1 rfl rfl)
theorem dX0_bearsOf_26 : decode cX0_bearsOf 26 = .ok (.ifnonnull 9, 3) := dk_199 0 9 (dk_at dksX0_bearsOf_1 2 rfl rfl)
theorem dX0_bearsOf_29 : decode cX0_bearsOf 29 = .ok (.ldc2_w 150, 3) := dk_20 0 150 (dk_at dksX0_bearsOf_1 5 rfl rfl)
theorem dX0_bearsOf_32 : decode cX0_bearsOf 32 = .ok (.goto 21, 3) := dk_167 0 21 (dk_at dksX0_bearsOf_1 8 rfl rfl)
theorem dX0_bearsOf_35 : decode cX0_bearsOf 35 = .ok (.aload_n 0, 1) := dk_42 (dk_at dksX0_bearsOf_1 11 rfl rfl)
theorem dX0_bearsOf_36 : decode cX0_bearsOf 36 = .ok (.invokevirtual 147, 3) := dk_182 0 147 (dk_at dksX0_bearsOf_1 12 rfl rfl)
theorem dX0_bearsOf_39 : decode cX0_bearsOf 39 = .ok (.getfield 131, 3) := dk_180 0 131 (dk_at dksX0_bearsOf_1 15 rfl rfl)
theorem dX0_bearsOf_42 : decode cX0_bearsOf 42 = .ok (.iconst 1, 1) := dk_4 (dk_at dksX0_bearsOf_1 18 rfl rfl)
theorem dX0_bearsOf_43 : decode cX0_bearsOf 43 = .ok (.aaload, 1) := dk_50 (dk_at dksX0_bearsOf_1 19 rfl rfl)
theorem dX0_bearsOf_44 : decode cX0_bearsOf 44 = .ok (.aload_n 0, 1) := dk_42 (dk_at dksX0_bearsOf_1 20 rfl rfl)
theorem dX0_bearsOf_45 : decode cX0_bearsOf 45 = .ok (.getfield 39, 3) := dk_180 0 39 (dk_at dksX0_bearsOf_1 21 rfl rfl)
theorem dX0_bearsOf_48 : decode cX0_bearsOf 48 = .ok (.invokeinterface 137 2, 5) := by decide +kernel
theorem dX0_bearsOf_53 : decode cX0_bearsOf 53 = .ok (.iconst 0, 1) := dk_3 (dk_at dksX0_bearsOf_2 5 rfl rfl)
theorem dX0_bearsOf_54 : decode cX0_bearsOf 54 = .ok (.bipush 99, 2) := dk_16 99 (dk_at dksX0_bearsOf_2 6 rfl rfl)
theorem dX0_bearsOf_56 : decode cX0_bearsOf 56 = .ok (.invokestatic 143, 3) := dk_184 0 143 (dk_at dksX0_bearsOf_2 8 rfl rfl)
theorem dX0_bearsOf_59 : decode cX0_bearsOf 59 = .ok (.ireturn, 1) := dk_172 (dk_at dksX0_bearsOf_2 11 rfl rfl)
abbrev cX0_looses : ByteArray := prog_1_method_33_code
def yX0_looses : MethodName := ⟨RX0, "looses", "([II)V"⟩
def dkwX0_looses_4 : List UInt8 := [159, 0, 9, 43, 21, 5, 184, 0, 171, 43, 28, 21, 4, 21, 5, 184, 0, 190, 177]
abbrev dktX0_looses_4 : List UInt8 := dkwX0_looses_4 ++ []
def dkwX0_looses_3 : List UInt8 := [29, 182, 0, 121, 28, 160, 0, 7, 2, 167, 0, 9, 42, 43, 29, 182, 0, 121, 54, 5, 21, 5, 2]
abbrev dktX0_looses_3 : List UInt8 := dkwX0_looses_3 ++ dktX0_looses_4
def dkwX0_looses_2 : List UInt8 := [154, 0, 22, 21, 4, 4, 42, 43, 29, 182, 0, 121, 120, 128, 54, 4, 132, 3, 1, 167, 255, 216, 42, 43]
abbrev dktX0_looses_2 : List UInt8 := dkwX0_looses_2 ++ dktX0_looses_3
def dkwX0_looses_1 : List UInt8 := [3, 54, 4, 42, 43, 29, 182, 0, 121, 28, 159, 0, 36, 43, 16, 8, 42, 43, 29, 182, 0, 121, 96, 46]
abbrev dktX0_looses_1 : List UInt8 := dkwX0_looses_1 ++ dktX0_looses_2
def dkwX0_looses_0 : List UInt8 := [43, 16, 8, 28, 96, 92, 46, 5, 108, 79, 42, 43, 28, 182, 0, 117, 42, 182, 0, 68, 5, 108, 96, 62]
abbrev dktX0_looses_0 : List UInt8 := dkwX0_looses_0 ++ dktX0_looses_1
theorem dksX0_looses_0 : cX0_looses.data.toList.drop 0 = dktX0_looses_0 := by decide +kernel
theorem dksX0_looses_1 : cX0_looses.data.toList.drop 24 = dktX0_looses_1 := dk_seg dksX0_looses_0 24 rfl rfl
theorem dksX0_looses_2 : cX0_looses.data.toList.drop 48 = dktX0_looses_2 := dk_seg dksX0_looses_1 24 rfl rfl
theorem dksX0_looses_3 : cX0_looses.data.toList.drop 72 = dktX0_looses_3 := dk_seg dksX0_looses_2 24 rfl rfl
theorem dksX0_looses_4 : cX0_looses.data.toList.drop 95 = dktX0_looses_4 := dk_seg dksX0_looses_3 23 rfl rfl
theorem dX0_looses_0 : decode cX0_looses 0 = .ok (.aload_n 1, 1) := dk_43 (dk_at dksX0_looses_0 0 rfl rfl)
theorem dX0_looses_1 : decode cX0_looses 1 = .ok (.bipush 8, 2) := dk_16 8 (dk_at dksX0_looses_0 1 rfl rfl)
theorem dX0_looses_3 : decode cX0_looses 3 = .ok (.iload_n 2, 1) := dk_28 (dk_at dksX0_looses_0 3 rfl rfl)
theorem dX0_looses_4 : decode cX0_looses 4 = .ok (.iadd, 1) := dk_96 (dk_at dksX0_looses_0 4 rfl rfl)
theorem dX0_looses_5 : decode cX0_looses 5 = .ok (.dup2, 1) := dk_92 (dk_at dksX0_looses_0 5 rfl rfl)
theorem dX0_looses_6 : decode cX0_looses 6 = .ok (.iaload, 1) := dk_46 (dk_at dksX0_looses_0 6 rfl rfl)
theorem dX0_looses_7 : decode cX0_looses 7 = .ok (.iconst 2, 1) := dk_5 (dk_at dksX0_looses_0 7 rfl rfl)
theorem dX0_looses_8 : decode cX0_looses 8 = .ok (.idiv, 1) := dk_108 (dk_at dksX0_looses_0 8 rfl rfl)
theorem dX0_looses_9 : decode cX0_looses 9 = .ok (.iastore, 1) := dk_79 (dk_at dksX0_looses_0 9 rfl rfl)
theorem dX0_looses_10 : decode cX0_looses 10 = .ok (.aload_n 0, 1) := dk_42 (dk_at dksX0_looses_0 10 rfl rfl)
theorem dX0_looses_11 : decode cX0_looses 11 = .ok (.aload_n 1, 1) := dk_43 (dk_at dksX0_looses_0 11 rfl rfl)
theorem dX0_looses_12 : decode cX0_looses 12 = .ok (.iload_n 2, 1) := dk_28 (dk_at dksX0_looses_0 12 rfl rfl)
theorem dX0_looses_13 : decode cX0_looses 13 = .ok (.invokevirtual 117, 3) := dk_182 0 117 (dk_at dksX0_looses_0 13 rfl rfl)
theorem dX0_looses_16 : decode cX0_looses 16 = .ok (.aload_n 0, 1) := dk_42 (dk_at dksX0_looses_0 16 rfl rfl)
theorem dX0_looses_17 : decode cX0_looses 17 = .ok (.invokevirtual 68, 3) := dk_182 0 68 (dk_at dksX0_looses_0 17 rfl rfl)
theorem dX0_looses_20 : decode cX0_looses 20 = .ok (.iconst 2, 1) := dk_5 (dk_at dksX0_looses_0 20 rfl rfl)
theorem dX0_looses_21 : decode cX0_looses 21 = .ok (.idiv, 1) := dk_108 (dk_at dksX0_looses_0 21 rfl rfl)
theorem dX0_looses_22 : decode cX0_looses 22 = .ok (.iadd, 1) := dk_96 (dk_at dksX0_looses_0 22 rfl rfl)
theorem dX0_looses_23 : decode cX0_looses 23 = .ok (.istore_n 3, 1) := dk_62 (dk_at dksX0_looses_0 23 rfl rfl)
theorem dX0_looses_24 : decode cX0_looses 24 = .ok (.iconst 0, 1) := dk_3 (dk_at dksX0_looses_1 0 rfl rfl)
theorem dX0_looses_25 : decode cX0_looses 25 = .ok (.istore 4, 2) := dk_54 4 (dk_at dksX0_looses_1 1 rfl rfl)
theorem dX0_looses_27 : decode cX0_looses 27 = .ok (.aload_n 0, 1) := dk_42 (dk_at dksX0_looses_1 3 rfl rfl)
theorem dX0_looses_28 : decode cX0_looses 28 = .ok (.aload_n 1, 1) := dk_43 (dk_at dksX0_looses_1 4 rfl rfl)
theorem dX0_looses_29 : decode cX0_looses 29 = .ok (.iload_n 3, 1) := dk_29 (dk_at dksX0_looses_1 5 rfl rfl)
theorem dX0_looses_30 : decode cX0_looses 30 = .ok (.invokevirtual 121, 3) := dk_182 0 121 (dk_at dksX0_looses_1 6 rfl rfl)
theorem dX0_looses_33 : decode cX0_looses 33 = .ok (.iload_n 2, 1) := dk_28 (dk_at dksX0_looses_1 9 rfl rfl)
theorem dX0_looses_34 : decode cX0_looses 34 = .ok (.if_icmp .eq 36, 3) := dk_159 0 36 (dk_at dksX0_looses_1 10 rfl rfl)
theorem dX0_looses_37 : decode cX0_looses 37 = .ok (.aload_n 1, 1) := dk_43 (dk_at dksX0_looses_1 13 rfl rfl)
theorem dX0_looses_38 : decode cX0_looses 38 = .ok (.bipush 8, 2) := dk_16 8 (dk_at dksX0_looses_1 14 rfl rfl)
theorem dX0_looses_40 : decode cX0_looses 40 = .ok (.aload_n 0, 1) := dk_42 (dk_at dksX0_looses_1 16 rfl rfl)
theorem dX0_looses_41 : decode cX0_looses 41 = .ok (.aload_n 1, 1) := dk_43 (dk_at dksX0_looses_1 17 rfl rfl)
theorem dX0_looses_42 : decode cX0_looses 42 = .ok (.iload_n 3, 1) := dk_29 (dk_at dksX0_looses_1 18 rfl rfl)
theorem dX0_looses_43 : decode cX0_looses 43 = .ok (.invokevirtual 121, 3) := dk_182 0 121 (dk_at dksX0_looses_1 19 rfl rfl)
theorem dX0_looses_46 : decode cX0_looses 46 = .ok (.iadd, 1) := dk_96 (dk_at dksX0_looses_1 22 rfl rfl)
theorem dX0_looses_47 : decode cX0_looses 47 = .ok (.iaload, 1) := dk_46 (dk_at dksX0_looses_1 23 rfl rfl)
theorem dX0_looses_48 : decode cX0_looses 48 = .ok (.ifCond .ne 22, 3) := dk_154 0 22 (dk_at dksX0_looses_2 0 rfl rfl)
theorem dX0_looses_51 : decode cX0_looses 51 = .ok (.iload 4, 2) := dk_21 4 (dk_at dksX0_looses_2 3 rfl rfl)
theorem dX0_looses_53 : decode cX0_looses 53 = .ok (.iconst 1, 1) := dk_4 (dk_at dksX0_looses_2 5 rfl rfl)
theorem dX0_looses_54 : decode cX0_looses 54 = .ok (.aload_n 0, 1) := dk_42 (dk_at dksX0_looses_2 6 rfl rfl)
theorem dX0_looses_55 : decode cX0_looses 55 = .ok (.aload_n 1, 1) := dk_43 (dk_at dksX0_looses_2 7 rfl rfl)
theorem dX0_looses_56 : decode cX0_looses 56 = .ok (.iload_n 3, 1) := dk_29 (dk_at dksX0_looses_2 8 rfl rfl)
theorem dX0_looses_57 : decode cX0_looses 57 = .ok (.invokevirtual 121, 3) := dk_182 0 121 (dk_at dksX0_looses_2 9 rfl rfl)
theorem dX0_looses_60 : decode cX0_looses 60 = .ok (.ishl, 1) := dk_120 (dk_at dksX0_looses_2 12 rfl rfl)
theorem dX0_looses_61 : decode cX0_looses 61 = .ok (.ior, 1) := dk_128 (dk_at dksX0_looses_2 13 rfl rfl)
theorem dX0_looses_62 : decode cX0_looses 62 = .ok (.istore 4, 2) := dk_54 4 (dk_at dksX0_looses_2 14 rfl rfl)
theorem dX0_looses_64 : decode cX0_looses 64 = .ok (.iinc 3 1, 3) := dk_132 3 1 (dk_at dksX0_looses_2 16 rfl rfl)
theorem dX0_looses_67 : decode cX0_looses 67 = .ok (.goto (-40), 3) := dk_167 255 216 (dk_at dksX0_looses_2 19 rfl rfl)
theorem dX0_looses_70 : decode cX0_looses 70 = .ok (.aload_n 0, 1) := dk_42 (dk_at dksX0_looses_2 22 rfl rfl)
theorem dX0_looses_71 : decode cX0_looses 71 = .ok (.aload_n 1, 1) := dk_43 (dk_at dksX0_looses_2 23 rfl rfl)
theorem dX0_looses_72 : decode cX0_looses 72 = .ok (.iload_n 3, 1) := dk_29 (dk_at dksX0_looses_3 0 rfl rfl)
theorem dX0_looses_73 : decode cX0_looses 73 = .ok (.invokevirtual 121, 3) := dk_182 0 121 (dk_at dksX0_looses_3 1 rfl rfl)
theorem dX0_looses_76 : decode cX0_looses 76 = .ok (.iload_n 2, 1) := dk_28 (dk_at dksX0_looses_3 4 rfl rfl)
theorem dX0_looses_77 : decode cX0_looses 77 = .ok (.if_icmp .ne 7, 3) := dk_160 0 7 (dk_at dksX0_looses_3 5 rfl rfl)
theorem dX0_looses_80 : decode cX0_looses 80 = .ok (.iconst (-1), 1) := dk_2 (dk_at dksX0_looses_3 8 rfl rfl)
theorem dX0_looses_81 : decode cX0_looses 81 = .ok (.goto 9, 3) := dk_167 0 9 (dk_at dksX0_looses_3 9 rfl rfl)
theorem dX0_looses_84 : decode cX0_looses 84 = .ok (.aload_n 0, 1) := dk_42 (dk_at dksX0_looses_3 12 rfl rfl)
theorem dX0_looses_85 : decode cX0_looses 85 = .ok (.aload_n 1, 1) := dk_43 (dk_at dksX0_looses_3 13 rfl rfl)
theorem dX0_looses_86 : decode cX0_looses 86 = .ok (.iload_n 3, 1) := dk_29 (dk_at dksX0_looses_3 14 rfl rfl)
theorem dX0_looses_87 : decode cX0_looses 87 = .ok (.invokevirtual 121, 3) := dk_182 0 121 (dk_at dksX0_looses_3 15 rfl rfl)
theorem dX0_looses_90 : decode cX0_looses 90 = .ok (.istore 5, 2) := dk_54 5 (dk_at dksX0_looses_3 18 rfl rfl)
theorem dX0_looses_92 : decode cX0_looses 92 = .ok (.iload 5, 2) := dk_21 5 (dk_at dksX0_looses_3 20 rfl rfl)
theorem dX0_looses_94 : decode cX0_looses 94 = .ok (.iconst (-1), 1) := dk_2 (dk_at dksX0_looses_3 22 rfl rfl)
theorem dX0_looses_95 : decode cX0_looses 95 = .ok (.if_icmp .eq 9, 3) := dk_159 0 9 (dk_at dksX0_looses_4 0 rfl rfl)
theorem dX0_looses_98 : decode cX0_looses 98 = .ok (.aload_n 1, 1) := dk_43 (dk_at dksX0_looses_4 3 rfl rfl)
theorem dX0_looses_99 : decode cX0_looses 99 = .ok (.iload 5, 2) := dk_21 5 (dk_at dksX0_looses_4 4 rfl rfl)
theorem dX0_looses_101 : decode cX0_looses 101 = .ok (.invokestatic 171, 3) := dk_184 0 171 (dk_at dksX0_looses_4 6 rfl rfl)
theorem dX0_looses_104 : decode cX0_looses 104 = .ok (.aload_n 1, 1) := dk_43 (dk_at dksX0_looses_4 9 rfl rfl)
theorem dX0_looses_105 : decode cX0_looses 105 = .ok (.iload_n 2, 1) := dk_28 (dk_at dksX0_looses_4 10 rfl rfl)
theorem dX0_looses_106 : decode cX0_looses 106 = .ok (.iload 4, 2) := dk_21 4 (dk_at dksX0_looses_4 11 rfl rfl)
theorem dX0_looses_108 : decode cX0_looses 108 = .ok (.iload 5, 2) := dk_21 5 (dk_at dksX0_looses_4 13 rfl rfl)
theorem dX0_looses_110 : decode cX0_looses 110 = .ok (.invokestatic 190, 3) := dk_184 0 190 (dk_at dksX0_looses_4 15 rfl rfl)
theorem dX0_looses_113 : decode cX0_looses 113 = .ok (.return_, 1) := dk_177 (dk_at dksX0_looses_4 18 rfl rfl)
abbrev cX0_writes : ByteArray := prog_1_method_32_code
def yX0_writes : MethodName := ⟨RX0, "writes", "([IIII)V"⟩
def dkwX0_writes_3 : List UInt8 := [46, 4, 96, 79, 177]
abbrev dktX0_writes_3 : List UInt8 := dkwX0_writes_3 ++ []
def dkwX0_writes_2 : List UInt8 := [21, 4, 4, 96, 27, 79, 42, 21, 4, 5, 96, 28, 79, 42, 21, 4, 6, 96, 29, 79, 42, 16, 15, 92]
abbrev dktX0_writes_2 : List UInt8 := dkwX0_writes_2 ++ dktX0_writes_3
def dkwX0_writes_1 : List UInt8 := [46, 4, 100, 79, 16, 16, 7, 42, 16, 15, 46, 104, 96, 54, 4, 42, 21, 4, 42, 3, 46, 79, 42]
abbrev dktX0_writes_1 : List UInt8 := dkwX0_writes_1 ++ dktX0_writes_2
def dkwX0_writes_0 : List UInt8 := [42, 16, 15, 46, 16, 25, 160, 0, 22, 42, 16, 20, 42, 16, 16, 16, 96, 184, 0, 184, 42, 16, 15, 92]
abbrev dktX0_writes_0 : List UInt8 := dkwX0_writes_0 ++ dktX0_writes_1
theorem dksX0_writes_0 : cX0_writes.data.toList.drop 0 = dktX0_writes_0 := by decide +kernel
theorem dksX0_writes_1 : cX0_writes.data.toList.drop 24 = dktX0_writes_1 := dk_seg dksX0_writes_0 24 rfl rfl
theorem dksX0_writes_2 : cX0_writes.data.toList.drop 47 = dktX0_writes_2 := dk_seg dksX0_writes_1 23 rfl rfl
theorem dksX0_writes_3 : cX0_writes.data.toList.drop 71 = dktX0_writes_3 := dk_seg dksX0_writes_2 24 rfl rfl
theorem dX0_writes_0 : decode cX0_writes 0 = .ok (.aload_n 0, 1) := dk_42 (dk_at dksX0_writes_0 0 rfl rfl)
theorem dX0_writes_1 : decode cX0_writes 1 = .ok (.bipush 15, 2) := dk_16 15 (dk_at dksX0_writes_0 1 rfl rfl)
theorem dX0_writes_3 : decode cX0_writes 3 = .ok (.iaload, 1) := dk_46 (dk_at dksX0_writes_0 3 rfl rfl)
theorem dX0_writes_4 : decode cX0_writes 4 = .ok (.bipush 25, 2) := dk_16 25 (dk_at dksX0_writes_0 4 rfl rfl)
theorem dX0_writes_6 : decode cX0_writes 6 = .ok (.if_icmp .ne 22, 3) := dk_160 0 22 (dk_at dksX0_writes_0 6 rfl rfl)
theorem dX0_writes_9 : decode cX0_writes 9 = .ok (.aload_n 0, 1) := dk_42 (dk_at dksX0_writes_0 9 rfl rfl)
theorem dX0_writes_10 : decode cX0_writes 10 = .ok (.bipush 20, 2) := dk_16 20 (dk_at dksX0_writes_0 10 rfl rfl)
theorem dX0_writes_12 : decode cX0_writes 12 = .ok (.aload_n 0, 1) := dk_42 (dk_at dksX0_writes_0 12 rfl rfl)
theorem dX0_writes_13 : decode cX0_writes 13 = .ok (.bipush 16, 2) := dk_16 16 (dk_at dksX0_writes_0 13 rfl rfl)
theorem dX0_writes_15 : decode cX0_writes 15 = .ok (.bipush 96, 2) := dk_16 96 (dk_at dksX0_writes_0 15 rfl rfl)
theorem dX0_writes_17 : decode cX0_writes 17 = .ok (.invokestatic 184, 3) := dk_184 0 184 (dk_at dksX0_writes_0 17 rfl rfl)
theorem dX0_writes_20 : decode cX0_writes 20 = .ok (.aload_n 0, 1) := dk_42 (dk_at dksX0_writes_0 20 rfl rfl)
theorem dX0_writes_21 : decode cX0_writes 21 = .ok (.bipush 15, 2) := dk_16 15 (dk_at dksX0_writes_0 21 rfl rfl)
theorem dX0_writes_23 : decode cX0_writes 23 = .ok (.dup2, 1) := dk_92 (dk_at dksX0_writes_0 23 rfl rfl)
theorem dX0_writes_24 : decode cX0_writes 24 = .ok (.iaload, 1) := dk_46 (dk_at dksX0_writes_1 0 rfl rfl)
theorem dX0_writes_25 : decode cX0_writes 25 = .ok (.iconst 1, 1) := dk_4 (dk_at dksX0_writes_1 1 rfl rfl)
theorem dX0_writes_26 : decode cX0_writes 26 = .ok (.isub, 1) := dk_100 (dk_at dksX0_writes_1 2 rfl rfl)
theorem dX0_writes_27 : decode cX0_writes 27 = .ok (.iastore, 1) := dk_79 (dk_at dksX0_writes_1 3 rfl rfl)
theorem dX0_writes_28 : decode cX0_writes 28 = .ok (.bipush 16, 2) := dk_16 16 (dk_at dksX0_writes_1 4 rfl rfl)
theorem dX0_writes_30 : decode cX0_writes 30 = .ok (.iconst 4, 1) := dk_7 (dk_at dksX0_writes_1 6 rfl rfl)
theorem dX0_writes_31 : decode cX0_writes 31 = .ok (.aload_n 0, 1) := dk_42 (dk_at dksX0_writes_1 7 rfl rfl)
theorem dX0_writes_32 : decode cX0_writes 32 = .ok (.bipush 15, 2) := dk_16 15 (dk_at dksX0_writes_1 8 rfl rfl)
theorem dX0_writes_34 : decode cX0_writes 34 = .ok (.iaload, 1) := dk_46 (dk_at dksX0_writes_1 10 rfl rfl)
theorem dX0_writes_35 : decode cX0_writes 35 = .ok (.imul, 1) := dk_104 (dk_at dksX0_writes_1 11 rfl rfl)
theorem dX0_writes_36 : decode cX0_writes 36 = .ok (.iadd, 1) := dk_96 (dk_at dksX0_writes_1 12 rfl rfl)
theorem dX0_writes_37 : decode cX0_writes 37 = .ok (.istore 4, 2) := dk_54 4 (dk_at dksX0_writes_1 13 rfl rfl)
theorem dX0_writes_39 : decode cX0_writes 39 = .ok (.aload_n 0, 1) := dk_42 (dk_at dksX0_writes_1 15 rfl rfl)
theorem dX0_writes_40 : decode cX0_writes 40 = .ok (.iload 4, 2) := dk_21 4 (dk_at dksX0_writes_1 16 rfl rfl)
theorem dX0_writes_42 : decode cX0_writes 42 = .ok (.aload_n 0, 1) := dk_42 (dk_at dksX0_writes_1 18 rfl rfl)
theorem dX0_writes_43 : decode cX0_writes 43 = .ok (.iconst 0, 1) := dk_3 (dk_at dksX0_writes_1 19 rfl rfl)
theorem dX0_writes_44 : decode cX0_writes 44 = .ok (.iaload, 1) := dk_46 (dk_at dksX0_writes_1 20 rfl rfl)
theorem dX0_writes_45 : decode cX0_writes 45 = .ok (.iastore, 1) := dk_79 (dk_at dksX0_writes_1 21 rfl rfl)
theorem dX0_writes_46 : decode cX0_writes 46 = .ok (.aload_n 0, 1) := dk_42 (dk_at dksX0_writes_1 22 rfl rfl)
theorem dX0_writes_47 : decode cX0_writes 47 = .ok (.iload 4, 2) := dk_21 4 (dk_at dksX0_writes_2 0 rfl rfl)
theorem dX0_writes_49 : decode cX0_writes 49 = .ok (.iconst 1, 1) := dk_4 (dk_at dksX0_writes_2 2 rfl rfl)
theorem dX0_writes_50 : decode cX0_writes 50 = .ok (.iadd, 1) := dk_96 (dk_at dksX0_writes_2 3 rfl rfl)
theorem dX0_writes_51 : decode cX0_writes 51 = .ok (.iload_n 1, 1) := dk_27 (dk_at dksX0_writes_2 4 rfl rfl)
theorem dX0_writes_52 : decode cX0_writes 52 = .ok (.iastore, 1) := dk_79 (dk_at dksX0_writes_2 5 rfl rfl)
theorem dX0_writes_53 : decode cX0_writes 53 = .ok (.aload_n 0, 1) := dk_42 (dk_at dksX0_writes_2 6 rfl rfl)
theorem dX0_writes_54 : decode cX0_writes 54 = .ok (.iload 4, 2) := dk_21 4 (dk_at dksX0_writes_2 7 rfl rfl)
theorem dX0_writes_56 : decode cX0_writes 56 = .ok (.iconst 2, 1) := dk_5 (dk_at dksX0_writes_2 9 rfl rfl)
theorem dX0_writes_57 : decode cX0_writes 57 = .ok (.iadd, 1) := dk_96 (dk_at dksX0_writes_2 10 rfl rfl)
theorem dX0_writes_58 : decode cX0_writes 58 = .ok (.iload_n 2, 1) := dk_28 (dk_at dksX0_writes_2 11 rfl rfl)
theorem dX0_writes_59 : decode cX0_writes 59 = .ok (.iastore, 1) := dk_79 (dk_at dksX0_writes_2 12 rfl rfl)
theorem dX0_writes_60 : decode cX0_writes 60 = .ok (.aload_n 0, 1) := dk_42 (dk_at dksX0_writes_2 13 rfl rfl)
theorem dX0_writes_61 : decode cX0_writes 61 = .ok (.iload 4, 2) := dk_21 4 (dk_at dksX0_writes_2 14 rfl rfl)
theorem dX0_writes_63 : decode cX0_writes 63 = .ok (.iconst 3, 1) := dk_6 (dk_at dksX0_writes_2 16 rfl rfl)
theorem dX0_writes_64 : decode cX0_writes 64 = .ok (.iadd, 1) := dk_96 (dk_at dksX0_writes_2 17 rfl rfl)
theorem dX0_writes_65 : decode cX0_writes 65 = .ok (.iload_n 3, 1) := dk_29 (dk_at dksX0_writes_2 18 rfl rfl)
theorem dX0_writes_66 : decode cX0_writes 66 = .ok (.iastore, 1) := dk_79 (dk_at dksX0_writes_2 19 rfl rfl)
theorem dX0_writes_67 : decode cX0_writes 67 = .ok (.aload_n 0, 1) := dk_42 (dk_at dksX0_writes_2 20 rfl rfl)
theorem dX0_writes_68 : decode cX0_writes 68 = .ok (.bipush 15, 2) := dk_16 15 (dk_at dksX0_writes_2 21 rfl rfl)
theorem dX0_writes_70 : decode cX0_writes 70 = .ok (.dup2, 1) := dk_92 (dk_at dksX0_writes_2 23 rfl rfl)
theorem dX0_writes_71 : decode cX0_writes 71 = .ok (.iaload, 1) := dk_46 (dk_at dksX0_writes_3 0 rfl rfl)
theorem dX0_writes_72 : decode cX0_writes 72 = .ok (.iconst 1, 1) := dk_4 (dk_at dksX0_writes_3 1 rfl rfl)
theorem dX0_writes_73 : decode cX0_writes 73 = .ok (.iadd, 1) := dk_96 (dk_at dksX0_writes_3 2 rfl rfl)
theorem dX0_writes_74 : decode cX0_writes 74 = .ok (.iastore, 1) := dk_79 (dk_at dksX0_writes_3 3 rfl rfl)
theorem dX0_writes_75 : decode cX0_writes 75 = .ok (.return_, 1) := dk_177 (dk_at dksX0_writes_3 4 rfl rfl)
abbrev cX0_played : ByteArray := prog_1_method_38_code
def yX0_played : MethodName := ⟨RX0, "played", "(I)I"⟩
def dkwX0_played_2 : List UInt8 := [154, 0, 15, 44, 29, 182, 0, 253, 192, 0, 216, 182, 1, 5, 172, 132, 3, 1, 167, 255, 218, 2, 172]
abbrev dktX0_played_2 : List UInt8 := dkwX0_played_2 ++ []
def dkwX0_played_1 : List UInt8 := [3, 62, 29, 44, 182, 0, 248, 162, 0, 36, 42, 44, 29, 182, 0, 253, 192, 0, 216, 182, 1, 1]
abbrev dktX0_played_1 : List UInt8 := dkwX0_played_1 ++ dktX0_played_2
def dkwX0_played_0 : List UInt8 := [42, 27, 182, 0, 109, 154, 0, 6, 16, 254, 172, 42, 180, 0, 21, 180, 0, 90, 27, 50, 180, 0, 244, 77]
abbrev dktX0_played_0 : List UInt8 := dkwX0_played_0 ++ dktX0_played_1
theorem dksX0_played_0 : cX0_played.data.toList.drop 0 = dktX0_played_0 := by decide +kernel
theorem dksX0_played_1 : cX0_played.data.toList.drop 24 = dktX0_played_1 := dk_seg dksX0_played_0 24 rfl rfl
theorem dksX0_played_2 : cX0_played.data.toList.drop 46 = dktX0_played_2 := dk_seg dksX0_played_1 22 rfl rfl
theorem dX0_played_0 : decode cX0_played 0 = .ok (.aload_n 0, 1) := dk_42 (dk_at dksX0_played_0 0 rfl rfl)
theorem dX0_played_1 : decode cX0_played 1 = .ok (.iload_n 1, 1) := dk_27 (dk_at dksX0_played_0 1 rfl rfl)
theorem dX0_played_2 : decode cX0_played 2 = .ok (.invokevirtual 109, 3) := dk_182 0 109 (dk_at dksX0_played_0 2 rfl rfl)
theorem dX0_played_5 : decode cX0_played 5 = .ok (.ifCond .ne 6, 3) := dk_154 0 6 (dk_at dksX0_played_0 5 rfl rfl)
theorem dX0_played_8 : decode cX0_played 8 = .ok (.bipush (-2), 2) := dk_16 254 (dk_at dksX0_played_0 8 rfl rfl)
theorem dX0_played_10 : decode cX0_played 10 = .ok (.ireturn, 1) := dk_172 (dk_at dksX0_played_0 10 rfl rfl)
theorem dX0_played_11 : decode cX0_played 11 = .ok (.aload_n 0, 1) := dk_42 (dk_at dksX0_played_0 11 rfl rfl)
theorem dX0_played_12 : decode cX0_played 12 = .ok (.getfield 21, 3) := dk_180 0 21 (dk_at dksX0_played_0 12 rfl rfl)
theorem dX0_played_15 : decode cX0_played 15 = .ok (.getfield 90, 3) := dk_180 0 90 (dk_at dksX0_played_0 15 rfl rfl)
theorem dX0_played_18 : decode cX0_played 18 = .ok (.iload_n 1, 1) := dk_27 (dk_at dksX0_played_0 18 rfl rfl)
theorem dX0_played_19 : decode cX0_played 19 = .ok (.aaload, 1) := dk_50 (dk_at dksX0_played_0 19 rfl rfl)
theorem dX0_played_20 : decode cX0_played 20 = .ok (.getfield 244, 3) := dk_180 0 244 (dk_at dksX0_played_0 20 rfl rfl)
theorem dX0_played_23 : decode cX0_played 23 = .ok (.astore_n 2, 1) := dk_77 (dk_at dksX0_played_0 23 rfl rfl)
theorem dX0_played_24 : decode cX0_played 24 = .ok (.iconst 0, 1) := dk_3 (dk_at dksX0_played_1 0 rfl rfl)
theorem dX0_played_25 : decode cX0_played 25 = .ok (.istore_n 3, 1) := dk_62 (dk_at dksX0_played_1 1 rfl rfl)
theorem dX0_played_26 : decode cX0_played 26 = .ok (.iload_n 3, 1) := dk_29 (dk_at dksX0_played_1 2 rfl rfl)
theorem dX0_played_27 : decode cX0_played 27 = .ok (.aload_n 2, 1) := dk_44 (dk_at dksX0_played_1 3 rfl rfl)
theorem dX0_played_28 : decode cX0_played 28 = .ok (.invokevirtual 248, 3) := dk_182 0 248 (dk_at dksX0_played_1 4 rfl rfl)
theorem dX0_played_31 : decode cX0_played 31 = .ok (.if_icmp .ge 36, 3) := dk_162 0 36 (dk_at dksX0_played_1 7 rfl rfl)
theorem dX0_played_34 : decode cX0_played 34 = .ok (.aload_n 0, 1) := dk_42 (dk_at dksX0_played_1 10 rfl rfl)
theorem dX0_played_35 : decode cX0_played 35 = .ok (.aload_n 2, 1) := dk_44 (dk_at dksX0_played_1 11 rfl rfl)
theorem dX0_played_36 : decode cX0_played 36 = .ok (.iload_n 3, 1) := dk_29 (dk_at dksX0_played_1 12 rfl rfl)
theorem dX0_played_37 : decode cX0_played 37 = .ok (.invokevirtual 253, 3) := dk_182 0 253 (dk_at dksX0_played_1 13 rfl rfl)
theorem dX0_played_40 : decode cX0_played 40 = .ok (.checkcast 216, 3) := dk_192 0 216 (dk_at dksX0_played_1 16 rfl rfl)
theorem dX0_played_43 : decode cX0_played 43 = .ok (.invokevirtual 257, 3) := dk_182 1 1 (dk_at dksX0_played_1 19 rfl rfl)
theorem dX0_played_46 : decode cX0_played 46 = .ok (.ifCond .ne 15, 3) := dk_154 0 15 (dk_at dksX0_played_2 0 rfl rfl)
theorem dX0_played_49 : decode cX0_played 49 = .ok (.aload_n 2, 1) := dk_44 (dk_at dksX0_played_2 3 rfl rfl)
theorem dX0_played_50 : decode cX0_played 50 = .ok (.iload_n 3, 1) := dk_29 (dk_at dksX0_played_2 4 rfl rfl)
theorem dX0_played_51 : decode cX0_played 51 = .ok (.invokevirtual 253, 3) := dk_182 0 253 (dk_at dksX0_played_2 5 rfl rfl)
theorem dX0_played_54 : decode cX0_played 54 = .ok (.checkcast 216, 3) := dk_192 0 216 (dk_at dksX0_played_2 8 rfl rfl)
theorem dX0_played_57 : decode cX0_played 57 = .ok (.invokevirtual 261, 3) := dk_182 1 5 (dk_at dksX0_played_2 11 rfl rfl)
theorem dX0_played_60 : decode cX0_played 60 = .ok (.ireturn, 1) := dk_172 (dk_at dksX0_played_2 14 rfl rfl)
theorem dX0_played_61 : decode cX0_played 61 = .ok (.iinc 3 1, 3) := dk_132 3 1 (dk_at dksX0_played_2 15 rfl rfl)
theorem dX0_played_64 : decode cX0_played 64 = .ok (.goto (-38), 3) := dk_167 255 218 (dk_at dksX0_played_2 18 rfl rfl)
theorem dX0_played_67 : decode cX0_played 67 = .ok (.iconst (-1), 1) := dk_2 (dk_at dksX0_played_2 21 rfl rfl)
theorem dX0_played_68 : decode cX0_played 68 = .ok (.ireturn, 1) := dk_172 (dk_at dksX0_played_2 22 rfl rfl)
abbrev cX0_does : ByteArray := prog_1_method_37_code
def yX0_does : MethodName := ⟨RX0, "does", "(LQuiverKin$Doing;)Z"⟩
def dkwX0_does_5 : List UInt8 := [182, 0, 223, 182, 0, 238, 172, 42, 43, 182, 0, 220, 182, 0, 241, 172]
abbrev dktX0_does_5 : List UInt8 := dkwX0_does_5 ++ []
def dkwX0_does_4 : List UInt8 := [182, 0, 223, 182, 0, 232, 172, 42, 43, 182, 0, 220, 182, 0, 235, 172, 42, 43, 182, 0, 220, 43]
abbrev dktX0_does_4 : List UInt8 := dkwX0_does_4 ++ dktX0_does_5
def dkwX0_does_3 : List UInt8 := [182, 0, 220, 182, 0, 229, 2, 159, 0, 7, 4, 167, 0, 4, 3, 172, 42, 43, 182, 0, 220, 43]
abbrev dktX0_does_3 : List UInt8 := dkwX0_does_3 ++ dktX0_does_4
def dkwX0_does_2 : List UInt8 := [42, 43, 182, 0, 220, 43, 182, 0, 223, 182, 0, 226, 2, 159, 0, 7, 4, 167, 0, 4, 3, 172, 42, 43]
abbrev dktX0_does_2 : List UInt8 := dkwX0_does_2 ++ dktX0_does_3
def dkwX0_does_1 : List UInt8 := [170, 0, 0, 0, 0, 0, 0, 111, 0, 0, 0, 202, 0, 0, 0, 206, 0, 0, 0, 36, 0, 0, 0, 58, 0, 0, 0, 76, 0, 0, 0, 89, 0, 0, 0, 98]
abbrev dktX0_does_1 : List UInt8 := dkwX0_does_1 ++ dktX0_does_2
def dkwX0_does_0 : List UInt8 := [43, 182, 0, 215]
abbrev dktX0_does_0 : List UInt8 := dkwX0_does_0 ++ dktX0_does_1
theorem dksX0_does_0 : cX0_does.data.toList.drop 0 = dktX0_does_0 := by decide +kernel
theorem dksX0_does_1 : cX0_does.data.toList.drop 4 = dktX0_does_1 := dk_seg dksX0_does_0 4 rfl rfl
theorem dksX0_does_2 : cX0_does.data.toList.drop 40 = dktX0_does_2 := dk_seg dksX0_does_1 36 rfl rfl
theorem dksX0_does_3 : cX0_does.data.toList.drop 64 = dktX0_does_3 := dk_seg dksX0_does_2 24 rfl rfl
theorem dksX0_does_4 : cX0_does.data.toList.drop 86 = dktX0_does_4 := dk_seg dksX0_does_3 22 rfl rfl
theorem dksX0_does_5 : cX0_does.data.toList.drop 108 = dktX0_does_5 := dk_seg dksX0_does_4 22 rfl rfl
theorem dX0_does_0 : decode cX0_does 0 = .ok (.aload_n 1, 1) := dk_43 (dk_at dksX0_does_0 0 rfl rfl)
theorem dX0_does_1 : decode cX0_does 1 = .ok (.invokevirtual 215, 3) := dk_182 0 215 (dk_at dksX0_does_0 1 rfl rfl)
theorem dX0_does_4 : decode cX0_does 4 = .ok (.tableswitch 111 202 206 #[36, 58, 76, 89, 98], 36) := by decide +kernel
theorem dX0_does_40 : decode cX0_does 40 = .ok (.aload_n 0, 1) := dk_42 (dk_at dksX0_does_2 0 rfl rfl)
theorem dX0_does_41 : decode cX0_does 41 = .ok (.aload_n 1, 1) := dk_43 (dk_at dksX0_does_2 1 rfl rfl)
theorem dX0_does_42 : decode cX0_does 42 = .ok (.invokevirtual 220, 3) := dk_182 0 220 (dk_at dksX0_does_2 2 rfl rfl)
theorem dX0_does_45 : decode cX0_does 45 = .ok (.aload_n 1, 1) := dk_43 (dk_at dksX0_does_2 5 rfl rfl)
theorem dX0_does_46 : decode cX0_does 46 = .ok (.invokevirtual 223, 3) := dk_182 0 223 (dk_at dksX0_does_2 6 rfl rfl)
theorem dX0_does_49 : decode cX0_does 49 = .ok (.invokevirtual 226, 3) := dk_182 0 226 (dk_at dksX0_does_2 9 rfl rfl)
theorem dX0_does_52 : decode cX0_does 52 = .ok (.iconst (-1), 1) := dk_2 (dk_at dksX0_does_2 12 rfl rfl)
theorem dX0_does_53 : decode cX0_does 53 = .ok (.if_icmp .eq 7, 3) := dk_159 0 7 (dk_at dksX0_does_2 13 rfl rfl)
theorem dX0_does_56 : decode cX0_does 56 = .ok (.iconst 1, 1) := dk_4 (dk_at dksX0_does_2 16 rfl rfl)
theorem dX0_does_57 : decode cX0_does 57 = .ok (.goto 4, 3) := dk_167 0 4 (dk_at dksX0_does_2 17 rfl rfl)
theorem dX0_does_60 : decode cX0_does 60 = .ok (.iconst 0, 1) := dk_3 (dk_at dksX0_does_2 20 rfl rfl)
theorem dX0_does_61 : decode cX0_does 61 = .ok (.ireturn, 1) := dk_172 (dk_at dksX0_does_2 21 rfl rfl)
theorem dX0_does_62 : decode cX0_does 62 = .ok (.aload_n 0, 1) := dk_42 (dk_at dksX0_does_2 22 rfl rfl)
theorem dX0_does_63 : decode cX0_does 63 = .ok (.aload_n 1, 1) := dk_43 (dk_at dksX0_does_2 23 rfl rfl)
theorem dX0_does_64 : decode cX0_does 64 = .ok (.invokevirtual 220, 3) := dk_182 0 220 (dk_at dksX0_does_3 0 rfl rfl)
theorem dX0_does_67 : decode cX0_does 67 = .ok (.invokevirtual 229, 3) := dk_182 0 229 (dk_at dksX0_does_3 3 rfl rfl)
theorem dX0_does_70 : decode cX0_does 70 = .ok (.iconst (-1), 1) := dk_2 (dk_at dksX0_does_3 6 rfl rfl)
theorem dX0_does_71 : decode cX0_does 71 = .ok (.if_icmp .eq 7, 3) := dk_159 0 7 (dk_at dksX0_does_3 7 rfl rfl)
theorem dX0_does_74 : decode cX0_does 74 = .ok (.iconst 1, 1) := dk_4 (dk_at dksX0_does_3 10 rfl rfl)
theorem dX0_does_75 : decode cX0_does 75 = .ok (.goto 4, 3) := dk_167 0 4 (dk_at dksX0_does_3 11 rfl rfl)
theorem dX0_does_78 : decode cX0_does 78 = .ok (.iconst 0, 1) := dk_3 (dk_at dksX0_does_3 14 rfl rfl)
theorem dX0_does_79 : decode cX0_does 79 = .ok (.ireturn, 1) := dk_172 (dk_at dksX0_does_3 15 rfl rfl)
theorem dX0_does_80 : decode cX0_does 80 = .ok (.aload_n 0, 1) := dk_42 (dk_at dksX0_does_3 16 rfl rfl)
theorem dX0_does_81 : decode cX0_does 81 = .ok (.aload_n 1, 1) := dk_43 (dk_at dksX0_does_3 17 rfl rfl)
theorem dX0_does_82 : decode cX0_does 82 = .ok (.invokevirtual 220, 3) := dk_182 0 220 (dk_at dksX0_does_3 18 rfl rfl)
theorem dX0_does_85 : decode cX0_does 85 = .ok (.aload_n 1, 1) := dk_43 (dk_at dksX0_does_3 21 rfl rfl)
theorem dX0_does_86 : decode cX0_does 86 = .ok (.invokevirtual 223, 3) := dk_182 0 223 (dk_at dksX0_does_4 0 rfl rfl)
theorem dX0_does_89 : decode cX0_does 89 = .ok (.invokevirtual 232, 3) := dk_182 0 232 (dk_at dksX0_does_4 3 rfl rfl)
theorem dX0_does_92 : decode cX0_does 92 = .ok (.ireturn, 1) := dk_172 (dk_at dksX0_does_4 6 rfl rfl)
theorem dX0_does_93 : decode cX0_does 93 = .ok (.aload_n 0, 1) := dk_42 (dk_at dksX0_does_4 7 rfl rfl)
theorem dX0_does_94 : decode cX0_does 94 = .ok (.aload_n 1, 1) := dk_43 (dk_at dksX0_does_4 8 rfl rfl)
theorem dX0_does_95 : decode cX0_does 95 = .ok (.invokevirtual 220, 3) := dk_182 0 220 (dk_at dksX0_does_4 9 rfl rfl)
theorem dX0_does_98 : decode cX0_does 98 = .ok (.invokevirtual 235, 3) := dk_182 0 235 (dk_at dksX0_does_4 12 rfl rfl)
theorem dX0_does_101 : decode cX0_does 101 = .ok (.ireturn, 1) := dk_172 (dk_at dksX0_does_4 15 rfl rfl)
theorem dX0_does_102 : decode cX0_does 102 = .ok (.aload_n 0, 1) := dk_42 (dk_at dksX0_does_4 16 rfl rfl)
theorem dX0_does_103 : decode cX0_does 103 = .ok (.aload_n 1, 1) := dk_43 (dk_at dksX0_does_4 17 rfl rfl)
theorem dX0_does_104 : decode cX0_does 104 = .ok (.invokevirtual 220, 3) := dk_182 0 220 (dk_at dksX0_does_4 18 rfl rfl)
theorem dX0_does_107 : decode cX0_does 107 = .ok (.aload_n 1, 1) := dk_43 (dk_at dksX0_does_4 21 rfl rfl)
theorem dX0_does_108 : decode cX0_does 108 = .ok (.invokevirtual 223, 3) := dk_182 0 223 (dk_at dksX0_does_5 0 rfl rfl)
theorem dX0_does_111 : decode cX0_does 111 = .ok (.invokevirtual 238, 3) := dk_182 0 238 (dk_at dksX0_does_5 3 rfl rfl)
theorem dX0_does_114 : decode cX0_does 114 = .ok (.ireturn, 1) := dk_172 (dk_at dksX0_does_5 6 rfl rfl)
theorem dX0_does_115 : decode cX0_does 115 = .ok (.aload_n 0, 1) := dk_42 (dk_at dksX0_does_5 7 rfl rfl)
theorem dX0_does_116 : decode cX0_does 116 = .ok (.aload_n 1, 1) := dk_43 (dk_at dksX0_does_5 8 rfl rfl)
theorem dX0_does_117 : decode cX0_does 117 = .ok (.invokevirtual 220, 3) := dk_182 0 220 (dk_at dksX0_does_5 9 rfl rfl)
theorem dX0_does_120 : decode cX0_does 120 = .ok (.invokevirtual 241, 3) := dk_182 0 241 (dk_at dksX0_does_5 12 rfl rfl)
theorem dX0_does_123 : decode cX0_does 123 = .ok (.ireturn, 1) := dk_172 (dk_at dksX0_does_5 15 rfl rfl)
abbrev cX0_passesAll : ByteArray := prog_1_method_36_code
def yX0_passesAll : MethodName := ⟨RX0, "passesAll", "(I)Z"⟩
def dkwX0_passesAll_1 : List UInt8 := [4, 172]
abbrev dktX0_passesAll_1 : List UInt8 := dkwX0_passesAll_1 ++ []
def dkwX0_passesAll_0 : List UInt8 := [3, 61, 28, 27, 162, 0, 20, 42, 4, 182, 0, 211, 2, 160, 0, 5, 3, 172, 132, 2, 1, 167, 255, 237]
abbrev dktX0_passesAll_0 : List UInt8 := dkwX0_passesAll_0 ++ dktX0_passesAll_1
theorem dksX0_passesAll_0 : cX0_passesAll.data.toList.drop 0 = dktX0_passesAll_0 := by decide +kernel
theorem dksX0_passesAll_1 : cX0_passesAll.data.toList.drop 24 = dktX0_passesAll_1 := dk_seg dksX0_passesAll_0 24 rfl rfl
theorem dX0_passesAll_0 : decode cX0_passesAll 0 = .ok (.iconst 0, 1) := dk_3 (dk_at dksX0_passesAll_0 0 rfl rfl)
theorem dX0_passesAll_1 : decode cX0_passesAll 1 = .ok (.istore_n 2, 1) := dk_61 (dk_at dksX0_passesAll_0 1 rfl rfl)
theorem dX0_passesAll_2 : decode cX0_passesAll 2 = .ok (.iload_n 2, 1) := dk_28 (dk_at dksX0_passesAll_0 2 rfl rfl)
theorem dX0_passesAll_3 : decode cX0_passesAll 3 = .ok (.iload_n 1, 1) := dk_27 (dk_at dksX0_passesAll_0 3 rfl rfl)
theorem dX0_passesAll_4 : decode cX0_passesAll 4 = .ok (.if_icmp .ge 20, 3) := dk_162 0 20 (dk_at dksX0_passesAll_0 4 rfl rfl)
theorem dX0_passesAll_7 : decode cX0_passesAll 7 = .ok (.aload_n 0, 1) := dk_42 (dk_at dksX0_passesAll_0 7 rfl rfl)
theorem dX0_passesAll_8 : decode cX0_passesAll 8 = .ok (.iconst 1, 1) := dk_4 (dk_at dksX0_passesAll_0 8 rfl rfl)
theorem dX0_passesAll_9 : decode cX0_passesAll 9 = .ok (.invokevirtual 211, 3) := dk_182 0 211 (dk_at dksX0_passesAll_0 9 rfl rfl)
theorem dX0_passesAll_12 : decode cX0_passesAll 12 = .ok (.iconst (-1), 1) := dk_2 (dk_at dksX0_passesAll_0 12 rfl rfl)
theorem dX0_passesAll_13 : decode cX0_passesAll 13 = .ok (.if_icmp .ne 5, 3) := dk_160 0 5 (dk_at dksX0_passesAll_0 13 rfl rfl)
theorem dX0_passesAll_16 : decode cX0_passesAll 16 = .ok (.iconst 0, 1) := dk_3 (dk_at dksX0_passesAll_0 16 rfl rfl)
theorem dX0_passesAll_17 : decode cX0_passesAll 17 = .ok (.ireturn, 1) := dk_172 (dk_at dksX0_passesAll_0 17 rfl rfl)
theorem dX0_passesAll_18 : decode cX0_passesAll 18 = .ok (.iinc 2 1, 3) := dk_132 2 1 (dk_at dksX0_passesAll_0 18 rfl rfl)
theorem dX0_passesAll_21 : decode cX0_passesAll 21 = .ok (.goto (-19), 3) := dk_167 255 237 (dk_at dksX0_passesAll_0 21 rfl rfl)
theorem dX0_passesAll_24 : decode cX0_passesAll 24 = .ok (.iconst 1, 1) := dk_4 (dk_at dksX0_passesAll_1 0 rfl rfl)
theorem dX0_passesAll_25 : decode cX0_passesAll 25 = .ok (.ireturn, 1) := dk_172 (dk_at dksX0_passesAll_1 1 rfl rfl)
abbrev cX0_years : ByteArray := prog_1_method_40_code
def yX0_years : MethodName := ⟨RX0, "years", "(II)I"⟩
def dkwX0_years_6 : List UInt8 := [3, 46, 172]
abbrev dktX0_years_6 : List UInt8 := dkwX0_years_6 ++ []
def dkwX0_years_5 : List UInt8 := [180, 0, 21, 180, 0, 155, 182, 0, 207, 96, 62, 132, 4, 1, 167, 255, 175, 42, 180, 0, 21, 180, 0, 155]
abbrev dktX0_years_5 : List UInt8 := dkwX0_years_5 ++ dktX0_years_6
def dkwX0_years_4 : List UInt8 := [182, 1, 8, 167, 0, 32, 42, 180, 0, 21, 180, 0, 155, 3, 46, 17, 39, 15, 162, 0, 17, 29, 42, 42]
abbrev dktX0_years_4 : List UInt8 := dkwX0_years_4 ++ dktX0_years_5
def dkwX0_years_3 : List UInt8 := [180, 0, 155, 16, 10, 184, 0, 194, 54, 6, 21, 5, 16, 6, 112, 7, 162, 0, 12, 42, 21, 5]
abbrev dktX0_years_3 : List UInt8 := dkwX0_years_3 ++ dktX0_years_4
def dkwX0_years_2 : List UInt8 := [3, 54, 4, 21, 4, 28, 162, 0, 81, 42, 180, 0, 21, 180, 0, 155, 4, 46, 54, 5, 42, 180, 0, 21]
abbrev dktX0_years_2 : List UInt8 := dkwX0_years_2 ++ dktX0_years_3
def dkwX0_years_1 : List UInt8 := [180, 0, 21, 182, 0, 168, 42, 180, 0, 21, 180, 0, 155, 4, 27, 5, 104, 17, 1, 165, 96, 79, 3, 62]
abbrev dktX0_years_1 : List UInt8 := dkwX0_years_1 ++ dktX0_years_2
def dkwX0_years_0 : List UInt8 := [27, 3, 17, 39, 15, 184, 0, 72, 153, 0, 13, 28, 4, 16, 40, 184, 0, 72, 154, 0, 5, 2, 172, 42]
abbrev dktX0_years_0 : List UInt8 := dkwX0_years_0 ++ dktX0_years_1
theorem dksX0_years_0 : cX0_years.data.toList.drop 0 = dktX0_years_0 := by decide +kernel
theorem dksX0_years_1 : cX0_years.data.toList.drop 24 = dktX0_years_1 := dk_seg dksX0_years_0 24 rfl rfl
theorem dksX0_years_2 : cX0_years.data.toList.drop 48 = dktX0_years_2 := dk_seg dksX0_years_1 24 rfl rfl
theorem dksX0_years_3 : cX0_years.data.toList.drop 72 = dktX0_years_3 := dk_seg dksX0_years_2 24 rfl rfl
theorem dksX0_years_4 : cX0_years.data.toList.drop 94 = dktX0_years_4 := dk_seg dksX0_years_3 22 rfl rfl
theorem dksX0_years_5 : cX0_years.data.toList.drop 118 = dktX0_years_5 := dk_seg dksX0_years_4 24 rfl rfl
theorem dksX0_years_6 : cX0_years.data.toList.drop 142 = dktX0_years_6 := dk_seg dksX0_years_5 24 rfl rfl
theorem dX0_years_0 : decode cX0_years 0 = .ok (.iload_n 1, 1) := dk_27 (dk_at dksX0_years_0 0 rfl rfl)
theorem dX0_years_1 : decode cX0_years 1 = .ok (.iconst 0, 1) := dk_3 (dk_at dksX0_years_0 1 rfl rfl)
theorem dX0_years_2 : decode cX0_years 2 = .ok (.sipush 9999, 3) := dk_17 39 15 (dk_at dksX0_years_0 2 rfl rfl)
theorem dX0_years_5 : decode cX0_years 5 = .ok (.invokestatic 72, 3) := dk_184 0 72 (dk_at dksX0_years_0 5 rfl rfl)
theorem dX0_years_8 : decode cX0_years 8 = .ok (.ifCond .eq 13, 3) := dk_153 0 13 (dk_at dksX0_years_0 8 rfl rfl)
theorem dX0_years_11 : decode cX0_years 11 = .ok (.iload_n 2, 1) := dk_28 (dk_at dksX0_years_0 11 rfl rfl)
theorem dX0_years_12 : decode cX0_years 12 = .ok (.iconst 1, 1) := dk_4 (dk_at dksX0_years_0 12 rfl rfl)
theorem dX0_years_13 : decode cX0_years 13 = .ok (.bipush 40, 2) := dk_16 40 (dk_at dksX0_years_0 13 rfl rfl)
theorem dX0_years_15 : decode cX0_years 15 = .ok (.invokestatic 72, 3) := dk_184 0 72 (dk_at dksX0_years_0 15 rfl rfl)
theorem dX0_years_18 : decode cX0_years 18 = .ok (.ifCond .ne 5, 3) := dk_154 0 5 (dk_at dksX0_years_0 18 rfl rfl)
theorem dX0_years_21 : decode cX0_years 21 = .ok (.iconst (-1), 1) := dk_2 (dk_at dksX0_years_0 21 rfl rfl)
theorem dX0_years_22 : decode cX0_years 22 = .ok (.ireturn, 1) := dk_172 (dk_at dksX0_years_0 22 rfl rfl)
theorem dX0_years_23 : decode cX0_years 23 = .ok (.aload_n 0, 1) := dk_42 (dk_at dksX0_years_0 23 rfl rfl)
theorem dX0_years_24 : decode cX0_years 24 = .ok (.getfield 21, 3) := dk_180 0 21 (dk_at dksX0_years_1 0 rfl rfl)
theorem dX0_years_27 : decode cX0_years 27 = .ok (.invokevirtual 168, 3) := dk_182 0 168 (dk_at dksX0_years_1 3 rfl rfl)
theorem dX0_years_30 : decode cX0_years 30 = .ok (.aload_n 0, 1) := dk_42 (dk_at dksX0_years_1 6 rfl rfl)
theorem dX0_years_31 : decode cX0_years 31 = .ok (.getfield 21, 3) := dk_180 0 21 (dk_at dksX0_years_1 7 rfl rfl)
theorem dX0_years_34 : decode cX0_years 34 = .ok (.getfield 155, 3) := dk_180 0 155 (dk_at dksX0_years_1 10 rfl rfl)
theorem dX0_years_37 : decode cX0_years 37 = .ok (.iconst 1, 1) := dk_4 (dk_at dksX0_years_1 13 rfl rfl)
theorem dX0_years_38 : decode cX0_years 38 = .ok (.iload_n 1, 1) := dk_27 (dk_at dksX0_years_1 14 rfl rfl)
theorem dX0_years_39 : decode cX0_years 39 = .ok (.iconst 2, 1) := dk_5 (dk_at dksX0_years_1 15 rfl rfl)
theorem dX0_years_40 : decode cX0_years 40 = .ok (.imul, 1) := dk_104 (dk_at dksX0_years_1 16 rfl rfl)
theorem dX0_years_41 : decode cX0_years 41 = .ok (.sipush 421, 3) := dk_17 1 165 (dk_at dksX0_years_1 17 rfl rfl)
theorem dX0_years_44 : decode cX0_years 44 = .ok (.iadd, 1) := dk_96 (dk_at dksX0_years_1 20 rfl rfl)
theorem dX0_years_45 : decode cX0_years 45 = .ok (.iastore, 1) := dk_79 (dk_at dksX0_years_1 21 rfl rfl)
theorem dX0_years_46 : decode cX0_years 46 = .ok (.iconst 0, 1) := dk_3 (dk_at dksX0_years_1 22 rfl rfl)
theorem dX0_years_47 : decode cX0_years 47 = .ok (.istore_n 3, 1) := dk_62 (dk_at dksX0_years_1 23 rfl rfl)
theorem dX0_years_48 : decode cX0_years 48 = .ok (.iconst 0, 1) := dk_3 (dk_at dksX0_years_2 0 rfl rfl)
theorem dX0_years_49 : decode cX0_years 49 = .ok (.istore 4, 2) := dk_54 4 (dk_at dksX0_years_2 1 rfl rfl)
theorem dX0_years_51 : decode cX0_years 51 = .ok (.iload 4, 2) := dk_21 4 (dk_at dksX0_years_2 3 rfl rfl)
theorem dX0_years_53 : decode cX0_years 53 = .ok (.iload_n 2, 1) := dk_28 (dk_at dksX0_years_2 5 rfl rfl)
theorem dX0_years_54 : decode cX0_years 54 = .ok (.if_icmp .ge 81, 3) := dk_162 0 81 (dk_at dksX0_years_2 6 rfl rfl)
theorem dX0_years_57 : decode cX0_years 57 = .ok (.aload_n 0, 1) := dk_42 (dk_at dksX0_years_2 9 rfl rfl)
theorem dX0_years_58 : decode cX0_years 58 = .ok (.getfield 21, 3) := dk_180 0 21 (dk_at dksX0_years_2 10 rfl rfl)
theorem dX0_years_61 : decode cX0_years 61 = .ok (.getfield 155, 3) := dk_180 0 155 (dk_at dksX0_years_2 13 rfl rfl)
theorem dX0_years_64 : decode cX0_years 64 = .ok (.iconst 1, 1) := dk_4 (dk_at dksX0_years_2 16 rfl rfl)
theorem dX0_years_65 : decode cX0_years 65 = .ok (.iaload, 1) := dk_46 (dk_at dksX0_years_2 17 rfl rfl)
theorem dX0_years_66 : decode cX0_years 66 = .ok (.istore 5, 2) := dk_54 5 (dk_at dksX0_years_2 18 rfl rfl)
theorem dX0_years_68 : decode cX0_years 68 = .ok (.aload_n 0, 1) := dk_42 (dk_at dksX0_years_2 20 rfl rfl)
theorem dX0_years_69 : decode cX0_years 69 = .ok (.getfield 21, 3) := dk_180 0 21 (dk_at dksX0_years_2 21 rfl rfl)
theorem dX0_years_72 : decode cX0_years 72 = .ok (.getfield 155, 3) := dk_180 0 155 (dk_at dksX0_years_3 0 rfl rfl)
theorem dX0_years_75 : decode cX0_years 75 = .ok (.bipush 10, 2) := dk_16 10 (dk_at dksX0_years_3 3 rfl rfl)
theorem dX0_years_77 : decode cX0_years 77 = .ok (.invokestatic 194, 3) := dk_184 0 194 (dk_at dksX0_years_3 5 rfl rfl)
theorem dX0_years_80 : decode cX0_years 80 = .ok (.istore 6, 2) := dk_54 6 (dk_at dksX0_years_3 8 rfl rfl)
theorem dX0_years_82 : decode cX0_years 82 = .ok (.iload 5, 2) := dk_21 5 (dk_at dksX0_years_3 10 rfl rfl)
theorem dX0_years_84 : decode cX0_years 84 = .ok (.bipush 6, 2) := dk_16 6 (dk_at dksX0_years_3 12 rfl rfl)
theorem dX0_years_86 : decode cX0_years 86 = .ok (.irem, 1) := dk_112 (dk_at dksX0_years_3 14 rfl rfl)
theorem dX0_years_87 : decode cX0_years 87 = .ok (.iconst 4, 1) := dk_7 (dk_at dksX0_years_3 15 rfl rfl)
theorem dX0_years_88 : decode cX0_years 88 = .ok (.if_icmp .ge 12, 3) := dk_162 0 12 (dk_at dksX0_years_3 16 rfl rfl)
theorem dX0_years_91 : decode cX0_years 91 = .ok (.aload_n 0, 1) := dk_42 (dk_at dksX0_years_3 19 rfl rfl)
theorem dX0_years_92 : decode cX0_years 92 = .ok (.iload 5, 2) := dk_21 5 (dk_at dksX0_years_3 20 rfl rfl)
theorem dX0_years_94 : decode cX0_years 94 = .ok (.invokevirtual 264, 3) := dk_182 1 8 (dk_at dksX0_years_4 0 rfl rfl)
theorem dX0_years_97 : decode cX0_years 97 = .ok (.goto 32, 3) := dk_167 0 32 (dk_at dksX0_years_4 3 rfl rfl)
theorem dX0_years_100 : decode cX0_years 100 = .ok (.aload_n 0, 1) := dk_42 (dk_at dksX0_years_4 6 rfl rfl)
theorem dX0_years_101 : decode cX0_years 101 = .ok (.getfield 21, 3) := dk_180 0 21 (dk_at dksX0_years_4 7 rfl rfl)
theorem dX0_years_104 : decode cX0_years 104 = .ok (.getfield 155, 3) := dk_180 0 155 (dk_at dksX0_years_4 10 rfl rfl)
theorem dX0_years_107 : decode cX0_years 107 = .ok (.iconst 0, 1) := dk_3 (dk_at dksX0_years_4 13 rfl rfl)
theorem dX0_years_108 : decode cX0_years 108 = .ok (.iaload, 1) := dk_46 (dk_at dksX0_years_4 14 rfl rfl)
theorem dX0_years_109 : decode cX0_years 109 = .ok (.sipush 9999, 3) := dk_17 39 15 (dk_at dksX0_years_4 15 rfl rfl)
theorem dX0_years_112 : decode cX0_years 112 = .ok (.if_icmp .ge 17, 3) := dk_162 0 17 (dk_at dksX0_years_4 18 rfl rfl)
theorem dX0_years_115 : decode cX0_years 115 = .ok (.iload_n 3, 1) := dk_29 (dk_at dksX0_years_4 21 rfl rfl)
theorem dX0_years_116 : decode cX0_years 116 = .ok (.aload_n 0, 1) := dk_42 (dk_at dksX0_years_4 22 rfl rfl)
theorem dX0_years_117 : decode cX0_years 117 = .ok (.aload_n 0, 1) := dk_42 (dk_at dksX0_years_4 23 rfl rfl)
theorem dX0_years_118 : decode cX0_years 118 = .ok (.getfield 21, 3) := dk_180 0 21 (dk_at dksX0_years_5 0 rfl rfl)
theorem dX0_years_121 : decode cX0_years 121 = .ok (.getfield 155, 3) := dk_180 0 155 (dk_at dksX0_years_5 3 rfl rfl)
theorem dX0_years_124 : decode cX0_years 124 = .ok (.invokevirtual 207, 3) := dk_182 0 207 (dk_at dksX0_years_5 6 rfl rfl)
theorem dX0_years_127 : decode cX0_years 127 = .ok (.iadd, 1) := dk_96 (dk_at dksX0_years_5 9 rfl rfl)
theorem dX0_years_128 : decode cX0_years 128 = .ok (.istore_n 3, 1) := dk_62 (dk_at dksX0_years_5 10 rfl rfl)
theorem dX0_years_129 : decode cX0_years 129 = .ok (.iinc 4 1, 3) := dk_132 4 1 (dk_at dksX0_years_5 11 rfl rfl)
theorem dX0_years_132 : decode cX0_years 132 = .ok (.goto (-81), 3) := dk_167 255 175 (dk_at dksX0_years_5 14 rfl rfl)
theorem dX0_years_135 : decode cX0_years 135 = .ok (.aload_n 0, 1) := dk_42 (dk_at dksX0_years_5 17 rfl rfl)
theorem dX0_years_136 : decode cX0_years 136 = .ok (.getfield 21, 3) := dk_180 0 21 (dk_at dksX0_years_5 18 rfl rfl)
theorem dX0_years_139 : decode cX0_years 139 = .ok (.getfield 155, 3) := dk_180 0 155 (dk_at dksX0_years_5 21 rfl rfl)
theorem dX0_years_142 : decode cX0_years 142 = .ok (.iconst 0, 1) := dk_3 (dk_at dksX0_years_6 0 rfl rfl)
theorem dX0_years_143 : decode cX0_years 143 = .ok (.iaload, 1) := dk_46 (dk_at dksX0_years_6 1 rfl rfl)
theorem dX0_years_144 : decode cX0_years 144 = .ok (.ireturn, 1) := dk_172 (dk_at dksX0_years_6 2 rfl rfl)
abbrev cX0_befalls : ByteArray := prog_1_method_39_code
def yX0_befalls : MethodName := ⟨RX0, "befalls", "(I)V"⟩
def dkwX0_befalls_8 : List UInt8 := [180, 0, 21, 180, 0, 155, 16, 14, 92, 46, 4, 28, 120, 130, 79, 177]
abbrev dktX0_befalls_8 : List UInt8 := dkwX0_befalls_8 ++ []
def dkwX0_befalls_7 : List UInt8 := [180, 0, 21, 180, 0, 155, 29, 182, 0, 117, 184, 0, 180, 167, 0, 26, 27, 7, 112, 4, 160, 0, 19, 42]
abbrev dktX0_befalls_7 : List UInt8 := dkwX0_befalls_7 ++ dktX0_befalls_8
def dkwX0_befalls_6 : List UInt8 := [153, 0, 63, 42, 180, 0, 21, 180, 0, 155, 42, 42, 180, 0, 21, 180, 0, 155, 28, 182, 0, 117, 42, 42]
abbrev dktX0_befalls_6 : List UInt8 := dkwX0_befalls_6 ++ dktX0_befalls_7
def dkwX0_befalls_5 : List UInt8 := [4, 27, 6, 112, 96, 100, 79, 167, 0, 79, 27, 7, 112, 5, 160, 0, 72, 42, 28, 29, 182, 0, 177]
abbrev dktX0_befalls_5 : List UInt8 := dkwX0_befalls_5 ++ dktX0_befalls_6
def dkwX0_befalls_4 : List UInt8 := [4, 27, 6, 112, 96, 182, 0, 174, 153, 0, 102, 42, 180, 0, 21, 180, 0, 155, 16, 8, 28, 96, 92, 46]
abbrev dktX0_befalls_4 : List UInt8 := dkwX0_befalls_4 ++ dktX0_befalls_5
def dkwX0_befalls_3 : List UInt8 := [42, 28, 182, 0, 165, 153, 0, 129, 42, 180, 0, 21, 180, 0, 155, 28, 184, 0, 171, 167, 0, 115, 42, 28]
abbrev dktX0_befalls_3 : List UInt8 := dkwX0_befalls_3 ++ dktX0_befalls_4
def dkwX0_befalls_2 : List UInt8 := [170, 0, 0, 0, 136, 0, 0, 0, 0, 0, 0, 0, 2, 0, 0, 0, 25, 0, 0, 0, 47, 0, 0, 0, 83]
abbrev dktX0_befalls_2 : List UInt8 := dkwX0_befalls_2 ++ dktX0_befalls_3
def dkwX0_befalls_1 : List UInt8 := [182, 0, 68, 112, 62, 27, 16, 6, 112]
abbrev dktX0_befalls_1 : List UInt8 := dkwX0_befalls_1 ++ dktX0_befalls_2
def dkwX0_befalls_0 : List UInt8 := [42, 182, 0, 68, 154, 0, 4, 177, 27, 16, 6, 108, 42, 182, 0, 68, 112, 61, 28, 4, 96, 42]
abbrev dktX0_befalls_0 : List UInt8 := dkwX0_befalls_0 ++ dktX0_befalls_1
theorem dksX0_befalls_0 : cX0_befalls.data.toList.drop 0 = dktX0_befalls_0 := by decide +kernel
theorem dksX0_befalls_1 : cX0_befalls.data.toList.drop 22 = dktX0_befalls_1 := dk_seg dksX0_befalls_0 22 rfl rfl
theorem dksX0_befalls_2 : cX0_befalls.data.toList.drop 31 = dktX0_befalls_2 := dk_seg dksX0_befalls_1 9 rfl rfl
theorem dksX0_befalls_3 : cX0_befalls.data.toList.drop 56 = dktX0_befalls_3 := dk_seg dksX0_befalls_2 25 rfl rfl
theorem dksX0_befalls_4 : cX0_befalls.data.toList.drop 80 = dktX0_befalls_4 := dk_seg dksX0_befalls_3 24 rfl rfl
theorem dksX0_befalls_5 : cX0_befalls.data.toList.drop 104 = dktX0_befalls_5 := dk_seg dksX0_befalls_4 24 rfl rfl
theorem dksX0_befalls_6 : cX0_befalls.data.toList.drop 127 = dktX0_befalls_6 := dk_seg dksX0_befalls_5 23 rfl rfl
theorem dksX0_befalls_7 : cX0_befalls.data.toList.drop 151 = dktX0_befalls_7 := dk_seg dksX0_befalls_6 24 rfl rfl
theorem dksX0_befalls_8 : cX0_befalls.data.toList.drop 175 = dktX0_befalls_8 := dk_seg dksX0_befalls_7 24 rfl rfl
theorem dX0_befalls_0 : decode cX0_befalls 0 = .ok (.aload_n 0, 1) := dk_42 (dk_at dksX0_befalls_0 0 rfl rfl)
theorem dX0_befalls_1 : decode cX0_befalls 1 = .ok (.invokevirtual 68, 3) := dk_182 0 68 (dk_at dksX0_befalls_0 1 rfl rfl)
theorem dX0_befalls_4 : decode cX0_befalls 4 = .ok (.ifCond .ne 4, 3) := dk_154 0 4 (dk_at dksX0_befalls_0 4 rfl rfl)
theorem dX0_befalls_7 : decode cX0_befalls 7 = .ok (.return_, 1) := dk_177 (dk_at dksX0_befalls_0 7 rfl rfl)
theorem dX0_befalls_8 : decode cX0_befalls 8 = .ok (.iload_n 1, 1) := dk_27 (dk_at dksX0_befalls_0 8 rfl rfl)
theorem dX0_befalls_9 : decode cX0_befalls 9 = .ok (.bipush 6, 2) := dk_16 6 (dk_at dksX0_befalls_0 9 rfl rfl)
theorem dX0_befalls_11 : decode cX0_befalls 11 = .ok (.idiv, 1) := dk_108 (dk_at dksX0_befalls_0 11 rfl rfl)
theorem dX0_befalls_12 : decode cX0_befalls 12 = .ok (.aload_n 0, 1) := dk_42 (dk_at dksX0_befalls_0 12 rfl rfl)
theorem dX0_befalls_13 : decode cX0_befalls 13 = .ok (.invokevirtual 68, 3) := dk_182 0 68 (dk_at dksX0_befalls_0 13 rfl rfl)
theorem dX0_befalls_16 : decode cX0_befalls 16 = .ok (.irem, 1) := dk_112 (dk_at dksX0_befalls_0 16 rfl rfl)
theorem dX0_befalls_17 : decode cX0_befalls 17 = .ok (.istore_n 2, 1) := dk_61 (dk_at dksX0_befalls_0 17 rfl rfl)
theorem dX0_befalls_18 : decode cX0_befalls 18 = .ok (.iload_n 2, 1) := dk_28 (dk_at dksX0_befalls_0 18 rfl rfl)
theorem dX0_befalls_19 : decode cX0_befalls 19 = .ok (.iconst 1, 1) := dk_4 (dk_at dksX0_befalls_0 19 rfl rfl)
theorem dX0_befalls_20 : decode cX0_befalls 20 = .ok (.iadd, 1) := dk_96 (dk_at dksX0_befalls_0 20 rfl rfl)
theorem dX0_befalls_21 : decode cX0_befalls 21 = .ok (.aload_n 0, 1) := dk_42 (dk_at dksX0_befalls_0 21 rfl rfl)
theorem dX0_befalls_22 : decode cX0_befalls 22 = .ok (.invokevirtual 68, 3) := dk_182 0 68 (dk_at dksX0_befalls_1 0 rfl rfl)
theorem dX0_befalls_25 : decode cX0_befalls 25 = .ok (.irem, 1) := dk_112 (dk_at dksX0_befalls_1 3 rfl rfl)
theorem dX0_befalls_26 : decode cX0_befalls 26 = .ok (.istore_n 3, 1) := dk_62 (dk_at dksX0_befalls_1 4 rfl rfl)
theorem dX0_befalls_27 : decode cX0_befalls 27 = .ok (.iload_n 1, 1) := dk_27 (dk_at dksX0_befalls_1 5 rfl rfl)
theorem dX0_befalls_28 : decode cX0_befalls 28 = .ok (.bipush 6, 2) := dk_16 6 (dk_at dksX0_befalls_1 6 rfl rfl)
theorem dX0_befalls_30 : decode cX0_befalls 30 = .ok (.irem, 1) := dk_112 (dk_at dksX0_befalls_1 8 rfl rfl)
theorem dX0_befalls_31 : decode cX0_befalls 31 = .ok (.tableswitch 136 0 2 #[25, 47, 83], 25) := by decide +kernel
theorem dX0_befalls_56 : decode cX0_befalls 56 = .ok (.aload_n 0, 1) := dk_42 (dk_at dksX0_befalls_3 0 rfl rfl)
theorem dX0_befalls_57 : decode cX0_befalls 57 = .ok (.iload_n 2, 1) := dk_28 (dk_at dksX0_befalls_3 1 rfl rfl)
theorem dX0_befalls_58 : decode cX0_befalls 58 = .ok (.invokevirtual 165, 3) := dk_182 0 165 (dk_at dksX0_befalls_3 2 rfl rfl)
theorem dX0_befalls_61 : decode cX0_befalls 61 = .ok (.ifCond .eq 129, 3) := dk_153 0 129 (dk_at dksX0_befalls_3 5 rfl rfl)
theorem dX0_befalls_64 : decode cX0_befalls 64 = .ok (.aload_n 0, 1) := dk_42 (dk_at dksX0_befalls_3 8 rfl rfl)
theorem dX0_befalls_65 : decode cX0_befalls 65 = .ok (.getfield 21, 3) := dk_180 0 21 (dk_at dksX0_befalls_3 9 rfl rfl)
theorem dX0_befalls_68 : decode cX0_befalls 68 = .ok (.getfield 155, 3) := dk_180 0 155 (dk_at dksX0_befalls_3 12 rfl rfl)
theorem dX0_befalls_71 : decode cX0_befalls 71 = .ok (.iload_n 2, 1) := dk_28 (dk_at dksX0_befalls_3 15 rfl rfl)
theorem dX0_befalls_72 : decode cX0_befalls 72 = .ok (.invokestatic 171, 3) := dk_184 0 171 (dk_at dksX0_befalls_3 16 rfl rfl)
theorem dX0_befalls_75 : decode cX0_befalls 75 = .ok (.goto 115, 3) := dk_167 0 115 (dk_at dksX0_befalls_3 19 rfl rfl)
theorem dX0_befalls_78 : decode cX0_befalls 78 = .ok (.aload_n 0, 1) := dk_42 (dk_at dksX0_befalls_3 22 rfl rfl)
theorem dX0_befalls_79 : decode cX0_befalls 79 = .ok (.iload_n 2, 1) := dk_28 (dk_at dksX0_befalls_3 23 rfl rfl)
theorem dX0_befalls_80 : decode cX0_befalls 80 = .ok (.iconst 1, 1) := dk_4 (dk_at dksX0_befalls_4 0 rfl rfl)
theorem dX0_befalls_81 : decode cX0_befalls 81 = .ok (.iload_n 1, 1) := dk_27 (dk_at dksX0_befalls_4 1 rfl rfl)
theorem dX0_befalls_82 : decode cX0_befalls 82 = .ok (.iconst 3, 1) := dk_6 (dk_at dksX0_befalls_4 2 rfl rfl)
theorem dX0_befalls_83 : decode cX0_befalls 83 = .ok (.irem, 1) := dk_112 (dk_at dksX0_befalls_4 3 rfl rfl)
theorem dX0_befalls_84 : decode cX0_befalls 84 = .ok (.iadd, 1) := dk_96 (dk_at dksX0_befalls_4 4 rfl rfl)
theorem dX0_befalls_85 : decode cX0_befalls 85 = .ok (.invokevirtual 174, 3) := dk_182 0 174 (dk_at dksX0_befalls_4 5 rfl rfl)
theorem dX0_befalls_88 : decode cX0_befalls 88 = .ok (.ifCond .eq 102, 3) := dk_153 0 102 (dk_at dksX0_befalls_4 8 rfl rfl)
theorem dX0_befalls_91 : decode cX0_befalls 91 = .ok (.aload_n 0, 1) := dk_42 (dk_at dksX0_befalls_4 11 rfl rfl)
theorem dX0_befalls_92 : decode cX0_befalls 92 = .ok (.getfield 21, 3) := dk_180 0 21 (dk_at dksX0_befalls_4 12 rfl rfl)
theorem dX0_befalls_95 : decode cX0_befalls 95 = .ok (.getfield 155, 3) := dk_180 0 155 (dk_at dksX0_befalls_4 15 rfl rfl)
theorem dX0_befalls_98 : decode cX0_befalls 98 = .ok (.bipush 8, 2) := dk_16 8 (dk_at dksX0_befalls_4 18 rfl rfl)
theorem dX0_befalls_100 : decode cX0_befalls 100 = .ok (.iload_n 2, 1) := dk_28 (dk_at dksX0_befalls_4 20 rfl rfl)
theorem dX0_befalls_101 : decode cX0_befalls 101 = .ok (.iadd, 1) := dk_96 (dk_at dksX0_befalls_4 21 rfl rfl)
theorem dX0_befalls_102 : decode cX0_befalls 102 = .ok (.dup2, 1) := dk_92 (dk_at dksX0_befalls_4 22 rfl rfl)
theorem dX0_befalls_103 : decode cX0_befalls 103 = .ok (.iaload, 1) := dk_46 (dk_at dksX0_befalls_4 23 rfl rfl)
theorem dX0_befalls_104 : decode cX0_befalls 104 = .ok (.iconst 1, 1) := dk_4 (dk_at dksX0_befalls_5 0 rfl rfl)
theorem dX0_befalls_105 : decode cX0_befalls 105 = .ok (.iload_n 1, 1) := dk_27 (dk_at dksX0_befalls_5 1 rfl rfl)
theorem dX0_befalls_106 : decode cX0_befalls 106 = .ok (.iconst 3, 1) := dk_6 (dk_at dksX0_befalls_5 2 rfl rfl)
theorem dX0_befalls_107 : decode cX0_befalls 107 = .ok (.irem, 1) := dk_112 (dk_at dksX0_befalls_5 3 rfl rfl)
theorem dX0_befalls_108 : decode cX0_befalls 108 = .ok (.iadd, 1) := dk_96 (dk_at dksX0_befalls_5 4 rfl rfl)
theorem dX0_befalls_109 : decode cX0_befalls 109 = .ok (.isub, 1) := dk_100 (dk_at dksX0_befalls_5 5 rfl rfl)
theorem dX0_befalls_110 : decode cX0_befalls 110 = .ok (.iastore, 1) := dk_79 (dk_at dksX0_befalls_5 6 rfl rfl)
theorem dX0_befalls_111 : decode cX0_befalls 111 = .ok (.goto 79, 3) := dk_167 0 79 (dk_at dksX0_befalls_5 7 rfl rfl)
theorem dX0_befalls_114 : decode cX0_befalls 114 = .ok (.iload_n 1, 1) := dk_27 (dk_at dksX0_befalls_5 10 rfl rfl)
theorem dX0_befalls_115 : decode cX0_befalls 115 = .ok (.iconst 4, 1) := dk_7 (dk_at dksX0_befalls_5 11 rfl rfl)
theorem dX0_befalls_116 : decode cX0_befalls 116 = .ok (.irem, 1) := dk_112 (dk_at dksX0_befalls_5 12 rfl rfl)
theorem dX0_befalls_117 : decode cX0_befalls 117 = .ok (.iconst 2, 1) := dk_5 (dk_at dksX0_befalls_5 13 rfl rfl)
theorem dX0_befalls_118 : decode cX0_befalls 118 = .ok (.if_icmp .ne 72, 3) := dk_160 0 72 (dk_at dksX0_befalls_5 14 rfl rfl)
theorem dX0_befalls_121 : decode cX0_befalls 121 = .ok (.aload_n 0, 1) := dk_42 (dk_at dksX0_befalls_5 17 rfl rfl)
theorem dX0_befalls_122 : decode cX0_befalls 122 = .ok (.iload_n 2, 1) := dk_28 (dk_at dksX0_befalls_5 18 rfl rfl)
theorem dX0_befalls_123 : decode cX0_befalls 123 = .ok (.iload_n 3, 1) := dk_29 (dk_at dksX0_befalls_5 19 rfl rfl)
theorem dX0_befalls_124 : decode cX0_befalls 124 = .ok (.invokevirtual 177, 3) := dk_182 0 177 (dk_at dksX0_befalls_5 20 rfl rfl)
theorem dX0_befalls_127 : decode cX0_befalls 127 = .ok (.ifCond .eq 63, 3) := dk_153 0 63 (dk_at dksX0_befalls_6 0 rfl rfl)
theorem dX0_befalls_130 : decode cX0_befalls 130 = .ok (.aload_n 0, 1) := dk_42 (dk_at dksX0_befalls_6 3 rfl rfl)
theorem dX0_befalls_131 : decode cX0_befalls 131 = .ok (.getfield 21, 3) := dk_180 0 21 (dk_at dksX0_befalls_6 4 rfl rfl)
theorem dX0_befalls_134 : decode cX0_befalls 134 = .ok (.getfield 155, 3) := dk_180 0 155 (dk_at dksX0_befalls_6 7 rfl rfl)
theorem dX0_befalls_137 : decode cX0_befalls 137 = .ok (.aload_n 0, 1) := dk_42 (dk_at dksX0_befalls_6 10 rfl rfl)
theorem dX0_befalls_138 : decode cX0_befalls 138 = .ok (.aload_n 0, 1) := dk_42 (dk_at dksX0_befalls_6 11 rfl rfl)
theorem dX0_befalls_139 : decode cX0_befalls 139 = .ok (.getfield 21, 3) := dk_180 0 21 (dk_at dksX0_befalls_6 12 rfl rfl)
theorem dX0_befalls_142 : decode cX0_befalls 142 = .ok (.getfield 155, 3) := dk_180 0 155 (dk_at dksX0_befalls_6 15 rfl rfl)
theorem dX0_befalls_145 : decode cX0_befalls 145 = .ok (.iload_n 2, 1) := dk_28 (dk_at dksX0_befalls_6 18 rfl rfl)
theorem dX0_befalls_146 : decode cX0_befalls 146 = .ok (.invokevirtual 117, 3) := dk_182 0 117 (dk_at dksX0_befalls_6 19 rfl rfl)
theorem dX0_befalls_149 : decode cX0_befalls 149 = .ok (.aload_n 0, 1) := dk_42 (dk_at dksX0_befalls_6 22 rfl rfl)
theorem dX0_befalls_150 : decode cX0_befalls 150 = .ok (.aload_n 0, 1) := dk_42 (dk_at dksX0_befalls_6 23 rfl rfl)
theorem dX0_befalls_151 : decode cX0_befalls 151 = .ok (.getfield 21, 3) := dk_180 0 21 (dk_at dksX0_befalls_7 0 rfl rfl)
theorem dX0_befalls_154 : decode cX0_befalls 154 = .ok (.getfield 155, 3) := dk_180 0 155 (dk_at dksX0_befalls_7 3 rfl rfl)
theorem dX0_befalls_157 : decode cX0_befalls 157 = .ok (.iload_n 3, 1) := dk_29 (dk_at dksX0_befalls_7 6 rfl rfl)
theorem dX0_befalls_158 : decode cX0_befalls 158 = .ok (.invokevirtual 117, 3) := dk_182 0 117 (dk_at dksX0_befalls_7 7 rfl rfl)
theorem dX0_befalls_161 : decode cX0_befalls 161 = .ok (.invokestatic 180, 3) := dk_184 0 180 (dk_at dksX0_befalls_7 10 rfl rfl)
theorem dX0_befalls_164 : decode cX0_befalls 164 = .ok (.goto 26, 3) := dk_167 0 26 (dk_at dksX0_befalls_7 13 rfl rfl)
theorem dX0_befalls_167 : decode cX0_befalls 167 = .ok (.iload_n 1, 1) := dk_27 (dk_at dksX0_befalls_7 16 rfl rfl)
theorem dX0_befalls_168 : decode cX0_befalls 168 = .ok (.iconst 4, 1) := dk_7 (dk_at dksX0_befalls_7 17 rfl rfl)
theorem dX0_befalls_169 : decode cX0_befalls 169 = .ok (.irem, 1) := dk_112 (dk_at dksX0_befalls_7 18 rfl rfl)
theorem dX0_befalls_170 : decode cX0_befalls 170 = .ok (.iconst 1, 1) := dk_4 (dk_at dksX0_befalls_7 19 rfl rfl)
theorem dX0_befalls_171 : decode cX0_befalls 171 = .ok (.if_icmp .ne 19, 3) := dk_160 0 19 (dk_at dksX0_befalls_7 20 rfl rfl)
theorem dX0_befalls_174 : decode cX0_befalls 174 = .ok (.aload_n 0, 1) := dk_42 (dk_at dksX0_befalls_7 23 rfl rfl)
theorem dX0_befalls_175 : decode cX0_befalls 175 = .ok (.getfield 21, 3) := dk_180 0 21 (dk_at dksX0_befalls_8 0 rfl rfl)
theorem dX0_befalls_178 : decode cX0_befalls 178 = .ok (.getfield 155, 3) := dk_180 0 155 (dk_at dksX0_befalls_8 3 rfl rfl)
theorem dX0_befalls_181 : decode cX0_befalls 181 = .ok (.bipush 14, 2) := dk_16 14 (dk_at dksX0_befalls_8 6 rfl rfl)
theorem dX0_befalls_183 : decode cX0_befalls 183 = .ok (.dup2, 1) := dk_92 (dk_at dksX0_befalls_8 8 rfl rfl)
theorem dX0_befalls_184 : decode cX0_befalls 184 = .ok (.iaload, 1) := dk_46 (dk_at dksX0_befalls_8 9 rfl rfl)
theorem dX0_befalls_185 : decode cX0_befalls 185 = .ok (.iconst 1, 1) := dk_4 (dk_at dksX0_befalls_8 10 rfl rfl)
theorem dX0_befalls_186 : decode cX0_befalls 186 = .ok (.iload_n 2, 1) := dk_28 (dk_at dksX0_befalls_8 11 rfl rfl)
theorem dX0_befalls_187 : decode cX0_befalls 187 = .ok (.ishl, 1) := dk_120 (dk_at dksX0_befalls_8 12 rfl rfl)
theorem dX0_befalls_188 : decode cX0_befalls 188 = .ok (.ixor, 1) := dk_130 (dk_at dksX0_befalls_8 13 rfl rfl)
theorem dX0_befalls_189 : decode cX0_befalls 189 = .ok (.iastore, 1) := dk_79 (dk_at dksX0_befalls_8 14 rfl rfl)
theorem dX0_befalls_190 : decode cX0_befalls 190 = .ok (.return_, 1) := dk_177 (dk_at dksX0_befalls_8 15 rfl rfl)
abbrev cX0_undo : ByteArray := prog_1_method_41_code
def yX0_undo : MethodName := ⟨RX0, "undo", "()I"⟩
def dkwX0_undo_2 : List UInt8 := [180, 0, 155, 184, 1, 15, 42, 180, 0, 21, 180, 0, 65, 6, 46, 172]
abbrev dktX0_undo_2 : List UInt8 := dkwX0_undo_2 ++ []
def dkwX0_undo_1 : List UInt8 := [4, 100, 79, 42, 180, 0, 21, 180, 1, 11, 42, 180, 0, 21, 180, 0, 65, 6, 46, 50, 42, 180, 0, 21]
abbrev dktX0_undo_1 : List UInt8 := dkwX0_undo_1 ++ dktX0_undo_2
def dkwX0_undo_0 : List UInt8 := [42, 180, 0, 21, 180, 0, 65, 6, 46, 154, 0, 5, 2, 172, 42, 180, 0, 21, 180, 0, 65, 6, 92, 46]
abbrev dktX0_undo_0 : List UInt8 := dkwX0_undo_0 ++ dktX0_undo_1
theorem dksX0_undo_0 : cX0_undo.data.toList.drop 0 = dktX0_undo_0 := by decide +kernel
theorem dksX0_undo_1 : cX0_undo.data.toList.drop 24 = dktX0_undo_1 := dk_seg dksX0_undo_0 24 rfl rfl
theorem dksX0_undo_2 : cX0_undo.data.toList.drop 48 = dktX0_undo_2 := dk_seg dksX0_undo_1 24 rfl rfl
theorem dX0_undo_0 : decode cX0_undo 0 = .ok (.aload_n 0, 1) := dk_42 (dk_at dksX0_undo_0 0 rfl rfl)
theorem dX0_undo_1 : decode cX0_undo 1 = .ok (.getfield 21, 3) := dk_180 0 21 (dk_at dksX0_undo_0 1 rfl rfl)
theorem dX0_undo_4 : decode cX0_undo 4 = .ok (.getfield 65, 3) := dk_180 0 65 (dk_at dksX0_undo_0 4 rfl rfl)
theorem dX0_undo_7 : decode cX0_undo 7 = .ok (.iconst 3, 1) := dk_6 (dk_at dksX0_undo_0 7 rfl rfl)
theorem dX0_undo_8 : decode cX0_undo 8 = .ok (.iaload, 1) := dk_46 (dk_at dksX0_undo_0 8 rfl rfl)
theorem dX0_undo_9 : decode cX0_undo 9 = .ok (.ifCond .ne 5, 3) := dk_154 0 5 (dk_at dksX0_undo_0 9 rfl rfl)
theorem dX0_undo_12 : decode cX0_undo 12 = .ok (.iconst (-1), 1) := dk_2 (dk_at dksX0_undo_0 12 rfl rfl)
theorem dX0_undo_13 : decode cX0_undo 13 = .ok (.ireturn, 1) := dk_172 (dk_at dksX0_undo_0 13 rfl rfl)
theorem dX0_undo_14 : decode cX0_undo 14 = .ok (.aload_n 0, 1) := dk_42 (dk_at dksX0_undo_0 14 rfl rfl)
theorem dX0_undo_15 : decode cX0_undo 15 = .ok (.getfield 21, 3) := dk_180 0 21 (dk_at dksX0_undo_0 15 rfl rfl)
theorem dX0_undo_18 : decode cX0_undo 18 = .ok (.getfield 65, 3) := dk_180 0 65 (dk_at dksX0_undo_0 18 rfl rfl)
theorem dX0_undo_21 : decode cX0_undo 21 = .ok (.iconst 3, 1) := dk_6 (dk_at dksX0_undo_0 21 rfl rfl)
theorem dX0_undo_22 : decode cX0_undo 22 = .ok (.dup2, 1) := dk_92 (dk_at dksX0_undo_0 22 rfl rfl)
theorem dX0_undo_23 : decode cX0_undo 23 = .ok (.iaload, 1) := dk_46 (dk_at dksX0_undo_0 23 rfl rfl)
theorem dX0_undo_24 : decode cX0_undo 24 = .ok (.iconst 1, 1) := dk_4 (dk_at dksX0_undo_1 0 rfl rfl)
theorem dX0_undo_25 : decode cX0_undo 25 = .ok (.isub, 1) := dk_100 (dk_at dksX0_undo_1 1 rfl rfl)
theorem dX0_undo_26 : decode cX0_undo 26 = .ok (.iastore, 1) := dk_79 (dk_at dksX0_undo_1 2 rfl rfl)
theorem dX0_undo_27 : decode cX0_undo 27 = .ok (.aload_n 0, 1) := dk_42 (dk_at dksX0_undo_1 3 rfl rfl)
theorem dX0_undo_28 : decode cX0_undo 28 = .ok (.getfield 21, 3) := dk_180 0 21 (dk_at dksX0_undo_1 4 rfl rfl)
theorem dX0_undo_31 : decode cX0_undo 31 = .ok (.getfield 267, 3) := dk_180 1 11 (dk_at dksX0_undo_1 7 rfl rfl)
theorem dX0_undo_34 : decode cX0_undo 34 = .ok (.aload_n 0, 1) := dk_42 (dk_at dksX0_undo_1 10 rfl rfl)
theorem dX0_undo_35 : decode cX0_undo 35 = .ok (.getfield 21, 3) := dk_180 0 21 (dk_at dksX0_undo_1 11 rfl rfl)
theorem dX0_undo_38 : decode cX0_undo 38 = .ok (.getfield 65, 3) := dk_180 0 65 (dk_at dksX0_undo_1 14 rfl rfl)
theorem dX0_undo_41 : decode cX0_undo 41 = .ok (.iconst 3, 1) := dk_6 (dk_at dksX0_undo_1 17 rfl rfl)
theorem dX0_undo_42 : decode cX0_undo 42 = .ok (.iaload, 1) := dk_46 (dk_at dksX0_undo_1 18 rfl rfl)
theorem dX0_undo_43 : decode cX0_undo 43 = .ok (.aaload, 1) := dk_50 (dk_at dksX0_undo_1 19 rfl rfl)
theorem dX0_undo_44 : decode cX0_undo 44 = .ok (.aload_n 0, 1) := dk_42 (dk_at dksX0_undo_1 20 rfl rfl)
theorem dX0_undo_45 : decode cX0_undo 45 = .ok (.getfield 21, 3) := dk_180 0 21 (dk_at dksX0_undo_1 21 rfl rfl)
theorem dX0_undo_48 : decode cX0_undo 48 = .ok (.getfield 155, 3) := dk_180 0 155 (dk_at dksX0_undo_2 0 rfl rfl)
theorem dX0_undo_51 : decode cX0_undo 51 = .ok (.invokestatic 271, 3) := dk_184 1 15 (dk_at dksX0_undo_2 3 rfl rfl)
theorem dX0_undo_54 : decode cX0_undo 54 = .ok (.aload_n 0, 1) := dk_42 (dk_at dksX0_undo_2 6 rfl rfl)
theorem dX0_undo_55 : decode cX0_undo 55 = .ok (.getfield 21, 3) := dk_180 0 21 (dk_at dksX0_undo_2 7 rfl rfl)
theorem dX0_undo_58 : decode cX0_undo 58 = .ok (.getfield 65, 3) := dk_180 0 65 (dk_at dksX0_undo_2 10 rfl rfl)
theorem dX0_undo_61 : decode cX0_undo 61 = .ok (.iconst 3, 1) := dk_6 (dk_at dksX0_undo_2 13 rfl rfl)
theorem dX0_undo_62 : decode cX0_undo 62 = .ok (.iaload, 1) := dk_46 (dk_at dksX0_undo_2 14 rfl rfl)
theorem dX0_undo_63 : decode cX0_undo 63 = .ok (.ireturn, 1) := dk_172 (dk_at dksX0_undo_2 15 rfl rfl)
abbrev cX0_of : ByteArray := prog_1_method_42_code
def yX0_of : MethodName := ⟨RX0, "of", "(II)I"⟩
def dkwX0_of_6 : List UInt8 := [2, 172]
abbrev dktX0_of_6 : List UInt8 := dkwX0_of_6 ++ []
def dkwX0_of_5 : List UInt8 := [180, 0, 21, 180, 0, 155, 27, 182, 0, 201, 172, 42, 42, 180, 0, 21, 180, 0, 155, 27, 182, 0, 124, 172]
abbrev dktX0_of_5 : List UInt8 := dkwX0_of_5 ++ dktX0_of_6
def dkwX0_of_4 : List UInt8 := [4, 126, 172, 42, 42, 182, 0, 147, 42, 180, 0, 21, 180, 0, 155, 27, 182, 0, 197, 172, 42, 42]
abbrev dktX0_of_4 : List UInt8 := dkwX0_of_4 ++ dktX0_of_5
def dkwX0_of_3 : List UInt8 := [42, 180, 0, 21, 180, 0, 155, 27, 182, 0, 117, 172, 42, 180, 0, 21, 180, 0, 155, 16, 14, 46, 27, 122]
abbrev dktX0_of_3 : List UInt8 := dkwX0_of_3 ++ dktX0_of_4
def dkwX0_of_2 : List UInt8 := [42, 180, 0, 21, 180, 0, 76, 27, 46, 172, 42, 180, 0, 21, 180, 0, 155, 16, 8, 27, 96, 46, 172, 42]
abbrev dktX0_of_2 : List UInt8 := dkwX0_of_2 ++ dktX0_of_3
def dkwX0_of_1 : List UInt8 := [170, 0, 0, 0, 135, 0, 0, 0, 0, 0, 0, 0, 6, 0, 0, 0, 41, 0, 0, 0, 51, 0, 0, 0, 64, 0, 0, 0, 77, 0, 0, 0, 92, 0, 0, 0, 109, 0, 0, 0, 122]
abbrev dktX0_of_1 : List UInt8 := dkwX0_of_1 ++ dktX0_of_2
def dkwX0_of_0 : List UInt8 := [42, 27, 182, 0, 152, 154, 0, 5, 2, 172, 28]
abbrev dktX0_of_0 : List UInt8 := dkwX0_of_0 ++ dktX0_of_1
theorem dksX0_of_0 : cX0_of.data.toList.drop 0 = dktX0_of_0 := by decide +kernel
theorem dksX0_of_1 : cX0_of.data.toList.drop 11 = dktX0_of_1 := dk_seg dksX0_of_0 11 rfl rfl
theorem dksX0_of_2 : cX0_of.data.toList.drop 52 = dktX0_of_2 := dk_seg dksX0_of_1 41 rfl rfl
theorem dksX0_of_3 : cX0_of.data.toList.drop 76 = dktX0_of_3 := dk_seg dksX0_of_2 24 rfl rfl
theorem dksX0_of_4 : cX0_of.data.toList.drop 100 = dktX0_of_4 := dk_seg dksX0_of_3 24 rfl rfl
theorem dksX0_of_5 : cX0_of.data.toList.drop 122 = dktX0_of_5 := dk_seg dksX0_of_4 22 rfl rfl
theorem dksX0_of_6 : cX0_of.data.toList.drop 146 = dktX0_of_6 := dk_seg dksX0_of_5 24 rfl rfl
theorem dX0_of_0 : decode cX0_of 0 = .ok (.aload_n 0, 1) := dk_42 (dk_at dksX0_of_0 0 rfl rfl)
theorem dX0_of_1 : decode cX0_of 1 = .ok (.iload_n 1, 1) := dk_27 (dk_at dksX0_of_0 1 rfl rfl)
theorem dX0_of_2 : decode cX0_of 2 = .ok (.invokevirtual 152, 3) := dk_182 0 152 (dk_at dksX0_of_0 2 rfl rfl)
theorem dX0_of_5 : decode cX0_of 5 = .ok (.ifCond .ne 5, 3) := dk_154 0 5 (dk_at dksX0_of_0 5 rfl rfl)
theorem dX0_of_8 : decode cX0_of 8 = .ok (.iconst (-1), 1) := dk_2 (dk_at dksX0_of_0 8 rfl rfl)
theorem dX0_of_9 : decode cX0_of 9 = .ok (.ireturn, 1) := dk_172 (dk_at dksX0_of_0 9 rfl rfl)
theorem dX0_of_10 : decode cX0_of 10 = .ok (.iload_n 2, 1) := dk_28 (dk_at dksX0_of_0 10 rfl rfl)
theorem dX0_of_11 : decode cX0_of 11 = .ok (.tableswitch 135 0 6 #[41, 51, 64, 77, 92, 109, 122], 41) := by decide +kernel
theorem dX0_of_52 : decode cX0_of 52 = .ok (.aload_n 0, 1) := dk_42 (dk_at dksX0_of_2 0 rfl rfl)
theorem dX0_of_53 : decode cX0_of 53 = .ok (.getfield 21, 3) := dk_180 0 21 (dk_at dksX0_of_2 1 rfl rfl)
theorem dX0_of_56 : decode cX0_of 56 = .ok (.getfield 76, 3) := dk_180 0 76 (dk_at dksX0_of_2 4 rfl rfl)
theorem dX0_of_59 : decode cX0_of 59 = .ok (.iload_n 1, 1) := dk_27 (dk_at dksX0_of_2 7 rfl rfl)
theorem dX0_of_60 : decode cX0_of 60 = .ok (.iaload, 1) := dk_46 (dk_at dksX0_of_2 8 rfl rfl)
theorem dX0_of_61 : decode cX0_of 61 = .ok (.ireturn, 1) := dk_172 (dk_at dksX0_of_2 9 rfl rfl)
theorem dX0_of_62 : decode cX0_of 62 = .ok (.aload_n 0, 1) := dk_42 (dk_at dksX0_of_2 10 rfl rfl)
theorem dX0_of_63 : decode cX0_of 63 = .ok (.getfield 21, 3) := dk_180 0 21 (dk_at dksX0_of_2 11 rfl rfl)
theorem dX0_of_66 : decode cX0_of 66 = .ok (.getfield 155, 3) := dk_180 0 155 (dk_at dksX0_of_2 14 rfl rfl)
theorem dX0_of_69 : decode cX0_of 69 = .ok (.bipush 8, 2) := dk_16 8 (dk_at dksX0_of_2 17 rfl rfl)
theorem dX0_of_71 : decode cX0_of 71 = .ok (.iload_n 1, 1) := dk_27 (dk_at dksX0_of_2 19 rfl rfl)
theorem dX0_of_72 : decode cX0_of 72 = .ok (.iadd, 1) := dk_96 (dk_at dksX0_of_2 20 rfl rfl)
theorem dX0_of_73 : decode cX0_of 73 = .ok (.iaload, 1) := dk_46 (dk_at dksX0_of_2 21 rfl rfl)
theorem dX0_of_74 : decode cX0_of 74 = .ok (.ireturn, 1) := dk_172 (dk_at dksX0_of_2 22 rfl rfl)
theorem dX0_of_75 : decode cX0_of 75 = .ok (.aload_n 0, 1) := dk_42 (dk_at dksX0_of_2 23 rfl rfl)
theorem dX0_of_76 : decode cX0_of 76 = .ok (.aload_n 0, 1) := dk_42 (dk_at dksX0_of_3 0 rfl rfl)
theorem dX0_of_77 : decode cX0_of 77 = .ok (.getfield 21, 3) := dk_180 0 21 (dk_at dksX0_of_3 1 rfl rfl)
theorem dX0_of_80 : decode cX0_of 80 = .ok (.getfield 155, 3) := dk_180 0 155 (dk_at dksX0_of_3 4 rfl rfl)
theorem dX0_of_83 : decode cX0_of 83 = .ok (.iload_n 1, 1) := dk_27 (dk_at dksX0_of_3 7 rfl rfl)
theorem dX0_of_84 : decode cX0_of 84 = .ok (.invokevirtual 117, 3) := dk_182 0 117 (dk_at dksX0_of_3 8 rfl rfl)
theorem dX0_of_87 : decode cX0_of 87 = .ok (.ireturn, 1) := dk_172 (dk_at dksX0_of_3 11 rfl rfl)
theorem dX0_of_88 : decode cX0_of 88 = .ok (.aload_n 0, 1) := dk_42 (dk_at dksX0_of_3 12 rfl rfl)
theorem dX0_of_89 : decode cX0_of 89 = .ok (.getfield 21, 3) := dk_180 0 21 (dk_at dksX0_of_3 13 rfl rfl)
theorem dX0_of_92 : decode cX0_of 92 = .ok (.getfield 155, 3) := dk_180 0 155 (dk_at dksX0_of_3 16 rfl rfl)
theorem dX0_of_95 : decode cX0_of 95 = .ok (.bipush 14, 2) := dk_16 14 (dk_at dksX0_of_3 19 rfl rfl)
theorem dX0_of_97 : decode cX0_of 97 = .ok (.iaload, 1) := dk_46 (dk_at dksX0_of_3 21 rfl rfl)
theorem dX0_of_98 : decode cX0_of 98 = .ok (.iload_n 1, 1) := dk_27 (dk_at dksX0_of_3 22 rfl rfl)
theorem dX0_of_99 : decode cX0_of 99 = .ok (.ishr, 1) := dk_122 (dk_at dksX0_of_3 23 rfl rfl)
theorem dX0_of_100 : decode cX0_of 100 = .ok (.iconst 1, 1) := dk_4 (dk_at dksX0_of_4 0 rfl rfl)
theorem dX0_of_101 : decode cX0_of 101 = .ok (.iand, 1) := dk_126 (dk_at dksX0_of_4 1 rfl rfl)
theorem dX0_of_102 : decode cX0_of 102 = .ok (.ireturn, 1) := dk_172 (dk_at dksX0_of_4 2 rfl rfl)
theorem dX0_of_103 : decode cX0_of 103 = .ok (.aload_n 0, 1) := dk_42 (dk_at dksX0_of_4 3 rfl rfl)
theorem dX0_of_104 : decode cX0_of 104 = .ok (.aload_n 0, 1) := dk_42 (dk_at dksX0_of_4 4 rfl rfl)
theorem dX0_of_105 : decode cX0_of 105 = .ok (.invokevirtual 147, 3) := dk_182 0 147 (dk_at dksX0_of_4 5 rfl rfl)
theorem dX0_of_108 : decode cX0_of 108 = .ok (.aload_n 0, 1) := dk_42 (dk_at dksX0_of_4 8 rfl rfl)
theorem dX0_of_109 : decode cX0_of 109 = .ok (.getfield 21, 3) := dk_180 0 21 (dk_at dksX0_of_4 9 rfl rfl)
theorem dX0_of_112 : decode cX0_of 112 = .ok (.getfield 155, 3) := dk_180 0 155 (dk_at dksX0_of_4 12 rfl rfl)
theorem dX0_of_115 : decode cX0_of 115 = .ok (.iload_n 1, 1) := dk_27 (dk_at dksX0_of_4 15 rfl rfl)
theorem dX0_of_116 : decode cX0_of 116 = .ok (.invokevirtual 197, 3) := dk_182 0 197 (dk_at dksX0_of_4 16 rfl rfl)
theorem dX0_of_119 : decode cX0_of 119 = .ok (.ireturn, 1) := dk_172 (dk_at dksX0_of_4 19 rfl rfl)
theorem dX0_of_120 : decode cX0_of 120 = .ok (.aload_n 0, 1) := dk_42 (dk_at dksX0_of_4 20 rfl rfl)
theorem dX0_of_121 : decode cX0_of 121 = .ok (.aload_n 0, 1) := dk_42 (dk_at dksX0_of_4 21 rfl rfl)
theorem dX0_of_122 : decode cX0_of 122 = .ok (.getfield 21, 3) := dk_180 0 21 (dk_at dksX0_of_5 0 rfl rfl)
theorem dX0_of_125 : decode cX0_of 125 = .ok (.getfield 155, 3) := dk_180 0 155 (dk_at dksX0_of_5 3 rfl rfl)
theorem dX0_of_128 : decode cX0_of 128 = .ok (.iload_n 1, 1) := dk_27 (dk_at dksX0_of_5 6 rfl rfl)
theorem dX0_of_129 : decode cX0_of 129 = .ok (.invokevirtual 201, 3) := dk_182 0 201 (dk_at dksX0_of_5 7 rfl rfl)
theorem dX0_of_132 : decode cX0_of 132 = .ok (.ireturn, 1) := dk_172 (dk_at dksX0_of_5 10 rfl rfl)
theorem dX0_of_133 : decode cX0_of 133 = .ok (.aload_n 0, 1) := dk_42 (dk_at dksX0_of_5 11 rfl rfl)
theorem dX0_of_134 : decode cX0_of 134 = .ok (.aload_n 0, 1) := dk_42 (dk_at dksX0_of_5 12 rfl rfl)
theorem dX0_of_135 : decode cX0_of 135 = .ok (.getfield 21, 3) := dk_180 0 21 (dk_at dksX0_of_5 13 rfl rfl)
theorem dX0_of_138 : decode cX0_of 138 = .ok (.getfield 155, 3) := dk_180 0 155 (dk_at dksX0_of_5 16 rfl rfl)
theorem dX0_of_141 : decode cX0_of 141 = .ok (.iload_n 1, 1) := dk_27 (dk_at dksX0_of_5 19 rfl rfl)
theorem dX0_of_142 : decode cX0_of 142 = .ok (.invokevirtual 124, 3) := dk_182 0 124 (dk_at dksX0_of_5 20 rfl rfl)
theorem dX0_of_145 : decode cX0_of 145 = .ok (.ireturn, 1) := dk_172 (dk_at dksX0_of_5 23 rfl rfl)
theorem dX0_of_146 : decode cX0_of 146 = .ok (.iconst (-1), 1) := dk_2 (dk_at dksX0_of_6 0 rfl rfl)
theorem dX0_of_147 : decode cX0_of 147 = .ok (.ireturn, 1) := dk_172 (dk_at dksX0_of_6 1 rfl rfl)
abbrev cX0_at : ByteArray := prog_1_method_43_code
def yX0_at : MethodName := ⟨RX0, "at", "(I)I"⟩
def dkwX0_at_0 : List UInt8 := [42, 27, 182, 0, 152, 153, 0, 17, 42, 180, 0, 21, 180, 0, 155, 5, 27, 96, 46, 167, 0, 4, 2, 172]
abbrev dktX0_at_0 : List UInt8 := dkwX0_at_0 ++ []
theorem dksX0_at_0 : cX0_at.data.toList.drop 0 = dktX0_at_0 := by decide +kernel
theorem dX0_at_0 : decode cX0_at 0 = .ok (.aload_n 0, 1) := dk_42 (dk_at dksX0_at_0 0 rfl rfl)
theorem dX0_at_1 : decode cX0_at 1 = .ok (.iload_n 1, 1) := dk_27 (dk_at dksX0_at_0 1 rfl rfl)
theorem dX0_at_2 : decode cX0_at 2 = .ok (.invokevirtual 152, 3) := dk_182 0 152 (dk_at dksX0_at_0 2 rfl rfl)
theorem dX0_at_5 : decode cX0_at 5 = .ok (.ifCond .eq 17, 3) := dk_153 0 17 (dk_at dksX0_at_0 5 rfl rfl)
theorem dX0_at_8 : decode cX0_at 8 = .ok (.aload_n 0, 1) := dk_42 (dk_at dksX0_at_0 8 rfl rfl)
theorem dX0_at_9 : decode cX0_at 9 = .ok (.getfield 21, 3) := dk_180 0 21 (dk_at dksX0_at_0 9 rfl rfl)
theorem dX0_at_12 : decode cX0_at 12 = .ok (.getfield 155, 3) := dk_180 0 155 (dk_at dksX0_at_0 12 rfl rfl)
theorem dX0_at_15 : decode cX0_at 15 = .ok (.iconst 2, 1) := dk_5 (dk_at dksX0_at_0 15 rfl rfl)
theorem dX0_at_16 : decode cX0_at 16 = .ok (.iload_n 1, 1) := dk_27 (dk_at dksX0_at_0 16 rfl rfl)
theorem dX0_at_17 : decode cX0_at 17 = .ok (.iadd, 1) := dk_96 (dk_at dksX0_at_0 17 rfl rfl)
theorem dX0_at_18 : decode cX0_at 18 = .ok (.iaload, 1) := dk_46 (dk_at dksX0_at_0 18 rfl rfl)
theorem dX0_at_19 : decode cX0_at 19 = .ok (.goto 4, 3) := dk_167 0 4 (dk_at dksX0_at_0 19 rfl rfl)
theorem dX0_at_22 : decode cX0_at 22 = .ok (.iconst (-1), 1) := dk_2 (dk_at dksX0_at_0 22 rfl rfl)
theorem dX0_at_23 : decode cX0_at 23 = .ok (.ireturn, 1) := dk_172 (dk_at dksX0_at_0 23 rfl rfl)
abbrev cX0_is : ByteArray := prog_1_method_45_code
def yX0_is : MethodName := ⟨RX0, "is", "(I)I"⟩
def dkwX0_is_3 : List UInt8 := [172, 42, 180, 0, 21, 180, 0, 155, 16, 14, 46, 172, 16, 254, 172]
abbrev dktX0_is_3 : List UInt8 := dkwX0_is_3 ++ []
def dkwX0_is_2 : List UInt8 := [42, 180, 0, 21, 180, 0, 155, 3, 46, 172, 42, 180, 0, 21, 180, 0, 155, 4, 46, 172, 42, 182, 1, 19]
abbrev dktX0_is_2 : List UInt8 := dkwX0_is_2 ++ dktX0_is_3
def dkwX0_is_1 : List UInt8 := [170, 0, 0, 0, 0, 0, 67, 0, 0, 0, 0, 0, 0, 0, 3, 0, 0, 0, 31, 0, 0, 0, 41, 0, 0, 0, 51, 0, 0, 0, 56]
abbrev dktX0_is_1 : List UInt8 := dkwX0_is_1 ++ dktX0_is_2
def dkwX0_is_0 : List UInt8 := [27]
abbrev dktX0_is_0 : List UInt8 := dkwX0_is_0 ++ dktX0_is_1
theorem dksX0_is_0 : cX0_is.data.toList.drop 0 = dktX0_is_0 := by decide +kernel
theorem dksX0_is_1 : cX0_is.data.toList.drop 1 = dktX0_is_1 := dk_seg dksX0_is_0 1 rfl rfl
theorem dksX0_is_2 : cX0_is.data.toList.drop 32 = dktX0_is_2 := dk_seg dksX0_is_1 31 rfl rfl
theorem dksX0_is_3 : cX0_is.data.toList.drop 56 = dktX0_is_3 := dk_seg dksX0_is_2 24 rfl rfl
theorem dX0_is_0 : decode cX0_is 0 = .ok (.iload_n 1, 1) := dk_27 (dk_at dksX0_is_0 0 rfl rfl)
theorem dX0_is_1 : decode cX0_is 1 = .ok (.tableswitch 67 0 3 #[31, 41, 51, 56], 31) := by decide +kernel
theorem dX0_is_32 : decode cX0_is 32 = .ok (.aload_n 0, 1) := dk_42 (dk_at dksX0_is_2 0 rfl rfl)
theorem dX0_is_33 : decode cX0_is 33 = .ok (.getfield 21, 3) := dk_180 0 21 (dk_at dksX0_is_2 1 rfl rfl)
theorem dX0_is_36 : decode cX0_is 36 = .ok (.getfield 155, 3) := dk_180 0 155 (dk_at dksX0_is_2 4 rfl rfl)
theorem dX0_is_39 : decode cX0_is 39 = .ok (.iconst 0, 1) := dk_3 (dk_at dksX0_is_2 7 rfl rfl)
theorem dX0_is_40 : decode cX0_is 40 = .ok (.iaload, 1) := dk_46 (dk_at dksX0_is_2 8 rfl rfl)
theorem dX0_is_41 : decode cX0_is 41 = .ok (.ireturn, 1) := dk_172 (dk_at dksX0_is_2 9 rfl rfl)
theorem dX0_is_42 : decode cX0_is 42 = .ok (.aload_n 0, 1) := dk_42 (dk_at dksX0_is_2 10 rfl rfl)
theorem dX0_is_43 : decode cX0_is 43 = .ok (.getfield 21, 3) := dk_180 0 21 (dk_at dksX0_is_2 11 rfl rfl)
theorem dX0_is_46 : decode cX0_is 46 = .ok (.getfield 155, 3) := dk_180 0 155 (dk_at dksX0_is_2 14 rfl rfl)
theorem dX0_is_49 : decode cX0_is 49 = .ok (.iconst 1, 1) := dk_4 (dk_at dksX0_is_2 17 rfl rfl)
theorem dX0_is_50 : decode cX0_is 50 = .ok (.iaload, 1) := dk_46 (dk_at dksX0_is_2 18 rfl rfl)
theorem dX0_is_51 : decode cX0_is 51 = .ok (.ireturn, 1) := dk_172 (dk_at dksX0_is_2 19 rfl rfl)
theorem dX0_is_52 : decode cX0_is 52 = .ok (.aload_n 0, 1) := dk_42 (dk_at dksX0_is_2 20 rfl rfl)
theorem dX0_is_53 : decode cX0_is 53 = .ok (.invokevirtual 275, 3) := dk_182 1 19 (dk_at dksX0_is_2 21 rfl rfl)
theorem dX0_is_56 : decode cX0_is 56 = .ok (.ireturn, 1) := dk_172 (dk_at dksX0_is_3 0 rfl rfl)
theorem dX0_is_57 : decode cX0_is 57 = .ok (.aload_n 0, 1) := dk_42 (dk_at dksX0_is_3 1 rfl rfl)
theorem dX0_is_58 : decode cX0_is 58 = .ok (.getfield 21, 3) := dk_180 0 21 (dk_at dksX0_is_3 2 rfl rfl)
theorem dX0_is_61 : decode cX0_is 61 = .ok (.getfield 155, 3) := dk_180 0 155 (dk_at dksX0_is_3 5 rfl rfl)
theorem dX0_is_64 : decode cX0_is 64 = .ok (.bipush 14, 2) := dk_16 14 (dk_at dksX0_is_3 8 rfl rfl)
theorem dX0_is_66 : decode cX0_is 66 = .ok (.iaload, 1) := dk_46 (dk_at dksX0_is_3 10 rfl rfl)
theorem dX0_is_67 : decode cX0_is 67 = .ok (.ireturn, 1) := dk_172 (dk_at dksX0_is_3 11 rfl rfl)
theorem dX0_is_68 : decode cX0_is 68 = .ok (.bipush (-2), 2) := dk_16 254 (dk_at dksX0_is_3 12 rfl rfl)
theorem dX0_is_70 : decode cX0_is 70 = .ok (.ireturn, 1) := dk_172 (dk_at dksX0_is_3 14 rfl rfl)
abbrev cX0_keptOfAll : ByteArray := prog_1_method_44_code
def yX0_keptOfAll : MethodName := ⟨RX0, "keptOfAll", "()I"⟩
def dkwX0_keptOfAll_1 : List UInt8 := [46, 96, 60, 132, 2, 1, 167, 255, 230, 27, 172]
abbrev dktX0_keptOfAll_1 : List UInt8 := dkwX0_keptOfAll_1 ++ []
def dkwX0_keptOfAll_0 : List UInt8 := [3, 60, 3, 61, 28, 42, 182, 0, 68, 162, 0, 24, 27, 42, 180, 0, 21, 180, 0, 155, 16, 8, 28, 96]
abbrev dktX0_keptOfAll_0 : List UInt8 := dkwX0_keptOfAll_0 ++ dktX0_keptOfAll_1
theorem dksX0_keptOfAll_0 : cX0_keptOfAll.data.toList.drop 0 = dktX0_keptOfAll_0 := by decide +kernel
theorem dksX0_keptOfAll_1 : cX0_keptOfAll.data.toList.drop 24 = dktX0_keptOfAll_1 := dk_seg dksX0_keptOfAll_0 24 rfl rfl
theorem dX0_keptOfAll_0 : decode cX0_keptOfAll 0 = .ok (.iconst 0, 1) := dk_3 (dk_at dksX0_keptOfAll_0 0 rfl rfl)
theorem dX0_keptOfAll_1 : decode cX0_keptOfAll 1 = .ok (.istore_n 1, 1) := dk_60 (dk_at dksX0_keptOfAll_0 1 rfl rfl)
theorem dX0_keptOfAll_2 : decode cX0_keptOfAll 2 = .ok (.iconst 0, 1) := dk_3 (dk_at dksX0_keptOfAll_0 2 rfl rfl)
theorem dX0_keptOfAll_3 : decode cX0_keptOfAll 3 = .ok (.istore_n 2, 1) := dk_61 (dk_at dksX0_keptOfAll_0 3 rfl rfl)
theorem dX0_keptOfAll_4 : decode cX0_keptOfAll 4 = .ok (.iload_n 2, 1) := dk_28 (dk_at dksX0_keptOfAll_0 4 rfl rfl)
theorem dX0_keptOfAll_5 : decode cX0_keptOfAll 5 = .ok (.aload_n 0, 1) := dk_42 (dk_at dksX0_keptOfAll_0 5 rfl rfl)
theorem dX0_keptOfAll_6 : decode cX0_keptOfAll 6 = .ok (.invokevirtual 68, 3) := dk_182 0 68 (dk_at dksX0_keptOfAll_0 6 rfl rfl)
theorem dX0_keptOfAll_9 : decode cX0_keptOfAll 9 = .ok (.if_icmp .ge 24, 3) := dk_162 0 24 (dk_at dksX0_keptOfAll_0 9 rfl rfl)
theorem dX0_keptOfAll_12 : decode cX0_keptOfAll 12 = .ok (.iload_n 1, 1) := dk_27 (dk_at dksX0_keptOfAll_0 12 rfl rfl)
theorem dX0_keptOfAll_13 : decode cX0_keptOfAll 13 = .ok (.aload_n 0, 1) := dk_42 (dk_at dksX0_keptOfAll_0 13 rfl rfl)
theorem dX0_keptOfAll_14 : decode cX0_keptOfAll 14 = .ok (.getfield 21, 3) := dk_180 0 21 (dk_at dksX0_keptOfAll_0 14 rfl rfl)
theorem dX0_keptOfAll_17 : decode cX0_keptOfAll 17 = .ok (.getfield 155, 3) := dk_180 0 155 (dk_at dksX0_keptOfAll_0 17 rfl rfl)
theorem dX0_keptOfAll_20 : decode cX0_keptOfAll 20 = .ok (.bipush 8, 2) := dk_16 8 (dk_at dksX0_keptOfAll_0 20 rfl rfl)
theorem dX0_keptOfAll_22 : decode cX0_keptOfAll 22 = .ok (.iload_n 2, 1) := dk_28 (dk_at dksX0_keptOfAll_0 22 rfl rfl)
theorem dX0_keptOfAll_23 : decode cX0_keptOfAll 23 = .ok (.iadd, 1) := dk_96 (dk_at dksX0_keptOfAll_0 23 rfl rfl)
theorem dX0_keptOfAll_24 : decode cX0_keptOfAll 24 = .ok (.iaload, 1) := dk_46 (dk_at dksX0_keptOfAll_1 0 rfl rfl)
theorem dX0_keptOfAll_25 : decode cX0_keptOfAll 25 = .ok (.iadd, 1) := dk_96 (dk_at dksX0_keptOfAll_1 1 rfl rfl)
theorem dX0_keptOfAll_26 : decode cX0_keptOfAll 26 = .ok (.istore_n 1, 1) := dk_60 (dk_at dksX0_keptOfAll_1 2 rfl rfl)
theorem dX0_keptOfAll_27 : decode cX0_keptOfAll 27 = .ok (.iinc 2 1, 3) := dk_132 2 1 (dk_at dksX0_keptOfAll_1 3 rfl rfl)
theorem dX0_keptOfAll_30 : decode cX0_keptOfAll 30 = .ok (.goto (-26), 3) := dk_167 255 230 (dk_at dksX0_keptOfAll_1 6 rfl rfl)
theorem dX0_keptOfAll_33 : decode cX0_keptOfAll 33 = .ok (.iload_n 1, 1) := dk_27 (dk_at dksX0_keptOfAll_1 9 rfl rfl)
theorem dX0_keptOfAll_34 : decode cX0_keptOfAll 34 = .ok (.ireturn, 1) := dk_172 (dk_at dksX0_keptOfAll_1 10 rfl rfl)
abbrev cX0_book : ByteArray := prog_1_method_46_code
def yX0_book : MethodName := ⟨RX0, "book", "(II)I"⟩
def dkwX0_book_2 : List UInt8 := [180, 0, 21, 180, 0, 155, 16, 16, 7, 27, 104, 96, 28, 96, 46, 167, 0, 5, 16, 254, 172]
abbrev dktX0_book_2 : List UInt8 := dkwX0_book_2 ++ []
def dkwX0_book_1 : List UInt8 := [180, 0, 155, 16, 15, 46, 4, 100, 184, 0, 72, 153, 0, 31, 28, 3, 6, 184, 0, 72, 153, 0, 22, 42]
abbrev dktX0_book_1 : List UInt8 := dkwX0_book_1 ++ dktX0_book_2
def dkwX0_book_0 : List UInt8 := [27, 2, 160, 0, 14, 42, 180, 0, 21, 180, 0, 155, 16, 15, 46, 172, 27, 3, 42, 180, 0, 21]
abbrev dktX0_book_0 : List UInt8 := dkwX0_book_0 ++ dktX0_book_1
theorem dksX0_book_0 : cX0_book.data.toList.drop 0 = dktX0_book_0 := by decide +kernel
theorem dksX0_book_1 : cX0_book.data.toList.drop 22 = dktX0_book_1 := dk_seg dksX0_book_0 22 rfl rfl
theorem dksX0_book_2 : cX0_book.data.toList.drop 46 = dktX0_book_2 := dk_seg dksX0_book_1 24 rfl rfl
theorem dX0_book_0 : decode cX0_book 0 = .ok (.iload_n 1, 1) := dk_27 (dk_at dksX0_book_0 0 rfl rfl)
theorem dX0_book_1 : decode cX0_book 1 = .ok (.iconst (-1), 1) := dk_2 (dk_at dksX0_book_0 1 rfl rfl)
theorem dX0_book_2 : decode cX0_book 2 = .ok (.if_icmp .ne 14, 3) := dk_160 0 14 (dk_at dksX0_book_0 2 rfl rfl)
theorem dX0_book_5 : decode cX0_book 5 = .ok (.aload_n 0, 1) := dk_42 (dk_at dksX0_book_0 5 rfl rfl)
theorem dX0_book_6 : decode cX0_book 6 = .ok (.getfield 21, 3) := dk_180 0 21 (dk_at dksX0_book_0 6 rfl rfl)
theorem dX0_book_9 : decode cX0_book 9 = .ok (.getfield 155, 3) := dk_180 0 155 (dk_at dksX0_book_0 9 rfl rfl)
theorem dX0_book_12 : decode cX0_book 12 = .ok (.bipush 15, 2) := dk_16 15 (dk_at dksX0_book_0 12 rfl rfl)
theorem dX0_book_14 : decode cX0_book 14 = .ok (.iaload, 1) := dk_46 (dk_at dksX0_book_0 14 rfl rfl)
theorem dX0_book_15 : decode cX0_book 15 = .ok (.ireturn, 1) := dk_172 (dk_at dksX0_book_0 15 rfl rfl)
theorem dX0_book_16 : decode cX0_book 16 = .ok (.iload_n 1, 1) := dk_27 (dk_at dksX0_book_0 16 rfl rfl)
theorem dX0_book_17 : decode cX0_book 17 = .ok (.iconst 0, 1) := dk_3 (dk_at dksX0_book_0 17 rfl rfl)
theorem dX0_book_18 : decode cX0_book 18 = .ok (.aload_n 0, 1) := dk_42 (dk_at dksX0_book_0 18 rfl rfl)
theorem dX0_book_19 : decode cX0_book 19 = .ok (.getfield 21, 3) := dk_180 0 21 (dk_at dksX0_book_0 19 rfl rfl)
theorem dX0_book_22 : decode cX0_book 22 = .ok (.getfield 155, 3) := dk_180 0 155 (dk_at dksX0_book_1 0 rfl rfl)
theorem dX0_book_25 : decode cX0_book 25 = .ok (.bipush 15, 2) := dk_16 15 (dk_at dksX0_book_1 3 rfl rfl)
theorem dX0_book_27 : decode cX0_book 27 = .ok (.iaload, 1) := dk_46 (dk_at dksX0_book_1 5 rfl rfl)
theorem dX0_book_28 : decode cX0_book 28 = .ok (.iconst 1, 1) := dk_4 (dk_at dksX0_book_1 6 rfl rfl)
theorem dX0_book_29 : decode cX0_book 29 = .ok (.isub, 1) := dk_100 (dk_at dksX0_book_1 7 rfl rfl)
theorem dX0_book_30 : decode cX0_book 30 = .ok (.invokestatic 72, 3) := dk_184 0 72 (dk_at dksX0_book_1 8 rfl rfl)
theorem dX0_book_33 : decode cX0_book 33 = .ok (.ifCond .eq 31, 3) := dk_153 0 31 (dk_at dksX0_book_1 11 rfl rfl)
theorem dX0_book_36 : decode cX0_book 36 = .ok (.iload_n 2, 1) := dk_28 (dk_at dksX0_book_1 14 rfl rfl)
theorem dX0_book_37 : decode cX0_book 37 = .ok (.iconst 0, 1) := dk_3 (dk_at dksX0_book_1 15 rfl rfl)
theorem dX0_book_38 : decode cX0_book 38 = .ok (.iconst 3, 1) := dk_6 (dk_at dksX0_book_1 16 rfl rfl)
theorem dX0_book_39 : decode cX0_book 39 = .ok (.invokestatic 72, 3) := dk_184 0 72 (dk_at dksX0_book_1 17 rfl rfl)
theorem dX0_book_42 : decode cX0_book 42 = .ok (.ifCond .eq 22, 3) := dk_153 0 22 (dk_at dksX0_book_1 20 rfl rfl)
theorem dX0_book_45 : decode cX0_book 45 = .ok (.aload_n 0, 1) := dk_42 (dk_at dksX0_book_1 23 rfl rfl)
theorem dX0_book_46 : decode cX0_book 46 = .ok (.getfield 21, 3) := dk_180 0 21 (dk_at dksX0_book_2 0 rfl rfl)
theorem dX0_book_49 : decode cX0_book 49 = .ok (.getfield 155, 3) := dk_180 0 155 (dk_at dksX0_book_2 3 rfl rfl)
theorem dX0_book_52 : decode cX0_book 52 = .ok (.bipush 16, 2) := dk_16 16 (dk_at dksX0_book_2 6 rfl rfl)
theorem dX0_book_54 : decode cX0_book 54 = .ok (.iconst 4, 1) := dk_7 (dk_at dksX0_book_2 8 rfl rfl)
theorem dX0_book_55 : decode cX0_book 55 = .ok (.iload_n 1, 1) := dk_27 (dk_at dksX0_book_2 9 rfl rfl)
theorem dX0_book_56 : decode cX0_book 56 = .ok (.imul, 1) := dk_104 (dk_at dksX0_book_2 10 rfl rfl)
theorem dX0_book_57 : decode cX0_book 57 = .ok (.iadd, 1) := dk_96 (dk_at dksX0_book_2 11 rfl rfl)
theorem dX0_book_58 : decode cX0_book 58 = .ok (.iload_n 2, 1) := dk_28 (dk_at dksX0_book_2 12 rfl rfl)
theorem dX0_book_59 : decode cX0_book 59 = .ok (.iadd, 1) := dk_96 (dk_at dksX0_book_2 13 rfl rfl)
theorem dX0_book_60 : decode cX0_book 60 = .ok (.iaload, 1) := dk_46 (dk_at dksX0_book_2 14 rfl rfl)
theorem dX0_book_61 : decode cX0_book 61 = .ok (.goto 5, 3) := dk_167 0 5 (dk_at dksX0_book_2 15 rfl rfl)
theorem dX0_book_64 : decode cX0_book 64 = .ok (.bipush (-2), 2) := dk_16 254 (dk_at dksX0_book_2 18 rfl rfl)
theorem dX0_book_66 : decode cX0_book 66 = .ok (.ireturn, 1) := dk_172 (dk_at dksX0_book_2 20 rfl rfl)
abbrev cX0_foretold : ByteArray := prog_1_method_47_code
def yX0_foretold : MethodName := ⟨RX0, "foretold", "(II)I"⟩
def dkwX0_foretold_3 : List UInt8 := [132, 4, 1, 167, 255, 224, 42, 180, 0, 43, 16, 8, 28, 96, 46, 172]
abbrev dktX0_foretold_3 : List UInt8 := dkwX0_foretold_3 ++ []
def dkwX0_foretold_2 : List UInt8 := [180, 0, 43, 3, 46, 17, 39, 15, 162, 0, 20, 29, 42, 42, 180, 0, 43, 182, 0, 207, 96, 62]
abbrev dktX0_foretold_2 : List UInt8 := dkwX0_foretold_2 ++ dktX0_foretold_3
def dkwX0_foretold_1 : List UInt8 := [180, 0, 155, 42, 180, 0, 43, 184, 1, 15, 3, 62, 3, 54, 4, 21, 4, 27, 162, 0, 32, 42]
abbrev dktX0_foretold_1 : List UInt8 := dkwX0_foretold_1 ++ dktX0_foretold_2
def dkwX0_foretold_0 : List UInt8 := [27, 4, 16, 60, 184, 0, 72, 153, 0, 11, 42, 28, 182, 0, 152, 154, 0, 5, 2, 172, 42, 180, 0, 21]
abbrev dktX0_foretold_0 : List UInt8 := dkwX0_foretold_0 ++ dktX0_foretold_1
theorem dksX0_foretold_0 : cX0_foretold.data.toList.drop 0 = dktX0_foretold_0 := by decide +kernel
theorem dksX0_foretold_1 : cX0_foretold.data.toList.drop 24 = dktX0_foretold_1 := dk_seg dksX0_foretold_0 24 rfl rfl
theorem dksX0_foretold_2 : cX0_foretold.data.toList.drop 46 = dktX0_foretold_2 := dk_seg dksX0_foretold_1 22 rfl rfl
theorem dksX0_foretold_3 : cX0_foretold.data.toList.drop 68 = dktX0_foretold_3 := dk_seg dksX0_foretold_2 22 rfl rfl
theorem dX0_foretold_0 : decode cX0_foretold 0 = .ok (.iload_n 1, 1) := dk_27 (dk_at dksX0_foretold_0 0 rfl rfl)
theorem dX0_foretold_1 : decode cX0_foretold 1 = .ok (.iconst 1, 1) := dk_4 (dk_at dksX0_foretold_0 1 rfl rfl)
theorem dX0_foretold_2 : decode cX0_foretold 2 = .ok (.bipush 60, 2) := dk_16 60 (dk_at dksX0_foretold_0 2 rfl rfl)
theorem dX0_foretold_4 : decode cX0_foretold 4 = .ok (.invokestatic 72, 3) := dk_184 0 72 (dk_at dksX0_foretold_0 4 rfl rfl)
theorem dX0_foretold_7 : decode cX0_foretold 7 = .ok (.ifCond .eq 11, 3) := dk_153 0 11 (dk_at dksX0_foretold_0 7 rfl rfl)
theorem dX0_foretold_10 : decode cX0_foretold 10 = .ok (.aload_n 0, 1) := dk_42 (dk_at dksX0_foretold_0 10 rfl rfl)
theorem dX0_foretold_11 : decode cX0_foretold 11 = .ok (.iload_n 2, 1) := dk_28 (dk_at dksX0_foretold_0 11 rfl rfl)
theorem dX0_foretold_12 : decode cX0_foretold 12 = .ok (.invokevirtual 152, 3) := dk_182 0 152 (dk_at dksX0_foretold_0 12 rfl rfl)
theorem dX0_foretold_15 : decode cX0_foretold 15 = .ok (.ifCond .ne 5, 3) := dk_154 0 5 (dk_at dksX0_foretold_0 15 rfl rfl)
theorem dX0_foretold_18 : decode cX0_foretold 18 = .ok (.iconst (-1), 1) := dk_2 (dk_at dksX0_foretold_0 18 rfl rfl)
theorem dX0_foretold_19 : decode cX0_foretold 19 = .ok (.ireturn, 1) := dk_172 (dk_at dksX0_foretold_0 19 rfl rfl)
theorem dX0_foretold_20 : decode cX0_foretold 20 = .ok (.aload_n 0, 1) := dk_42 (dk_at dksX0_foretold_0 20 rfl rfl)
theorem dX0_foretold_21 : decode cX0_foretold 21 = .ok (.getfield 21, 3) := dk_180 0 21 (dk_at dksX0_foretold_0 21 rfl rfl)
theorem dX0_foretold_24 : decode cX0_foretold 24 = .ok (.getfield 155, 3) := dk_180 0 155 (dk_at dksX0_foretold_1 0 rfl rfl)
theorem dX0_foretold_27 : decode cX0_foretold 27 = .ok (.aload_n 0, 1) := dk_42 (dk_at dksX0_foretold_1 3 rfl rfl)
theorem dX0_foretold_28 : decode cX0_foretold 28 = .ok (.getfield 43, 3) := dk_180 0 43 (dk_at dksX0_foretold_1 4 rfl rfl)
theorem dX0_foretold_31 : decode cX0_foretold 31 = .ok (.invokestatic 271, 3) := dk_184 1 15 (dk_at dksX0_foretold_1 7 rfl rfl)
theorem dX0_foretold_34 : decode cX0_foretold 34 = .ok (.iconst 0, 1) := dk_3 (dk_at dksX0_foretold_1 10 rfl rfl)
theorem dX0_foretold_35 : decode cX0_foretold 35 = .ok (.istore_n 3, 1) := dk_62 (dk_at dksX0_foretold_1 11 rfl rfl)
theorem dX0_foretold_36 : decode cX0_foretold 36 = .ok (.iconst 0, 1) := dk_3 (dk_at dksX0_foretold_1 12 rfl rfl)
theorem dX0_foretold_37 : decode cX0_foretold 37 = .ok (.istore 4, 2) := dk_54 4 (dk_at dksX0_foretold_1 13 rfl rfl)
theorem dX0_foretold_39 : decode cX0_foretold 39 = .ok (.iload 4, 2) := dk_21 4 (dk_at dksX0_foretold_1 15 rfl rfl)
theorem dX0_foretold_41 : decode cX0_foretold 41 = .ok (.iload_n 1, 1) := dk_27 (dk_at dksX0_foretold_1 17 rfl rfl)
theorem dX0_foretold_42 : decode cX0_foretold 42 = .ok (.if_icmp .ge 32, 3) := dk_162 0 32 (dk_at dksX0_foretold_1 18 rfl rfl)
theorem dX0_foretold_45 : decode cX0_foretold 45 = .ok (.aload_n 0, 1) := dk_42 (dk_at dksX0_foretold_1 21 rfl rfl)
theorem dX0_foretold_46 : decode cX0_foretold 46 = .ok (.getfield 43, 3) := dk_180 0 43 (dk_at dksX0_foretold_2 0 rfl rfl)
theorem dX0_foretold_49 : decode cX0_foretold 49 = .ok (.iconst 0, 1) := dk_3 (dk_at dksX0_foretold_2 3 rfl rfl)
theorem dX0_foretold_50 : decode cX0_foretold 50 = .ok (.iaload, 1) := dk_46 (dk_at dksX0_foretold_2 4 rfl rfl)
theorem dX0_foretold_51 : decode cX0_foretold 51 = .ok (.sipush 9999, 3) := dk_17 39 15 (dk_at dksX0_foretold_2 5 rfl rfl)
theorem dX0_foretold_54 : decode cX0_foretold 54 = .ok (.if_icmp .ge 20, 3) := dk_162 0 20 (dk_at dksX0_foretold_2 8 rfl rfl)
theorem dX0_foretold_57 : decode cX0_foretold 57 = .ok (.iload_n 3, 1) := dk_29 (dk_at dksX0_foretold_2 11 rfl rfl)
theorem dX0_foretold_58 : decode cX0_foretold 58 = .ok (.aload_n 0, 1) := dk_42 (dk_at dksX0_foretold_2 12 rfl rfl)
theorem dX0_foretold_59 : decode cX0_foretold 59 = .ok (.aload_n 0, 1) := dk_42 (dk_at dksX0_foretold_2 13 rfl rfl)
theorem dX0_foretold_60 : decode cX0_foretold 60 = .ok (.getfield 43, 3) := dk_180 0 43 (dk_at dksX0_foretold_2 14 rfl rfl)
theorem dX0_foretold_63 : decode cX0_foretold 63 = .ok (.invokevirtual 207, 3) := dk_182 0 207 (dk_at dksX0_foretold_2 17 rfl rfl)
theorem dX0_foretold_66 : decode cX0_foretold 66 = .ok (.iadd, 1) := dk_96 (dk_at dksX0_foretold_2 20 rfl rfl)
theorem dX0_foretold_67 : decode cX0_foretold 67 = .ok (.istore_n 3, 1) := dk_62 (dk_at dksX0_foretold_2 21 rfl rfl)
theorem dX0_foretold_68 : decode cX0_foretold 68 = .ok (.iinc 4 1, 3) := dk_132 4 1 (dk_at dksX0_foretold_3 0 rfl rfl)
theorem dX0_foretold_71 : decode cX0_foretold 71 = .ok (.goto (-32), 3) := dk_167 255 224 (dk_at dksX0_foretold_3 3 rfl rfl)
theorem dX0_foretold_74 : decode cX0_foretold 74 = .ok (.aload_n 0, 1) := dk_42 (dk_at dksX0_foretold_3 6 rfl rfl)
theorem dX0_foretold_75 : decode cX0_foretold 75 = .ok (.getfield 43, 3) := dk_180 0 43 (dk_at dksX0_foretold_3 7 rfl rfl)
theorem dX0_foretold_78 : decode cX0_foretold 78 = .ok (.bipush 8, 2) := dk_16 8 (dk_at dksX0_foretold_3 10 rfl rfl)
theorem dX0_foretold_80 : decode cX0_foretold 80 = .ok (.iload_n 2, 1) := dk_28 (dk_at dksX0_foretold_3 12 rfl rfl)
theorem dX0_foretold_81 : decode cX0_foretold 81 = .ok (.iadd, 1) := dk_96 (dk_at dksX0_foretold_3 13 rfl rfl)
theorem dX0_foretold_82 : decode cX0_foretold 82 = .ok (.iaload, 1) := dk_46 (dk_at dksX0_foretold_3 14 rfl rfl)
theorem dX0_foretold_83 : decode cX0_foretold 83 = .ok (.ireturn, 1) := dk_172 (dk_at dksX0_foretold_3 15 rfl rfl)
abbrev cX0_spite : ByteArray := prog_1_method_48_code
def yX0_spite : MethodName := ⟨RX0, "spite", "(III)Z"⟩
def dkwX0_spite_2 : List UInt8 := [172]
abbrev dktX0_spite_2 : List UInt8 := dkwX0_spite_2 ++ []
def dkwX0_spite_1 : List UInt8 := [180, 0, 21, 180, 1, 22, 27, 50, 28, 29, 79, 42, 180, 0, 21, 180, 1, 22, 28, 50, 27, 29, 79, 4]
abbrev dktX0_spite_1 : List UInt8 := dkwX0_spite_1 ++ dktX0_spite_2
def dkwX0_spite_0 : List UInt8 := [42, 27, 28, 182, 0, 177, 153, 0, 13, 29, 3, 16, 99, 184, 0, 72, 154, 0, 5, 3, 172, 42]
abbrev dktX0_spite_0 : List UInt8 := dkwX0_spite_0 ++ dktX0_spite_1
theorem dksX0_spite_0 : cX0_spite.data.toList.drop 0 = dktX0_spite_0 := by decide +kernel
theorem dksX0_spite_1 : cX0_spite.data.toList.drop 22 = dktX0_spite_1 := dk_seg dksX0_spite_0 22 rfl rfl
theorem dksX0_spite_2 : cX0_spite.data.toList.drop 46 = dktX0_spite_2 := dk_seg dksX0_spite_1 24 rfl rfl
theorem dX0_spite_0 : decode cX0_spite 0 = .ok (.aload_n 0, 1) := dk_42 (dk_at dksX0_spite_0 0 rfl rfl)
theorem dX0_spite_1 : decode cX0_spite 1 = .ok (.iload_n 1, 1) := dk_27 (dk_at dksX0_spite_0 1 rfl rfl)
theorem dX0_spite_2 : decode cX0_spite 2 = .ok (.iload_n 2, 1) := dk_28 (dk_at dksX0_spite_0 2 rfl rfl)
theorem dX0_spite_3 : decode cX0_spite 3 = .ok (.invokevirtual 177, 3) := dk_182 0 177 (dk_at dksX0_spite_0 3 rfl rfl)
theorem dX0_spite_6 : decode cX0_spite 6 = .ok (.ifCond .eq 13, 3) := dk_153 0 13 (dk_at dksX0_spite_0 6 rfl rfl)
theorem dX0_spite_9 : decode cX0_spite 9 = .ok (.iload_n 3, 1) := dk_29 (dk_at dksX0_spite_0 9 rfl rfl)
theorem dX0_spite_10 : decode cX0_spite 10 = .ok (.iconst 0, 1) := dk_3 (dk_at dksX0_spite_0 10 rfl rfl)
theorem dX0_spite_11 : decode cX0_spite 11 = .ok (.bipush 99, 2) := dk_16 99 (dk_at dksX0_spite_0 11 rfl rfl)
theorem dX0_spite_13 : decode cX0_spite 13 = .ok (.invokestatic 72, 3) := dk_184 0 72 (dk_at dksX0_spite_0 13 rfl rfl)
theorem dX0_spite_16 : decode cX0_spite 16 = .ok (.ifCond .ne 5, 3) := dk_154 0 5 (dk_at dksX0_spite_0 16 rfl rfl)
theorem dX0_spite_19 : decode cX0_spite 19 = .ok (.iconst 0, 1) := dk_3 (dk_at dksX0_spite_0 19 rfl rfl)
theorem dX0_spite_20 : decode cX0_spite 20 = .ok (.ireturn, 1) := dk_172 (dk_at dksX0_spite_0 20 rfl rfl)
theorem dX0_spite_21 : decode cX0_spite 21 = .ok (.aload_n 0, 1) := dk_42 (dk_at dksX0_spite_0 21 rfl rfl)
theorem dX0_spite_22 : decode cX0_spite 22 = .ok (.getfield 21, 3) := dk_180 0 21 (dk_at dksX0_spite_1 0 rfl rfl)
theorem dX0_spite_25 : decode cX0_spite 25 = .ok (.getfield 278, 3) := dk_180 1 22 (dk_at dksX0_spite_1 3 rfl rfl)
theorem dX0_spite_28 : decode cX0_spite 28 = .ok (.iload_n 1, 1) := dk_27 (dk_at dksX0_spite_1 6 rfl rfl)
theorem dX0_spite_29 : decode cX0_spite 29 = .ok (.aaload, 1) := dk_50 (dk_at dksX0_spite_1 7 rfl rfl)
theorem dX0_spite_30 : decode cX0_spite 30 = .ok (.iload_n 2, 1) := dk_28 (dk_at dksX0_spite_1 8 rfl rfl)
theorem dX0_spite_31 : decode cX0_spite 31 = .ok (.iload_n 3, 1) := dk_29 (dk_at dksX0_spite_1 9 rfl rfl)
theorem dX0_spite_32 : decode cX0_spite 32 = .ok (.iastore, 1) := dk_79 (dk_at dksX0_spite_1 10 rfl rfl)
theorem dX0_spite_33 : decode cX0_spite 33 = .ok (.aload_n 0, 1) := dk_42 (dk_at dksX0_spite_1 11 rfl rfl)
theorem dX0_spite_34 : decode cX0_spite 34 = .ok (.getfield 21, 3) := dk_180 0 21 (dk_at dksX0_spite_1 12 rfl rfl)
theorem dX0_spite_37 : decode cX0_spite 37 = .ok (.getfield 278, 3) := dk_180 1 22 (dk_at dksX0_spite_1 15 rfl rfl)
theorem dX0_spite_40 : decode cX0_spite 40 = .ok (.iload_n 2, 1) := dk_28 (dk_at dksX0_spite_1 18 rfl rfl)
theorem dX0_spite_41 : decode cX0_spite 41 = .ok (.aaload, 1) := dk_50 (dk_at dksX0_spite_1 19 rfl rfl)
theorem dX0_spite_42 : decode cX0_spite 42 = .ok (.iload_n 1, 1) := dk_27 (dk_at dksX0_spite_1 20 rfl rfl)
theorem dX0_spite_43 : decode cX0_spite 43 = .ok (.iload_n 3, 1) := dk_29 (dk_at dksX0_spite_1 21 rfl rfl)
theorem dX0_spite_44 : decode cX0_spite 44 = .ok (.iastore, 1) := dk_79 (dk_at dksX0_spite_1 22 rfl rfl)
theorem dX0_spite_45 : decode cX0_spite 45 = .ok (.iconst 1, 1) := dk_4 (dk_at dksX0_spite_1 23 rfl rfl)
theorem dX0_spite_46 : decode cX0_spite 46 = .ok (.ireturn, 1) := dk_172 (dk_at dksX0_spite_2 0 rfl rfl)
abbrev cX0_round : ByteArray := prog_1_method_52_code
def yX0_round : MethodName := ⟨RX0, "round", "(Z)I"⟩
def dkwX0_round_0 : List UInt8 := [42, 182, 1, 43, 27, 153, 0, 10, 42, 180, 1, 33, 167, 0, 7, 42, 180, 1, 28, 172]
abbrev dktX0_round_0 : List UInt8 := dkwX0_round_0 ++ []
theorem dksX0_round_0 : cX0_round.data.toList.drop 0 = dktX0_round_0 := by decide +kernel
theorem dX0_round_0 : decode cX0_round 0 = .ok (.aload_n 0, 1) := dk_42 (dk_at dksX0_round_0 0 rfl rfl)
theorem dX0_round_1 : decode cX0_round 1 = .ok (.invokevirtual 299, 3) := dk_182 1 43 (dk_at dksX0_round_0 1 rfl rfl)
theorem dX0_round_4 : decode cX0_round 4 = .ok (.iload_n 1, 1) := dk_27 (dk_at dksX0_round_0 4 rfl rfl)
theorem dX0_round_5 : decode cX0_round 5 = .ok (.ifCond .eq 10, 3) := dk_153 0 10 (dk_at dksX0_round_0 5 rfl rfl)
theorem dX0_round_8 : decode cX0_round 8 = .ok (.aload_n 0, 1) := dk_42 (dk_at dksX0_round_0 8 rfl rfl)
theorem dX0_round_9 : decode cX0_round 9 = .ok (.getfield 289, 3) := dk_180 1 33 (dk_at dksX0_round_0 9 rfl rfl)
theorem dX0_round_12 : decode cX0_round 12 = .ok (.goto 7, 3) := dk_167 0 7 (dk_at dksX0_round_0 12 rfl rfl)
theorem dX0_round_15 : decode cX0_round 15 = .ok (.aload_n 0, 1) := dk_42 (dk_at dksX0_round_0 15 rfl rfl)
theorem dX0_round_16 : decode cX0_round 16 = .ok (.getfield 284, 3) := dk_180 1 28 (dk_at dksX0_round_0 16 rfl rfl)
theorem dX0_round_19 : decode cX0_round 19 = .ok (.ireturn, 1) := dk_172 (dk_at dksX0_round_0 19 rfl rfl)
abbrev cX0_laysSeats : ByteArray := prog_1_method_51_code
def yX0_laysSeats : MethodName := ⟨RX0, "laysSeats", "()V"⟩
def dkwX0_laysSeats_1 : List UInt8 := [42, 4, 4, 42, 182, 0, 68, 120, 4, 100, 16, 254, 126, 182, 1, 39, 177]
abbrev dktX0_laysSeats_1 : List UInt8 := dkwX0_laysSeats_1 ++ []
def dkwX0_laysSeats_0 : List UInt8 := [42, 19, 1, 42, 181, 1, 33, 42, 2, 181, 1, 28, 42, 3, 181, 1, 36, 42, 180, 0, 46, 3, 3, 79]
abbrev dktX0_laysSeats_0 : List UInt8 := dkwX0_laysSeats_0 ++ dktX0_laysSeats_1
theorem dksX0_laysSeats_0 : cX0_laysSeats.data.toList.drop 0 = dktX0_laysSeats_0 := by decide +kernel
theorem dksX0_laysSeats_1 : cX0_laysSeats.data.toList.drop 24 = dktX0_laysSeats_1 := dk_seg dksX0_laysSeats_0 24 rfl rfl
theorem dX0_laysSeats_0 : decode cX0_laysSeats 0 = .ok (.aload_n 0, 1) := dk_42 (dk_at dksX0_laysSeats_0 0 rfl rfl)
theorem dX0_laysSeats_1 : decode cX0_laysSeats 1 = .ok (.ldc_w 298, 3) := dk_19 1 42 (dk_at dksX0_laysSeats_0 1 rfl rfl)
theorem dX0_laysSeats_4 : decode cX0_laysSeats 4 = .ok (.putfield 289, 3) := dk_181 1 33 (dk_at dksX0_laysSeats_0 4 rfl rfl)
theorem dX0_laysSeats_7 : decode cX0_laysSeats 7 = .ok (.aload_n 0, 1) := dk_42 (dk_at dksX0_laysSeats_0 7 rfl rfl)
theorem dX0_laysSeats_8 : decode cX0_laysSeats 8 = .ok (.iconst (-1), 1) := dk_2 (dk_at dksX0_laysSeats_0 8 rfl rfl)
theorem dX0_laysSeats_9 : decode cX0_laysSeats 9 = .ok (.putfield 284, 3) := dk_181 1 28 (dk_at dksX0_laysSeats_0 9 rfl rfl)
theorem dX0_laysSeats_12 : decode cX0_laysSeats 12 = .ok (.aload_n 0, 1) := dk_42 (dk_at dksX0_laysSeats_0 12 rfl rfl)
theorem dX0_laysSeats_13 : decode cX0_laysSeats 13 = .ok (.iconst 0, 1) := dk_3 (dk_at dksX0_laysSeats_0 13 rfl rfl)
theorem dX0_laysSeats_14 : decode cX0_laysSeats 14 = .ok (.putfield 292, 3) := dk_181 1 36 (dk_at dksX0_laysSeats_0 14 rfl rfl)
theorem dX0_laysSeats_17 : decode cX0_laysSeats 17 = .ok (.aload_n 0, 1) := dk_42 (dk_at dksX0_laysSeats_0 17 rfl rfl)
theorem dX0_laysSeats_18 : decode cX0_laysSeats 18 = .ok (.getfield 46, 3) := dk_180 0 46 (dk_at dksX0_laysSeats_0 18 rfl rfl)
theorem dX0_laysSeats_21 : decode cX0_laysSeats 21 = .ok (.iconst 0, 1) := dk_3 (dk_at dksX0_laysSeats_0 21 rfl rfl)
theorem dX0_laysSeats_22 : decode cX0_laysSeats 22 = .ok (.iconst 0, 1) := dk_3 (dk_at dksX0_laysSeats_0 22 rfl rfl)
theorem dX0_laysSeats_23 : decode cX0_laysSeats 23 = .ok (.iastore, 1) := dk_79 (dk_at dksX0_laysSeats_0 23 rfl rfl)
theorem dX0_laysSeats_24 : decode cX0_laysSeats 24 = .ok (.aload_n 0, 1) := dk_42 (dk_at dksX0_laysSeats_1 0 rfl rfl)
theorem dX0_laysSeats_25 : decode cX0_laysSeats 25 = .ok (.iconst 1, 1) := dk_4 (dk_at dksX0_laysSeats_1 1 rfl rfl)
theorem dX0_laysSeats_26 : decode cX0_laysSeats 26 = .ok (.iconst 1, 1) := dk_4 (dk_at dksX0_laysSeats_1 2 rfl rfl)
theorem dX0_laysSeats_27 : decode cX0_laysSeats 27 = .ok (.aload_n 0, 1) := dk_42 (dk_at dksX0_laysSeats_1 3 rfl rfl)
theorem dX0_laysSeats_28 : decode cX0_laysSeats 28 = .ok (.invokevirtual 68, 3) := dk_182 0 68 (dk_at dksX0_laysSeats_1 4 rfl rfl)
theorem dX0_laysSeats_31 : decode cX0_laysSeats 31 = .ok (.ishl, 1) := dk_120 (dk_at dksX0_laysSeats_1 7 rfl rfl)
theorem dX0_laysSeats_32 : decode cX0_laysSeats 32 = .ok (.iconst 1, 1) := dk_4 (dk_at dksX0_laysSeats_1 8 rfl rfl)
theorem dX0_laysSeats_33 : decode cX0_laysSeats 33 = .ok (.isub, 1) := dk_100 (dk_at dksX0_laysSeats_1 9 rfl rfl)
theorem dX0_laysSeats_34 : decode cX0_laysSeats 34 = .ok (.bipush (-2), 2) := dk_16 254 (dk_at dksX0_laysSeats_1 10 rfl rfl)
theorem dX0_laysSeats_36 : decode cX0_laysSeats 36 = .ok (.iand, 1) := dk_126 (dk_at dksX0_laysSeats_1 12 rfl rfl)
theorem dX0_laysSeats_37 : decode cX0_laysSeats 37 = .ok (.invokevirtual 295, 3) := dk_182 1 39 (dk_at dksX0_laysSeats_1 13 rfl rfl)
theorem dX0_laysSeats_40 : decode cX0_laysSeats 40 = .ok (.return_, 1) := dk_177 (dk_at dksX0_laysSeats_1 16 rfl rfl)
abbrev cX0_seatsFrom : ByteArray := prog_1_method_50_code
def yX0_seatsFrom : MethodName := ⟨RX0, "seatsFrom", "(II)V"⟩
def dkwX0_seatsFrom_5 : List UInt8 := [2, 130, 126, 182, 1, 39, 132, 3, 1, 167, 255, 213, 177]
abbrev dktX0_seatsFrom_5 : List UInt8 := dkwX0_seatsFrom_5 ++ []
def dkwX0_seatsFrom_4 : List UInt8 := [184, 0, 158, 154, 0, 6, 167, 0, 24, 42, 180, 0, 46, 27, 29, 79, 42, 27, 4, 96, 28, 4, 29, 120]
abbrev dktX0_seatsFrom_4 : List UInt8 := dkwX0_seatsFrom_4 ++ dktX0_seatsFrom_5
def dkwX0_seatsFrom_3 : List UInt8 := [4, 96, 181, 1, 36, 42, 29, 181, 1, 33, 177, 3, 62, 29, 42, 182, 0, 68, 162, 0, 41, 28, 29]
abbrev dktX0_seatsFrom_3 : List UInt8 := dkwX0_seatsFrom_3 ++ dktX0_seatsFrom_4
def dkwX0_seatsFrom_2 : List UInt8 := [42, 180, 0, 49, 184, 1, 15, 42, 29, 42, 180, 1, 33, 162, 0, 7, 4, 167, 0, 9, 42, 180, 1, 36]
abbrev dktX0_seatsFrom_2 : List UInt8 := dkwX0_seatsFrom_2 ++ dktX0_seatsFrom_3
def dkwX0_seatsFrom_1 : List UInt8 := [181, 1, 28, 29, 42, 180, 1, 33, 164, 0, 4, 177, 29, 42, 180, 1, 33, 162, 0, 14, 42, 180, 0, 46]
abbrev dktX0_seatsFrom_1 : List UInt8 := dkwX0_seatsFrom_1 ++ dktX0_seatsFrom_2
def dkwX0_seatsFrom_0 : List UInt8 := [28, 154, 0, 81, 42, 42, 180, 0, 46, 3, 182, 1, 25, 62, 42, 42, 180, 1, 28, 29, 184, 1, 31]
abbrev dktX0_seatsFrom_0 : List UInt8 := dkwX0_seatsFrom_0 ++ dktX0_seatsFrom_1
theorem dksX0_seatsFrom_0 : cX0_seatsFrom.data.toList.drop 0 = dktX0_seatsFrom_0 := by decide +kernel
theorem dksX0_seatsFrom_1 : cX0_seatsFrom.data.toList.drop 23 = dktX0_seatsFrom_1 := dk_seg dksX0_seatsFrom_0 23 rfl rfl
theorem dksX0_seatsFrom_2 : cX0_seatsFrom.data.toList.drop 47 = dktX0_seatsFrom_2 := dk_seg dksX0_seatsFrom_1 24 rfl rfl
theorem dksX0_seatsFrom_3 : cX0_seatsFrom.data.toList.drop 71 = dktX0_seatsFrom_3 := dk_seg dksX0_seatsFrom_2 24 rfl rfl
theorem dksX0_seatsFrom_4 : cX0_seatsFrom.data.toList.drop 94 = dktX0_seatsFrom_4 := dk_seg dksX0_seatsFrom_3 23 rfl rfl
theorem dksX0_seatsFrom_5 : cX0_seatsFrom.data.toList.drop 118 = dktX0_seatsFrom_5 := dk_seg dksX0_seatsFrom_4 24 rfl rfl
theorem dX0_seatsFrom_0 : decode cX0_seatsFrom 0 = .ok (.iload_n 2, 1) := dk_28 (dk_at dksX0_seatsFrom_0 0 rfl rfl)
theorem dX0_seatsFrom_1 : decode cX0_seatsFrom 1 = .ok (.ifCond .ne 81, 3) := dk_154 0 81 (dk_at dksX0_seatsFrom_0 1 rfl rfl)
theorem dX0_seatsFrom_4 : decode cX0_seatsFrom 4 = .ok (.aload_n 0, 1) := dk_42 (dk_at dksX0_seatsFrom_0 4 rfl rfl)
theorem dX0_seatsFrom_5 : decode cX0_seatsFrom 5 = .ok (.aload_n 0, 1) := dk_42 (dk_at dksX0_seatsFrom_0 5 rfl rfl)
theorem dX0_seatsFrom_6 : decode cX0_seatsFrom 6 = .ok (.getfield 46, 3) := dk_180 0 46 (dk_at dksX0_seatsFrom_0 6 rfl rfl)
theorem dX0_seatsFrom_9 : decode cX0_seatsFrom 9 = .ok (.iconst 0, 1) := dk_3 (dk_at dksX0_seatsFrom_0 9 rfl rfl)
theorem dX0_seatsFrom_10 : decode cX0_seatsFrom 10 = .ok (.invokevirtual 281, 3) := dk_182 1 25 (dk_at dksX0_seatsFrom_0 10 rfl rfl)
theorem dX0_seatsFrom_13 : decode cX0_seatsFrom 13 = .ok (.istore_n 3, 1) := dk_62 (dk_at dksX0_seatsFrom_0 13 rfl rfl)
theorem dX0_seatsFrom_14 : decode cX0_seatsFrom 14 = .ok (.aload_n 0, 1) := dk_42 (dk_at dksX0_seatsFrom_0 14 rfl rfl)
theorem dX0_seatsFrom_15 : decode cX0_seatsFrom 15 = .ok (.aload_n 0, 1) := dk_42 (dk_at dksX0_seatsFrom_0 15 rfl rfl)
theorem dX0_seatsFrom_16 : decode cX0_seatsFrom 16 = .ok (.getfield 284, 3) := dk_180 1 28 (dk_at dksX0_seatsFrom_0 16 rfl rfl)
theorem dX0_seatsFrom_19 : decode cX0_seatsFrom 19 = .ok (.iload_n 3, 1) := dk_29 (dk_at dksX0_seatsFrom_0 19 rfl rfl)
theorem dX0_seatsFrom_20 : decode cX0_seatsFrom 20 = .ok (.invokestatic 287, 3) := dk_184 1 31 (dk_at dksX0_seatsFrom_0 20 rfl rfl)
theorem dX0_seatsFrom_23 : decode cX0_seatsFrom 23 = .ok (.putfield 284, 3) := dk_181 1 28 (dk_at dksX0_seatsFrom_1 0 rfl rfl)
theorem dX0_seatsFrom_26 : decode cX0_seatsFrom 26 = .ok (.iload_n 3, 1) := dk_29 (dk_at dksX0_seatsFrom_1 3 rfl rfl)
theorem dX0_seatsFrom_27 : decode cX0_seatsFrom 27 = .ok (.aload_n 0, 1) := dk_42 (dk_at dksX0_seatsFrom_1 4 rfl rfl)
theorem dX0_seatsFrom_28 : decode cX0_seatsFrom 28 = .ok (.getfield 289, 3) := dk_180 1 33 (dk_at dksX0_seatsFrom_1 5 rfl rfl)
theorem dX0_seatsFrom_31 : decode cX0_seatsFrom 31 = .ok (.if_icmp .le 4, 3) := dk_164 0 4 (dk_at dksX0_seatsFrom_1 8 rfl rfl)
theorem dX0_seatsFrom_34 : decode cX0_seatsFrom 34 = .ok (.return_, 1) := dk_177 (dk_at dksX0_seatsFrom_1 11 rfl rfl)
theorem dX0_seatsFrom_35 : decode cX0_seatsFrom 35 = .ok (.iload_n 3, 1) := dk_29 (dk_at dksX0_seatsFrom_1 12 rfl rfl)
theorem dX0_seatsFrom_36 : decode cX0_seatsFrom 36 = .ok (.aload_n 0, 1) := dk_42 (dk_at dksX0_seatsFrom_1 13 rfl rfl)
theorem dX0_seatsFrom_37 : decode cX0_seatsFrom 37 = .ok (.getfield 289, 3) := dk_180 1 33 (dk_at dksX0_seatsFrom_1 14 rfl rfl)
theorem dX0_seatsFrom_40 : decode cX0_seatsFrom 40 = .ok (.if_icmp .ge 14, 3) := dk_162 0 14 (dk_at dksX0_seatsFrom_1 17 rfl rfl)
theorem dX0_seatsFrom_43 : decode cX0_seatsFrom 43 = .ok (.aload_n 0, 1) := dk_42 (dk_at dksX0_seatsFrom_1 20 rfl rfl)
theorem dX0_seatsFrom_44 : decode cX0_seatsFrom 44 = .ok (.getfield 46, 3) := dk_180 0 46 (dk_at dksX0_seatsFrom_1 21 rfl rfl)
theorem dX0_seatsFrom_47 : decode cX0_seatsFrom 47 = .ok (.aload_n 0, 1) := dk_42 (dk_at dksX0_seatsFrom_2 0 rfl rfl)
theorem dX0_seatsFrom_48 : decode cX0_seatsFrom 48 = .ok (.getfield 49, 3) := dk_180 0 49 (dk_at dksX0_seatsFrom_2 1 rfl rfl)
theorem dX0_seatsFrom_51 : decode cX0_seatsFrom 51 = .ok (.invokestatic 271, 3) := dk_184 1 15 (dk_at dksX0_seatsFrom_2 4 rfl rfl)
theorem dX0_seatsFrom_54 : decode cX0_seatsFrom 54 = .ok (.aload_n 0, 1) := dk_42 (dk_at dksX0_seatsFrom_2 7 rfl rfl)
theorem dX0_seatsFrom_55 : decode cX0_seatsFrom 55 = .ok (.iload_n 3, 1) := dk_29 (dk_at dksX0_seatsFrom_2 8 rfl rfl)
theorem dX0_seatsFrom_56 : decode cX0_seatsFrom 56 = .ok (.aload_n 0, 1) := dk_42 (dk_at dksX0_seatsFrom_2 9 rfl rfl)
theorem dX0_seatsFrom_57 : decode cX0_seatsFrom 57 = .ok (.getfield 289, 3) := dk_180 1 33 (dk_at dksX0_seatsFrom_2 10 rfl rfl)
theorem dX0_seatsFrom_60 : decode cX0_seatsFrom 60 = .ok (.if_icmp .ge 7, 3) := dk_162 0 7 (dk_at dksX0_seatsFrom_2 13 rfl rfl)
theorem dX0_seatsFrom_63 : decode cX0_seatsFrom 63 = .ok (.iconst 1, 1) := dk_4 (dk_at dksX0_seatsFrom_2 16 rfl rfl)
theorem dX0_seatsFrom_64 : decode cX0_seatsFrom 64 = .ok (.goto 9, 3) := dk_167 0 9 (dk_at dksX0_seatsFrom_2 17 rfl rfl)
theorem dX0_seatsFrom_67 : decode cX0_seatsFrom 67 = .ok (.aload_n 0, 1) := dk_42 (dk_at dksX0_seatsFrom_2 20 rfl rfl)
theorem dX0_seatsFrom_68 : decode cX0_seatsFrom 68 = .ok (.getfield 292, 3) := dk_180 1 36 (dk_at dksX0_seatsFrom_2 21 rfl rfl)
theorem dX0_seatsFrom_71 : decode cX0_seatsFrom 71 = .ok (.iconst 1, 1) := dk_4 (dk_at dksX0_seatsFrom_3 0 rfl rfl)
theorem dX0_seatsFrom_72 : decode cX0_seatsFrom 72 = .ok (.iadd, 1) := dk_96 (dk_at dksX0_seatsFrom_3 1 rfl rfl)
theorem dX0_seatsFrom_73 : decode cX0_seatsFrom 73 = .ok (.putfield 292, 3) := dk_181 1 36 (dk_at dksX0_seatsFrom_3 2 rfl rfl)
theorem dX0_seatsFrom_76 : decode cX0_seatsFrom 76 = .ok (.aload_n 0, 1) := dk_42 (dk_at dksX0_seatsFrom_3 5 rfl rfl)
theorem dX0_seatsFrom_77 : decode cX0_seatsFrom 77 = .ok (.iload_n 3, 1) := dk_29 (dk_at dksX0_seatsFrom_3 6 rfl rfl)
theorem dX0_seatsFrom_78 : decode cX0_seatsFrom 78 = .ok (.putfield 289, 3) := dk_181 1 33 (dk_at dksX0_seatsFrom_3 7 rfl rfl)
theorem dX0_seatsFrom_81 : decode cX0_seatsFrom 81 = .ok (.return_, 1) := dk_177 (dk_at dksX0_seatsFrom_3 10 rfl rfl)
theorem dX0_seatsFrom_82 : decode cX0_seatsFrom 82 = .ok (.iconst 0, 1) := dk_3 (dk_at dksX0_seatsFrom_3 11 rfl rfl)
theorem dX0_seatsFrom_83 : decode cX0_seatsFrom 83 = .ok (.istore_n 3, 1) := dk_62 (dk_at dksX0_seatsFrom_3 12 rfl rfl)
theorem dX0_seatsFrom_84 : decode cX0_seatsFrom 84 = .ok (.iload_n 3, 1) := dk_29 (dk_at dksX0_seatsFrom_3 13 rfl rfl)
theorem dX0_seatsFrom_85 : decode cX0_seatsFrom 85 = .ok (.aload_n 0, 1) := dk_42 (dk_at dksX0_seatsFrom_3 14 rfl rfl)
theorem dX0_seatsFrom_86 : decode cX0_seatsFrom 86 = .ok (.invokevirtual 68, 3) := dk_182 0 68 (dk_at dksX0_seatsFrom_3 15 rfl rfl)
theorem dX0_seatsFrom_89 : decode cX0_seatsFrom 89 = .ok (.if_icmp .ge 41, 3) := dk_162 0 41 (dk_at dksX0_seatsFrom_3 18 rfl rfl)
theorem dX0_seatsFrom_92 : decode cX0_seatsFrom 92 = .ok (.iload_n 2, 1) := dk_28 (dk_at dksX0_seatsFrom_3 21 rfl rfl)
theorem dX0_seatsFrom_93 : decode cX0_seatsFrom 93 = .ok (.iload_n 3, 1) := dk_29 (dk_at dksX0_seatsFrom_3 22 rfl rfl)
theorem dX0_seatsFrom_94 : decode cX0_seatsFrom 94 = .ok (.invokestatic 158, 3) := dk_184 0 158 (dk_at dksX0_seatsFrom_4 0 rfl rfl)
theorem dX0_seatsFrom_97 : decode cX0_seatsFrom 97 = .ok (.ifCond .ne 6, 3) := dk_154 0 6 (dk_at dksX0_seatsFrom_4 3 rfl rfl)
theorem dX0_seatsFrom_100 : decode cX0_seatsFrom 100 = .ok (.goto 24, 3) := dk_167 0 24 (dk_at dksX0_seatsFrom_4 6 rfl rfl)
theorem dX0_seatsFrom_103 : decode cX0_seatsFrom 103 = .ok (.aload_n 0, 1) := dk_42 (dk_at dksX0_seatsFrom_4 9 rfl rfl)
theorem dX0_seatsFrom_104 : decode cX0_seatsFrom 104 = .ok (.getfield 46, 3) := dk_180 0 46 (dk_at dksX0_seatsFrom_4 10 rfl rfl)
theorem dX0_seatsFrom_107 : decode cX0_seatsFrom 107 = .ok (.iload_n 1, 1) := dk_27 (dk_at dksX0_seatsFrom_4 13 rfl rfl)
theorem dX0_seatsFrom_108 : decode cX0_seatsFrom 108 = .ok (.iload_n 3, 1) := dk_29 (dk_at dksX0_seatsFrom_4 14 rfl rfl)
theorem dX0_seatsFrom_109 : decode cX0_seatsFrom 109 = .ok (.iastore, 1) := dk_79 (dk_at dksX0_seatsFrom_4 15 rfl rfl)
theorem dX0_seatsFrom_110 : decode cX0_seatsFrom 110 = .ok (.aload_n 0, 1) := dk_42 (dk_at dksX0_seatsFrom_4 16 rfl rfl)
theorem dX0_seatsFrom_111 : decode cX0_seatsFrom 111 = .ok (.iload_n 1, 1) := dk_27 (dk_at dksX0_seatsFrom_4 17 rfl rfl)
theorem dX0_seatsFrom_112 : decode cX0_seatsFrom 112 = .ok (.iconst 1, 1) := dk_4 (dk_at dksX0_seatsFrom_4 18 rfl rfl)
theorem dX0_seatsFrom_113 : decode cX0_seatsFrom 113 = .ok (.iadd, 1) := dk_96 (dk_at dksX0_seatsFrom_4 19 rfl rfl)
theorem dX0_seatsFrom_114 : decode cX0_seatsFrom 114 = .ok (.iload_n 2, 1) := dk_28 (dk_at dksX0_seatsFrom_4 20 rfl rfl)
theorem dX0_seatsFrom_115 : decode cX0_seatsFrom 115 = .ok (.iconst 1, 1) := dk_4 (dk_at dksX0_seatsFrom_4 21 rfl rfl)
theorem dX0_seatsFrom_116 : decode cX0_seatsFrom 116 = .ok (.iload_n 3, 1) := dk_29 (dk_at dksX0_seatsFrom_4 22 rfl rfl)
theorem dX0_seatsFrom_117 : decode cX0_seatsFrom 117 = .ok (.ishl, 1) := dk_120 (dk_at dksX0_seatsFrom_4 23 rfl rfl)
theorem dX0_seatsFrom_118 : decode cX0_seatsFrom 118 = .ok (.iconst (-1), 1) := dk_2 (dk_at dksX0_seatsFrom_5 0 rfl rfl)
theorem dX0_seatsFrom_119 : decode cX0_seatsFrom 119 = .ok (.ixor, 1) := dk_130 (dk_at dksX0_seatsFrom_5 1 rfl rfl)
theorem dX0_seatsFrom_120 : decode cX0_seatsFrom 120 = .ok (.iand, 1) := dk_126 (dk_at dksX0_seatsFrom_5 2 rfl rfl)
theorem dX0_seatsFrom_121 : decode cX0_seatsFrom 121 = .ok (.invokevirtual 295, 3) := dk_182 1 39 (dk_at dksX0_seatsFrom_5 3 rfl rfl)
theorem dX0_seatsFrom_124 : decode cX0_seatsFrom 124 = .ok (.iinc 3 1, 3) := dk_132 3 1 (dk_at dksX0_seatsFrom_5 6 rfl rfl)
theorem dX0_seatsFrom_127 : decode cX0_seatsFrom 127 = .ok (.goto (-43), 3) := dk_167 255 213 (dk_at dksX0_seatsFrom_5 9 rfl rfl)
theorem dX0_seatsFrom_130 : decode cX0_seatsFrom 130 = .ok (.return_, 1) := dk_177 (dk_at dksX0_seatsFrom_5 12 rfl rfl)
abbrev cX0_spiteAround : ByteArray := prog_1_method_49_code
def yX0_spiteAround : MethodName := ⟨RX0, "spiteAround", "([II)I"⟩
def dkwX0_spiteAround_2 : List UInt8 := [167, 255, 213, 42, 182, 0, 68, 5, 160, 0, 9, 29, 5, 108, 167, 0, 4, 29, 172]
abbrev dktX0_spiteAround_2 : List UInt8 := dkwX0_spiteAround_2 ++ []
def dkwX0_spiteAround_1 : List UInt8 := [21, 4, 96, 46, 50, 43, 28, 21, 4, 4, 96, 42, 182, 0, 68, 112, 96, 46, 46, 96, 62, 132, 4, 1]
abbrev dktX0_spiteAround_1 : List UInt8 := dkwX0_spiteAround_1 ++ dktX0_spiteAround_2
def dkwX0_spiteAround_0 : List UInt8 := [3, 62, 3, 54, 4, 21, 4, 42, 182, 0, 68, 162, 0, 40, 29, 42, 180, 0, 21, 180, 1, 22, 43, 28]
abbrev dktX0_spiteAround_0 : List UInt8 := dkwX0_spiteAround_0 ++ dktX0_spiteAround_1
theorem dksX0_spiteAround_0 : cX0_spiteAround.data.toList.drop 0 = dktX0_spiteAround_0 := by decide +kernel
theorem dksX0_spiteAround_1 : cX0_spiteAround.data.toList.drop 24 = dktX0_spiteAround_1 := dk_seg dksX0_spiteAround_0 24 rfl rfl
theorem dksX0_spiteAround_2 : cX0_spiteAround.data.toList.drop 48 = dktX0_spiteAround_2 := dk_seg dksX0_spiteAround_1 24 rfl rfl
theorem dX0_spiteAround_0 : decode cX0_spiteAround 0 = .ok (.iconst 0, 1) := dk_3 (dk_at dksX0_spiteAround_0 0 rfl rfl)
theorem dX0_spiteAround_1 : decode cX0_spiteAround 1 = .ok (.istore_n 3, 1) := dk_62 (dk_at dksX0_spiteAround_0 1 rfl rfl)
theorem dX0_spiteAround_2 : decode cX0_spiteAround 2 = .ok (.iconst 0, 1) := dk_3 (dk_at dksX0_spiteAround_0 2 rfl rfl)
theorem dX0_spiteAround_3 : decode cX0_spiteAround 3 = .ok (.istore 4, 2) := dk_54 4 (dk_at dksX0_spiteAround_0 3 rfl rfl)
theorem dX0_spiteAround_5 : decode cX0_spiteAround 5 = .ok (.iload 4, 2) := dk_21 4 (dk_at dksX0_spiteAround_0 5 rfl rfl)
theorem dX0_spiteAround_7 : decode cX0_spiteAround 7 = .ok (.aload_n 0, 1) := dk_42 (dk_at dksX0_spiteAround_0 7 rfl rfl)
theorem dX0_spiteAround_8 : decode cX0_spiteAround 8 = .ok (.invokevirtual 68, 3) := dk_182 0 68 (dk_at dksX0_spiteAround_0 8 rfl rfl)
theorem dX0_spiteAround_11 : decode cX0_spiteAround 11 = .ok (.if_icmp .ge 40, 3) := dk_162 0 40 (dk_at dksX0_spiteAround_0 11 rfl rfl)
theorem dX0_spiteAround_14 : decode cX0_spiteAround 14 = .ok (.iload_n 3, 1) := dk_29 (dk_at dksX0_spiteAround_0 14 rfl rfl)
theorem dX0_spiteAround_15 : decode cX0_spiteAround 15 = .ok (.aload_n 0, 1) := dk_42 (dk_at dksX0_spiteAround_0 15 rfl rfl)
theorem dX0_spiteAround_16 : decode cX0_spiteAround 16 = .ok (.getfield 21, 3) := dk_180 0 21 (dk_at dksX0_spiteAround_0 16 rfl rfl)
theorem dX0_spiteAround_19 : decode cX0_spiteAround 19 = .ok (.getfield 278, 3) := dk_180 1 22 (dk_at dksX0_spiteAround_0 19 rfl rfl)
theorem dX0_spiteAround_22 : decode cX0_spiteAround 22 = .ok (.aload_n 1, 1) := dk_43 (dk_at dksX0_spiteAround_0 22 rfl rfl)
theorem dX0_spiteAround_23 : decode cX0_spiteAround 23 = .ok (.iload_n 2, 1) := dk_28 (dk_at dksX0_spiteAround_0 23 rfl rfl)
theorem dX0_spiteAround_24 : decode cX0_spiteAround 24 = .ok (.iload 4, 2) := dk_21 4 (dk_at dksX0_spiteAround_1 0 rfl rfl)
theorem dX0_spiteAround_26 : decode cX0_spiteAround 26 = .ok (.iadd, 1) := dk_96 (dk_at dksX0_spiteAround_1 2 rfl rfl)
theorem dX0_spiteAround_27 : decode cX0_spiteAround 27 = .ok (.iaload, 1) := dk_46 (dk_at dksX0_spiteAround_1 3 rfl rfl)
theorem dX0_spiteAround_28 : decode cX0_spiteAround 28 = .ok (.aaload, 1) := dk_50 (dk_at dksX0_spiteAround_1 4 rfl rfl)
theorem dX0_spiteAround_29 : decode cX0_spiteAround 29 = .ok (.aload_n 1, 1) := dk_43 (dk_at dksX0_spiteAround_1 5 rfl rfl)
theorem dX0_spiteAround_30 : decode cX0_spiteAround 30 = .ok (.iload_n 2, 1) := dk_28 (dk_at dksX0_spiteAround_1 6 rfl rfl)
theorem dX0_spiteAround_31 : decode cX0_spiteAround 31 = .ok (.iload 4, 2) := dk_21 4 (dk_at dksX0_spiteAround_1 7 rfl rfl)
theorem dX0_spiteAround_33 : decode cX0_spiteAround 33 = .ok (.iconst 1, 1) := dk_4 (dk_at dksX0_spiteAround_1 9 rfl rfl)
theorem dX0_spiteAround_34 : decode cX0_spiteAround 34 = .ok (.iadd, 1) := dk_96 (dk_at dksX0_spiteAround_1 10 rfl rfl)
theorem dX0_spiteAround_35 : decode cX0_spiteAround 35 = .ok (.aload_n 0, 1) := dk_42 (dk_at dksX0_spiteAround_1 11 rfl rfl)
theorem dX0_spiteAround_36 : decode cX0_spiteAround 36 = .ok (.invokevirtual 68, 3) := dk_182 0 68 (dk_at dksX0_spiteAround_1 12 rfl rfl)
theorem dX0_spiteAround_39 : decode cX0_spiteAround 39 = .ok (.irem, 1) := dk_112 (dk_at dksX0_spiteAround_1 15 rfl rfl)
theorem dX0_spiteAround_40 : decode cX0_spiteAround 40 = .ok (.iadd, 1) := dk_96 (dk_at dksX0_spiteAround_1 16 rfl rfl)
theorem dX0_spiteAround_41 : decode cX0_spiteAround 41 = .ok (.iaload, 1) := dk_46 (dk_at dksX0_spiteAround_1 17 rfl rfl)
theorem dX0_spiteAround_42 : decode cX0_spiteAround 42 = .ok (.iaload, 1) := dk_46 (dk_at dksX0_spiteAround_1 18 rfl rfl)
theorem dX0_spiteAround_43 : decode cX0_spiteAround 43 = .ok (.iadd, 1) := dk_96 (dk_at dksX0_spiteAround_1 19 rfl rfl)
theorem dX0_spiteAround_44 : decode cX0_spiteAround 44 = .ok (.istore_n 3, 1) := dk_62 (dk_at dksX0_spiteAround_1 20 rfl rfl)
theorem dX0_spiteAround_45 : decode cX0_spiteAround 45 = .ok (.iinc 4 1, 3) := dk_132 4 1 (dk_at dksX0_spiteAround_1 21 rfl rfl)
theorem dX0_spiteAround_48 : decode cX0_spiteAround 48 = .ok (.goto (-43), 3) := dk_167 255 213 (dk_at dksX0_spiteAround_2 0 rfl rfl)
theorem dX0_spiteAround_51 : decode cX0_spiteAround 51 = .ok (.aload_n 0, 1) := dk_42 (dk_at dksX0_spiteAround_2 3 rfl rfl)
theorem dX0_spiteAround_52 : decode cX0_spiteAround 52 = .ok (.invokevirtual 68, 3) := dk_182 0 68 (dk_at dksX0_spiteAround_2 4 rfl rfl)
theorem dX0_spiteAround_55 : decode cX0_spiteAround 55 = .ok (.iconst 2, 1) := dk_5 (dk_at dksX0_spiteAround_2 7 rfl rfl)
theorem dX0_spiteAround_56 : decode cX0_spiteAround 56 = .ok (.if_icmp .ne 9, 3) := dk_160 0 9 (dk_at dksX0_spiteAround_2 8 rfl rfl)
theorem dX0_spiteAround_59 : decode cX0_spiteAround 59 = .ok (.iload_n 3, 1) := dk_29 (dk_at dksX0_spiteAround_2 11 rfl rfl)
theorem dX0_spiteAround_60 : decode cX0_spiteAround 60 = .ok (.iconst 2, 1) := dk_5 (dk_at dksX0_spiteAround_2 12 rfl rfl)
theorem dX0_spiteAround_61 : decode cX0_spiteAround 61 = .ok (.idiv, 1) := dk_108 (dk_at dksX0_spiteAround_2 13 rfl rfl)
theorem dX0_spiteAround_62 : decode cX0_spiteAround 62 = .ok (.goto 4, 3) := dk_167 0 4 (dk_at dksX0_spiteAround_2 14 rfl rfl)
theorem dX0_spiteAround_65 : decode cX0_spiteAround 65 = .ok (.iload_n 3, 1) := dk_29 (dk_at dksX0_spiteAround_2 17 rfl rfl)
theorem dX0_spiteAround_66 : decode cX0_spiteAround 66 = .ok (.ireturn, 1) := dk_172 (dk_at dksX0_spiteAround_2 18 rfl rfl)
abbrev cX0_seating : ByteArray := prog_1_method_53_code
def yX0_seating : MethodName := ⟨RX0, "seating", "(I)I"⟩
def dkwX0_seating_0 : List UInt8 := [42, 27, 182, 0, 152, 154, 0, 5, 2, 172, 42, 182, 1, 43, 42, 180, 0, 49, 27, 46, 172]
abbrev dktX0_seating_0 : List UInt8 := dkwX0_seating_0 ++ []
theorem dksX0_seating_0 : cX0_seating.data.toList.drop 0 = dktX0_seating_0 := by decide +kernel
theorem dX0_seating_0 : decode cX0_seating 0 = .ok (.aload_n 0, 1) := dk_42 (dk_at dksX0_seating_0 0 rfl rfl)
theorem dX0_seating_1 : decode cX0_seating 1 = .ok (.iload_n 1, 1) := dk_27 (dk_at dksX0_seating_0 1 rfl rfl)
theorem dX0_seating_2 : decode cX0_seating 2 = .ok (.invokevirtual 152, 3) := dk_182 0 152 (dk_at dksX0_seating_0 2 rfl rfl)
theorem dX0_seating_5 : decode cX0_seating 5 = .ok (.ifCond .ne 5, 3) := dk_154 0 5 (dk_at dksX0_seating_0 5 rfl rfl)
theorem dX0_seating_8 : decode cX0_seating 8 = .ok (.iconst (-1), 1) := dk_2 (dk_at dksX0_seating_0 8 rfl rfl)
theorem dX0_seating_9 : decode cX0_seating 9 = .ok (.ireturn, 1) := dk_172 (dk_at dksX0_seating_0 9 rfl rfl)
theorem dX0_seating_10 : decode cX0_seating 10 = .ok (.aload_n 0, 1) := dk_42 (dk_at dksX0_seating_0 10 rfl rfl)
theorem dX0_seating_11 : decode cX0_seating 11 = .ok (.invokevirtual 299, 3) := dk_182 1 43 (dk_at dksX0_seating_0 11 rfl rfl)
theorem dX0_seating_14 : decode cX0_seating 14 = .ok (.aload_n 0, 1) := dk_42 (dk_at dksX0_seating_0 14 rfl rfl)
theorem dX0_seating_15 : decode cX0_seating 15 = .ok (.getfield 49, 3) := dk_180 0 49 (dk_at dksX0_seating_0 15 rfl rfl)
theorem dX0_seating_18 : decode cX0_seating 18 = .ok (.iload_n 1, 1) := dk_27 (dk_at dksX0_seating_0 18 rfl rfl)
theorem dX0_seating_19 : decode cX0_seating 19 = .ok (.iaload, 1) := dk_46 (dk_at dksX0_seating_0 19 rfl rfl)
theorem dX0_seating_20 : decode cX0_seating 20 = .ok (.ireturn, 1) := dk_172 (dk_at dksX0_seating_0 20 rfl rfl)
abbrev cX0_seatings : ByteArray := prog_1_method_54_code
def yX0_seatings : MethodName := ⟨RX0, "seatings", "()I"⟩
def dkwX0_seatings_0 : List UInt8 := [42, 182, 1, 43, 42, 180, 1, 36, 172]
abbrev dktX0_seatings_0 : List UInt8 := dkwX0_seatings_0 ++ []
theorem dksX0_seatings_0 : cX0_seatings.data.toList.drop 0 = dktX0_seatings_0 := by decide +kernel
theorem dX0_seatings_0 : decode cX0_seatings 0 = .ok (.aload_n 0, 1) := dk_42 (dk_at dksX0_seatings_0 0 rfl rfl)
theorem dX0_seatings_1 : decode cX0_seatings 1 = .ok (.invokevirtual 299, 3) := dk_182 1 43 (dk_at dksX0_seatings_0 1 rfl rfl)
theorem dX0_seatings_4 : decode cX0_seatings 4 = .ok (.aload_n 0, 1) := dk_42 (dk_at dksX0_seatings_0 4 rfl rfl)
theorem dX0_seatings_5 : decode cX0_seatings 5 = .ok (.getfield 292, 3) := dk_180 1 36 (dk_at dksX0_seatings_0 5 rfl rfl)
theorem dX0_seatings_8 : decode cX0_seatings 8 = .ok (.ireturn, 1) := dk_172 (dk_at dksX0_seatings_0 8 rfl rfl)
abbrev cX0_spiteNow : ByteArray := prog_1_method_55_code
def yX0_spiteNow : MethodName := ⟨RX0, "spiteNow", "()I"⟩
def dkwX0_spiteNow_0 : List UInt8 := [42, 42, 180, 0, 21, 180, 0, 155, 5, 182, 1, 25, 172]
abbrev dktX0_spiteNow_0 : List UInt8 := dkwX0_spiteNow_0 ++ []
theorem dksX0_spiteNow_0 : cX0_spiteNow.data.toList.drop 0 = dktX0_spiteNow_0 := by decide +kernel
theorem dX0_spiteNow_0 : decode cX0_spiteNow 0 = .ok (.aload_n 0, 1) := dk_42 (dk_at dksX0_spiteNow_0 0 rfl rfl)
theorem dX0_spiteNow_1 : decode cX0_spiteNow 1 = .ok (.aload_n 0, 1) := dk_42 (dk_at dksX0_spiteNow_0 1 rfl rfl)
theorem dX0_spiteNow_2 : decode cX0_spiteNow 2 = .ok (.getfield 21, 3) := dk_180 0 21 (dk_at dksX0_spiteNow_0 2 rfl rfl)
theorem dX0_spiteNow_5 : decode cX0_spiteNow 5 = .ok (.getfield 155, 3) := dk_180 0 155 (dk_at dksX0_spiteNow_0 5 rfl rfl)
theorem dX0_spiteNow_8 : decode cX0_spiteNow 8 = .ok (.iconst 2, 1) := dk_5 (dk_at dksX0_spiteNow_0 8 rfl rfl)
theorem dX0_spiteNow_9 : decode cX0_spiteNow 9 = .ok (.invokevirtual 281, 3) := dk_182 1 25 (dk_at dksX0_spiteNow_0 9 rfl rfl)
theorem dX0_spiteNow_12 : decode cX0_spiteNow 12 = .ok (.ireturn, 1) := dk_172 (dk_at dksX0_spiteNow_0 12 rfl rfl)
abbrev cX0_mend : ByteArray := prog_1_method_57_code
def yX0_mend : MethodName := ⟨RX0, "mend", "(I)I"⟩
def dkwX0_mend_5 : List UInt8 := [167, 0, 4, 2, 172]
abbrev dktX0_mend_5 : List UInt8 := dkwX0_mend_5 ++ []
def dkwX0_mend_4 : List UInt8 := [154, 0, 7, 29, 167, 0, 23, 27, 4, 160, 0, 8, 21, 4, 167, 0, 13, 27, 5, 160, 0, 7, 28]
abbrev dktX0_mend_4 : List UInt8 := dkwX0_mend_4 ++ dktX0_mend_5
def dkwX0_mend_3 : List UInt8 := [132, 6, 1, 167, 255, 213, 132, 5, 1, 167, 255, 192, 29, 2, 160, 0, 7, 2, 167, 0, 31, 27]
abbrev dktX0_mend_3 : List UInt8 := dkwX0_mend_3 ++ dktX0_mend_4
def dkwX0_mend_2 : List UInt8 := [161, 0, 6, 167, 0, 19, 42, 21, 5, 21, 6, 182, 1, 49, 61, 21, 5, 62, 21, 6, 54, 4]
abbrev dktX0_mend_2 : List UInt8 := dkwX0_mend_2 ++ dktX0_mend_3
def dkwX0_mend_1 : List UInt8 := [4, 96, 54, 6, 21, 6, 42, 182, 0, 68, 162, 0, 40, 42, 21, 5, 21, 6, 182, 1, 49, 28]
abbrev dktX0_mend_1 : List UInt8 := dkwX0_mend_1 ++ dktX0_mend_2
def dkwX0_mend_0 : List UInt8 := [42, 182, 1, 46, 61, 2, 62, 2, 54, 4, 3, 54, 5, 21, 5, 42, 182, 0, 68, 162, 0, 61, 21, 5]
abbrev dktX0_mend_0 : List UInt8 := dkwX0_mend_0 ++ dktX0_mend_1
theorem dksX0_mend_0 : cX0_mend.data.toList.drop 0 = dktX0_mend_0 := by decide +kernel
theorem dksX0_mend_1 : cX0_mend.data.toList.drop 24 = dktX0_mend_1 := dk_seg dksX0_mend_0 24 rfl rfl
theorem dksX0_mend_2 : cX0_mend.data.toList.drop 46 = dktX0_mend_2 := dk_seg dksX0_mend_1 22 rfl rfl
theorem dksX0_mend_3 : cX0_mend.data.toList.drop 68 = dktX0_mend_3 := dk_seg dksX0_mend_2 22 rfl rfl
theorem dksX0_mend_4 : cX0_mend.data.toList.drop 90 = dktX0_mend_4 := dk_seg dksX0_mend_3 22 rfl rfl
theorem dksX0_mend_5 : cX0_mend.data.toList.drop 113 = dktX0_mend_5 := dk_seg dksX0_mend_4 23 rfl rfl
theorem dX0_mend_0 : decode cX0_mend 0 = .ok (.aload_n 0, 1) := dk_42 (dk_at dksX0_mend_0 0 rfl rfl)
theorem dX0_mend_1 : decode cX0_mend 1 = .ok (.invokevirtual 302, 3) := dk_182 1 46 (dk_at dksX0_mend_0 1 rfl rfl)
theorem dX0_mend_4 : decode cX0_mend 4 = .ok (.istore_n 2, 1) := dk_61 (dk_at dksX0_mend_0 4 rfl rfl)
theorem dX0_mend_5 : decode cX0_mend 5 = .ok (.iconst (-1), 1) := dk_2 (dk_at dksX0_mend_0 5 rfl rfl)
theorem dX0_mend_6 : decode cX0_mend 6 = .ok (.istore_n 3, 1) := dk_62 (dk_at dksX0_mend_0 6 rfl rfl)
theorem dX0_mend_7 : decode cX0_mend 7 = .ok (.iconst (-1), 1) := dk_2 (dk_at dksX0_mend_0 7 rfl rfl)
theorem dX0_mend_8 : decode cX0_mend 8 = .ok (.istore 4, 2) := dk_54 4 (dk_at dksX0_mend_0 8 rfl rfl)
theorem dX0_mend_10 : decode cX0_mend 10 = .ok (.iconst 0, 1) := dk_3 (dk_at dksX0_mend_0 10 rfl rfl)
theorem dX0_mend_11 : decode cX0_mend 11 = .ok (.istore 5, 2) := dk_54 5 (dk_at dksX0_mend_0 11 rfl rfl)
theorem dX0_mend_13 : decode cX0_mend 13 = .ok (.iload 5, 2) := dk_21 5 (dk_at dksX0_mend_0 13 rfl rfl)
theorem dX0_mend_15 : decode cX0_mend 15 = .ok (.aload_n 0, 1) := dk_42 (dk_at dksX0_mend_0 15 rfl rfl)
theorem dX0_mend_16 : decode cX0_mend 16 = .ok (.invokevirtual 68, 3) := dk_182 0 68 (dk_at dksX0_mend_0 16 rfl rfl)
theorem dX0_mend_19 : decode cX0_mend 19 = .ok (.if_icmp .ge 61, 3) := dk_162 0 61 (dk_at dksX0_mend_0 19 rfl rfl)
theorem dX0_mend_22 : decode cX0_mend 22 = .ok (.iload 5, 2) := dk_21 5 (dk_at dksX0_mend_0 22 rfl rfl)
theorem dX0_mend_24 : decode cX0_mend 24 = .ok (.iconst 1, 1) := dk_4 (dk_at dksX0_mend_1 0 rfl rfl)
theorem dX0_mend_25 : decode cX0_mend 25 = .ok (.iadd, 1) := dk_96 (dk_at dksX0_mend_1 1 rfl rfl)
theorem dX0_mend_26 : decode cX0_mend 26 = .ok (.istore 6, 2) := dk_54 6 (dk_at dksX0_mend_1 2 rfl rfl)
theorem dX0_mend_28 : decode cX0_mend 28 = .ok (.iload 6, 2) := dk_21 6 (dk_at dksX0_mend_1 4 rfl rfl)
theorem dX0_mend_30 : decode cX0_mend 30 = .ok (.aload_n 0, 1) := dk_42 (dk_at dksX0_mend_1 6 rfl rfl)
theorem dX0_mend_31 : decode cX0_mend 31 = .ok (.invokevirtual 68, 3) := dk_182 0 68 (dk_at dksX0_mend_1 7 rfl rfl)
theorem dX0_mend_34 : decode cX0_mend 34 = .ok (.if_icmp .ge 40, 3) := dk_162 0 40 (dk_at dksX0_mend_1 10 rfl rfl)
theorem dX0_mend_37 : decode cX0_mend 37 = .ok (.aload_n 0, 1) := dk_42 (dk_at dksX0_mend_1 13 rfl rfl)
theorem dX0_mend_38 : decode cX0_mend 38 = .ok (.iload 5, 2) := dk_21 5 (dk_at dksX0_mend_1 14 rfl rfl)
theorem dX0_mend_40 : decode cX0_mend 40 = .ok (.iload 6, 2) := dk_21 6 (dk_at dksX0_mend_1 16 rfl rfl)
theorem dX0_mend_42 : decode cX0_mend 42 = .ok (.invokevirtual 305, 3) := dk_182 1 49 (dk_at dksX0_mend_1 18 rfl rfl)
theorem dX0_mend_45 : decode cX0_mend 45 = .ok (.iload_n 2, 1) := dk_28 (dk_at dksX0_mend_1 21 rfl rfl)
theorem dX0_mend_46 : decode cX0_mend 46 = .ok (.if_icmp .lt 6, 3) := dk_161 0 6 (dk_at dksX0_mend_2 0 rfl rfl)
theorem dX0_mend_49 : decode cX0_mend 49 = .ok (.goto 19, 3) := dk_167 0 19 (dk_at dksX0_mend_2 3 rfl rfl)
theorem dX0_mend_52 : decode cX0_mend 52 = .ok (.aload_n 0, 1) := dk_42 (dk_at dksX0_mend_2 6 rfl rfl)
theorem dX0_mend_53 : decode cX0_mend 53 = .ok (.iload 5, 2) := dk_21 5 (dk_at dksX0_mend_2 7 rfl rfl)
theorem dX0_mend_55 : decode cX0_mend 55 = .ok (.iload 6, 2) := dk_21 6 (dk_at dksX0_mend_2 9 rfl rfl)
theorem dX0_mend_57 : decode cX0_mend 57 = .ok (.invokevirtual 305, 3) := dk_182 1 49 (dk_at dksX0_mend_2 11 rfl rfl)
theorem dX0_mend_60 : decode cX0_mend 60 = .ok (.istore_n 2, 1) := dk_61 (dk_at dksX0_mend_2 14 rfl rfl)
theorem dX0_mend_61 : decode cX0_mend 61 = .ok (.iload 5, 2) := dk_21 5 (dk_at dksX0_mend_2 15 rfl rfl)
theorem dX0_mend_63 : decode cX0_mend 63 = .ok (.istore_n 3, 1) := dk_62 (dk_at dksX0_mend_2 17 rfl rfl)
theorem dX0_mend_64 : decode cX0_mend 64 = .ok (.iload 6, 2) := dk_21 6 (dk_at dksX0_mend_2 18 rfl rfl)
theorem dX0_mend_66 : decode cX0_mend 66 = .ok (.istore 4, 2) := dk_54 4 (dk_at dksX0_mend_2 20 rfl rfl)
theorem dX0_mend_68 : decode cX0_mend 68 = .ok (.iinc 6 1, 3) := dk_132 6 1 (dk_at dksX0_mend_3 0 rfl rfl)
theorem dX0_mend_71 : decode cX0_mend 71 = .ok (.goto (-43), 3) := dk_167 255 213 (dk_at dksX0_mend_3 3 rfl rfl)
theorem dX0_mend_74 : decode cX0_mend 74 = .ok (.iinc 5 1, 3) := dk_132 5 1 (dk_at dksX0_mend_3 6 rfl rfl)
theorem dX0_mend_77 : decode cX0_mend 77 = .ok (.goto (-64), 3) := dk_167 255 192 (dk_at dksX0_mend_3 9 rfl rfl)
theorem dX0_mend_80 : decode cX0_mend 80 = .ok (.iload_n 3, 1) := dk_29 (dk_at dksX0_mend_3 12 rfl rfl)
theorem dX0_mend_81 : decode cX0_mend 81 = .ok (.iconst (-1), 1) := dk_2 (dk_at dksX0_mend_3 13 rfl rfl)
theorem dX0_mend_82 : decode cX0_mend 82 = .ok (.if_icmp .ne 7, 3) := dk_160 0 7 (dk_at dksX0_mend_3 14 rfl rfl)
theorem dX0_mend_85 : decode cX0_mend 85 = .ok (.iconst (-1), 1) := dk_2 (dk_at dksX0_mend_3 17 rfl rfl)
theorem dX0_mend_86 : decode cX0_mend 86 = .ok (.goto 31, 3) := dk_167 0 31 (dk_at dksX0_mend_3 18 rfl rfl)
theorem dX0_mend_89 : decode cX0_mend 89 = .ok (.iload_n 1, 1) := dk_27 (dk_at dksX0_mend_3 21 rfl rfl)
theorem dX0_mend_90 : decode cX0_mend 90 = .ok (.ifCond .ne 7, 3) := dk_154 0 7 (dk_at dksX0_mend_4 0 rfl rfl)
theorem dX0_mend_93 : decode cX0_mend 93 = .ok (.iload_n 3, 1) := dk_29 (dk_at dksX0_mend_4 3 rfl rfl)
theorem dX0_mend_94 : decode cX0_mend 94 = .ok (.goto 23, 3) := dk_167 0 23 (dk_at dksX0_mend_4 4 rfl rfl)
theorem dX0_mend_97 : decode cX0_mend 97 = .ok (.iload_n 1, 1) := dk_27 (dk_at dksX0_mend_4 7 rfl rfl)
theorem dX0_mend_98 : decode cX0_mend 98 = .ok (.iconst 1, 1) := dk_4 (dk_at dksX0_mend_4 8 rfl rfl)
theorem dX0_mend_99 : decode cX0_mend 99 = .ok (.if_icmp .ne 8, 3) := dk_160 0 8 (dk_at dksX0_mend_4 9 rfl rfl)
theorem dX0_mend_102 : decode cX0_mend 102 = .ok (.iload 4, 2) := dk_21 4 (dk_at dksX0_mend_4 12 rfl rfl)
theorem dX0_mend_104 : decode cX0_mend 104 = .ok (.goto 13, 3) := dk_167 0 13 (dk_at dksX0_mend_4 14 rfl rfl)
theorem dX0_mend_107 : decode cX0_mend 107 = .ok (.iload_n 1, 1) := dk_27 (dk_at dksX0_mend_4 17 rfl rfl)
theorem dX0_mend_108 : decode cX0_mend 108 = .ok (.iconst 2, 1) := dk_5 (dk_at dksX0_mend_4 18 rfl rfl)
theorem dX0_mend_109 : decode cX0_mend 109 = .ok (.if_icmp .ne 7, 3) := dk_160 0 7 (dk_at dksX0_mend_4 19 rfl rfl)
theorem dX0_mend_112 : decode cX0_mend 112 = .ok (.iload_n 2, 1) := dk_28 (dk_at dksX0_mend_4 22 rfl rfl)
theorem dX0_mend_113 : decode cX0_mend 113 = .ok (.goto 4, 3) := dk_167 0 4 (dk_at dksX0_mend_5 0 rfl rfl)
theorem dX0_mend_116 : decode cX0_mend 116 = .ok (.iconst (-1), 1) := dk_2 (dk_at dksX0_mend_5 3 rfl rfl)
theorem dX0_mend_117 : decode cX0_mend 117 = .ok (.ireturn, 1) := dk_172 (dk_at dksX0_mend_5 4 rfl rfl)
abbrev cX0_spiteBy : ByteArray := prog_1_method_56_code
def yX0_spiteBy : MethodName := ⟨RX0, "spiteBy", "(II)I"⟩
def dkwX0_spiteBy_2 : List UInt8 := [180, 0, 43, 5, 182, 1, 25, 172]
abbrev dktX0_spiteBy_2 : List UInt8 := dkwX0_spiteBy_2 ++ []
def dkwX0_spiteBy_1 : List UInt8 := [180, 0, 155, 27, 182, 0, 117, 42, 42, 180, 0, 21, 180, 0, 155, 28, 182, 0, 117, 184, 0, 180, 42, 42]
abbrev dktX0_spiteBy_1 : List UInt8 := dkwX0_spiteBy_1 ++ dktX0_spiteBy_2
def dkwX0_spiteBy_0 : List UInt8 := [42, 180, 0, 21, 180, 0, 155, 42, 180, 0, 43, 184, 1, 15, 42, 180, 0, 43, 42, 42, 180, 0, 21]
abbrev dktX0_spiteBy_0 : List UInt8 := dkwX0_spiteBy_0 ++ dktX0_spiteBy_1
theorem dksX0_spiteBy_0 : cX0_spiteBy.data.toList.drop 0 = dktX0_spiteBy_0 := by decide +kernel
theorem dksX0_spiteBy_1 : cX0_spiteBy.data.toList.drop 23 = dktX0_spiteBy_1 := dk_seg dksX0_spiteBy_0 23 rfl rfl
theorem dksX0_spiteBy_2 : cX0_spiteBy.data.toList.drop 47 = dktX0_spiteBy_2 := dk_seg dksX0_spiteBy_1 24 rfl rfl
theorem dX0_spiteBy_0 : decode cX0_spiteBy 0 = .ok (.aload_n 0, 1) := dk_42 (dk_at dksX0_spiteBy_0 0 rfl rfl)
theorem dX0_spiteBy_1 : decode cX0_spiteBy 1 = .ok (.getfield 21, 3) := dk_180 0 21 (dk_at dksX0_spiteBy_0 1 rfl rfl)
theorem dX0_spiteBy_4 : decode cX0_spiteBy 4 = .ok (.getfield 155, 3) := dk_180 0 155 (dk_at dksX0_spiteBy_0 4 rfl rfl)
theorem dX0_spiteBy_7 : decode cX0_spiteBy 7 = .ok (.aload_n 0, 1) := dk_42 (dk_at dksX0_spiteBy_0 7 rfl rfl)
theorem dX0_spiteBy_8 : decode cX0_spiteBy 8 = .ok (.getfield 43, 3) := dk_180 0 43 (dk_at dksX0_spiteBy_0 8 rfl rfl)
theorem dX0_spiteBy_11 : decode cX0_spiteBy 11 = .ok (.invokestatic 271, 3) := dk_184 1 15 (dk_at dksX0_spiteBy_0 11 rfl rfl)
theorem dX0_spiteBy_14 : decode cX0_spiteBy 14 = .ok (.aload_n 0, 1) := dk_42 (dk_at dksX0_spiteBy_0 14 rfl rfl)
theorem dX0_spiteBy_15 : decode cX0_spiteBy 15 = .ok (.getfield 43, 3) := dk_180 0 43 (dk_at dksX0_spiteBy_0 15 rfl rfl)
theorem dX0_spiteBy_18 : decode cX0_spiteBy 18 = .ok (.aload_n 0, 1) := dk_42 (dk_at dksX0_spiteBy_0 18 rfl rfl)
theorem dX0_spiteBy_19 : decode cX0_spiteBy 19 = .ok (.aload_n 0, 1) := dk_42 (dk_at dksX0_spiteBy_0 19 rfl rfl)
theorem dX0_spiteBy_20 : decode cX0_spiteBy 20 = .ok (.getfield 21, 3) := dk_180 0 21 (dk_at dksX0_spiteBy_0 20 rfl rfl)
theorem dX0_spiteBy_23 : decode cX0_spiteBy 23 = .ok (.getfield 155, 3) := dk_180 0 155 (dk_at dksX0_spiteBy_1 0 rfl rfl)
theorem dX0_spiteBy_26 : decode cX0_spiteBy 26 = .ok (.iload_n 1, 1) := dk_27 (dk_at dksX0_spiteBy_1 3 rfl rfl)
theorem dX0_spiteBy_27 : decode cX0_spiteBy 27 = .ok (.invokevirtual 117, 3) := dk_182 0 117 (dk_at dksX0_spiteBy_1 4 rfl rfl)
theorem dX0_spiteBy_30 : decode cX0_spiteBy 30 = .ok (.aload_n 0, 1) := dk_42 (dk_at dksX0_spiteBy_1 7 rfl rfl)
theorem dX0_spiteBy_31 : decode cX0_spiteBy 31 = .ok (.aload_n 0, 1) := dk_42 (dk_at dksX0_spiteBy_1 8 rfl rfl)
theorem dX0_spiteBy_32 : decode cX0_spiteBy 32 = .ok (.getfield 21, 3) := dk_180 0 21 (dk_at dksX0_spiteBy_1 9 rfl rfl)
theorem dX0_spiteBy_35 : decode cX0_spiteBy 35 = .ok (.getfield 155, 3) := dk_180 0 155 (dk_at dksX0_spiteBy_1 12 rfl rfl)
theorem dX0_spiteBy_38 : decode cX0_spiteBy 38 = .ok (.iload_n 2, 1) := dk_28 (dk_at dksX0_spiteBy_1 15 rfl rfl)
theorem dX0_spiteBy_39 : decode cX0_spiteBy 39 = .ok (.invokevirtual 117, 3) := dk_182 0 117 (dk_at dksX0_spiteBy_1 16 rfl rfl)
theorem dX0_spiteBy_42 : decode cX0_spiteBy 42 = .ok (.invokestatic 180, 3) := dk_184 0 180 (dk_at dksX0_spiteBy_1 19 rfl rfl)
theorem dX0_spiteBy_45 : decode cX0_spiteBy 45 = .ok (.aload_n 0, 1) := dk_42 (dk_at dksX0_spiteBy_1 22 rfl rfl)
theorem dX0_spiteBy_46 : decode cX0_spiteBy 46 = .ok (.aload_n 0, 1) := dk_42 (dk_at dksX0_spiteBy_1 23 rfl rfl)
theorem dX0_spiteBy_47 : decode cX0_spiteBy 47 = .ok (.getfield 43, 3) := dk_180 0 43 (dk_at dksX0_spiteBy_2 0 rfl rfl)
theorem dX0_spiteBy_50 : decode cX0_spiteBy 50 = .ok (.iconst 2, 1) := dk_5 (dk_at dksX0_spiteBy_2 3 rfl rfl)
theorem dX0_spiteBy_51 : decode cX0_spiteBy 51 = .ok (.invokevirtual 281, 3) := dk_182 1 25 (dk_at dksX0_spiteBy_2 4 rfl rfl)
theorem dX0_spiteBy_54 : decode cX0_spiteBy 54 = .ok (.ireturn, 1) := dk_172 (dk_at dksX0_spiteBy_2 7 rfl rfl)
abbrev cX0_hedge : ByteArray := prog_1_method_61_code
def yX0_hedge : MethodName := ⟨RX0, "hedge", "(II)Z"⟩
def dkwX0_hedge_1 : List UInt8 := [180, 0, 21, 180, 1, 70, 27, 28, 79, 4, 172]
abbrev dktX0_hedge_1 : List UInt8 := dkwX0_hedge_1 ++ []
def dkwX0_hedge_0 : List UInt8 := [27, 3, 16, 35, 184, 0, 72, 153, 0, 12, 28, 3, 6, 184, 0, 72, 154, 0, 5, 3, 172, 42]
abbrev dktX0_hedge_0 : List UInt8 := dkwX0_hedge_0 ++ dktX0_hedge_1
theorem dksX0_hedge_0 : cX0_hedge.data.toList.drop 0 = dktX0_hedge_0 := by decide +kernel
theorem dksX0_hedge_1 : cX0_hedge.data.toList.drop 22 = dktX0_hedge_1 := dk_seg dksX0_hedge_0 22 rfl rfl
theorem dX0_hedge_0 : decode cX0_hedge 0 = .ok (.iload_n 1, 1) := dk_27 (dk_at dksX0_hedge_0 0 rfl rfl)
theorem dX0_hedge_1 : decode cX0_hedge 1 = .ok (.iconst 0, 1) := dk_3 (dk_at dksX0_hedge_0 1 rfl rfl)
theorem dX0_hedge_2 : decode cX0_hedge 2 = .ok (.bipush 35, 2) := dk_16 35 (dk_at dksX0_hedge_0 2 rfl rfl)
theorem dX0_hedge_4 : decode cX0_hedge 4 = .ok (.invokestatic 72, 3) := dk_184 0 72 (dk_at dksX0_hedge_0 4 rfl rfl)
theorem dX0_hedge_7 : decode cX0_hedge 7 = .ok (.ifCond .eq 12, 3) := dk_153 0 12 (dk_at dksX0_hedge_0 7 rfl rfl)
theorem dX0_hedge_10 : decode cX0_hedge 10 = .ok (.iload_n 2, 1) := dk_28 (dk_at dksX0_hedge_0 10 rfl rfl)
theorem dX0_hedge_11 : decode cX0_hedge 11 = .ok (.iconst 0, 1) := dk_3 (dk_at dksX0_hedge_0 11 rfl rfl)
theorem dX0_hedge_12 : decode cX0_hedge 12 = .ok (.iconst 3, 1) := dk_6 (dk_at dksX0_hedge_0 12 rfl rfl)
theorem dX0_hedge_13 : decode cX0_hedge 13 = .ok (.invokestatic 72, 3) := dk_184 0 72 (dk_at dksX0_hedge_0 13 rfl rfl)
theorem dX0_hedge_16 : decode cX0_hedge 16 = .ok (.ifCond .ne 5, 3) := dk_154 0 5 (dk_at dksX0_hedge_0 16 rfl rfl)
theorem dX0_hedge_19 : decode cX0_hedge 19 = .ok (.iconst 0, 1) := dk_3 (dk_at dksX0_hedge_0 19 rfl rfl)
theorem dX0_hedge_20 : decode cX0_hedge 20 = .ok (.ireturn, 1) := dk_172 (dk_at dksX0_hedge_0 20 rfl rfl)
theorem dX0_hedge_21 : decode cX0_hedge 21 = .ok (.aload_n 0, 1) := dk_42 (dk_at dksX0_hedge_0 21 rfl rfl)
theorem dX0_hedge_22 : decode cX0_hedge 22 = .ok (.getfield 21, 3) := dk_180 0 21 (dk_at dksX0_hedge_1 0 rfl rfl)
theorem dX0_hedge_25 : decode cX0_hedge 25 = .ok (.getfield 326, 3) := dk_180 1 70 (dk_at dksX0_hedge_1 3 rfl rfl)
theorem dX0_hedge_28 : decode cX0_hedge 28 = .ok (.iload_n 1, 1) := dk_27 (dk_at dksX0_hedge_1 6 rfl rfl)
theorem dX0_hedge_29 : decode cX0_hedge 29 = .ok (.iload_n 2, 1) := dk_28 (dk_at dksX0_hedge_1 7 rfl rfl)
theorem dX0_hedge_30 : decode cX0_hedge 30 = .ok (.iastore, 1) := dk_79 (dk_at dksX0_hedge_1 8 rfl rfl)
theorem dX0_hedge_31 : decode cX0_hedge 31 = .ok (.iconst 1, 1) := dk_4 (dk_at dksX0_hedge_1 9 rfl rfl)
theorem dX0_hedge_32 : decode cX0_hedge 32 = .ok (.ireturn, 1) := dk_172 (dk_at dksX0_hedge_1 10 rfl rfl)
abbrev cX0_flight : ByteArray := prog_1_method_63_code
def yX0_flight : MethodName := ⟨RX0, "flight", "(III)I"⟩
def dkwX0_flight_2 : List UInt8 := [180, 1, 58, 167, 0, 16, 29, 6, 160, 0, 10, 42, 180, 1, 61, 167, 0, 4, 2, 172]
abbrev dktX0_flight_2 : List UInt8 := dkwX0_flight_2 ++ []
def dkwX0_flight_1 : List UInt8 := [180, 1, 52, 167, 0, 40, 29, 4, 160, 0, 10, 42, 180, 1, 55, 167, 0, 28, 29, 5, 160, 0, 10, 42]
abbrev dktX0_flight_1 : List UInt8 := dkwX0_flight_1 ++ dktX0_flight_2
def dkwX0_flight_0 : List UInt8 := [27, 28, 184, 1, 73, 153, 0, 12, 42, 27, 28, 182, 1, 76, 154, 0, 5, 2, 172, 29, 154, 0, 10, 42]
abbrev dktX0_flight_0 : List UInt8 := dkwX0_flight_0 ++ dktX0_flight_1
theorem dksX0_flight_0 : cX0_flight.data.toList.drop 0 = dktX0_flight_0 := by decide +kernel
theorem dksX0_flight_1 : cX0_flight.data.toList.drop 24 = dktX0_flight_1 := dk_seg dksX0_flight_0 24 rfl rfl
theorem dksX0_flight_2 : cX0_flight.data.toList.drop 48 = dktX0_flight_2 := dk_seg dksX0_flight_1 24 rfl rfl
theorem dX0_flight_0 : decode cX0_flight 0 = .ok (.iload_n 1, 1) := dk_27 (dk_at dksX0_flight_0 0 rfl rfl)
theorem dX0_flight_1 : decode cX0_flight 1 = .ok (.iload_n 2, 1) := dk_28 (dk_at dksX0_flight_0 1 rfl rfl)
theorem dX0_flight_2 : decode cX0_flight 2 = .ok (.invokestatic 329, 3) := dk_184 1 73 (dk_at dksX0_flight_0 2 rfl rfl)
theorem dX0_flight_5 : decode cX0_flight 5 = .ok (.ifCond .eq 12, 3) := dk_153 0 12 (dk_at dksX0_flight_0 5 rfl rfl)
theorem dX0_flight_8 : decode cX0_flight 8 = .ok (.aload_n 0, 1) := dk_42 (dk_at dksX0_flight_0 8 rfl rfl)
theorem dX0_flight_9 : decode cX0_flight 9 = .ok (.iload_n 1, 1) := dk_27 (dk_at dksX0_flight_0 9 rfl rfl)
theorem dX0_flight_10 : decode cX0_flight 10 = .ok (.iload_n 2, 1) := dk_28 (dk_at dksX0_flight_0 10 rfl rfl)
theorem dX0_flight_11 : decode cX0_flight 11 = .ok (.invokevirtual 332, 3) := dk_182 1 76 (dk_at dksX0_flight_0 11 rfl rfl)
theorem dX0_flight_14 : decode cX0_flight 14 = .ok (.ifCond .ne 5, 3) := dk_154 0 5 (dk_at dksX0_flight_0 14 rfl rfl)
theorem dX0_flight_17 : decode cX0_flight 17 = .ok (.iconst (-1), 1) := dk_2 (dk_at dksX0_flight_0 17 rfl rfl)
theorem dX0_flight_18 : decode cX0_flight 18 = .ok (.ireturn, 1) := dk_172 (dk_at dksX0_flight_0 18 rfl rfl)
theorem dX0_flight_19 : decode cX0_flight 19 = .ok (.iload_n 3, 1) := dk_29 (dk_at dksX0_flight_0 19 rfl rfl)
theorem dX0_flight_20 : decode cX0_flight 20 = .ok (.ifCond .ne 10, 3) := dk_154 0 10 (dk_at dksX0_flight_0 20 rfl rfl)
theorem dX0_flight_23 : decode cX0_flight 23 = .ok (.aload_n 0, 1) := dk_42 (dk_at dksX0_flight_0 23 rfl rfl)
theorem dX0_flight_24 : decode cX0_flight 24 = .ok (.getfield 308, 3) := dk_180 1 52 (dk_at dksX0_flight_1 0 rfl rfl)
theorem dX0_flight_27 : decode cX0_flight 27 = .ok (.goto 40, 3) := dk_167 0 40 (dk_at dksX0_flight_1 3 rfl rfl)
theorem dX0_flight_30 : decode cX0_flight 30 = .ok (.iload_n 3, 1) := dk_29 (dk_at dksX0_flight_1 6 rfl rfl)
theorem dX0_flight_31 : decode cX0_flight 31 = .ok (.iconst 1, 1) := dk_4 (dk_at dksX0_flight_1 7 rfl rfl)
theorem dX0_flight_32 : decode cX0_flight 32 = .ok (.if_icmp .ne 10, 3) := dk_160 0 10 (dk_at dksX0_flight_1 8 rfl rfl)
theorem dX0_flight_35 : decode cX0_flight 35 = .ok (.aload_n 0, 1) := dk_42 (dk_at dksX0_flight_1 11 rfl rfl)
theorem dX0_flight_36 : decode cX0_flight 36 = .ok (.getfield 311, 3) := dk_180 1 55 (dk_at dksX0_flight_1 12 rfl rfl)
theorem dX0_flight_39 : decode cX0_flight 39 = .ok (.goto 28, 3) := dk_167 0 28 (dk_at dksX0_flight_1 15 rfl rfl)
theorem dX0_flight_42 : decode cX0_flight 42 = .ok (.iload_n 3, 1) := dk_29 (dk_at dksX0_flight_1 18 rfl rfl)
theorem dX0_flight_43 : decode cX0_flight 43 = .ok (.iconst 2, 1) := dk_5 (dk_at dksX0_flight_1 19 rfl rfl)
theorem dX0_flight_44 : decode cX0_flight 44 = .ok (.if_icmp .ne 10, 3) := dk_160 0 10 (dk_at dksX0_flight_1 20 rfl rfl)
theorem dX0_flight_47 : decode cX0_flight 47 = .ok (.aload_n 0, 1) := dk_42 (dk_at dksX0_flight_1 23 rfl rfl)
theorem dX0_flight_48 : decode cX0_flight 48 = .ok (.getfield 314, 3) := dk_180 1 58 (dk_at dksX0_flight_2 0 rfl rfl)
theorem dX0_flight_51 : decode cX0_flight 51 = .ok (.goto 16, 3) := dk_167 0 16 (dk_at dksX0_flight_2 3 rfl rfl)
theorem dX0_flight_54 : decode cX0_flight 54 = .ok (.iload_n 3, 1) := dk_29 (dk_at dksX0_flight_2 6 rfl rfl)
theorem dX0_flight_55 : decode cX0_flight 55 = .ok (.iconst 3, 1) := dk_6 (dk_at dksX0_flight_2 7 rfl rfl)
theorem dX0_flight_56 : decode cX0_flight 56 = .ok (.if_icmp .ne 10, 3) := dk_160 0 10 (dk_at dksX0_flight_2 8 rfl rfl)
theorem dX0_flight_59 : decode cX0_flight 59 = .ok (.aload_n 0, 1) := dk_42 (dk_at dksX0_flight_2 11 rfl rfl)
theorem dX0_flight_60 : decode cX0_flight 60 = .ok (.getfield 317, 3) := dk_180 1 61 (dk_at dksX0_flight_2 12 rfl rfl)
theorem dX0_flight_63 : decode cX0_flight 63 = .ok (.goto 4, 3) := dk_167 0 4 (dk_at dksX0_flight_2 15 rfl rfl)
theorem dX0_flight_66 : decode cX0_flight 66 = .ok (.iconst (-1), 1) := dk_2 (dk_at dksX0_flight_2 18 rfl rfl)
theorem dX0_flight_67 : decode cX0_flight 67 = .ok (.ireturn, 1) := dk_172 (dk_at dksX0_flight_2 19 rfl rfl)
abbrev cX0_isFlight : ByteArray := prog_1_method_62_code
def yX0_isFlight : MethodName := ⟨RX0, "isFlight", "(II)Z"⟩
def dkwX0_isFlight_1 : List UInt8 := [172]
abbrev dktX0_isFlight_1 : List UInt8 := dkwX0_isFlight_1 ++ []
def dkwX0_isFlight_0 : List UInt8 := [26, 3, 16, 35, 184, 0, 72, 153, 0, 16, 27, 3, 6, 184, 0, 72, 153, 0, 7, 4, 167, 0, 4, 3]
abbrev dktX0_isFlight_0 : List UInt8 := dkwX0_isFlight_0 ++ dktX0_isFlight_1
theorem dksX0_isFlight_0 : cX0_isFlight.data.toList.drop 0 = dktX0_isFlight_0 := by decide +kernel
theorem dksX0_isFlight_1 : cX0_isFlight.data.toList.drop 24 = dktX0_isFlight_1 := dk_seg dksX0_isFlight_0 24 rfl rfl
theorem dX0_isFlight_0 : decode cX0_isFlight 0 = .ok (.iload_n 0, 1) := dk_26 (dk_at dksX0_isFlight_0 0 rfl rfl)
theorem dX0_isFlight_1 : decode cX0_isFlight 1 = .ok (.iconst 0, 1) := dk_3 (dk_at dksX0_isFlight_0 1 rfl rfl)
theorem dX0_isFlight_2 : decode cX0_isFlight 2 = .ok (.bipush 35, 2) := dk_16 35 (dk_at dksX0_isFlight_0 2 rfl rfl)
theorem dX0_isFlight_4 : decode cX0_isFlight 4 = .ok (.invokestatic 72, 3) := dk_184 0 72 (dk_at dksX0_isFlight_0 4 rfl rfl)
theorem dX0_isFlight_7 : decode cX0_isFlight 7 = .ok (.ifCond .eq 16, 3) := dk_153 0 16 (dk_at dksX0_isFlight_0 7 rfl rfl)
theorem dX0_isFlight_10 : decode cX0_isFlight 10 = .ok (.iload_n 1, 1) := dk_27 (dk_at dksX0_isFlight_0 10 rfl rfl)
theorem dX0_isFlight_11 : decode cX0_isFlight 11 = .ok (.iconst 0, 1) := dk_3 (dk_at dksX0_isFlight_0 11 rfl rfl)
theorem dX0_isFlight_12 : decode cX0_isFlight 12 = .ok (.iconst 3, 1) := dk_6 (dk_at dksX0_isFlight_0 12 rfl rfl)
theorem dX0_isFlight_13 : decode cX0_isFlight 13 = .ok (.invokestatic 72, 3) := dk_184 0 72 (dk_at dksX0_isFlight_0 13 rfl rfl)
theorem dX0_isFlight_16 : decode cX0_isFlight 16 = .ok (.ifCond .eq 7, 3) := dk_153 0 7 (dk_at dksX0_isFlight_0 16 rfl rfl)
theorem dX0_isFlight_19 : decode cX0_isFlight 19 = .ok (.iconst 1, 1) := dk_4 (dk_at dksX0_isFlight_0 19 rfl rfl)
theorem dX0_isFlight_20 : decode cX0_isFlight 20 = .ok (.goto 4, 3) := dk_167 0 4 (dk_at dksX0_isFlight_0 20 rfl rfl)
theorem dX0_isFlight_23 : decode cX0_isFlight 23 = .ok (.iconst 0, 1) := dk_3 (dk_at dksX0_isFlight_0 23 rfl rfl)
theorem dX0_isFlight_24 : decode cX0_isFlight 24 = .ok (.ireturn, 1) := dk_172 (dk_at dksX0_isFlight_1 0 rfl rfl)
abbrev cX0_flies : ByteArray := prog_1_method_60_code
def yX0_flies : MethodName := ⟨RX0, "flies", "(II)Z"⟩
def dkwX0_flies_6 : List UInt8 := [180, 1, 61, 181, 1, 61, 167, 255, 131, 4, 172]
abbrev dktX0_flies_6 : List UInt8 := dkwX0_flies_6 ++ []
def dkwX0_flies_5 : List UInt8 := [180, 1, 61, 4, 130, 167, 0, 21, 29, 5, 160, 0, 12, 6, 42, 180, 1, 61, 100, 167, 0, 7, 42]
abbrev dktX0_flies_5 : List UInt8 := dkwX0_flies_5 ++ dktX0_flies_6
def dkwX0_flies_4 : List UInt8 := [180, 1, 58, 29, 158, 0, 7, 4, 167, 0, 4, 3, 96, 181, 1, 58, 42, 29, 4, 160, 0, 12, 42]
abbrev dktX0_flies_4 : List UInt8 := dkwX0_flies_4 ++ dktX0_flies_5
def dkwX0_flies_3 : List UInt8 := [46, 62, 29, 6, 160, 0, 5, 4, 172, 42, 180, 1, 52, 17, 0, 144, 164, 0, 5, 3, 172, 42, 89]
abbrev dktX0_flies_3 : List UInt8 := dkwX0_flies_3 ++ dktX0_flies_4
def dkwX0_flies_2 : List UInt8 := [181, 1, 55, 42, 89, 180, 1, 52, 4, 96, 181, 1, 52, 42, 180, 0, 21, 180, 1, 70, 42, 180, 1, 55]
abbrev dktX0_flies_2 : List UInt8 := dkwX0_flies_2 ++ dktX0_flies_3
def dkwX0_flies_1 : List UInt8 := [42, 180, 1, 61, 184, 1, 64, 154, 0, 117, 42, 42, 180, 1, 55, 42, 180, 1, 61, 184, 1, 67]
abbrev dktX0_flies_1 : List UInt8 := dkwX0_flies_1 ++ dktX0_flies_2
def dkwX0_flies_0 : List UInt8 := [42, 3, 181, 1, 52, 42, 27, 181, 1, 55, 42, 3, 181, 1, 58, 42, 28, 181, 1, 61, 42, 180, 1, 55]
abbrev dktX0_flies_0 : List UInt8 := dkwX0_flies_0 ++ dktX0_flies_1
theorem dksX0_flies_0 : cX0_flies.data.toList.drop 0 = dktX0_flies_0 := by decide +kernel
theorem dksX0_flies_1 : cX0_flies.data.toList.drop 24 = dktX0_flies_1 := dk_seg dksX0_flies_0 24 rfl rfl
theorem dksX0_flies_2 : cX0_flies.data.toList.drop 46 = dktX0_flies_2 := dk_seg dksX0_flies_1 22 rfl rfl
theorem dksX0_flies_3 : cX0_flies.data.toList.drop 70 = dktX0_flies_3 := dk_seg dksX0_flies_2 24 rfl rfl
theorem dksX0_flies_4 : cX0_flies.data.toList.drop 93 = dktX0_flies_4 := dk_seg dksX0_flies_3 23 rfl rfl
theorem dksX0_flies_5 : cX0_flies.data.toList.drop 116 = dktX0_flies_5 := dk_seg dksX0_flies_4 23 rfl rfl
theorem dksX0_flies_6 : cX0_flies.data.toList.drop 139 = dktX0_flies_6 := dk_seg dksX0_flies_5 23 rfl rfl
theorem dX0_flies_0 : decode cX0_flies 0 = .ok (.aload_n 0, 1) := dk_42 (dk_at dksX0_flies_0 0 rfl rfl)
theorem dX0_flies_1 : decode cX0_flies 1 = .ok (.iconst 0, 1) := dk_3 (dk_at dksX0_flies_0 1 rfl rfl)
theorem dX0_flies_2 : decode cX0_flies 2 = .ok (.putfield 308, 3) := dk_181 1 52 (dk_at dksX0_flies_0 2 rfl rfl)
theorem dX0_flies_5 : decode cX0_flies 5 = .ok (.aload_n 0, 1) := dk_42 (dk_at dksX0_flies_0 5 rfl rfl)
theorem dX0_flies_6 : decode cX0_flies 6 = .ok (.iload_n 1, 1) := dk_27 (dk_at dksX0_flies_0 6 rfl rfl)
theorem dX0_flies_7 : decode cX0_flies 7 = .ok (.putfield 311, 3) := dk_181 1 55 (dk_at dksX0_flies_0 7 rfl rfl)
theorem dX0_flies_10 : decode cX0_flies 10 = .ok (.aload_n 0, 1) := dk_42 (dk_at dksX0_flies_0 10 rfl rfl)
theorem dX0_flies_11 : decode cX0_flies 11 = .ok (.iconst 0, 1) := dk_3 (dk_at dksX0_flies_0 11 rfl rfl)
theorem dX0_flies_12 : decode cX0_flies 12 = .ok (.putfield 314, 3) := dk_181 1 58 (dk_at dksX0_flies_0 12 rfl rfl)
theorem dX0_flies_15 : decode cX0_flies 15 = .ok (.aload_n 0, 1) := dk_42 (dk_at dksX0_flies_0 15 rfl rfl)
theorem dX0_flies_16 : decode cX0_flies 16 = .ok (.iload_n 2, 1) := dk_28 (dk_at dksX0_flies_0 16 rfl rfl)
theorem dX0_flies_17 : decode cX0_flies 17 = .ok (.putfield 317, 3) := dk_181 1 61 (dk_at dksX0_flies_0 17 rfl rfl)
theorem dX0_flies_20 : decode cX0_flies 20 = .ok (.aload_n 0, 1) := dk_42 (dk_at dksX0_flies_0 20 rfl rfl)
theorem dX0_flies_21 : decode cX0_flies 21 = .ok (.getfield 311, 3) := dk_180 1 55 (dk_at dksX0_flies_0 21 rfl rfl)
theorem dX0_flies_24 : decode cX0_flies 24 = .ok (.aload_n 0, 1) := dk_42 (dk_at dksX0_flies_1 0 rfl rfl)
theorem dX0_flies_25 : decode cX0_flies 25 = .ok (.getfield 317, 3) := dk_180 1 61 (dk_at dksX0_flies_1 1 rfl rfl)
theorem dX0_flies_28 : decode cX0_flies 28 = .ok (.invokestatic 320, 3) := dk_184 1 64 (dk_at dksX0_flies_1 4 rfl rfl)
theorem dX0_flies_31 : decode cX0_flies 31 = .ok (.ifCond .ne 117, 3) := dk_154 0 117 (dk_at dksX0_flies_1 7 rfl rfl)
theorem dX0_flies_34 : decode cX0_flies 34 = .ok (.aload_n 0, 1) := dk_42 (dk_at dksX0_flies_1 10 rfl rfl)
theorem dX0_flies_35 : decode cX0_flies 35 = .ok (.aload_n 0, 1) := dk_42 (dk_at dksX0_flies_1 11 rfl rfl)
theorem dX0_flies_36 : decode cX0_flies 36 = .ok (.getfield 311, 3) := dk_180 1 55 (dk_at dksX0_flies_1 12 rfl rfl)
theorem dX0_flies_39 : decode cX0_flies 39 = .ok (.aload_n 0, 1) := dk_42 (dk_at dksX0_flies_1 15 rfl rfl)
theorem dX0_flies_40 : decode cX0_flies 40 = .ok (.getfield 317, 3) := dk_180 1 61 (dk_at dksX0_flies_1 16 rfl rfl)
theorem dX0_flies_43 : decode cX0_flies 43 = .ok (.invokestatic 323, 3) := dk_184 1 67 (dk_at dksX0_flies_1 19 rfl rfl)
theorem dX0_flies_46 : decode cX0_flies 46 = .ok (.putfield 311, 3) := dk_181 1 55 (dk_at dksX0_flies_2 0 rfl rfl)
theorem dX0_flies_49 : decode cX0_flies 49 = .ok (.aload_n 0, 1) := dk_42 (dk_at dksX0_flies_2 3 rfl rfl)
theorem dX0_flies_50 : decode cX0_flies 50 = .ok (.dup, 1) := dk_89 (dk_at dksX0_flies_2 4 rfl rfl)
theorem dX0_flies_51 : decode cX0_flies 51 = .ok (.getfield 308, 3) := dk_180 1 52 (dk_at dksX0_flies_2 5 rfl rfl)
theorem dX0_flies_54 : decode cX0_flies 54 = .ok (.iconst 1, 1) := dk_4 (dk_at dksX0_flies_2 8 rfl rfl)
theorem dX0_flies_55 : decode cX0_flies 55 = .ok (.iadd, 1) := dk_96 (dk_at dksX0_flies_2 9 rfl rfl)
theorem dX0_flies_56 : decode cX0_flies 56 = .ok (.putfield 308, 3) := dk_181 1 52 (dk_at dksX0_flies_2 10 rfl rfl)
theorem dX0_flies_59 : decode cX0_flies 59 = .ok (.aload_n 0, 1) := dk_42 (dk_at dksX0_flies_2 13 rfl rfl)
theorem dX0_flies_60 : decode cX0_flies 60 = .ok (.getfield 21, 3) := dk_180 0 21 (dk_at dksX0_flies_2 14 rfl rfl)
theorem dX0_flies_63 : decode cX0_flies 63 = .ok (.getfield 326, 3) := dk_180 1 70 (dk_at dksX0_flies_2 17 rfl rfl)
theorem dX0_flies_66 : decode cX0_flies 66 = .ok (.aload_n 0, 1) := dk_42 (dk_at dksX0_flies_2 20 rfl rfl)
theorem dX0_flies_67 : decode cX0_flies 67 = .ok (.getfield 311, 3) := dk_180 1 55 (dk_at dksX0_flies_2 21 rfl rfl)
theorem dX0_flies_70 : decode cX0_flies 70 = .ok (.iaload, 1) := dk_46 (dk_at dksX0_flies_3 0 rfl rfl)
theorem dX0_flies_71 : decode cX0_flies 71 = .ok (.istore_n 3, 1) := dk_62 (dk_at dksX0_flies_3 1 rfl rfl)
theorem dX0_flies_72 : decode cX0_flies 72 = .ok (.iload_n 3, 1) := dk_29 (dk_at dksX0_flies_3 2 rfl rfl)
theorem dX0_flies_73 : decode cX0_flies 73 = .ok (.iconst 3, 1) := dk_6 (dk_at dksX0_flies_3 3 rfl rfl)
theorem dX0_flies_74 : decode cX0_flies 74 = .ok (.if_icmp .ne 5, 3) := dk_160 0 5 (dk_at dksX0_flies_3 4 rfl rfl)
theorem dX0_flies_77 : decode cX0_flies 77 = .ok (.iconst 1, 1) := dk_4 (dk_at dksX0_flies_3 7 rfl rfl)
theorem dX0_flies_78 : decode cX0_flies 78 = .ok (.ireturn, 1) := dk_172 (dk_at dksX0_flies_3 8 rfl rfl)
theorem dX0_flies_79 : decode cX0_flies 79 = .ok (.aload_n 0, 1) := dk_42 (dk_at dksX0_flies_3 9 rfl rfl)
theorem dX0_flies_80 : decode cX0_flies 80 = .ok (.getfield 308, 3) := dk_180 1 52 (dk_at dksX0_flies_3 10 rfl rfl)
theorem dX0_flies_83 : decode cX0_flies 83 = .ok (.sipush 144, 3) := dk_17 0 144 (dk_at dksX0_flies_3 13 rfl rfl)
theorem dX0_flies_86 : decode cX0_flies 86 = .ok (.if_icmp .le 5, 3) := dk_164 0 5 (dk_at dksX0_flies_3 16 rfl rfl)
theorem dX0_flies_89 : decode cX0_flies 89 = .ok (.iconst 0, 1) := dk_3 (dk_at dksX0_flies_3 19 rfl rfl)
theorem dX0_flies_90 : decode cX0_flies 90 = .ok (.ireturn, 1) := dk_172 (dk_at dksX0_flies_3 20 rfl rfl)
theorem dX0_flies_91 : decode cX0_flies 91 = .ok (.aload_n 0, 1) := dk_42 (dk_at dksX0_flies_3 21 rfl rfl)
theorem dX0_flies_92 : decode cX0_flies 92 = .ok (.dup, 1) := dk_89 (dk_at dksX0_flies_3 22 rfl rfl)
theorem dX0_flies_93 : decode cX0_flies 93 = .ok (.getfield 314, 3) := dk_180 1 58 (dk_at dksX0_flies_4 0 rfl rfl)
theorem dX0_flies_96 : decode cX0_flies 96 = .ok (.iload_n 3, 1) := dk_29 (dk_at dksX0_flies_4 3 rfl rfl)
theorem dX0_flies_97 : decode cX0_flies 97 = .ok (.ifCond .le 7, 3) := dk_158 0 7 (dk_at dksX0_flies_4 4 rfl rfl)
theorem dX0_flies_100 : decode cX0_flies 100 = .ok (.iconst 1, 1) := dk_4 (dk_at dksX0_flies_4 7 rfl rfl)
theorem dX0_flies_101 : decode cX0_flies 101 = .ok (.goto 4, 3) := dk_167 0 4 (dk_at dksX0_flies_4 8 rfl rfl)
theorem dX0_flies_104 : decode cX0_flies 104 = .ok (.iconst 0, 1) := dk_3 (dk_at dksX0_flies_4 11 rfl rfl)
theorem dX0_flies_105 : decode cX0_flies 105 = .ok (.iadd, 1) := dk_96 (dk_at dksX0_flies_4 12 rfl rfl)
theorem dX0_flies_106 : decode cX0_flies 106 = .ok (.putfield 314, 3) := dk_181 1 58 (dk_at dksX0_flies_4 13 rfl rfl)
theorem dX0_flies_109 : decode cX0_flies 109 = .ok (.aload_n 0, 1) := dk_42 (dk_at dksX0_flies_4 16 rfl rfl)
theorem dX0_flies_110 : decode cX0_flies 110 = .ok (.iload_n 3, 1) := dk_29 (dk_at dksX0_flies_4 17 rfl rfl)
theorem dX0_flies_111 : decode cX0_flies 111 = .ok (.iconst 1, 1) := dk_4 (dk_at dksX0_flies_4 18 rfl rfl)
theorem dX0_flies_112 : decode cX0_flies 112 = .ok (.if_icmp .ne 12, 3) := dk_160 0 12 (dk_at dksX0_flies_4 19 rfl rfl)
theorem dX0_flies_115 : decode cX0_flies 115 = .ok (.aload_n 0, 1) := dk_42 (dk_at dksX0_flies_4 22 rfl rfl)
theorem dX0_flies_116 : decode cX0_flies 116 = .ok (.getfield 317, 3) := dk_180 1 61 (dk_at dksX0_flies_5 0 rfl rfl)
theorem dX0_flies_119 : decode cX0_flies 119 = .ok (.iconst 1, 1) := dk_4 (dk_at dksX0_flies_5 3 rfl rfl)
theorem dX0_flies_120 : decode cX0_flies 120 = .ok (.ixor, 1) := dk_130 (dk_at dksX0_flies_5 4 rfl rfl)
theorem dX0_flies_121 : decode cX0_flies 121 = .ok (.goto 21, 3) := dk_167 0 21 (dk_at dksX0_flies_5 5 rfl rfl)
theorem dX0_flies_124 : decode cX0_flies 124 = .ok (.iload_n 3, 1) := dk_29 (dk_at dksX0_flies_5 8 rfl rfl)
theorem dX0_flies_125 : decode cX0_flies 125 = .ok (.iconst 2, 1) := dk_5 (dk_at dksX0_flies_5 9 rfl rfl)
theorem dX0_flies_126 : decode cX0_flies 126 = .ok (.if_icmp .ne 12, 3) := dk_160 0 12 (dk_at dksX0_flies_5 10 rfl rfl)
theorem dX0_flies_129 : decode cX0_flies 129 = .ok (.iconst 3, 1) := dk_6 (dk_at dksX0_flies_5 13 rfl rfl)
theorem dX0_flies_130 : decode cX0_flies 130 = .ok (.aload_n 0, 1) := dk_42 (dk_at dksX0_flies_5 14 rfl rfl)
theorem dX0_flies_131 : decode cX0_flies 131 = .ok (.getfield 317, 3) := dk_180 1 61 (dk_at dksX0_flies_5 15 rfl rfl)
theorem dX0_flies_134 : decode cX0_flies 134 = .ok (.isub, 1) := dk_100 (dk_at dksX0_flies_5 18 rfl rfl)
theorem dX0_flies_135 : decode cX0_flies 135 = .ok (.goto 7, 3) := dk_167 0 7 (dk_at dksX0_flies_5 19 rfl rfl)
theorem dX0_flies_138 : decode cX0_flies 138 = .ok (.aload_n 0, 1) := dk_42 (dk_at dksX0_flies_5 22 rfl rfl)
theorem dX0_flies_139 : decode cX0_flies 139 = .ok (.getfield 317, 3) := dk_180 1 61 (dk_at dksX0_flies_6 0 rfl rfl)
theorem dX0_flies_142 : decode cX0_flies 142 = .ok (.putfield 317, 3) := dk_181 1 61 (dk_at dksX0_flies_6 3 rfl rfl)
theorem dX0_flies_145 : decode cX0_flies 145 = .ok (.goto (-125), 3) := dk_167 255 131 (dk_at dksX0_flies_6 6 rfl rfl)
theorem dX0_flies_148 : decode cX0_flies 148 = .ok (.iconst 1, 1) := dk_4 (dk_at dksX0_flies_6 9 rfl rfl)
theorem dX0_flies_149 : decode cX0_flies 149 = .ok (.ireturn, 1) := dk_172 (dk_at dksX0_flies_6 10 rfl rfl)
abbrev cX0_leavesBy : ByteArray := prog_1_method_58_code
def yX0_leavesBy : MethodName := ⟨RX0, "leavesBy", "(II)Z"⟩
def dkwX0_leavesBy_2 : List UInt8 := [161, 0, 7, 4, 167, 0, 19, 3, 167, 0, 15, 26, 16, 6, 112, 154, 0, 7, 4, 167, 0, 4, 3, 172]
abbrev dktX0_leavesBy_2 : List UInt8 := dkwX0_leavesBy_2 ++ []
def dkwX0_leavesBy_1 : List UInt8 := [16, 6, 112, 8, 160, 0, 7, 4, 167, 0, 38, 3, 167, 0, 34, 27, 5, 160, 0, 17, 26, 16, 30]
abbrev dktX0_leavesBy_1 : List UInt8 := dkwX0_leavesBy_1 ++ dktX0_leavesBy_2
def dkwX0_leavesBy_0 : List UInt8 := [27, 154, 0, 17, 26, 16, 6, 162, 0, 7, 4, 167, 0, 59, 3, 167, 0, 55, 27, 4, 160, 0, 19, 26]
abbrev dktX0_leavesBy_0 : List UInt8 := dkwX0_leavesBy_0 ++ dktX0_leavesBy_1
theorem dksX0_leavesBy_0 : cX0_leavesBy.data.toList.drop 0 = dktX0_leavesBy_0 := by decide +kernel
theorem dksX0_leavesBy_1 : cX0_leavesBy.data.toList.drop 24 = dktX0_leavesBy_1 := dk_seg dksX0_leavesBy_0 24 rfl rfl
theorem dksX0_leavesBy_2 : cX0_leavesBy.data.toList.drop 47 = dktX0_leavesBy_2 := dk_seg dksX0_leavesBy_1 23 rfl rfl
theorem dX0_leavesBy_0 : decode cX0_leavesBy 0 = .ok (.iload_n 1, 1) := dk_27 (dk_at dksX0_leavesBy_0 0 rfl rfl)
theorem dX0_leavesBy_1 : decode cX0_leavesBy 1 = .ok (.ifCond .ne 17, 3) := dk_154 0 17 (dk_at dksX0_leavesBy_0 1 rfl rfl)
theorem dX0_leavesBy_4 : decode cX0_leavesBy 4 = .ok (.iload_n 0, 1) := dk_26 (dk_at dksX0_leavesBy_0 4 rfl rfl)
theorem dX0_leavesBy_5 : decode cX0_leavesBy 5 = .ok (.bipush 6, 2) := dk_16 6 (dk_at dksX0_leavesBy_0 5 rfl rfl)
theorem dX0_leavesBy_7 : decode cX0_leavesBy 7 = .ok (.if_icmp .ge 7, 3) := dk_162 0 7 (dk_at dksX0_leavesBy_0 7 rfl rfl)
theorem dX0_leavesBy_10 : decode cX0_leavesBy 10 = .ok (.iconst 1, 1) := dk_4 (dk_at dksX0_leavesBy_0 10 rfl rfl)
theorem dX0_leavesBy_11 : decode cX0_leavesBy 11 = .ok (.goto 59, 3) := dk_167 0 59 (dk_at dksX0_leavesBy_0 11 rfl rfl)
theorem dX0_leavesBy_14 : decode cX0_leavesBy 14 = .ok (.iconst 0, 1) := dk_3 (dk_at dksX0_leavesBy_0 14 rfl rfl)
theorem dX0_leavesBy_15 : decode cX0_leavesBy 15 = .ok (.goto 55, 3) := dk_167 0 55 (dk_at dksX0_leavesBy_0 15 rfl rfl)
theorem dX0_leavesBy_18 : decode cX0_leavesBy 18 = .ok (.iload_n 1, 1) := dk_27 (dk_at dksX0_leavesBy_0 18 rfl rfl)
theorem dX0_leavesBy_19 : decode cX0_leavesBy 19 = .ok (.iconst 1, 1) := dk_4 (dk_at dksX0_leavesBy_0 19 rfl rfl)
theorem dX0_leavesBy_20 : decode cX0_leavesBy 20 = .ok (.if_icmp .ne 19, 3) := dk_160 0 19 (dk_at dksX0_leavesBy_0 20 rfl rfl)
theorem dX0_leavesBy_23 : decode cX0_leavesBy 23 = .ok (.iload_n 0, 1) := dk_26 (dk_at dksX0_leavesBy_0 23 rfl rfl)
theorem dX0_leavesBy_24 : decode cX0_leavesBy 24 = .ok (.bipush 6, 2) := dk_16 6 (dk_at dksX0_leavesBy_1 0 rfl rfl)
theorem dX0_leavesBy_26 : decode cX0_leavesBy 26 = .ok (.irem, 1) := dk_112 (dk_at dksX0_leavesBy_1 2 rfl rfl)
theorem dX0_leavesBy_27 : decode cX0_leavesBy 27 = .ok (.iconst 5, 1) := dk_8 (dk_at dksX0_leavesBy_1 3 rfl rfl)
theorem dX0_leavesBy_28 : decode cX0_leavesBy 28 = .ok (.if_icmp .ne 7, 3) := dk_160 0 7 (dk_at dksX0_leavesBy_1 4 rfl rfl)
theorem dX0_leavesBy_31 : decode cX0_leavesBy 31 = .ok (.iconst 1, 1) := dk_4 (dk_at dksX0_leavesBy_1 7 rfl rfl)
theorem dX0_leavesBy_32 : decode cX0_leavesBy 32 = .ok (.goto 38, 3) := dk_167 0 38 (dk_at dksX0_leavesBy_1 8 rfl rfl)
theorem dX0_leavesBy_35 : decode cX0_leavesBy 35 = .ok (.iconst 0, 1) := dk_3 (dk_at dksX0_leavesBy_1 11 rfl rfl)
theorem dX0_leavesBy_36 : decode cX0_leavesBy 36 = .ok (.goto 34, 3) := dk_167 0 34 (dk_at dksX0_leavesBy_1 12 rfl rfl)
theorem dX0_leavesBy_39 : decode cX0_leavesBy 39 = .ok (.iload_n 1, 1) := dk_27 (dk_at dksX0_leavesBy_1 15 rfl rfl)
theorem dX0_leavesBy_40 : decode cX0_leavesBy 40 = .ok (.iconst 2, 1) := dk_5 (dk_at dksX0_leavesBy_1 16 rfl rfl)
theorem dX0_leavesBy_41 : decode cX0_leavesBy 41 = .ok (.if_icmp .ne 17, 3) := dk_160 0 17 (dk_at dksX0_leavesBy_1 17 rfl rfl)
theorem dX0_leavesBy_44 : decode cX0_leavesBy 44 = .ok (.iload_n 0, 1) := dk_26 (dk_at dksX0_leavesBy_1 20 rfl rfl)
theorem dX0_leavesBy_45 : decode cX0_leavesBy 45 = .ok (.bipush 30, 2) := dk_16 30 (dk_at dksX0_leavesBy_1 21 rfl rfl)
theorem dX0_leavesBy_47 : decode cX0_leavesBy 47 = .ok (.if_icmp .lt 7, 3) := dk_161 0 7 (dk_at dksX0_leavesBy_2 0 rfl rfl)
theorem dX0_leavesBy_50 : decode cX0_leavesBy 50 = .ok (.iconst 1, 1) := dk_4 (dk_at dksX0_leavesBy_2 3 rfl rfl)
theorem dX0_leavesBy_51 : decode cX0_leavesBy 51 = .ok (.goto 19, 3) := dk_167 0 19 (dk_at dksX0_leavesBy_2 4 rfl rfl)
theorem dX0_leavesBy_54 : decode cX0_leavesBy 54 = .ok (.iconst 0, 1) := dk_3 (dk_at dksX0_leavesBy_2 7 rfl rfl)
theorem dX0_leavesBy_55 : decode cX0_leavesBy 55 = .ok (.goto 15, 3) := dk_167 0 15 (dk_at dksX0_leavesBy_2 8 rfl rfl)
theorem dX0_leavesBy_58 : decode cX0_leavesBy 58 = .ok (.iload_n 0, 1) := dk_26 (dk_at dksX0_leavesBy_2 11 rfl rfl)
theorem dX0_leavesBy_59 : decode cX0_leavesBy 59 = .ok (.bipush 6, 2) := dk_16 6 (dk_at dksX0_leavesBy_2 12 rfl rfl)
theorem dX0_leavesBy_61 : decode cX0_leavesBy 61 = .ok (.irem, 1) := dk_112 (dk_at dksX0_leavesBy_2 14 rfl rfl)
theorem dX0_leavesBy_62 : decode cX0_leavesBy 62 = .ok (.ifCond .ne 7, 3) := dk_154 0 7 (dk_at dksX0_leavesBy_2 15 rfl rfl)
theorem dX0_leavesBy_65 : decode cX0_leavesBy 65 = .ok (.iconst 1, 1) := dk_4 (dk_at dksX0_leavesBy_2 18 rfl rfl)
theorem dX0_leavesBy_66 : decode cX0_leavesBy 66 = .ok (.goto 4, 3) := dk_167 0 4 (dk_at dksX0_leavesBy_2 19 rfl rfl)
theorem dX0_leavesBy_69 : decode cX0_leavesBy 69 = .ok (.iconst 0, 1) := dk_3 (dk_at dksX0_leavesBy_2 22 rfl rfl)
theorem dX0_leavesBy_70 : decode cX0_leavesBy 70 = .ok (.ireturn, 1) := dk_172 (dk_at dksX0_leavesBy_2 23 rfl rfl)
abbrev cX0_nextCell : ByteArray := prog_1_method_59_code
def yX0_nextCell : MethodName := ⟨RX0, "nextCell", "(II)I"⟩
def dkwX0_nextCell_1 : List UInt8 := [16, 6, 167, 0, 4, 2, 96, 172]
abbrev dktX0_nextCell_1 : List UInt8 := dkwX0_nextCell_1 ++ []
def dkwX0_nextCell_0 : List UInt8 := [26, 27, 154, 0, 8, 16, 250, 167, 0, 23, 27, 4, 160, 0, 7, 4, 167, 0, 14, 27, 5, 160, 0, 8]
abbrev dktX0_nextCell_0 : List UInt8 := dkwX0_nextCell_0 ++ dktX0_nextCell_1
theorem dksX0_nextCell_0 : cX0_nextCell.data.toList.drop 0 = dktX0_nextCell_0 := by decide +kernel
theorem dksX0_nextCell_1 : cX0_nextCell.data.toList.drop 24 = dktX0_nextCell_1 := dk_seg dksX0_nextCell_0 24 rfl rfl
theorem dX0_nextCell_0 : decode cX0_nextCell 0 = .ok (.iload_n 0, 1) := dk_26 (dk_at dksX0_nextCell_0 0 rfl rfl)
theorem dX0_nextCell_1 : decode cX0_nextCell 1 = .ok (.iload_n 1, 1) := dk_27 (dk_at dksX0_nextCell_0 1 rfl rfl)
theorem dX0_nextCell_2 : decode cX0_nextCell 2 = .ok (.ifCond .ne 8, 3) := dk_154 0 8 (dk_at dksX0_nextCell_0 2 rfl rfl)
theorem dX0_nextCell_5 : decode cX0_nextCell 5 = .ok (.bipush (-6), 2) := dk_16 250 (dk_at dksX0_nextCell_0 5 rfl rfl)
theorem dX0_nextCell_7 : decode cX0_nextCell 7 = .ok (.goto 23, 3) := dk_167 0 23 (dk_at dksX0_nextCell_0 7 rfl rfl)
theorem dX0_nextCell_10 : decode cX0_nextCell 10 = .ok (.iload_n 1, 1) := dk_27 (dk_at dksX0_nextCell_0 10 rfl rfl)
theorem dX0_nextCell_11 : decode cX0_nextCell 11 = .ok (.iconst 1, 1) := dk_4 (dk_at dksX0_nextCell_0 11 rfl rfl)
theorem dX0_nextCell_12 : decode cX0_nextCell 12 = .ok (.if_icmp .ne 7, 3) := dk_160 0 7 (dk_at dksX0_nextCell_0 12 rfl rfl)
theorem dX0_nextCell_15 : decode cX0_nextCell 15 = .ok (.iconst 1, 1) := dk_4 (dk_at dksX0_nextCell_0 15 rfl rfl)
theorem dX0_nextCell_16 : decode cX0_nextCell 16 = .ok (.goto 14, 3) := dk_167 0 14 (dk_at dksX0_nextCell_0 16 rfl rfl)
theorem dX0_nextCell_19 : decode cX0_nextCell 19 = .ok (.iload_n 1, 1) := dk_27 (dk_at dksX0_nextCell_0 19 rfl rfl)
theorem dX0_nextCell_20 : decode cX0_nextCell 20 = .ok (.iconst 2, 1) := dk_5 (dk_at dksX0_nextCell_0 20 rfl rfl)
theorem dX0_nextCell_21 : decode cX0_nextCell 21 = .ok (.if_icmp .ne 8, 3) := dk_160 0 8 (dk_at dksX0_nextCell_0 21 rfl rfl)
theorem dX0_nextCell_24 : decode cX0_nextCell 24 = .ok (.bipush 6, 2) := dk_16 6 (dk_at dksX0_nextCell_1 0 rfl rfl)
theorem dX0_nextCell_26 : decode cX0_nextCell 26 = .ok (.goto 4, 3) := dk_167 0 4 (dk_at dksX0_nextCell_1 2 rfl rfl)
theorem dX0_nextCell_29 : decode cX0_nextCell 29 = .ok (.iconst (-1), 1) := dk_2 (dk_at dksX0_nextCell_1 5 rfl rfl)
theorem dX0_nextCell_30 : decode cX0_nextCell 30 = .ok (.iadd, 1) := dk_96 (dk_at dksX0_nextCell_1 6 rfl rfl)
theorem dX0_nextCell_31 : decode cX0_nextCell 31 = .ok (.ireturn, 1) := dk_172 (dk_at dksX0_nextCell_1 7 rfl rfl)
abbrev cX0_comes : ByteArray := prog_1_method_64_code
def yX0_comes : MethodName := ⟨RX0, "comes", "(II)I"⟩
def dkwX0_comes_3 : List UInt8 := [132, 4, 1, 167, 255, 201, 132, 3, 1, 167, 255, 187, 2, 172]
abbrev dktX0_comes_3 : List UInt8 := dkwX0_comes_3 ++ []
def dkwX0_comes_2 : List UInt8 := [42, 180, 1, 55, 27, 160, 0, 19, 42, 180, 1, 61, 28, 160, 0, 11, 16, 36, 29, 104, 21, 4, 96, 172]
abbrev dktX0_comes_2 : List UInt8 := dkwX0_comes_2 ++ dktX0_comes_3
def dkwX0_comes_1 : List UInt8 := [162, 0, 54, 21, 4, 29, 5, 130, 184, 1, 64, 153, 0, 37, 42, 21, 4, 29, 182, 1, 76, 153, 0, 27]
abbrev dktX0_comes_1 : List UInt8 := dkwX0_comes_1 ++ dktX0_comes_2
def dkwX0_comes_0 : List UInt8 := [27, 28, 184, 1, 73, 154, 0, 5, 2, 172, 3, 62, 29, 7, 162, 0, 70, 3, 54, 4, 21, 4, 16, 36]
abbrev dktX0_comes_0 : List UInt8 := dkwX0_comes_0 ++ dktX0_comes_1
theorem dksX0_comes_0 : cX0_comes.data.toList.drop 0 = dktX0_comes_0 := by decide +kernel
theorem dksX0_comes_1 : cX0_comes.data.toList.drop 24 = dktX0_comes_1 := dk_seg dksX0_comes_0 24 rfl rfl
theorem dksX0_comes_2 : cX0_comes.data.toList.drop 48 = dktX0_comes_2 := dk_seg dksX0_comes_1 24 rfl rfl
theorem dksX0_comes_3 : cX0_comes.data.toList.drop 72 = dktX0_comes_3 := dk_seg dksX0_comes_2 24 rfl rfl
theorem dX0_comes_0 : decode cX0_comes 0 = .ok (.iload_n 1, 1) := dk_27 (dk_at dksX0_comes_0 0 rfl rfl)
theorem dX0_comes_1 : decode cX0_comes 1 = .ok (.iload_n 2, 1) := dk_28 (dk_at dksX0_comes_0 1 rfl rfl)
theorem dX0_comes_2 : decode cX0_comes 2 = .ok (.invokestatic 329, 3) := dk_184 1 73 (dk_at dksX0_comes_0 2 rfl rfl)
theorem dX0_comes_5 : decode cX0_comes 5 = .ok (.ifCond .ne 5, 3) := dk_154 0 5 (dk_at dksX0_comes_0 5 rfl rfl)
theorem dX0_comes_8 : decode cX0_comes 8 = .ok (.iconst (-1), 1) := dk_2 (dk_at dksX0_comes_0 8 rfl rfl)
theorem dX0_comes_9 : decode cX0_comes 9 = .ok (.ireturn, 1) := dk_172 (dk_at dksX0_comes_0 9 rfl rfl)
theorem dX0_comes_10 : decode cX0_comes 10 = .ok (.iconst 0, 1) := dk_3 (dk_at dksX0_comes_0 10 rfl rfl)
theorem dX0_comes_11 : decode cX0_comes 11 = .ok (.istore_n 3, 1) := dk_62 (dk_at dksX0_comes_0 11 rfl rfl)
theorem dX0_comes_12 : decode cX0_comes 12 = .ok (.iload_n 3, 1) := dk_29 (dk_at dksX0_comes_0 12 rfl rfl)
theorem dX0_comes_13 : decode cX0_comes 13 = .ok (.iconst 4, 1) := dk_7 (dk_at dksX0_comes_0 13 rfl rfl)
theorem dX0_comes_14 : decode cX0_comes 14 = .ok (.if_icmp .ge 70, 3) := dk_162 0 70 (dk_at dksX0_comes_0 14 rfl rfl)
theorem dX0_comes_17 : decode cX0_comes 17 = .ok (.iconst 0, 1) := dk_3 (dk_at dksX0_comes_0 17 rfl rfl)
theorem dX0_comes_18 : decode cX0_comes 18 = .ok (.istore 4, 2) := dk_54 4 (dk_at dksX0_comes_0 18 rfl rfl)
theorem dX0_comes_20 : decode cX0_comes 20 = .ok (.iload 4, 2) := dk_21 4 (dk_at dksX0_comes_0 20 rfl rfl)
theorem dX0_comes_22 : decode cX0_comes 22 = .ok (.bipush 36, 2) := dk_16 36 (dk_at dksX0_comes_0 22 rfl rfl)
theorem dX0_comes_24 : decode cX0_comes 24 = .ok (.if_icmp .ge 54, 3) := dk_162 0 54 (dk_at dksX0_comes_1 0 rfl rfl)
theorem dX0_comes_27 : decode cX0_comes 27 = .ok (.iload 4, 2) := dk_21 4 (dk_at dksX0_comes_1 3 rfl rfl)
theorem dX0_comes_29 : decode cX0_comes 29 = .ok (.iload_n 3, 1) := dk_29 (dk_at dksX0_comes_1 5 rfl rfl)
theorem dX0_comes_30 : decode cX0_comes 30 = .ok (.iconst 2, 1) := dk_5 (dk_at dksX0_comes_1 6 rfl rfl)
theorem dX0_comes_31 : decode cX0_comes 31 = .ok (.ixor, 1) := dk_130 (dk_at dksX0_comes_1 7 rfl rfl)
theorem dX0_comes_32 : decode cX0_comes 32 = .ok (.invokestatic 320, 3) := dk_184 1 64 (dk_at dksX0_comes_1 8 rfl rfl)
theorem dX0_comes_35 : decode cX0_comes 35 = .ok (.ifCond .eq 37, 3) := dk_153 0 37 (dk_at dksX0_comes_1 11 rfl rfl)
theorem dX0_comes_38 : decode cX0_comes 38 = .ok (.aload_n 0, 1) := dk_42 (dk_at dksX0_comes_1 14 rfl rfl)
theorem dX0_comes_39 : decode cX0_comes 39 = .ok (.iload 4, 2) := dk_21 4 (dk_at dksX0_comes_1 15 rfl rfl)
theorem dX0_comes_41 : decode cX0_comes 41 = .ok (.iload_n 3, 1) := dk_29 (dk_at dksX0_comes_1 17 rfl rfl)
theorem dX0_comes_42 : decode cX0_comes 42 = .ok (.invokevirtual 332, 3) := dk_182 1 76 (dk_at dksX0_comes_1 18 rfl rfl)
theorem dX0_comes_45 : decode cX0_comes 45 = .ok (.ifCond .eq 27, 3) := dk_153 0 27 (dk_at dksX0_comes_1 21 rfl rfl)
theorem dX0_comes_48 : decode cX0_comes 48 = .ok (.aload_n 0, 1) := dk_42 (dk_at dksX0_comes_2 0 rfl rfl)
theorem dX0_comes_49 : decode cX0_comes 49 = .ok (.getfield 311, 3) := dk_180 1 55 (dk_at dksX0_comes_2 1 rfl rfl)
theorem dX0_comes_52 : decode cX0_comes 52 = .ok (.iload_n 1, 1) := dk_27 (dk_at dksX0_comes_2 4 rfl rfl)
theorem dX0_comes_53 : decode cX0_comes 53 = .ok (.if_icmp .ne 19, 3) := dk_160 0 19 (dk_at dksX0_comes_2 5 rfl rfl)
theorem dX0_comes_56 : decode cX0_comes 56 = .ok (.aload_n 0, 1) := dk_42 (dk_at dksX0_comes_2 8 rfl rfl)
theorem dX0_comes_57 : decode cX0_comes 57 = .ok (.getfield 317, 3) := dk_180 1 61 (dk_at dksX0_comes_2 9 rfl rfl)
theorem dX0_comes_60 : decode cX0_comes 60 = .ok (.iload_n 2, 1) := dk_28 (dk_at dksX0_comes_2 12 rfl rfl)
theorem dX0_comes_61 : decode cX0_comes 61 = .ok (.if_icmp .ne 11, 3) := dk_160 0 11 (dk_at dksX0_comes_2 13 rfl rfl)
theorem dX0_comes_64 : decode cX0_comes 64 = .ok (.bipush 36, 2) := dk_16 36 (dk_at dksX0_comes_2 16 rfl rfl)
theorem dX0_comes_66 : decode cX0_comes 66 = .ok (.iload_n 3, 1) := dk_29 (dk_at dksX0_comes_2 18 rfl rfl)
theorem dX0_comes_67 : decode cX0_comes 67 = .ok (.imul, 1) := dk_104 (dk_at dksX0_comes_2 19 rfl rfl)
theorem dX0_comes_68 : decode cX0_comes 68 = .ok (.iload 4, 2) := dk_21 4 (dk_at dksX0_comes_2 20 rfl rfl)
theorem dX0_comes_70 : decode cX0_comes 70 = .ok (.iadd, 1) := dk_96 (dk_at dksX0_comes_2 22 rfl rfl)
theorem dX0_comes_71 : decode cX0_comes 71 = .ok (.ireturn, 1) := dk_172 (dk_at dksX0_comes_2 23 rfl rfl)
theorem dX0_comes_72 : decode cX0_comes 72 = .ok (.iinc 4 1, 3) := dk_132 4 1 (dk_at dksX0_comes_3 0 rfl rfl)
theorem dX0_comes_75 : decode cX0_comes 75 = .ok (.goto (-55), 3) := dk_167 255 201 (dk_at dksX0_comes_3 3 rfl rfl)
theorem dX0_comes_78 : decode cX0_comes 78 = .ok (.iinc 3 1, 3) := dk_132 3 1 (dk_at dksX0_comes_3 6 rfl rfl)
theorem dX0_comes_81 : decode cX0_comes 81 = .ok (.goto (-69), 3) := dk_167 255 187 (dk_at dksX0_comes_3 9 rfl rfl)
theorem dX0_comes_84 : decode cX0_comes 84 = .ok (.iconst (-1), 1) := dk_2 (dk_at dksX0_comes_3 12 rfl rfl)
theorem dX0_comes_85 : decode cX0_comes 85 = .ok (.ireturn, 1) := dk_172 (dk_at dksX0_comes_3 13 rfl rfl)
abbrev cX0_guess : ByteArray := prog_1_method_69_code
def yX0_guess : MethodName := ⟨RX0, "guess", "(III)I"⟩
def dkwX0_guess_3 : List UInt8 := [16, 10, 28, 104, 29, 96, 182, 1, 94, 172]
abbrev dktX0_guess_3 : List UInt8 := dkwX0_guess_3 ++ []
def dkwX0_guess_2 : List UInt8 := [7, 46, 16, 6, 160, 0, 6, 16, 254, 172, 42, 180, 0, 21, 42, 180, 0, 21, 180, 1, 91, 7, 27]
abbrev dktX0_guess_2 : List UInt8 := dkwX0_guess_2 ++ dktX0_guess_3
def dkwX0_guess_1 : List UInt8 := [184, 0, 72, 153, 0, 28, 29, 3, 6, 28, 100, 184, 0, 72, 153, 0, 17, 42, 180, 0, 21, 180, 0, 65]
abbrev dktX0_guess_1 : List UInt8 := dkwX0_guess_1 ++ dktX0_guess_2
def dkwX0_guess_0 : List UInt8 := [27, 2, 160, 0, 12, 42, 180, 0, 21, 7, 182, 1, 85, 172, 27, 184, 1, 88, 153, 0, 37, 28, 3, 6]
abbrev dktX0_guess_0 : List UInt8 := dkwX0_guess_0 ++ dktX0_guess_1
theorem dksX0_guess_0 : cX0_guess.data.toList.drop 0 = dktX0_guess_0 := by decide +kernel
theorem dksX0_guess_1 : cX0_guess.data.toList.drop 24 = dktX0_guess_1 := dk_seg dksX0_guess_0 24 rfl rfl
theorem dksX0_guess_2 : cX0_guess.data.toList.drop 48 = dktX0_guess_2 := dk_seg dksX0_guess_1 24 rfl rfl
theorem dksX0_guess_3 : cX0_guess.data.toList.drop 71 = dktX0_guess_3 := dk_seg dksX0_guess_2 23 rfl rfl
theorem dX0_guess_0 : decode cX0_guess 0 = .ok (.iload_n 1, 1) := dk_27 (dk_at dksX0_guess_0 0 rfl rfl)
theorem dX0_guess_1 : decode cX0_guess 1 = .ok (.iconst (-1), 1) := dk_2 (dk_at dksX0_guess_0 1 rfl rfl)
theorem dX0_guess_2 : decode cX0_guess 2 = .ok (.if_icmp .ne 12, 3) := dk_160 0 12 (dk_at dksX0_guess_0 2 rfl rfl)
theorem dX0_guess_5 : decode cX0_guess 5 = .ok (.aload_n 0, 1) := dk_42 (dk_at dksX0_guess_0 5 rfl rfl)
theorem dX0_guess_6 : decode cX0_guess 6 = .ok (.getfield 21, 3) := dk_180 0 21 (dk_at dksX0_guess_0 6 rfl rfl)
theorem dX0_guess_9 : decode cX0_guess 9 = .ok (.iconst 4, 1) := dk_7 (dk_at dksX0_guess_0 9 rfl rfl)
theorem dX0_guess_10 : decode cX0_guess 10 = .ok (.invokevirtual 341, 3) := dk_182 1 85 (dk_at dksX0_guess_0 10 rfl rfl)
theorem dX0_guess_13 : decode cX0_guess 13 = .ok (.ireturn, 1) := dk_172 (dk_at dksX0_guess_0 13 rfl rfl)
theorem dX0_guess_14 : decode cX0_guess 14 = .ok (.iload_n 1, 1) := dk_27 (dk_at dksX0_guess_0 14 rfl rfl)
theorem dX0_guess_15 : decode cX0_guess 15 = .ok (.invokestatic 344, 3) := dk_184 1 88 (dk_at dksX0_guess_0 15 rfl rfl)
theorem dX0_guess_18 : decode cX0_guess 18 = .ok (.ifCond .eq 37, 3) := dk_153 0 37 (dk_at dksX0_guess_0 18 rfl rfl)
theorem dX0_guess_21 : decode cX0_guess 21 = .ok (.iload_n 2, 1) := dk_28 (dk_at dksX0_guess_0 21 rfl rfl)
theorem dX0_guess_22 : decode cX0_guess 22 = .ok (.iconst 0, 1) := dk_3 (dk_at dksX0_guess_0 22 rfl rfl)
theorem dX0_guess_23 : decode cX0_guess 23 = .ok (.iconst 3, 1) := dk_6 (dk_at dksX0_guess_0 23 rfl rfl)
theorem dX0_guess_24 : decode cX0_guess 24 = .ok (.invokestatic 72, 3) := dk_184 0 72 (dk_at dksX0_guess_1 0 rfl rfl)
theorem dX0_guess_27 : decode cX0_guess 27 = .ok (.ifCond .eq 28, 3) := dk_153 0 28 (dk_at dksX0_guess_1 3 rfl rfl)
theorem dX0_guess_30 : decode cX0_guess 30 = .ok (.iload_n 3, 1) := dk_29 (dk_at dksX0_guess_1 6 rfl rfl)
theorem dX0_guess_31 : decode cX0_guess 31 = .ok (.iconst 0, 1) := dk_3 (dk_at dksX0_guess_1 7 rfl rfl)
theorem dX0_guess_32 : decode cX0_guess 32 = .ok (.iconst 3, 1) := dk_6 (dk_at dksX0_guess_1 8 rfl rfl)
theorem dX0_guess_33 : decode cX0_guess 33 = .ok (.iload_n 2, 1) := dk_28 (dk_at dksX0_guess_1 9 rfl rfl)
theorem dX0_guess_34 : decode cX0_guess 34 = .ok (.isub, 1) := dk_100 (dk_at dksX0_guess_1 10 rfl rfl)
theorem dX0_guess_35 : decode cX0_guess 35 = .ok (.invokestatic 72, 3) := dk_184 0 72 (dk_at dksX0_guess_1 11 rfl rfl)
theorem dX0_guess_38 : decode cX0_guess 38 = .ok (.ifCond .eq 17, 3) := dk_153 0 17 (dk_at dksX0_guess_1 14 rfl rfl)
theorem dX0_guess_41 : decode cX0_guess 41 = .ok (.aload_n 0, 1) := dk_42 (dk_at dksX0_guess_1 17 rfl rfl)
theorem dX0_guess_42 : decode cX0_guess 42 = .ok (.getfield 21, 3) := dk_180 0 21 (dk_at dksX0_guess_1 18 rfl rfl)
theorem dX0_guess_45 : decode cX0_guess 45 = .ok (.getfield 65, 3) := dk_180 0 65 (dk_at dksX0_guess_1 21 rfl rfl)
theorem dX0_guess_48 : decode cX0_guess 48 = .ok (.iconst 4, 1) := dk_7 (dk_at dksX0_guess_2 0 rfl rfl)
theorem dX0_guess_49 : decode cX0_guess 49 = .ok (.iaload, 1) := dk_46 (dk_at dksX0_guess_2 1 rfl rfl)
theorem dX0_guess_50 : decode cX0_guess 50 = .ok (.bipush 6, 2) := dk_16 6 (dk_at dksX0_guess_2 2 rfl rfl)
theorem dX0_guess_52 : decode cX0_guess 52 = .ok (.if_icmp .ne 6, 3) := dk_160 0 6 (dk_at dksX0_guess_2 4 rfl rfl)
theorem dX0_guess_55 : decode cX0_guess 55 = .ok (.bipush (-2), 2) := dk_16 254 (dk_at dksX0_guess_2 7 rfl rfl)
theorem dX0_guess_57 : decode cX0_guess 57 = .ok (.ireturn, 1) := dk_172 (dk_at dksX0_guess_2 9 rfl rfl)
theorem dX0_guess_58 : decode cX0_guess 58 = .ok (.aload_n 0, 1) := dk_42 (dk_at dksX0_guess_2 10 rfl rfl)
theorem dX0_guess_59 : decode cX0_guess 59 = .ok (.getfield 21, 3) := dk_180 0 21 (dk_at dksX0_guess_2 11 rfl rfl)
theorem dX0_guess_62 : decode cX0_guess 62 = .ok (.aload_n 0, 1) := dk_42 (dk_at dksX0_guess_2 14 rfl rfl)
theorem dX0_guess_63 : decode cX0_guess 63 = .ok (.getfield 21, 3) := dk_180 0 21 (dk_at dksX0_guess_2 15 rfl rfl)
theorem dX0_guess_66 : decode cX0_guess 66 = .ok (.getfield 347, 3) := dk_180 1 91 (dk_at dksX0_guess_2 18 rfl rfl)
theorem dX0_guess_69 : decode cX0_guess 69 = .ok (.iconst 4, 1) := dk_7 (dk_at dksX0_guess_2 21 rfl rfl)
theorem dX0_guess_70 : decode cX0_guess 70 = .ok (.iload_n 1, 1) := dk_27 (dk_at dksX0_guess_2 22 rfl rfl)
theorem dX0_guess_71 : decode cX0_guess 71 = .ok (.bipush 10, 2) := dk_16 10 (dk_at dksX0_guess_3 0 rfl rfl)
theorem dX0_guess_73 : decode cX0_guess 73 = .ok (.iload_n 2, 1) := dk_28 (dk_at dksX0_guess_3 2 rfl rfl)
theorem dX0_guess_74 : decode cX0_guess 74 = .ok (.imul, 1) := dk_104 (dk_at dksX0_guess_3 3 rfl rfl)
theorem dX0_guess_75 : decode cX0_guess 75 = .ok (.iload_n 3, 1) := dk_29 (dk_at dksX0_guess_3 4 rfl rfl)
theorem dX0_guess_76 : decode cX0_guess 76 = .ok (.iadd, 1) := dk_96 (dk_at dksX0_guess_3 5 rfl rfl)
theorem dX0_guess_77 : decode cX0_guess 77 = .ok (.invokevirtual 350, 3) := dk_182 1 94 (dk_at dksX0_guess_3 6 rfl rfl)
theorem dX0_guess_80 : decode cX0_guess 80 = .ok (.ireturn, 1) := dk_172 (dk_at dksX0_guess_3 9 rfl rfl)
abbrev cX0_isRow : ByteArray := prog_1_method_68_code
def yX0_isRow : MethodName := ⟨RX0, "isRow", "(I)Z"⟩
def dkwX0_isRow_0 : List UInt8 := [26, 3, 16, 124, 184, 0, 72, 172]
abbrev dktX0_isRow_0 : List UInt8 := dkwX0_isRow_0 ++ []
theorem dksX0_isRow_0 : cX0_isRow.data.toList.drop 0 = dktX0_isRow_0 := by decide +kernel
theorem dX0_isRow_0 : decode cX0_isRow 0 = .ok (.iload_n 0, 1) := dk_26 (dk_at dksX0_isRow_0 0 rfl rfl)
theorem dX0_isRow_1 : decode cX0_isRow 1 = .ok (.iconst 0, 1) := dk_3 (dk_at dksX0_isRow_0 1 rfl rfl)
theorem dX0_isRow_2 : decode cX0_isRow 2 = .ok (.bipush 124, 2) := dk_16 124 (dk_at dksX0_isRow_0 2 rfl rfl)
theorem dX0_isRow_4 : decode cX0_isRow 4 = .ok (.invokestatic 72, 3) := dk_184 0 72 (dk_at dksX0_isRow_0 4 rfl rfl)
theorem dX0_isRow_7 : decode cX0_isRow 7 = .ok (.ireturn, 1) := dk_172 (dk_at dksX0_isRow_0 7 rfl rfl)
abbrev cX0_answer : ByteArray := prog_1_method_70_code
def yX0_answer : MethodName := ⟨RX0, "answer", "(II)I"⟩
def dkwX0_answer_0 : List UInt8 := [27, 184, 1, 88, 153, 0, 18, 28, 184, 1, 88, 153, 0, 11, 27, 28, 184, 1, 98, 167, 0, 4, 2, 172]
abbrev dktX0_answer_0 : List UInt8 := dkwX0_answer_0 ++ []
theorem dksX0_answer_0 : cX0_answer.data.toList.drop 0 = dktX0_answer_0 := by decide +kernel
theorem dX0_answer_0 : decode cX0_answer 0 = .ok (.iload_n 1, 1) := dk_27 (dk_at dksX0_answer_0 0 rfl rfl)
theorem dX0_answer_1 : decode cX0_answer 1 = .ok (.invokestatic 344, 3) := dk_184 1 88 (dk_at dksX0_answer_0 1 rfl rfl)
theorem dX0_answer_4 : decode cX0_answer 4 = .ok (.ifCond .eq 18, 3) := dk_153 0 18 (dk_at dksX0_answer_0 4 rfl rfl)
theorem dX0_answer_7 : decode cX0_answer 7 = .ok (.iload_n 2, 1) := dk_28 (dk_at dksX0_answer_0 7 rfl rfl)
theorem dX0_answer_8 : decode cX0_answer 8 = .ok (.invokestatic 344, 3) := dk_184 1 88 (dk_at dksX0_answer_0 8 rfl rfl)
theorem dX0_answer_11 : decode cX0_answer 11 = .ok (.ifCond .eq 11, 3) := dk_153 0 11 (dk_at dksX0_answer_0 11 rfl rfl)
theorem dX0_answer_14 : decode cX0_answer 14 = .ok (.iload_n 1, 1) := dk_27 (dk_at dksX0_answer_0 14 rfl rfl)
theorem dX0_answer_15 : decode cX0_answer 15 = .ok (.iload_n 2, 1) := dk_28 (dk_at dksX0_answer_0 15 rfl rfl)
theorem dX0_answer_16 : decode cX0_answer 16 = .ok (.invokestatic 354, 3) := dk_184 1 98 (dk_at dksX0_answer_0 16 rfl rfl)
theorem dX0_answer_19 : decode cX0_answer 19 = .ok (.goto 4, 3) := dk_167 0 4 (dk_at dksX0_answer_0 19 rfl rfl)
theorem dX0_answer_22 : decode cX0_answer 22 = .ok (.iconst (-1), 1) := dk_2 (dk_at dksX0_answer_0 22 rfl rfl)
theorem dX0_answer_23 : decode cX0_answer 23 = .ok (.ireturn, 1) := dk_172 (dk_at dksX0_answer_0 23 rfl rfl)
abbrev cX0_answerTo : ByteArray := prog_1_method_67_code
def yX0_answerTo : MethodName := ⟨RX0, "answerTo", "(II)I"⟩
def dkwX0_answerTo_3 : List UInt8 := [132, 4, 1, 167, 255, 229, 16, 10, 28, 104, 29, 96, 28, 100, 172]
abbrev dktX0_answerTo_3 : List UInt8 := dkwX0_answerTo_3 ++ []
def dkwX0_answerTo_2 : List UInt8 := [8, 162, 0, 27, 29, 26, 21, 4, 184, 1, 82, 27, 21, 4, 184, 1, 82, 184, 0, 162, 96, 62]
abbrev dktX0_answerTo_2 : List UInt8 := dkwX0_answerTo_2 ++ dktX0_answerTo_3
def dkwX0_answerTo_1 : List UInt8 := [184, 1, 79, 160, 0, 7, 4, 167, 0, 4, 3, 96, 61, 132, 4, 1, 167, 255, 224, 3, 54, 4, 21, 4]
abbrev dktX0_answerTo_1 : List UInt8 := dkwX0_answerTo_1 ++ dktX0_answerTo_2
def dkwX0_answerTo_0 : List UInt8 := [3, 61, 3, 62, 3, 54, 4, 21, 4, 6, 162, 0, 32, 28, 26, 21, 4, 184, 1, 79, 27, 21, 4]
abbrev dktX0_answerTo_0 : List UInt8 := dkwX0_answerTo_0 ++ dktX0_answerTo_1
theorem dksX0_answerTo_0 : cX0_answerTo.data.toList.drop 0 = dktX0_answerTo_0 := by decide +kernel
theorem dksX0_answerTo_1 : cX0_answerTo.data.toList.drop 23 = dktX0_answerTo_1 := dk_seg dksX0_answerTo_0 23 rfl rfl
theorem dksX0_answerTo_2 : cX0_answerTo.data.toList.drop 47 = dktX0_answerTo_2 := dk_seg dksX0_answerTo_1 24 rfl rfl
theorem dksX0_answerTo_3 : cX0_answerTo.data.toList.drop 69 = dktX0_answerTo_3 := dk_seg dksX0_answerTo_2 22 rfl rfl
theorem dX0_answerTo_0 : decode cX0_answerTo 0 = .ok (.iconst 0, 1) := dk_3 (dk_at dksX0_answerTo_0 0 rfl rfl)
theorem dX0_answerTo_1 : decode cX0_answerTo 1 = .ok (.istore_n 2, 1) := dk_61 (dk_at dksX0_answerTo_0 1 rfl rfl)
theorem dX0_answerTo_2 : decode cX0_answerTo 2 = .ok (.iconst 0, 1) := dk_3 (dk_at dksX0_answerTo_0 2 rfl rfl)
theorem dX0_answerTo_3 : decode cX0_answerTo 3 = .ok (.istore_n 3, 1) := dk_62 (dk_at dksX0_answerTo_0 3 rfl rfl)
theorem dX0_answerTo_4 : decode cX0_answerTo 4 = .ok (.iconst 0, 1) := dk_3 (dk_at dksX0_answerTo_0 4 rfl rfl)
theorem dX0_answerTo_5 : decode cX0_answerTo 5 = .ok (.istore 4, 2) := dk_54 4 (dk_at dksX0_answerTo_0 5 rfl rfl)
theorem dX0_answerTo_7 : decode cX0_answerTo 7 = .ok (.iload 4, 2) := dk_21 4 (dk_at dksX0_answerTo_0 7 rfl rfl)
theorem dX0_answerTo_9 : decode cX0_answerTo 9 = .ok (.iconst 3, 1) := dk_6 (dk_at dksX0_answerTo_0 9 rfl rfl)
theorem dX0_answerTo_10 : decode cX0_answerTo 10 = .ok (.if_icmp .ge 32, 3) := dk_162 0 32 (dk_at dksX0_answerTo_0 10 rfl rfl)
theorem dX0_answerTo_13 : decode cX0_answerTo 13 = .ok (.iload_n 2, 1) := dk_28 (dk_at dksX0_answerTo_0 13 rfl rfl)
theorem dX0_answerTo_14 : decode cX0_answerTo 14 = .ok (.iload_n 0, 1) := dk_26 (dk_at dksX0_answerTo_0 14 rfl rfl)
theorem dX0_answerTo_15 : decode cX0_answerTo 15 = .ok (.iload 4, 2) := dk_21 4 (dk_at dksX0_answerTo_0 15 rfl rfl)
theorem dX0_answerTo_17 : decode cX0_answerTo 17 = .ok (.invokestatic 335, 3) := dk_184 1 79 (dk_at dksX0_answerTo_0 17 rfl rfl)
theorem dX0_answerTo_20 : decode cX0_answerTo 20 = .ok (.iload_n 1, 1) := dk_27 (dk_at dksX0_answerTo_0 20 rfl rfl)
theorem dX0_answerTo_21 : decode cX0_answerTo 21 = .ok (.iload 4, 2) := dk_21 4 (dk_at dksX0_answerTo_0 21 rfl rfl)
theorem dX0_answerTo_23 : decode cX0_answerTo 23 = .ok (.invokestatic 335, 3) := dk_184 1 79 (dk_at dksX0_answerTo_1 0 rfl rfl)
theorem dX0_answerTo_26 : decode cX0_answerTo 26 = .ok (.if_icmp .ne 7, 3) := dk_160 0 7 (dk_at dksX0_answerTo_1 3 rfl rfl)
theorem dX0_answerTo_29 : decode cX0_answerTo 29 = .ok (.iconst 1, 1) := dk_4 (dk_at dksX0_answerTo_1 6 rfl rfl)
theorem dX0_answerTo_30 : decode cX0_answerTo 30 = .ok (.goto 4, 3) := dk_167 0 4 (dk_at dksX0_answerTo_1 7 rfl rfl)
theorem dX0_answerTo_33 : decode cX0_answerTo 33 = .ok (.iconst 0, 1) := dk_3 (dk_at dksX0_answerTo_1 10 rfl rfl)
theorem dX0_answerTo_34 : decode cX0_answerTo 34 = .ok (.iadd, 1) := dk_96 (dk_at dksX0_answerTo_1 11 rfl rfl)
theorem dX0_answerTo_35 : decode cX0_answerTo 35 = .ok (.istore_n 2, 1) := dk_61 (dk_at dksX0_answerTo_1 12 rfl rfl)
theorem dX0_answerTo_36 : decode cX0_answerTo 36 = .ok (.iinc 4 1, 3) := dk_132 4 1 (dk_at dksX0_answerTo_1 13 rfl rfl)
theorem dX0_answerTo_39 : decode cX0_answerTo 39 = .ok (.goto (-32), 3) := dk_167 255 224 (dk_at dksX0_answerTo_1 16 rfl rfl)
theorem dX0_answerTo_42 : decode cX0_answerTo 42 = .ok (.iconst 0, 1) := dk_3 (dk_at dksX0_answerTo_1 19 rfl rfl)
theorem dX0_answerTo_43 : decode cX0_answerTo 43 = .ok (.istore 4, 2) := dk_54 4 (dk_at dksX0_answerTo_1 20 rfl rfl)
theorem dX0_answerTo_45 : decode cX0_answerTo 45 = .ok (.iload 4, 2) := dk_21 4 (dk_at dksX0_answerTo_1 22 rfl rfl)
theorem dX0_answerTo_47 : decode cX0_answerTo 47 = .ok (.iconst 5, 1) := dk_8 (dk_at dksX0_answerTo_2 0 rfl rfl)
theorem dX0_answerTo_48 : decode cX0_answerTo 48 = .ok (.if_icmp .ge 27, 3) := dk_162 0 27 (dk_at dksX0_answerTo_2 1 rfl rfl)
theorem dX0_answerTo_51 : decode cX0_answerTo 51 = .ok (.iload_n 3, 1) := dk_29 (dk_at dksX0_answerTo_2 4 rfl rfl)
theorem dX0_answerTo_52 : decode cX0_answerTo 52 = .ok (.iload_n 0, 1) := dk_26 (dk_at dksX0_answerTo_2 5 rfl rfl)
theorem dX0_answerTo_53 : decode cX0_answerTo 53 = .ok (.iload 4, 2) := dk_21 4 (dk_at dksX0_answerTo_2 6 rfl rfl)
theorem dX0_answerTo_55 : decode cX0_answerTo 55 = .ok (.invokestatic 338, 3) := dk_184 1 82 (dk_at dksX0_answerTo_2 8 rfl rfl)
theorem dX0_answerTo_58 : decode cX0_answerTo 58 = .ok (.iload_n 1, 1) := dk_27 (dk_at dksX0_answerTo_2 11 rfl rfl)
theorem dX0_answerTo_59 : decode cX0_answerTo 59 = .ok (.iload 4, 2) := dk_21 4 (dk_at dksX0_answerTo_2 12 rfl rfl)
theorem dX0_answerTo_61 : decode cX0_answerTo 61 = .ok (.invokestatic 338, 3) := dk_184 1 82 (dk_at dksX0_answerTo_2 14 rfl rfl)
theorem dX0_answerTo_64 : decode cX0_answerTo 64 = .ok (.invokestatic 162, 3) := dk_184 0 162 (dk_at dksX0_answerTo_2 17 rfl rfl)
theorem dX0_answerTo_67 : decode cX0_answerTo 67 = .ok (.iadd, 1) := dk_96 (dk_at dksX0_answerTo_2 20 rfl rfl)
theorem dX0_answerTo_68 : decode cX0_answerTo 68 = .ok (.istore_n 3, 1) := dk_62 (dk_at dksX0_answerTo_2 21 rfl rfl)
theorem dX0_answerTo_69 : decode cX0_answerTo 69 = .ok (.iinc 4 1, 3) := dk_132 4 1 (dk_at dksX0_answerTo_3 0 rfl rfl)
theorem dX0_answerTo_72 : decode cX0_answerTo 72 = .ok (.goto (-27), 3) := dk_167 255 229 (dk_at dksX0_answerTo_3 3 rfl rfl)
theorem dX0_answerTo_75 : decode cX0_answerTo 75 = .ok (.bipush 10, 2) := dk_16 10 (dk_at dksX0_answerTo_3 6 rfl rfl)
theorem dX0_answerTo_77 : decode cX0_answerTo 77 = .ok (.iload_n 2, 1) := dk_28 (dk_at dksX0_answerTo_3 8 rfl rfl)
theorem dX0_answerTo_78 : decode cX0_answerTo 78 = .ok (.imul, 1) := dk_104 (dk_at dksX0_answerTo_3 9 rfl rfl)
theorem dX0_answerTo_79 : decode cX0_answerTo 79 = .ok (.iload_n 3, 1) := dk_29 (dk_at dksX0_answerTo_3 10 rfl rfl)
theorem dX0_answerTo_80 : decode cX0_answerTo 80 = .ok (.iadd, 1) := dk_96 (dk_at dksX0_answerTo_3 11 rfl rfl)
theorem dX0_answerTo_81 : decode cX0_answerTo 81 = .ok (.iload_n 2, 1) := dk_28 (dk_at dksX0_answerTo_3 12 rfl rfl)
theorem dX0_answerTo_82 : decode cX0_answerTo 82 = .ok (.isub, 1) := dk_100 (dk_at dksX0_answerTo_3 13 rfl rfl)
theorem dX0_answerTo_83 : decode cX0_answerTo 83 = .ok (.ireturn, 1) := dk_172 (dk_at dksX0_answerTo_3 14 rfl rfl)
abbrev cX0_letterOf : ByteArray := prog_1_method_65_code
def yX0_letterOf : MethodName := ⟨RX0, "letterOf", "(II)I"⟩
def dkwX0_letterOf_1 : List UInt8 := [26, 8, 112, 172]
abbrev dktX0_letterOf_1 : List UInt8 := dkwX0_letterOf_1 ++ []
def dkwX0_letterOf_0 : List UInt8 := [27, 154, 0, 10, 26, 16, 25, 108, 167, 0, 19, 27, 4, 160, 0, 11, 26, 8, 108, 8, 112, 167, 0, 6]
abbrev dktX0_letterOf_0 : List UInt8 := dkwX0_letterOf_0 ++ dktX0_letterOf_1
theorem dksX0_letterOf_0 : cX0_letterOf.data.toList.drop 0 = dktX0_letterOf_0 := by decide +kernel
theorem dksX0_letterOf_1 : cX0_letterOf.data.toList.drop 24 = dktX0_letterOf_1 := dk_seg dksX0_letterOf_0 24 rfl rfl
theorem dX0_letterOf_0 : decode cX0_letterOf 0 = .ok (.iload_n 1, 1) := dk_27 (dk_at dksX0_letterOf_0 0 rfl rfl)
theorem dX0_letterOf_1 : decode cX0_letterOf 1 = .ok (.ifCond .ne 10, 3) := dk_154 0 10 (dk_at dksX0_letterOf_0 1 rfl rfl)
theorem dX0_letterOf_4 : decode cX0_letterOf 4 = .ok (.iload_n 0, 1) := dk_26 (dk_at dksX0_letterOf_0 4 rfl rfl)
theorem dX0_letterOf_5 : decode cX0_letterOf 5 = .ok (.bipush 25, 2) := dk_16 25 (dk_at dksX0_letterOf_0 5 rfl rfl)
theorem dX0_letterOf_7 : decode cX0_letterOf 7 = .ok (.idiv, 1) := dk_108 (dk_at dksX0_letterOf_0 7 rfl rfl)
theorem dX0_letterOf_8 : decode cX0_letterOf 8 = .ok (.goto 19, 3) := dk_167 0 19 (dk_at dksX0_letterOf_0 8 rfl rfl)
theorem dX0_letterOf_11 : decode cX0_letterOf 11 = .ok (.iload_n 1, 1) := dk_27 (dk_at dksX0_letterOf_0 11 rfl rfl)
theorem dX0_letterOf_12 : decode cX0_letterOf 12 = .ok (.iconst 1, 1) := dk_4 (dk_at dksX0_letterOf_0 12 rfl rfl)
theorem dX0_letterOf_13 : decode cX0_letterOf 13 = .ok (.if_icmp .ne 11, 3) := dk_160 0 11 (dk_at dksX0_letterOf_0 13 rfl rfl)
theorem dX0_letterOf_16 : decode cX0_letterOf 16 = .ok (.iload_n 0, 1) := dk_26 (dk_at dksX0_letterOf_0 16 rfl rfl)
theorem dX0_letterOf_17 : decode cX0_letterOf 17 = .ok (.iconst 5, 1) := dk_8 (dk_at dksX0_letterOf_0 17 rfl rfl)
theorem dX0_letterOf_18 : decode cX0_letterOf 18 = .ok (.idiv, 1) := dk_108 (dk_at dksX0_letterOf_0 18 rfl rfl)
theorem dX0_letterOf_19 : decode cX0_letterOf 19 = .ok (.iconst 5, 1) := dk_8 (dk_at dksX0_letterOf_0 19 rfl rfl)
theorem dX0_letterOf_20 : decode cX0_letterOf 20 = .ok (.irem, 1) := dk_112 (dk_at dksX0_letterOf_0 20 rfl rfl)
theorem dX0_letterOf_21 : decode cX0_letterOf 21 = .ok (.goto 6, 3) := dk_167 0 6 (dk_at dksX0_letterOf_0 21 rfl rfl)
theorem dX0_letterOf_24 : decode cX0_letterOf 24 = .ok (.iload_n 0, 1) := dk_26 (dk_at dksX0_letterOf_1 0 rfl rfl)
theorem dX0_letterOf_25 : decode cX0_letterOf 25 = .ok (.iconst 5, 1) := dk_8 (dk_at dksX0_letterOf_1 1 rfl rfl)
theorem dX0_letterOf_26 : decode cX0_letterOf 26 = .ok (.irem, 1) := dk_112 (dk_at dksX0_letterOf_1 2 rfl rfl)
theorem dX0_letterOf_27 : decode cX0_letterOf 27 = .ok (.ireturn, 1) := dk_172 (dk_at dksX0_letterOf_1 3 rfl rfl)
abbrev cX0_howOften : ByteArray := prog_1_method_66_code
def yX0_howOften : MethodName := ⟨RX0, "howOften", "(II)I"⟩
def dkwX0_howOften_1 : List UInt8 := [96, 61, 132, 3, 1, 167, 255, 231, 28, 172]
abbrev dktX0_howOften_1 : List UInt8 := dkwX0_howOften_1 ++ []
def dkwX0_howOften_0 : List UInt8 := [3, 61, 3, 62, 29, 6, 162, 0, 26, 28, 26, 29, 184, 1, 79, 27, 160, 0, 7, 4, 167, 0, 4, 3]
abbrev dktX0_howOften_0 : List UInt8 := dkwX0_howOften_0 ++ dktX0_howOften_1
theorem dksX0_howOften_0 : cX0_howOften.data.toList.drop 0 = dktX0_howOften_0 := by decide +kernel
theorem dksX0_howOften_1 : cX0_howOften.data.toList.drop 24 = dktX0_howOften_1 := dk_seg dksX0_howOften_0 24 rfl rfl
theorem dX0_howOften_0 : decode cX0_howOften 0 = .ok (.iconst 0, 1) := dk_3 (dk_at dksX0_howOften_0 0 rfl rfl)
theorem dX0_howOften_1 : decode cX0_howOften 1 = .ok (.istore_n 2, 1) := dk_61 (dk_at dksX0_howOften_0 1 rfl rfl)
theorem dX0_howOften_2 : decode cX0_howOften 2 = .ok (.iconst 0, 1) := dk_3 (dk_at dksX0_howOften_0 2 rfl rfl)
theorem dX0_howOften_3 : decode cX0_howOften 3 = .ok (.istore_n 3, 1) := dk_62 (dk_at dksX0_howOften_0 3 rfl rfl)
theorem dX0_howOften_4 : decode cX0_howOften 4 = .ok (.iload_n 3, 1) := dk_29 (dk_at dksX0_howOften_0 4 rfl rfl)
theorem dX0_howOften_5 : decode cX0_howOften 5 = .ok (.iconst 3, 1) := dk_6 (dk_at dksX0_howOften_0 5 rfl rfl)
theorem dX0_howOften_6 : decode cX0_howOften 6 = .ok (.if_icmp .ge 26, 3) := dk_162 0 26 (dk_at dksX0_howOften_0 6 rfl rfl)
theorem dX0_howOften_9 : decode cX0_howOften 9 = .ok (.iload_n 2, 1) := dk_28 (dk_at dksX0_howOften_0 9 rfl rfl)
theorem dX0_howOften_10 : decode cX0_howOften 10 = .ok (.iload_n 0, 1) := dk_26 (dk_at dksX0_howOften_0 10 rfl rfl)
theorem dX0_howOften_11 : decode cX0_howOften 11 = .ok (.iload_n 3, 1) := dk_29 (dk_at dksX0_howOften_0 11 rfl rfl)
theorem dX0_howOften_12 : decode cX0_howOften 12 = .ok (.invokestatic 335, 3) := dk_184 1 79 (dk_at dksX0_howOften_0 12 rfl rfl)
theorem dX0_howOften_15 : decode cX0_howOften 15 = .ok (.iload_n 1, 1) := dk_27 (dk_at dksX0_howOften_0 15 rfl rfl)
theorem dX0_howOften_16 : decode cX0_howOften 16 = .ok (.if_icmp .ne 7, 3) := dk_160 0 7 (dk_at dksX0_howOften_0 16 rfl rfl)
theorem dX0_howOften_19 : decode cX0_howOften 19 = .ok (.iconst 1, 1) := dk_4 (dk_at dksX0_howOften_0 19 rfl rfl)
theorem dX0_howOften_20 : decode cX0_howOften 20 = .ok (.goto 4, 3) := dk_167 0 4 (dk_at dksX0_howOften_0 20 rfl rfl)
theorem dX0_howOften_23 : decode cX0_howOften 23 = .ok (.iconst 0, 1) := dk_3 (dk_at dksX0_howOften_0 23 rfl rfl)
theorem dX0_howOften_24 : decode cX0_howOften 24 = .ok (.iadd, 1) := dk_96 (dk_at dksX0_howOften_1 0 rfl rfl)
theorem dX0_howOften_25 : decode cX0_howOften 25 = .ok (.istore_n 2, 1) := dk_61 (dk_at dksX0_howOften_1 1 rfl rfl)
theorem dX0_howOften_26 : decode cX0_howOften 26 = .ok (.iinc 3 1, 3) := dk_132 3 1 (dk_at dksX0_howOften_1 2 rfl rfl)
theorem dX0_howOften_29 : decode cX0_howOften 29 = .ok (.goto (-25), 3) := dk_167 255 231 (dk_at dksX0_howOften_1 5 rfl rfl)
theorem dX0_howOften_32 : decode cX0_howOften 32 = .ok (.iload_n 2, 1) := dk_28 (dk_at dksX0_howOften_1 8 rfl rfl)
theorem dX0_howOften_33 : decode cX0_howOften 33 = .ok (.ireturn, 1) := dk_172 (dk_at dksX0_howOften_1 9 rfl rfl)
abbrev cX0_fits : ByteArray := prog_1_method_73_code
def yX0_fits : MethodName := ⟨RX0, "fits", "()I"⟩
def dkwX0_fits_0 : List UInt8 := [42, 182, 1, 107, 42, 180, 1, 101, 172]
abbrev dktX0_fits_0 : List UInt8 := dkwX0_fits_0 ++ []
theorem dksX0_fits_0 : cX0_fits.data.toList.drop 0 = dktX0_fits_0 := by decide +kernel
theorem dX0_fits_0 : decode cX0_fits 0 = .ok (.aload_n 0, 1) := dk_42 (dk_at dksX0_fits_0 0 rfl rfl)
theorem dX0_fits_1 : decode cX0_fits 1 = .ok (.invokevirtual 363, 3) := dk_182 1 107 (dk_at dksX0_fits_0 1 rfl rfl)
theorem dX0_fits_4 : decode cX0_fits 4 = .ok (.aload_n 0, 1) := dk_42 (dk_at dksX0_fits_0 4 rfl rfl)
theorem dX0_fits_5 : decode cX0_fits 5 = .ok (.getfield 357, 3) := dk_180 1 101 (dk_at dksX0_fits_0 5 rfl rfl)
theorem dX0_fits_8 : decode cX0_fits 8 = .ok (.ireturn, 1) := dk_172 (dk_at dksX0_fits_0 8 rfl rfl)
abbrev cX0_laysFits : ByteArray := prog_1_method_72_code
def yX0_laysFits : MethodName := ⟨RX0, "laysFits", "()V"⟩
def dkwX0_laysFits_2 : List UInt8 := [167, 255, 216, 177]
abbrev dktX0_laysFits_2 : List UInt8 := dkwX0_laysFits_2 ++ []
def dkwX0_laysFits_1 : List UInt8 := [42, 180, 0, 52, 42, 180, 1, 101, 27, 79, 42, 89, 180, 1, 101, 4, 96, 181, 1, 101, 132, 1, 1]
abbrev dktX0_laysFits_1 : List UInt8 := dkwX0_laysFits_1 ++ dktX0_laysFits_2
def dkwX0_laysFits_0 : List UInt8 := [42, 3, 181, 1, 101, 3, 60, 27, 16, 125, 162, 0, 40, 42, 27, 182, 1, 104, 154, 0, 6, 167, 0, 23]
abbrev dktX0_laysFits_0 : List UInt8 := dkwX0_laysFits_0 ++ dktX0_laysFits_1
theorem dksX0_laysFits_0 : cX0_laysFits.data.toList.drop 0 = dktX0_laysFits_0 := by decide +kernel
theorem dksX0_laysFits_1 : cX0_laysFits.data.toList.drop 24 = dktX0_laysFits_1 := dk_seg dksX0_laysFits_0 24 rfl rfl
theorem dksX0_laysFits_2 : cX0_laysFits.data.toList.drop 47 = dktX0_laysFits_2 := dk_seg dksX0_laysFits_1 23 rfl rfl
theorem dX0_laysFits_0 : decode cX0_laysFits 0 = .ok (.aload_n 0, 1) := dk_42 (dk_at dksX0_laysFits_0 0 rfl rfl)
theorem dX0_laysFits_1 : decode cX0_laysFits 1 = .ok (.iconst 0, 1) := dk_3 (dk_at dksX0_laysFits_0 1 rfl rfl)
theorem dX0_laysFits_2 : decode cX0_laysFits 2 = .ok (.putfield 357, 3) := dk_181 1 101 (dk_at dksX0_laysFits_0 2 rfl rfl)
theorem dX0_laysFits_5 : decode cX0_laysFits 5 = .ok (.iconst 0, 1) := dk_3 (dk_at dksX0_laysFits_0 5 rfl rfl)
theorem dX0_laysFits_6 : decode cX0_laysFits 6 = .ok (.istore_n 1, 1) := dk_60 (dk_at dksX0_laysFits_0 6 rfl rfl)
theorem dX0_laysFits_7 : decode cX0_laysFits 7 = .ok (.iload_n 1, 1) := dk_27 (dk_at dksX0_laysFits_0 7 rfl rfl)
theorem dX0_laysFits_8 : decode cX0_laysFits 8 = .ok (.bipush 125, 2) := dk_16 125 (dk_at dksX0_laysFits_0 8 rfl rfl)
theorem dX0_laysFits_10 : decode cX0_laysFits 10 = .ok (.if_icmp .ge 40, 3) := dk_162 0 40 (dk_at dksX0_laysFits_0 10 rfl rfl)
theorem dX0_laysFits_13 : decode cX0_laysFits 13 = .ok (.aload_n 0, 1) := dk_42 (dk_at dksX0_laysFits_0 13 rfl rfl)
theorem dX0_laysFits_14 : decode cX0_laysFits 14 = .ok (.iload_n 1, 1) := dk_27 (dk_at dksX0_laysFits_0 14 rfl rfl)
theorem dX0_laysFits_15 : decode cX0_laysFits 15 = .ok (.invokevirtual 360, 3) := dk_182 1 104 (dk_at dksX0_laysFits_0 15 rfl rfl)
theorem dX0_laysFits_18 : decode cX0_laysFits 18 = .ok (.ifCond .ne 6, 3) := dk_154 0 6 (dk_at dksX0_laysFits_0 18 rfl rfl)
theorem dX0_laysFits_21 : decode cX0_laysFits 21 = .ok (.goto 23, 3) := dk_167 0 23 (dk_at dksX0_laysFits_0 21 rfl rfl)
theorem dX0_laysFits_24 : decode cX0_laysFits 24 = .ok (.aload_n 0, 1) := dk_42 (dk_at dksX0_laysFits_1 0 rfl rfl)
theorem dX0_laysFits_25 : decode cX0_laysFits 25 = .ok (.getfield 52, 3) := dk_180 0 52 (dk_at dksX0_laysFits_1 1 rfl rfl)
theorem dX0_laysFits_28 : decode cX0_laysFits 28 = .ok (.aload_n 0, 1) := dk_42 (dk_at dksX0_laysFits_1 4 rfl rfl)
theorem dX0_laysFits_29 : decode cX0_laysFits 29 = .ok (.getfield 357, 3) := dk_180 1 101 (dk_at dksX0_laysFits_1 5 rfl rfl)
theorem dX0_laysFits_32 : decode cX0_laysFits 32 = .ok (.iload_n 1, 1) := dk_27 (dk_at dksX0_laysFits_1 8 rfl rfl)
theorem dX0_laysFits_33 : decode cX0_laysFits 33 = .ok (.iastore, 1) := dk_79 (dk_at dksX0_laysFits_1 9 rfl rfl)
theorem dX0_laysFits_34 : decode cX0_laysFits 34 = .ok (.aload_n 0, 1) := dk_42 (dk_at dksX0_laysFits_1 10 rfl rfl)
theorem dX0_laysFits_35 : decode cX0_laysFits 35 = .ok (.dup, 1) := dk_89 (dk_at dksX0_laysFits_1 11 rfl rfl)
theorem dX0_laysFits_36 : decode cX0_laysFits 36 = .ok (.getfield 357, 3) := dk_180 1 101 (dk_at dksX0_laysFits_1 12 rfl rfl)
theorem dX0_laysFits_39 : decode cX0_laysFits 39 = .ok (.iconst 1, 1) := dk_4 (dk_at dksX0_laysFits_1 15 rfl rfl)
theorem dX0_laysFits_40 : decode cX0_laysFits 40 = .ok (.iadd, 1) := dk_96 (dk_at dksX0_laysFits_1 16 rfl rfl)
theorem dX0_laysFits_41 : decode cX0_laysFits 41 = .ok (.putfield 357, 3) := dk_181 1 101 (dk_at dksX0_laysFits_1 17 rfl rfl)
theorem dX0_laysFits_44 : decode cX0_laysFits 44 = .ok (.iinc 1 1, 3) := dk_132 1 1 (dk_at dksX0_laysFits_1 20 rfl rfl)
theorem dX0_laysFits_47 : decode cX0_laysFits 47 = .ok (.goto (-40), 3) := dk_167 255 216 (dk_at dksX0_laysFits_2 0 rfl rfl)
theorem dX0_laysFits_50 : decode cX0_laysFits 50 = .ok (.return_, 1) := dk_177 (dk_at dksX0_laysFits_2 3 rfl rfl)
abbrev cX0_doesFit : ByteArray := prog_1_method_71_code
def yX0_doesFit : MethodName := ⟨RX0, "doesFit", "(I)Z"⟩
def dkwX0_doesFit_2 : List UInt8 := [132, 2, 1, 167, 255, 209, 4, 172]
abbrev dktX0_doesFit_2 : List UInt8 := dkwX0_doesFit_2 ++ []
def dkwX0_doesFit_1 : List UInt8 := [3, 46, 27, 184, 1, 98, 42, 180, 0, 21, 180, 1, 91, 28, 50, 4, 46, 159, 0, 5, 3, 172]
abbrev dktX0_doesFit_1 : List UInt8 := dkwX0_doesFit_1 ++ dktX0_doesFit_2
def dkwX0_doesFit_0 : List UInt8 := [3, 61, 28, 42, 180, 0, 21, 180, 0, 65, 7, 46, 162, 0, 40, 42, 180, 0, 21, 180, 1, 91, 28, 50]
abbrev dktX0_doesFit_0 : List UInt8 := dkwX0_doesFit_0 ++ dktX0_doesFit_1
theorem dksX0_doesFit_0 : cX0_doesFit.data.toList.drop 0 = dktX0_doesFit_0 := by decide +kernel
theorem dksX0_doesFit_1 : cX0_doesFit.data.toList.drop 24 = dktX0_doesFit_1 := dk_seg dksX0_doesFit_0 24 rfl rfl
theorem dksX0_doesFit_2 : cX0_doesFit.data.toList.drop 46 = dktX0_doesFit_2 := dk_seg dksX0_doesFit_1 22 rfl rfl
theorem dX0_doesFit_0 : decode cX0_doesFit 0 = .ok (.iconst 0, 1) := dk_3 (dk_at dksX0_doesFit_0 0 rfl rfl)
theorem dX0_doesFit_1 : decode cX0_doesFit 1 = .ok (.istore_n 2, 1) := dk_61 (dk_at dksX0_doesFit_0 1 rfl rfl)
theorem dX0_doesFit_2 : decode cX0_doesFit 2 = .ok (.iload_n 2, 1) := dk_28 (dk_at dksX0_doesFit_0 2 rfl rfl)
theorem dX0_doesFit_3 : decode cX0_doesFit 3 = .ok (.aload_n 0, 1) := dk_42 (dk_at dksX0_doesFit_0 3 rfl rfl)
theorem dX0_doesFit_4 : decode cX0_doesFit 4 = .ok (.getfield 21, 3) := dk_180 0 21 (dk_at dksX0_doesFit_0 4 rfl rfl)
theorem dX0_doesFit_7 : decode cX0_doesFit 7 = .ok (.getfield 65, 3) := dk_180 0 65 (dk_at dksX0_doesFit_0 7 rfl rfl)
theorem dX0_doesFit_10 : decode cX0_doesFit 10 = .ok (.iconst 4, 1) := dk_7 (dk_at dksX0_doesFit_0 10 rfl rfl)
theorem dX0_doesFit_11 : decode cX0_doesFit 11 = .ok (.iaload, 1) := dk_46 (dk_at dksX0_doesFit_0 11 rfl rfl)
theorem dX0_doesFit_12 : decode cX0_doesFit 12 = .ok (.if_icmp .ge 40, 3) := dk_162 0 40 (dk_at dksX0_doesFit_0 12 rfl rfl)
theorem dX0_doesFit_15 : decode cX0_doesFit 15 = .ok (.aload_n 0, 1) := dk_42 (dk_at dksX0_doesFit_0 15 rfl rfl)
theorem dX0_doesFit_16 : decode cX0_doesFit 16 = .ok (.getfield 21, 3) := dk_180 0 21 (dk_at dksX0_doesFit_0 16 rfl rfl)
theorem dX0_doesFit_19 : decode cX0_doesFit 19 = .ok (.getfield 347, 3) := dk_180 1 91 (dk_at dksX0_doesFit_0 19 rfl rfl)
theorem dX0_doesFit_22 : decode cX0_doesFit 22 = .ok (.iload_n 2, 1) := dk_28 (dk_at dksX0_doesFit_0 22 rfl rfl)
theorem dX0_doesFit_23 : decode cX0_doesFit 23 = .ok (.aaload, 1) := dk_50 (dk_at dksX0_doesFit_0 23 rfl rfl)
theorem dX0_doesFit_24 : decode cX0_doesFit 24 = .ok (.iconst 0, 1) := dk_3 (dk_at dksX0_doesFit_1 0 rfl rfl)
theorem dX0_doesFit_25 : decode cX0_doesFit 25 = .ok (.iaload, 1) := dk_46 (dk_at dksX0_doesFit_1 1 rfl rfl)
theorem dX0_doesFit_26 : decode cX0_doesFit 26 = .ok (.iload_n 1, 1) := dk_27 (dk_at dksX0_doesFit_1 2 rfl rfl)
theorem dX0_doesFit_27 : decode cX0_doesFit 27 = .ok (.invokestatic 354, 3) := dk_184 1 98 (dk_at dksX0_doesFit_1 3 rfl rfl)
theorem dX0_doesFit_30 : decode cX0_doesFit 30 = .ok (.aload_n 0, 1) := dk_42 (dk_at dksX0_doesFit_1 6 rfl rfl)
theorem dX0_doesFit_31 : decode cX0_doesFit 31 = .ok (.getfield 21, 3) := dk_180 0 21 (dk_at dksX0_doesFit_1 7 rfl rfl)
theorem dX0_doesFit_34 : decode cX0_doesFit 34 = .ok (.getfield 347, 3) := dk_180 1 91 (dk_at dksX0_doesFit_1 10 rfl rfl)
theorem dX0_doesFit_37 : decode cX0_doesFit 37 = .ok (.iload_n 2, 1) := dk_28 (dk_at dksX0_doesFit_1 13 rfl rfl)
theorem dX0_doesFit_38 : decode cX0_doesFit 38 = .ok (.aaload, 1) := dk_50 (dk_at dksX0_doesFit_1 14 rfl rfl)
theorem dX0_doesFit_39 : decode cX0_doesFit 39 = .ok (.iconst 1, 1) := dk_4 (dk_at dksX0_doesFit_1 15 rfl rfl)
theorem dX0_doesFit_40 : decode cX0_doesFit 40 = .ok (.iaload, 1) := dk_46 (dk_at dksX0_doesFit_1 16 rfl rfl)
theorem dX0_doesFit_41 : decode cX0_doesFit 41 = .ok (.if_icmp .eq 5, 3) := dk_159 0 5 (dk_at dksX0_doesFit_1 17 rfl rfl)
theorem dX0_doesFit_44 : decode cX0_doesFit 44 = .ok (.iconst 0, 1) := dk_3 (dk_at dksX0_doesFit_1 20 rfl rfl)
theorem dX0_doesFit_45 : decode cX0_doesFit 45 = .ok (.ireturn, 1) := dk_172 (dk_at dksX0_doesFit_1 21 rfl rfl)
theorem dX0_doesFit_46 : decode cX0_doesFit 46 = .ok (.iinc 2 1, 3) := dk_132 2 1 (dk_at dksX0_doesFit_2 0 rfl rfl)
theorem dX0_doesFit_49 : decode cX0_doesFit 49 = .ok (.goto (-47), 3) := dk_167 255 209 (dk_at dksX0_doesFit_2 3 rfl rfl)
theorem dX0_doesFit_52 : decode cX0_doesFit 52 = .ok (.iconst 1, 1) := dk_4 (dk_at dksX0_doesFit_2 6 rfl rfl)
theorem dX0_doesFit_53 : decode cX0_doesFit 53 = .ok (.ireturn, 1) := dk_172 (dk_at dksX0_doesFit_2 7 rfl rfl)
abbrev cX0_fit : ByteArray := prog_1_method_74_code
def yX0_fit : MethodName := ⟨RX0, "fit", "(I)I"⟩
def dkwX0_fit_1 : List UInt8 := [167, 0, 4, 2, 172]
abbrev dktX0_fit_1 : List UInt8 := dkwX0_fit_1 ++ []
def dkwX0_fit_0 : List UInt8 := [42, 182, 1, 107, 27, 3, 42, 180, 1, 101, 4, 100, 184, 0, 72, 153, 0, 12, 42, 180, 0, 52, 27, 46]
abbrev dktX0_fit_0 : List UInt8 := dkwX0_fit_0 ++ dktX0_fit_1
theorem dksX0_fit_0 : cX0_fit.data.toList.drop 0 = dktX0_fit_0 := by decide +kernel
theorem dksX0_fit_1 : cX0_fit.data.toList.drop 24 = dktX0_fit_1 := dk_seg dksX0_fit_0 24 rfl rfl
theorem dX0_fit_0 : decode cX0_fit 0 = .ok (.aload_n 0, 1) := dk_42 (dk_at dksX0_fit_0 0 rfl rfl)
theorem dX0_fit_1 : decode cX0_fit 1 = .ok (.invokevirtual 363, 3) := dk_182 1 107 (dk_at dksX0_fit_0 1 rfl rfl)
theorem dX0_fit_4 : decode cX0_fit 4 = .ok (.iload_n 1, 1) := dk_27 (dk_at dksX0_fit_0 4 rfl rfl)
theorem dX0_fit_5 : decode cX0_fit 5 = .ok (.iconst 0, 1) := dk_3 (dk_at dksX0_fit_0 5 rfl rfl)
theorem dX0_fit_6 : decode cX0_fit 6 = .ok (.aload_n 0, 1) := dk_42 (dk_at dksX0_fit_0 6 rfl rfl)
theorem dX0_fit_7 : decode cX0_fit 7 = .ok (.getfield 357, 3) := dk_180 1 101 (dk_at dksX0_fit_0 7 rfl rfl)
theorem dX0_fit_10 : decode cX0_fit 10 = .ok (.iconst 1, 1) := dk_4 (dk_at dksX0_fit_0 10 rfl rfl)
theorem dX0_fit_11 : decode cX0_fit 11 = .ok (.isub, 1) := dk_100 (dk_at dksX0_fit_0 11 rfl rfl)
theorem dX0_fit_12 : decode cX0_fit 12 = .ok (.invokestatic 72, 3) := dk_184 0 72 (dk_at dksX0_fit_0 12 rfl rfl)
theorem dX0_fit_15 : decode cX0_fit 15 = .ok (.ifCond .eq 12, 3) := dk_153 0 12 (dk_at dksX0_fit_0 15 rfl rfl)
theorem dX0_fit_18 : decode cX0_fit 18 = .ok (.aload_n 0, 1) := dk_42 (dk_at dksX0_fit_0 18 rfl rfl)
theorem dX0_fit_19 : decode cX0_fit 19 = .ok (.getfield 52, 3) := dk_180 0 52 (dk_at dksX0_fit_0 19 rfl rfl)
theorem dX0_fit_22 : decode cX0_fit 22 = .ok (.iload_n 1, 1) := dk_27 (dk_at dksX0_fit_0 22 rfl rfl)
theorem dX0_fit_23 : decode cX0_fit 23 = .ok (.iaload, 1) := dk_46 (dk_at dksX0_fit_0 23 rfl rfl)
theorem dX0_fit_24 : decode cX0_fit 24 = .ok (.goto 4, 3) := dk_167 0 4 (dk_at dksX0_fit_1 0 rfl rfl)
theorem dX0_fit_27 : decode cX0_fit 27 = .ok (.iconst (-1), 1) := dk_2 (dk_at dksX0_fit_1 3 rfl rfl)
theorem dX0_fit_28 : decode cX0_fit 28 = .ok (.ireturn, 1) := dk_172 (dk_at dksX0_fit_1 4 rfl rfl)
abbrev cX0_ask : ByteArray := prog_1_method_76_code
def yX0_ask : MethodName := ⟨RX0, "ask", "()I"⟩
def dkwX0_ask_2 : List UInt8 := [60, 28, 21, 4, 184, 0, 162, 61, 132, 3, 1, 167, 255, 221, 27, 172]
abbrev dktX0_ask_2 : List UInt8 := dkwX0_ask_2 ++ []
def dkwX0_ask_1 : List UInt8 := [29, 16, 125, 162, 0, 35, 42, 29, 182, 1, 115, 54, 4, 21, 4, 28, 162, 0, 7, 29, 167, 0, 4, 27]
abbrev dktX0_ask_1 : List UInt8 := dkwX0_ask_1 ++ dktX0_ask_2
def dkwX0_ask_0 : List UInt8 := [42, 182, 1, 107, 42, 180, 1, 101, 5, 162, 0, 5, 2, 172, 3, 60, 42, 3, 182, 1, 115, 61, 4, 62]
abbrev dktX0_ask_0 : List UInt8 := dkwX0_ask_0 ++ dktX0_ask_1
theorem dksX0_ask_0 : cX0_ask.data.toList.drop 0 = dktX0_ask_0 := by decide +kernel
theorem dksX0_ask_1 : cX0_ask.data.toList.drop 24 = dktX0_ask_1 := dk_seg dksX0_ask_0 24 rfl rfl
theorem dksX0_ask_2 : cX0_ask.data.toList.drop 48 = dktX0_ask_2 := dk_seg dksX0_ask_1 24 rfl rfl
theorem dX0_ask_0 : decode cX0_ask 0 = .ok (.aload_n 0, 1) := dk_42 (dk_at dksX0_ask_0 0 rfl rfl)
theorem dX0_ask_1 : decode cX0_ask 1 = .ok (.invokevirtual 363, 3) := dk_182 1 107 (dk_at dksX0_ask_0 1 rfl rfl)
theorem dX0_ask_4 : decode cX0_ask 4 = .ok (.aload_n 0, 1) := dk_42 (dk_at dksX0_ask_0 4 rfl rfl)
theorem dX0_ask_5 : decode cX0_ask 5 = .ok (.getfield 357, 3) := dk_180 1 101 (dk_at dksX0_ask_0 5 rfl rfl)
theorem dX0_ask_8 : decode cX0_ask 8 = .ok (.iconst 2, 1) := dk_5 (dk_at dksX0_ask_0 8 rfl rfl)
theorem dX0_ask_9 : decode cX0_ask 9 = .ok (.if_icmp .ge 5, 3) := dk_162 0 5 (dk_at dksX0_ask_0 9 rfl rfl)
theorem dX0_ask_12 : decode cX0_ask 12 = .ok (.iconst (-1), 1) := dk_2 (dk_at dksX0_ask_0 12 rfl rfl)
theorem dX0_ask_13 : decode cX0_ask 13 = .ok (.ireturn, 1) := dk_172 (dk_at dksX0_ask_0 13 rfl rfl)
theorem dX0_ask_14 : decode cX0_ask 14 = .ok (.iconst 0, 1) := dk_3 (dk_at dksX0_ask_0 14 rfl rfl)
theorem dX0_ask_15 : decode cX0_ask 15 = .ok (.istore_n 1, 1) := dk_60 (dk_at dksX0_ask_0 15 rfl rfl)
theorem dX0_ask_16 : decode cX0_ask 16 = .ok (.aload_n 0, 1) := dk_42 (dk_at dksX0_ask_0 16 rfl rfl)
theorem dX0_ask_17 : decode cX0_ask 17 = .ok (.iconst 0, 1) := dk_3 (dk_at dksX0_ask_0 17 rfl rfl)
theorem dX0_ask_18 : decode cX0_ask 18 = .ok (.invokevirtual 371, 3) := dk_182 1 115 (dk_at dksX0_ask_0 18 rfl rfl)
theorem dX0_ask_21 : decode cX0_ask 21 = .ok (.istore_n 2, 1) := dk_61 (dk_at dksX0_ask_0 21 rfl rfl)
theorem dX0_ask_22 : decode cX0_ask 22 = .ok (.iconst 1, 1) := dk_4 (dk_at dksX0_ask_0 22 rfl rfl)
theorem dX0_ask_23 : decode cX0_ask 23 = .ok (.istore_n 3, 1) := dk_62 (dk_at dksX0_ask_0 23 rfl rfl)
theorem dX0_ask_24 : decode cX0_ask 24 = .ok (.iload_n 3, 1) := dk_29 (dk_at dksX0_ask_1 0 rfl rfl)
theorem dX0_ask_25 : decode cX0_ask 25 = .ok (.bipush 125, 2) := dk_16 125 (dk_at dksX0_ask_1 1 rfl rfl)
theorem dX0_ask_27 : decode cX0_ask 27 = .ok (.if_icmp .ge 35, 3) := dk_162 0 35 (dk_at dksX0_ask_1 3 rfl rfl)
theorem dX0_ask_30 : decode cX0_ask 30 = .ok (.aload_n 0, 1) := dk_42 (dk_at dksX0_ask_1 6 rfl rfl)
theorem dX0_ask_31 : decode cX0_ask 31 = .ok (.iload_n 3, 1) := dk_29 (dk_at dksX0_ask_1 7 rfl rfl)
theorem dX0_ask_32 : decode cX0_ask 32 = .ok (.invokevirtual 371, 3) := dk_182 1 115 (dk_at dksX0_ask_1 8 rfl rfl)
theorem dX0_ask_35 : decode cX0_ask 35 = .ok (.istore 4, 2) := dk_54 4 (dk_at dksX0_ask_1 11 rfl rfl)
theorem dX0_ask_37 : decode cX0_ask 37 = .ok (.iload 4, 2) := dk_21 4 (dk_at dksX0_ask_1 13 rfl rfl)
theorem dX0_ask_39 : decode cX0_ask 39 = .ok (.iload_n 2, 1) := dk_28 (dk_at dksX0_ask_1 15 rfl rfl)
theorem dX0_ask_40 : decode cX0_ask 40 = .ok (.if_icmp .ge 7, 3) := dk_162 0 7 (dk_at dksX0_ask_1 16 rfl rfl)
theorem dX0_ask_43 : decode cX0_ask 43 = .ok (.iload_n 3, 1) := dk_29 (dk_at dksX0_ask_1 19 rfl rfl)
theorem dX0_ask_44 : decode cX0_ask 44 = .ok (.goto 4, 3) := dk_167 0 4 (dk_at dksX0_ask_1 20 rfl rfl)
theorem dX0_ask_47 : decode cX0_ask 47 = .ok (.iload_n 1, 1) := dk_27 (dk_at dksX0_ask_1 23 rfl rfl)
theorem dX0_ask_48 : decode cX0_ask 48 = .ok (.istore_n 1, 1) := dk_60 (dk_at dksX0_ask_2 0 rfl rfl)
theorem dX0_ask_49 : decode cX0_ask 49 = .ok (.iload_n 2, 1) := dk_28 (dk_at dksX0_ask_2 1 rfl rfl)
theorem dX0_ask_50 : decode cX0_ask 50 = .ok (.iload 4, 2) := dk_21 4 (dk_at dksX0_ask_2 2 rfl rfl)
theorem dX0_ask_52 : decode cX0_ask 52 = .ok (.invokestatic 162, 3) := dk_184 0 162 (dk_at dksX0_ask_2 4 rfl rfl)
theorem dX0_ask_55 : decode cX0_ask 55 = .ok (.istore_n 2, 1) := dk_61 (dk_at dksX0_ask_2 7 rfl rfl)
theorem dX0_ask_56 : decode cX0_ask 56 = .ok (.iinc 3 1, 3) := dk_132 3 1 (dk_at dksX0_ask_2 8 rfl rfl)
theorem dX0_ask_59 : decode cX0_ask 59 = .ok (.goto (-35), 3) := dk_167 255 221 (dk_at dksX0_ask_2 11 rfl rfl)
theorem dX0_ask_62 : decode cX0_ask 62 = .ok (.iload_n 1, 1) := dk_27 (dk_at dksX0_ask_2 14 rfl rfl)
theorem dX0_ask_63 : decode cX0_ask 63 = .ok (.ireturn, 1) := dk_172 (dk_at dksX0_ask_2 15 rfl rfl)
abbrev cX0_mostAlike : ByteArray := prog_1_method_75_code
def yX0_mostAlike : MethodName := ⟨RX0, "mostAlike", "(I)I"⟩
def dkwX0_mostAlike_3 : List UInt8 := [167, 0, 4, 29, 62, 132, 4, 1, 167, 255, 191, 5, 28, 104, 29, 100, 172]
abbrev dktX0_mostAlike_3 : List UInt8 := dkwX0_mostAlike_3 ++ []
def dkwX0_mostAlike_2 : List UInt8 := [28, 42, 180, 0, 55, 21, 5, 46, 184, 1, 31, 61, 42, 180, 0, 52, 21, 4, 46, 27, 160, 0, 7, 4]
abbrev dktX0_mostAlike_2 : List UInt8 := dkwX0_mostAlike_2 ++ dktX0_mostAlike_3
def dkwX0_mostAlike_1 : List UInt8 := [27, 42, 180, 0, 52, 21, 4, 46, 184, 1, 98, 54, 5, 42, 180, 0, 55, 21, 5, 92, 46, 4, 96, 79]
abbrev dktX0_mostAlike_1 : List UInt8 := dkwX0_mostAlike_1 ++ dktX0_mostAlike_2
def dkwX0_mostAlike_0 : List UInt8 := [42, 180, 0, 55, 3, 184, 1, 110, 3, 61, 3, 62, 3, 54, 4, 21, 4, 42, 180, 1, 101, 162, 0, 62]
abbrev dktX0_mostAlike_0 : List UInt8 := dkwX0_mostAlike_0 ++ dktX0_mostAlike_1
theorem dksX0_mostAlike_0 : cX0_mostAlike.data.toList.drop 0 = dktX0_mostAlike_0 := by decide +kernel
theorem dksX0_mostAlike_1 : cX0_mostAlike.data.toList.drop 24 = dktX0_mostAlike_1 := dk_seg dksX0_mostAlike_0 24 rfl rfl
theorem dksX0_mostAlike_2 : cX0_mostAlike.data.toList.drop 48 = dktX0_mostAlike_2 := dk_seg dksX0_mostAlike_1 24 rfl rfl
theorem dksX0_mostAlike_3 : cX0_mostAlike.data.toList.drop 72 = dktX0_mostAlike_3 := dk_seg dksX0_mostAlike_2 24 rfl rfl
theorem dX0_mostAlike_0 : decode cX0_mostAlike 0 = .ok (.aload_n 0, 1) := dk_42 (dk_at dksX0_mostAlike_0 0 rfl rfl)
theorem dX0_mostAlike_1 : decode cX0_mostAlike 1 = .ok (.getfield 55, 3) := dk_180 0 55 (dk_at dksX0_mostAlike_0 1 rfl rfl)
theorem dX0_mostAlike_4 : decode cX0_mostAlike 4 = .ok (.iconst 0, 1) := dk_3 (dk_at dksX0_mostAlike_0 4 rfl rfl)
theorem dX0_mostAlike_5 : decode cX0_mostAlike 5 = .ok (.invokestatic 366, 3) := dk_184 1 110 (dk_at dksX0_mostAlike_0 5 rfl rfl)
theorem dX0_mostAlike_8 : decode cX0_mostAlike 8 = .ok (.iconst 0, 1) := dk_3 (dk_at dksX0_mostAlike_0 8 rfl rfl)
theorem dX0_mostAlike_9 : decode cX0_mostAlike 9 = .ok (.istore_n 2, 1) := dk_61 (dk_at dksX0_mostAlike_0 9 rfl rfl)
theorem dX0_mostAlike_10 : decode cX0_mostAlike 10 = .ok (.iconst 0, 1) := dk_3 (dk_at dksX0_mostAlike_0 10 rfl rfl)
theorem dX0_mostAlike_11 : decode cX0_mostAlike 11 = .ok (.istore_n 3, 1) := dk_62 (dk_at dksX0_mostAlike_0 11 rfl rfl)
theorem dX0_mostAlike_12 : decode cX0_mostAlike 12 = .ok (.iconst 0, 1) := dk_3 (dk_at dksX0_mostAlike_0 12 rfl rfl)
theorem dX0_mostAlike_13 : decode cX0_mostAlike 13 = .ok (.istore 4, 2) := dk_54 4 (dk_at dksX0_mostAlike_0 13 rfl rfl)
theorem dX0_mostAlike_15 : decode cX0_mostAlike 15 = .ok (.iload 4, 2) := dk_21 4 (dk_at dksX0_mostAlike_0 15 rfl rfl)
theorem dX0_mostAlike_17 : decode cX0_mostAlike 17 = .ok (.aload_n 0, 1) := dk_42 (dk_at dksX0_mostAlike_0 17 rfl rfl)
theorem dX0_mostAlike_18 : decode cX0_mostAlike 18 = .ok (.getfield 357, 3) := dk_180 1 101 (dk_at dksX0_mostAlike_0 18 rfl rfl)
theorem dX0_mostAlike_21 : decode cX0_mostAlike 21 = .ok (.if_icmp .ge 62, 3) := dk_162 0 62 (dk_at dksX0_mostAlike_0 21 rfl rfl)
theorem dX0_mostAlike_24 : decode cX0_mostAlike 24 = .ok (.iload_n 1, 1) := dk_27 (dk_at dksX0_mostAlike_1 0 rfl rfl)
theorem dX0_mostAlike_25 : decode cX0_mostAlike 25 = .ok (.aload_n 0, 1) := dk_42 (dk_at dksX0_mostAlike_1 1 rfl rfl)
theorem dX0_mostAlike_26 : decode cX0_mostAlike 26 = .ok (.getfield 52, 3) := dk_180 0 52 (dk_at dksX0_mostAlike_1 2 rfl rfl)
theorem dX0_mostAlike_29 : decode cX0_mostAlike 29 = .ok (.iload 4, 2) := dk_21 4 (dk_at dksX0_mostAlike_1 5 rfl rfl)
theorem dX0_mostAlike_31 : decode cX0_mostAlike 31 = .ok (.iaload, 1) := dk_46 (dk_at dksX0_mostAlike_1 7 rfl rfl)
theorem dX0_mostAlike_32 : decode cX0_mostAlike 32 = .ok (.invokestatic 354, 3) := dk_184 1 98 (dk_at dksX0_mostAlike_1 8 rfl rfl)
theorem dX0_mostAlike_35 : decode cX0_mostAlike 35 = .ok (.istore 5, 2) := dk_54 5 (dk_at dksX0_mostAlike_1 11 rfl rfl)
theorem dX0_mostAlike_37 : decode cX0_mostAlike 37 = .ok (.aload_n 0, 1) := dk_42 (dk_at dksX0_mostAlike_1 13 rfl rfl)
theorem dX0_mostAlike_38 : decode cX0_mostAlike 38 = .ok (.getfield 55, 3) := dk_180 0 55 (dk_at dksX0_mostAlike_1 14 rfl rfl)
theorem dX0_mostAlike_41 : decode cX0_mostAlike 41 = .ok (.iload 5, 2) := dk_21 5 (dk_at dksX0_mostAlike_1 17 rfl rfl)
theorem dX0_mostAlike_43 : decode cX0_mostAlike 43 = .ok (.dup2, 1) := dk_92 (dk_at dksX0_mostAlike_1 19 rfl rfl)
theorem dX0_mostAlike_44 : decode cX0_mostAlike 44 = .ok (.iaload, 1) := dk_46 (dk_at dksX0_mostAlike_1 20 rfl rfl)
theorem dX0_mostAlike_45 : decode cX0_mostAlike 45 = .ok (.iconst 1, 1) := dk_4 (dk_at dksX0_mostAlike_1 21 rfl rfl)
theorem dX0_mostAlike_46 : decode cX0_mostAlike 46 = .ok (.iadd, 1) := dk_96 (dk_at dksX0_mostAlike_1 22 rfl rfl)
theorem dX0_mostAlike_47 : decode cX0_mostAlike 47 = .ok (.iastore, 1) := dk_79 (dk_at dksX0_mostAlike_1 23 rfl rfl)
theorem dX0_mostAlike_48 : decode cX0_mostAlike 48 = .ok (.iload_n 2, 1) := dk_28 (dk_at dksX0_mostAlike_2 0 rfl rfl)
theorem dX0_mostAlike_49 : decode cX0_mostAlike 49 = .ok (.aload_n 0, 1) := dk_42 (dk_at dksX0_mostAlike_2 1 rfl rfl)
theorem dX0_mostAlike_50 : decode cX0_mostAlike 50 = .ok (.getfield 55, 3) := dk_180 0 55 (dk_at dksX0_mostAlike_2 2 rfl rfl)
theorem dX0_mostAlike_53 : decode cX0_mostAlike 53 = .ok (.iload 5, 2) := dk_21 5 (dk_at dksX0_mostAlike_2 5 rfl rfl)
theorem dX0_mostAlike_55 : decode cX0_mostAlike 55 = .ok (.iaload, 1) := dk_46 (dk_at dksX0_mostAlike_2 7 rfl rfl)
theorem dX0_mostAlike_56 : decode cX0_mostAlike 56 = .ok (.invokestatic 287, 3) := dk_184 1 31 (dk_at dksX0_mostAlike_2 8 rfl rfl)
theorem dX0_mostAlike_59 : decode cX0_mostAlike 59 = .ok (.istore_n 2, 1) := dk_61 (dk_at dksX0_mostAlike_2 11 rfl rfl)
theorem dX0_mostAlike_60 : decode cX0_mostAlike 60 = .ok (.aload_n 0, 1) := dk_42 (dk_at dksX0_mostAlike_2 12 rfl rfl)
theorem dX0_mostAlike_61 : decode cX0_mostAlike 61 = .ok (.getfield 52, 3) := dk_180 0 52 (dk_at dksX0_mostAlike_2 13 rfl rfl)
theorem dX0_mostAlike_64 : decode cX0_mostAlike 64 = .ok (.iload 4, 2) := dk_21 4 (dk_at dksX0_mostAlike_2 16 rfl rfl)
theorem dX0_mostAlike_66 : decode cX0_mostAlike 66 = .ok (.iaload, 1) := dk_46 (dk_at dksX0_mostAlike_2 18 rfl rfl)
theorem dX0_mostAlike_67 : decode cX0_mostAlike 67 = .ok (.iload_n 1, 1) := dk_27 (dk_at dksX0_mostAlike_2 19 rfl rfl)
theorem dX0_mostAlike_68 : decode cX0_mostAlike 68 = .ok (.if_icmp .ne 7, 3) := dk_160 0 7 (dk_at dksX0_mostAlike_2 20 rfl rfl)
theorem dX0_mostAlike_71 : decode cX0_mostAlike 71 = .ok (.iconst 1, 1) := dk_4 (dk_at dksX0_mostAlike_2 23 rfl rfl)
theorem dX0_mostAlike_72 : decode cX0_mostAlike 72 = .ok (.goto 4, 3) := dk_167 0 4 (dk_at dksX0_mostAlike_3 0 rfl rfl)
theorem dX0_mostAlike_75 : decode cX0_mostAlike 75 = .ok (.iload_n 3, 1) := dk_29 (dk_at dksX0_mostAlike_3 3 rfl rfl)
theorem dX0_mostAlike_76 : decode cX0_mostAlike 76 = .ok (.istore_n 3, 1) := dk_62 (dk_at dksX0_mostAlike_3 4 rfl rfl)
theorem dX0_mostAlike_77 : decode cX0_mostAlike 77 = .ok (.iinc 4 1, 3) := dk_132 4 1 (dk_at dksX0_mostAlike_3 5 rfl rfl)
theorem dX0_mostAlike_80 : decode cX0_mostAlike 80 = .ok (.goto (-65), 3) := dk_167 255 191 (dk_at dksX0_mostAlike_3 8 rfl rfl)
theorem dX0_mostAlike_83 : decode cX0_mostAlike 83 = .ok (.iconst 2, 1) := dk_5 (dk_at dksX0_mostAlike_3 11 rfl rfl)
theorem dX0_mostAlike_84 : decode cX0_mostAlike 84 = .ok (.iload_n 2, 1) := dk_28 (dk_at dksX0_mostAlike_3 12 rfl rfl)
theorem dX0_mostAlike_85 : decode cX0_mostAlike 85 = .ok (.imul, 1) := dk_104 (dk_at dksX0_mostAlike_3 13 rfl rfl)
theorem dX0_mostAlike_86 : decode cX0_mostAlike 86 = .ok (.iload_n 3, 1) := dk_29 (dk_at dksX0_mostAlike_3 14 rfl rfl)
theorem dX0_mostAlike_87 : decode cX0_mostAlike 87 = .ok (.isub, 1) := dk_100 (dk_at dksX0_mostAlike_3 15 rfl rfl)
theorem dX0_mostAlike_88 : decode cX0_mostAlike 88 = .ok (.ireturn, 1) := dk_172 (dk_at dksX0_mostAlike_3 16 rfl rfl)
abbrev cX0_gain : ByteArray := prog_1_method_77_code
def yX0_gain : MethodName := ⟨RX0, "gain", "(IIII)Z"⟩
def dkwX0_gain_3 : List UInt8 := [79, 4, 172]
abbrev dktX0_gain_3 : List UInt8 := dkwX0_gain_3 ++ []
def dkwX0_gain_2 : List UInt8 := [180, 1, 118, 5, 27, 104, 28, 96, 29, 79, 42, 180, 0, 21, 180, 1, 121, 5, 27, 104, 28, 96, 21, 4]
abbrev dktX0_gain_2 : List UInt8 := dkwX0_gain_2 ++ dktX0_gain_3
def dkwX0_gain_1 : List UInt8 := [184, 0, 72, 153, 0, 15, 21, 4, 16, 157, 16, 99, 184, 0, 72, 154, 0, 5, 3, 172, 42, 180, 0, 21]
abbrev dktX0_gain_1 : List UInt8 := dkwX0_gain_1 ++ dktX0_gain_2
def dkwX0_gain_0 : List UInt8 := [27, 3, 4, 184, 0, 72, 153, 0, 35, 28, 3, 4, 184, 0, 72, 153, 0, 26, 29, 16, 157, 16, 99]
abbrev dktX0_gain_0 : List UInt8 := dkwX0_gain_0 ++ dktX0_gain_1
theorem dksX0_gain_0 : cX0_gain.data.toList.drop 0 = dktX0_gain_0 := by decide +kernel
theorem dksX0_gain_1 : cX0_gain.data.toList.drop 23 = dktX0_gain_1 := dk_seg dksX0_gain_0 23 rfl rfl
theorem dksX0_gain_2 : cX0_gain.data.toList.drop 47 = dktX0_gain_2 := dk_seg dksX0_gain_1 24 rfl rfl
theorem dksX0_gain_3 : cX0_gain.data.toList.drop 71 = dktX0_gain_3 := dk_seg dksX0_gain_2 24 rfl rfl
theorem dX0_gain_0 : decode cX0_gain 0 = .ok (.iload_n 1, 1) := dk_27 (dk_at dksX0_gain_0 0 rfl rfl)
theorem dX0_gain_1 : decode cX0_gain 1 = .ok (.iconst 0, 1) := dk_3 (dk_at dksX0_gain_0 1 rfl rfl)
theorem dX0_gain_2 : decode cX0_gain 2 = .ok (.iconst 1, 1) := dk_4 (dk_at dksX0_gain_0 2 rfl rfl)
theorem dX0_gain_3 : decode cX0_gain 3 = .ok (.invokestatic 72, 3) := dk_184 0 72 (dk_at dksX0_gain_0 3 rfl rfl)
theorem dX0_gain_6 : decode cX0_gain 6 = .ok (.ifCond .eq 35, 3) := dk_153 0 35 (dk_at dksX0_gain_0 6 rfl rfl)
theorem dX0_gain_9 : decode cX0_gain 9 = .ok (.iload_n 2, 1) := dk_28 (dk_at dksX0_gain_0 9 rfl rfl)
theorem dX0_gain_10 : decode cX0_gain 10 = .ok (.iconst 0, 1) := dk_3 (dk_at dksX0_gain_0 10 rfl rfl)
theorem dX0_gain_11 : decode cX0_gain 11 = .ok (.iconst 1, 1) := dk_4 (dk_at dksX0_gain_0 11 rfl rfl)
theorem dX0_gain_12 : decode cX0_gain 12 = .ok (.invokestatic 72, 3) := dk_184 0 72 (dk_at dksX0_gain_0 12 rfl rfl)
theorem dX0_gain_15 : decode cX0_gain 15 = .ok (.ifCond .eq 26, 3) := dk_153 0 26 (dk_at dksX0_gain_0 15 rfl rfl)
theorem dX0_gain_18 : decode cX0_gain 18 = .ok (.iload_n 3, 1) := dk_29 (dk_at dksX0_gain_0 18 rfl rfl)
theorem dX0_gain_19 : decode cX0_gain 19 = .ok (.bipush (-99), 2) := dk_16 157 (dk_at dksX0_gain_0 19 rfl rfl)
theorem dX0_gain_21 : decode cX0_gain 21 = .ok (.bipush 99, 2) := dk_16 99 (dk_at dksX0_gain_0 21 rfl rfl)
theorem dX0_gain_23 : decode cX0_gain 23 = .ok (.invokestatic 72, 3) := dk_184 0 72 (dk_at dksX0_gain_1 0 rfl rfl)
theorem dX0_gain_26 : decode cX0_gain 26 = .ok (.ifCond .eq 15, 3) := dk_153 0 15 (dk_at dksX0_gain_1 3 rfl rfl)
theorem dX0_gain_29 : decode cX0_gain 29 = .ok (.iload 4, 2) := dk_21 4 (dk_at dksX0_gain_1 6 rfl rfl)
theorem dX0_gain_31 : decode cX0_gain 31 = .ok (.bipush (-99), 2) := dk_16 157 (dk_at dksX0_gain_1 8 rfl rfl)
theorem dX0_gain_33 : decode cX0_gain 33 = .ok (.bipush 99, 2) := dk_16 99 (dk_at dksX0_gain_1 10 rfl rfl)
theorem dX0_gain_35 : decode cX0_gain 35 = .ok (.invokestatic 72, 3) := dk_184 0 72 (dk_at dksX0_gain_1 12 rfl rfl)
theorem dX0_gain_38 : decode cX0_gain 38 = .ok (.ifCond .ne 5, 3) := dk_154 0 5 (dk_at dksX0_gain_1 15 rfl rfl)
theorem dX0_gain_41 : decode cX0_gain 41 = .ok (.iconst 0, 1) := dk_3 (dk_at dksX0_gain_1 18 rfl rfl)
theorem dX0_gain_42 : decode cX0_gain 42 = .ok (.ireturn, 1) := dk_172 (dk_at dksX0_gain_1 19 rfl rfl)
theorem dX0_gain_43 : decode cX0_gain 43 = .ok (.aload_n 0, 1) := dk_42 (dk_at dksX0_gain_1 20 rfl rfl)
theorem dX0_gain_44 : decode cX0_gain 44 = .ok (.getfield 21, 3) := dk_180 0 21 (dk_at dksX0_gain_1 21 rfl rfl)
theorem dX0_gain_47 : decode cX0_gain 47 = .ok (.getfield 374, 3) := dk_180 1 118 (dk_at dksX0_gain_2 0 rfl rfl)
theorem dX0_gain_50 : decode cX0_gain 50 = .ok (.iconst 2, 1) := dk_5 (dk_at dksX0_gain_2 3 rfl rfl)
theorem dX0_gain_51 : decode cX0_gain 51 = .ok (.iload_n 1, 1) := dk_27 (dk_at dksX0_gain_2 4 rfl rfl)
theorem dX0_gain_52 : decode cX0_gain 52 = .ok (.imul, 1) := dk_104 (dk_at dksX0_gain_2 5 rfl rfl)
theorem dX0_gain_53 : decode cX0_gain 53 = .ok (.iload_n 2, 1) := dk_28 (dk_at dksX0_gain_2 6 rfl rfl)
theorem dX0_gain_54 : decode cX0_gain 54 = .ok (.iadd, 1) := dk_96 (dk_at dksX0_gain_2 7 rfl rfl)
theorem dX0_gain_55 : decode cX0_gain 55 = .ok (.iload_n 3, 1) := dk_29 (dk_at dksX0_gain_2 8 rfl rfl)
theorem dX0_gain_56 : decode cX0_gain 56 = .ok (.iastore, 1) := dk_79 (dk_at dksX0_gain_2 9 rfl rfl)
theorem dX0_gain_57 : decode cX0_gain 57 = .ok (.aload_n 0, 1) := dk_42 (dk_at dksX0_gain_2 10 rfl rfl)
theorem dX0_gain_58 : decode cX0_gain 58 = .ok (.getfield 21, 3) := dk_180 0 21 (dk_at dksX0_gain_2 11 rfl rfl)
theorem dX0_gain_61 : decode cX0_gain 61 = .ok (.getfield 377, 3) := dk_180 1 121 (dk_at dksX0_gain_2 14 rfl rfl)
theorem dX0_gain_64 : decode cX0_gain 64 = .ok (.iconst 2, 1) := dk_5 (dk_at dksX0_gain_2 17 rfl rfl)
theorem dX0_gain_65 : decode cX0_gain 65 = .ok (.iload_n 1, 1) := dk_27 (dk_at dksX0_gain_2 18 rfl rfl)
theorem dX0_gain_66 : decode cX0_gain 66 = .ok (.imul, 1) := dk_104 (dk_at dksX0_gain_2 19 rfl rfl)
theorem dX0_gain_67 : decode cX0_gain 67 = .ok (.iload_n 2, 1) := dk_28 (dk_at dksX0_gain_2 20 rfl rfl)
theorem dX0_gain_68 : decode cX0_gain 68 = .ok (.iadd, 1) := dk_96 (dk_at dksX0_gain_2 21 rfl rfl)
theorem dX0_gain_69 : decode cX0_gain 69 = .ok (.iload 4, 2) := dk_21 4 (dk_at dksX0_gain_2 22 rfl rfl)
theorem dX0_gain_71 : decode cX0_gain 71 = .ok (.iastore, 1) := dk_79 (dk_at dksX0_gain_3 0 rfl rfl)
theorem dX0_gain_72 : decode cX0_gain 72 = .ok (.iconst 1, 1) := dk_4 (dk_at dksX0_gain_3 1 rfl rfl)
theorem dX0_gain_73 : decode cX0_gain 73 = .ok (.ireturn, 1) := dk_172 (dk_at dksX0_gain_3 2 rfl rfl)
abbrev cX0_rests : ByteArray := prog_1_method_78_code
def yX0_rests : MethodName := ⟨RX0, "rests", "()I"⟩
def dkwX0_rests_3 : List UInt8 := [167, 255, 192, 27, 172]
abbrev dktX0_rests_3 : List UInt8 := dkwX0_rests_3 ++ []
def dkwX0_rests_2 : List UInt8 := [180, 0, 21, 180, 1, 121, 28, 46, 163, 0, 9, 4, 28, 120, 167, 0, 4, 3, 128, 60, 132, 2, 1]
abbrev dktX0_rests_2 : List UInt8 := dkwX0_rests_2 ++ dktX0_rests_3
def dkwX0_rests_1 : List UInt8 := [180, 0, 21, 180, 1, 118, 28, 46, 163, 0, 32, 42, 180, 0, 21, 180, 1, 121, 28, 4, 130, 46, 42]
abbrev dktX0_rests_1 : List UInt8 := dkwX0_rests_1 ++ dktX0_rests_2
def dkwX0_rests_0 : List UInt8 := [3, 60, 3, 61, 28, 7, 162, 0, 65, 27, 42, 180, 0, 21, 180, 1, 118, 28, 5, 130, 46, 42]
abbrev dktX0_rests_0 : List UInt8 := dkwX0_rests_0 ++ dktX0_rests_1
theorem dksX0_rests_0 : cX0_rests.data.toList.drop 0 = dktX0_rests_0 := by decide +kernel
theorem dksX0_rests_1 : cX0_rests.data.toList.drop 22 = dktX0_rests_1 := dk_seg dksX0_rests_0 22 rfl rfl
theorem dksX0_rests_2 : cX0_rests.data.toList.drop 45 = dktX0_rests_2 := dk_seg dksX0_rests_1 23 rfl rfl
theorem dksX0_rests_3 : cX0_rests.data.toList.drop 68 = dktX0_rests_3 := dk_seg dksX0_rests_2 23 rfl rfl
theorem dX0_rests_0 : decode cX0_rests 0 = .ok (.iconst 0, 1) := dk_3 (dk_at dksX0_rests_0 0 rfl rfl)
theorem dX0_rests_1 : decode cX0_rests 1 = .ok (.istore_n 1, 1) := dk_60 (dk_at dksX0_rests_0 1 rfl rfl)
theorem dX0_rests_2 : decode cX0_rests 2 = .ok (.iconst 0, 1) := dk_3 (dk_at dksX0_rests_0 2 rfl rfl)
theorem dX0_rests_3 : decode cX0_rests 3 = .ok (.istore_n 2, 1) := dk_61 (dk_at dksX0_rests_0 3 rfl rfl)
theorem dX0_rests_4 : decode cX0_rests 4 = .ok (.iload_n 2, 1) := dk_28 (dk_at dksX0_rests_0 4 rfl rfl)
theorem dX0_rests_5 : decode cX0_rests 5 = .ok (.iconst 4, 1) := dk_7 (dk_at dksX0_rests_0 5 rfl rfl)
theorem dX0_rests_6 : decode cX0_rests 6 = .ok (.if_icmp .ge 65, 3) := dk_162 0 65 (dk_at dksX0_rests_0 6 rfl rfl)
theorem dX0_rests_9 : decode cX0_rests 9 = .ok (.iload_n 1, 1) := dk_27 (dk_at dksX0_rests_0 9 rfl rfl)
theorem dX0_rests_10 : decode cX0_rests 10 = .ok (.aload_n 0, 1) := dk_42 (dk_at dksX0_rests_0 10 rfl rfl)
theorem dX0_rests_11 : decode cX0_rests 11 = .ok (.getfield 21, 3) := dk_180 0 21 (dk_at dksX0_rests_0 11 rfl rfl)
theorem dX0_rests_14 : decode cX0_rests 14 = .ok (.getfield 374, 3) := dk_180 1 118 (dk_at dksX0_rests_0 14 rfl rfl)
theorem dX0_rests_17 : decode cX0_rests 17 = .ok (.iload_n 2, 1) := dk_28 (dk_at dksX0_rests_0 17 rfl rfl)
theorem dX0_rests_18 : decode cX0_rests 18 = .ok (.iconst 2, 1) := dk_5 (dk_at dksX0_rests_0 18 rfl rfl)
theorem dX0_rests_19 : decode cX0_rests 19 = .ok (.ixor, 1) := dk_130 (dk_at dksX0_rests_0 19 rfl rfl)
theorem dX0_rests_20 : decode cX0_rests 20 = .ok (.iaload, 1) := dk_46 (dk_at dksX0_rests_0 20 rfl rfl)
theorem dX0_rests_21 : decode cX0_rests 21 = .ok (.aload_n 0, 1) := dk_42 (dk_at dksX0_rests_0 21 rfl rfl)
theorem dX0_rests_22 : decode cX0_rests 22 = .ok (.getfield 21, 3) := dk_180 0 21 (dk_at dksX0_rests_1 0 rfl rfl)
theorem dX0_rests_25 : decode cX0_rests 25 = .ok (.getfield 374, 3) := dk_180 1 118 (dk_at dksX0_rests_1 3 rfl rfl)
theorem dX0_rests_28 : decode cX0_rests 28 = .ok (.iload_n 2, 1) := dk_28 (dk_at dksX0_rests_1 6 rfl rfl)
theorem dX0_rests_29 : decode cX0_rests 29 = .ok (.iaload, 1) := dk_46 (dk_at dksX0_rests_1 7 rfl rfl)
theorem dX0_rests_30 : decode cX0_rests 30 = .ok (.if_icmp .gt 32, 3) := dk_163 0 32 (dk_at dksX0_rests_1 8 rfl rfl)
theorem dX0_rests_33 : decode cX0_rests 33 = .ok (.aload_n 0, 1) := dk_42 (dk_at dksX0_rests_1 11 rfl rfl)
theorem dX0_rests_34 : decode cX0_rests 34 = .ok (.getfield 21, 3) := dk_180 0 21 (dk_at dksX0_rests_1 12 rfl rfl)
theorem dX0_rests_37 : decode cX0_rests 37 = .ok (.getfield 377, 3) := dk_180 1 121 (dk_at dksX0_rests_1 15 rfl rfl)
theorem dX0_rests_40 : decode cX0_rests 40 = .ok (.iload_n 2, 1) := dk_28 (dk_at dksX0_rests_1 18 rfl rfl)
theorem dX0_rests_41 : decode cX0_rests 41 = .ok (.iconst 1, 1) := dk_4 (dk_at dksX0_rests_1 19 rfl rfl)
theorem dX0_rests_42 : decode cX0_rests 42 = .ok (.ixor, 1) := dk_130 (dk_at dksX0_rests_1 20 rfl rfl)
theorem dX0_rests_43 : decode cX0_rests 43 = .ok (.iaload, 1) := dk_46 (dk_at dksX0_rests_1 21 rfl rfl)
theorem dX0_rests_44 : decode cX0_rests 44 = .ok (.aload_n 0, 1) := dk_42 (dk_at dksX0_rests_1 22 rfl rfl)
theorem dX0_rests_45 : decode cX0_rests 45 = .ok (.getfield 21, 3) := dk_180 0 21 (dk_at dksX0_rests_2 0 rfl rfl)
theorem dX0_rests_48 : decode cX0_rests 48 = .ok (.getfield 377, 3) := dk_180 1 121 (dk_at dksX0_rests_2 3 rfl rfl)
theorem dX0_rests_51 : decode cX0_rests 51 = .ok (.iload_n 2, 1) := dk_28 (dk_at dksX0_rests_2 6 rfl rfl)
theorem dX0_rests_52 : decode cX0_rests 52 = .ok (.iaload, 1) := dk_46 (dk_at dksX0_rests_2 7 rfl rfl)
theorem dX0_rests_53 : decode cX0_rests 53 = .ok (.if_icmp .gt 9, 3) := dk_163 0 9 (dk_at dksX0_rests_2 8 rfl rfl)
theorem dX0_rests_56 : decode cX0_rests 56 = .ok (.iconst 1, 1) := dk_4 (dk_at dksX0_rests_2 11 rfl rfl)
theorem dX0_rests_57 : decode cX0_rests 57 = .ok (.iload_n 2, 1) := dk_28 (dk_at dksX0_rests_2 12 rfl rfl)
theorem dX0_rests_58 : decode cX0_rests 58 = .ok (.ishl, 1) := dk_120 (dk_at dksX0_rests_2 13 rfl rfl)
theorem dX0_rests_59 : decode cX0_rests 59 = .ok (.goto 4, 3) := dk_167 0 4 (dk_at dksX0_rests_2 14 rfl rfl)
theorem dX0_rests_62 : decode cX0_rests 62 = .ok (.iconst 0, 1) := dk_3 (dk_at dksX0_rests_2 17 rfl rfl)
theorem dX0_rests_63 : decode cX0_rests 63 = .ok (.ior, 1) := dk_128 (dk_at dksX0_rests_2 18 rfl rfl)
theorem dX0_rests_64 : decode cX0_rests 64 = .ok (.istore_n 1, 1) := dk_60 (dk_at dksX0_rests_2 19 rfl rfl)
theorem dX0_rests_65 : decode cX0_rests 65 = .ok (.iinc 2 1, 3) := dk_132 2 1 (dk_at dksX0_rests_2 20 rfl rfl)
theorem dX0_rests_68 : decode cX0_rests 68 = .ok (.goto (-64), 3) := dk_167 255 192 (dk_at dksX0_rests_3 0 rfl rfl)
theorem dX0_rests_71 : decode cX0_rests 71 = .ok (.iload_n 1, 1) := dk_27 (dk_at dksX0_rests_3 3 rfl rfl)
theorem dX0_rests_72 : decode cX0_rests 72 = .ok (.ireturn, 1) := dk_172 (dk_at dksX0_rests_3 4 rfl rfl)
abbrev cX0_mixed : ByteArray := prog_1_method_81_code
def yX0_mixed : MethodName := ⟨RX0, "mixed", "(ZZ)I"⟩
def dkwX0_mixed_5 : List UInt8 := [21, 7, 27, 153, 0, 8, 21, 4, 167, 0, 5, 21, 6, 184, 1, 127, 96, 133, 28, 184, 1, 130, 136, 172]
abbrev dktX0_mixed_5 : List UInt8 := dkwX0_mixed_5 ++ []
def dkwX0_mixed_4 : List UInt8 := [157, 0, 5, 2, 172, 27, 153, 0, 7, 29, 167, 0, 5, 21, 5, 184, 1, 127, 54, 7, 21, 7, 133]
abbrev dktX0_mixed_4 : List UInt8 := dkwX0_mixed_4 ++ dktX0_mixed_5
def dkwX0_mixed_3 : List UInt8 := [180, 0, 21, 180, 1, 118, 4, 46, 100, 54, 6, 29, 21, 4, 104, 158, 0, 11, 21, 5, 21, 6, 104]
abbrev dktX0_mixed_3 : List UInt8 := dkwX0_mixed_3 ++ dktX0_mixed_4
def dkwX0_mixed_2 : List UInt8 := [3, 46, 42, 180, 0, 21, 180, 1, 118, 5, 46, 100, 54, 5, 42, 180, 0, 21, 180, 1, 118, 6, 46, 42]
abbrev dktX0_mixed_2 : List UInt8 := dkwX0_mixed_2 ++ dktX0_mixed_3
def dkwX0_mixed_1 : List UInt8 := [180, 1, 121, 6, 46, 42, 180, 0, 21, 180, 1, 121, 5, 46, 100, 54, 4, 42, 180, 0, 21, 180, 1, 118]
abbrev dktX0_mixed_1 : List UInt8 := dkwX0_mixed_1 ++ dktX0_mixed_2
def dkwX0_mixed_0 : List UInt8 := [42, 180, 0, 21, 180, 1, 121, 3, 46, 42, 180, 0, 21, 180, 1, 121, 4, 46, 100, 62, 42, 180, 0, 21]
abbrev dktX0_mixed_0 : List UInt8 := dkwX0_mixed_0 ++ dktX0_mixed_1
theorem dksX0_mixed_0 : cX0_mixed.data.toList.drop 0 = dktX0_mixed_0 := by decide +kernel
theorem dksX0_mixed_1 : cX0_mixed.data.toList.drop 24 = dktX0_mixed_1 := dk_seg dksX0_mixed_0 24 rfl rfl
theorem dksX0_mixed_2 : cX0_mixed.data.toList.drop 48 = dktX0_mixed_2 := dk_seg dksX0_mixed_1 24 rfl rfl
theorem dksX0_mixed_3 : cX0_mixed.data.toList.drop 72 = dktX0_mixed_3 := dk_seg dksX0_mixed_2 24 rfl rfl
theorem dksX0_mixed_4 : cX0_mixed.data.toList.drop 95 = dktX0_mixed_4 := dk_seg dksX0_mixed_3 23 rfl rfl
theorem dksX0_mixed_5 : cX0_mixed.data.toList.drop 118 = dktX0_mixed_5 := dk_seg dksX0_mixed_4 23 rfl rfl
theorem dX0_mixed_0 : decode cX0_mixed 0 = .ok (.aload_n 0, 1) := dk_42 (dk_at dksX0_mixed_0 0 rfl rfl)
theorem dX0_mixed_1 : decode cX0_mixed 1 = .ok (.getfield 21, 3) := dk_180 0 21 (dk_at dksX0_mixed_0 1 rfl rfl)
theorem dX0_mixed_4 : decode cX0_mixed 4 = .ok (.getfield 377, 3) := dk_180 1 121 (dk_at dksX0_mixed_0 4 rfl rfl)
theorem dX0_mixed_7 : decode cX0_mixed 7 = .ok (.iconst 0, 1) := dk_3 (dk_at dksX0_mixed_0 7 rfl rfl)
theorem dX0_mixed_8 : decode cX0_mixed 8 = .ok (.iaload, 1) := dk_46 (dk_at dksX0_mixed_0 8 rfl rfl)
theorem dX0_mixed_9 : decode cX0_mixed 9 = .ok (.aload_n 0, 1) := dk_42 (dk_at dksX0_mixed_0 9 rfl rfl)
theorem dX0_mixed_10 : decode cX0_mixed 10 = .ok (.getfield 21, 3) := dk_180 0 21 (dk_at dksX0_mixed_0 10 rfl rfl)
theorem dX0_mixed_13 : decode cX0_mixed 13 = .ok (.getfield 377, 3) := dk_180 1 121 (dk_at dksX0_mixed_0 13 rfl rfl)
theorem dX0_mixed_16 : decode cX0_mixed 16 = .ok (.iconst 1, 1) := dk_4 (dk_at dksX0_mixed_0 16 rfl rfl)
theorem dX0_mixed_17 : decode cX0_mixed 17 = .ok (.iaload, 1) := dk_46 (dk_at dksX0_mixed_0 17 rfl rfl)
theorem dX0_mixed_18 : decode cX0_mixed 18 = .ok (.isub, 1) := dk_100 (dk_at dksX0_mixed_0 18 rfl rfl)
theorem dX0_mixed_19 : decode cX0_mixed 19 = .ok (.istore_n 3, 1) := dk_62 (dk_at dksX0_mixed_0 19 rfl rfl)
theorem dX0_mixed_20 : decode cX0_mixed 20 = .ok (.aload_n 0, 1) := dk_42 (dk_at dksX0_mixed_0 20 rfl rfl)
theorem dX0_mixed_21 : decode cX0_mixed 21 = .ok (.getfield 21, 3) := dk_180 0 21 (dk_at dksX0_mixed_0 21 rfl rfl)
theorem dX0_mixed_24 : decode cX0_mixed 24 = .ok (.getfield 377, 3) := dk_180 1 121 (dk_at dksX0_mixed_1 0 rfl rfl)
theorem dX0_mixed_27 : decode cX0_mixed 27 = .ok (.iconst 3, 1) := dk_6 (dk_at dksX0_mixed_1 3 rfl rfl)
theorem dX0_mixed_28 : decode cX0_mixed 28 = .ok (.iaload, 1) := dk_46 (dk_at dksX0_mixed_1 4 rfl rfl)
theorem dX0_mixed_29 : decode cX0_mixed 29 = .ok (.aload_n 0, 1) := dk_42 (dk_at dksX0_mixed_1 5 rfl rfl)
theorem dX0_mixed_30 : decode cX0_mixed 30 = .ok (.getfield 21, 3) := dk_180 0 21 (dk_at dksX0_mixed_1 6 rfl rfl)
theorem dX0_mixed_33 : decode cX0_mixed 33 = .ok (.getfield 377, 3) := dk_180 1 121 (dk_at dksX0_mixed_1 9 rfl rfl)
theorem dX0_mixed_36 : decode cX0_mixed 36 = .ok (.iconst 2, 1) := dk_5 (dk_at dksX0_mixed_1 12 rfl rfl)
theorem dX0_mixed_37 : decode cX0_mixed 37 = .ok (.iaload, 1) := dk_46 (dk_at dksX0_mixed_1 13 rfl rfl)
theorem dX0_mixed_38 : decode cX0_mixed 38 = .ok (.isub, 1) := dk_100 (dk_at dksX0_mixed_1 14 rfl rfl)
theorem dX0_mixed_39 : decode cX0_mixed 39 = .ok (.istore 4, 2) := dk_54 4 (dk_at dksX0_mixed_1 15 rfl rfl)
theorem dX0_mixed_41 : decode cX0_mixed 41 = .ok (.aload_n 0, 1) := dk_42 (dk_at dksX0_mixed_1 17 rfl rfl)
theorem dX0_mixed_42 : decode cX0_mixed 42 = .ok (.getfield 21, 3) := dk_180 0 21 (dk_at dksX0_mixed_1 18 rfl rfl)
theorem dX0_mixed_45 : decode cX0_mixed 45 = .ok (.getfield 374, 3) := dk_180 1 118 (dk_at dksX0_mixed_1 21 rfl rfl)
theorem dX0_mixed_48 : decode cX0_mixed 48 = .ok (.iconst 0, 1) := dk_3 (dk_at dksX0_mixed_2 0 rfl rfl)
theorem dX0_mixed_49 : decode cX0_mixed 49 = .ok (.iaload, 1) := dk_46 (dk_at dksX0_mixed_2 1 rfl rfl)
theorem dX0_mixed_50 : decode cX0_mixed 50 = .ok (.aload_n 0, 1) := dk_42 (dk_at dksX0_mixed_2 2 rfl rfl)
theorem dX0_mixed_51 : decode cX0_mixed 51 = .ok (.getfield 21, 3) := dk_180 0 21 (dk_at dksX0_mixed_2 3 rfl rfl)
theorem dX0_mixed_54 : decode cX0_mixed 54 = .ok (.getfield 374, 3) := dk_180 1 118 (dk_at dksX0_mixed_2 6 rfl rfl)
theorem dX0_mixed_57 : decode cX0_mixed 57 = .ok (.iconst 2, 1) := dk_5 (dk_at dksX0_mixed_2 9 rfl rfl)
theorem dX0_mixed_58 : decode cX0_mixed 58 = .ok (.iaload, 1) := dk_46 (dk_at dksX0_mixed_2 10 rfl rfl)
theorem dX0_mixed_59 : decode cX0_mixed 59 = .ok (.isub, 1) := dk_100 (dk_at dksX0_mixed_2 11 rfl rfl)
theorem dX0_mixed_60 : decode cX0_mixed 60 = .ok (.istore 5, 2) := dk_54 5 (dk_at dksX0_mixed_2 12 rfl rfl)
theorem dX0_mixed_62 : decode cX0_mixed 62 = .ok (.aload_n 0, 1) := dk_42 (dk_at dksX0_mixed_2 14 rfl rfl)
theorem dX0_mixed_63 : decode cX0_mixed 63 = .ok (.getfield 21, 3) := dk_180 0 21 (dk_at dksX0_mixed_2 15 rfl rfl)
theorem dX0_mixed_66 : decode cX0_mixed 66 = .ok (.getfield 374, 3) := dk_180 1 118 (dk_at dksX0_mixed_2 18 rfl rfl)
theorem dX0_mixed_69 : decode cX0_mixed 69 = .ok (.iconst 3, 1) := dk_6 (dk_at dksX0_mixed_2 21 rfl rfl)
theorem dX0_mixed_70 : decode cX0_mixed 70 = .ok (.iaload, 1) := dk_46 (dk_at dksX0_mixed_2 22 rfl rfl)
theorem dX0_mixed_71 : decode cX0_mixed 71 = .ok (.aload_n 0, 1) := dk_42 (dk_at dksX0_mixed_2 23 rfl rfl)
theorem dX0_mixed_72 : decode cX0_mixed 72 = .ok (.getfield 21, 3) := dk_180 0 21 (dk_at dksX0_mixed_3 0 rfl rfl)
theorem dX0_mixed_75 : decode cX0_mixed 75 = .ok (.getfield 374, 3) := dk_180 1 118 (dk_at dksX0_mixed_3 3 rfl rfl)
theorem dX0_mixed_78 : decode cX0_mixed 78 = .ok (.iconst 1, 1) := dk_4 (dk_at dksX0_mixed_3 6 rfl rfl)
theorem dX0_mixed_79 : decode cX0_mixed 79 = .ok (.iaload, 1) := dk_46 (dk_at dksX0_mixed_3 7 rfl rfl)
theorem dX0_mixed_80 : decode cX0_mixed 80 = .ok (.isub, 1) := dk_100 (dk_at dksX0_mixed_3 8 rfl rfl)
theorem dX0_mixed_81 : decode cX0_mixed 81 = .ok (.istore 6, 2) := dk_54 6 (dk_at dksX0_mixed_3 9 rfl rfl)
theorem dX0_mixed_83 : decode cX0_mixed 83 = .ok (.iload_n 3, 1) := dk_29 (dk_at dksX0_mixed_3 11 rfl rfl)
theorem dX0_mixed_84 : decode cX0_mixed 84 = .ok (.iload 4, 2) := dk_21 4 (dk_at dksX0_mixed_3 12 rfl rfl)
theorem dX0_mixed_86 : decode cX0_mixed 86 = .ok (.imul, 1) := dk_104 (dk_at dksX0_mixed_3 14 rfl rfl)
theorem dX0_mixed_87 : decode cX0_mixed 87 = .ok (.ifCond .le 11, 3) := dk_158 0 11 (dk_at dksX0_mixed_3 15 rfl rfl)
theorem dX0_mixed_90 : decode cX0_mixed 90 = .ok (.iload 5, 2) := dk_21 5 (dk_at dksX0_mixed_3 18 rfl rfl)
theorem dX0_mixed_92 : decode cX0_mixed 92 = .ok (.iload 6, 2) := dk_21 6 (dk_at dksX0_mixed_3 20 rfl rfl)
theorem dX0_mixed_94 : decode cX0_mixed 94 = .ok (.imul, 1) := dk_104 (dk_at dksX0_mixed_3 22 rfl rfl)
theorem dX0_mixed_95 : decode cX0_mixed 95 = .ok (.ifCond .gt 5, 3) := dk_157 0 5 (dk_at dksX0_mixed_4 0 rfl rfl)
theorem dX0_mixed_98 : decode cX0_mixed 98 = .ok (.iconst (-1), 1) := dk_2 (dk_at dksX0_mixed_4 3 rfl rfl)
theorem dX0_mixed_99 : decode cX0_mixed 99 = .ok (.ireturn, 1) := dk_172 (dk_at dksX0_mixed_4 4 rfl rfl)
theorem dX0_mixed_100 : decode cX0_mixed 100 = .ok (.iload_n 1, 1) := dk_27 (dk_at dksX0_mixed_4 5 rfl rfl)
theorem dX0_mixed_101 : decode cX0_mixed 101 = .ok (.ifCond .eq 7, 3) := dk_153 0 7 (dk_at dksX0_mixed_4 6 rfl rfl)
theorem dX0_mixed_104 : decode cX0_mixed 104 = .ok (.iload_n 3, 1) := dk_29 (dk_at dksX0_mixed_4 9 rfl rfl)
theorem dX0_mixed_105 : decode cX0_mixed 105 = .ok (.goto 5, 3) := dk_167 0 5 (dk_at dksX0_mixed_4 10 rfl rfl)
theorem dX0_mixed_108 : decode cX0_mixed 108 = .ok (.iload 5, 2) := dk_21 5 (dk_at dksX0_mixed_4 13 rfl rfl)
theorem dX0_mixed_110 : decode cX0_mixed 110 = .ok (.invokestatic 383, 3) := dk_184 1 127 (dk_at dksX0_mixed_4 15 rfl rfl)
theorem dX0_mixed_113 : decode cX0_mixed 113 = .ok (.istore 7, 2) := dk_54 7 (dk_at dksX0_mixed_4 18 rfl rfl)
theorem dX0_mixed_115 : decode cX0_mixed 115 = .ok (.iload 7, 2) := dk_21 7 (dk_at dksX0_mixed_4 20 rfl rfl)
theorem dX0_mixed_117 : decode cX0_mixed 117 = .ok (.i2l, 1) := dk_133 (dk_at dksX0_mixed_4 22 rfl rfl)
theorem dX0_mixed_118 : decode cX0_mixed 118 = .ok (.iload 7, 2) := dk_21 7 (dk_at dksX0_mixed_5 0 rfl rfl)
theorem dX0_mixed_120 : decode cX0_mixed 120 = .ok (.iload_n 1, 1) := dk_27 (dk_at dksX0_mixed_5 2 rfl rfl)
theorem dX0_mixed_121 : decode cX0_mixed 121 = .ok (.ifCond .eq 8, 3) := dk_153 0 8 (dk_at dksX0_mixed_5 3 rfl rfl)
theorem dX0_mixed_124 : decode cX0_mixed 124 = .ok (.iload 4, 2) := dk_21 4 (dk_at dksX0_mixed_5 6 rfl rfl)
theorem dX0_mixed_126 : decode cX0_mixed 126 = .ok (.goto 5, 3) := dk_167 0 5 (dk_at dksX0_mixed_5 8 rfl rfl)
theorem dX0_mixed_129 : decode cX0_mixed 129 = .ok (.iload 6, 2) := dk_21 6 (dk_at dksX0_mixed_5 11 rfl rfl)
theorem dX0_mixed_131 : decode cX0_mixed 131 = .ok (.invokestatic 383, 3) := dk_184 1 127 (dk_at dksX0_mixed_5 13 rfl rfl)
theorem dX0_mixed_134 : decode cX0_mixed 134 = .ok (.iadd, 1) := dk_96 (dk_at dksX0_mixed_5 16 rfl rfl)
theorem dX0_mixed_135 : decode cX0_mixed 135 = .ok (.i2l, 1) := dk_133 (dk_at dksX0_mixed_5 17 rfl rfl)
theorem dX0_mixed_136 : decode cX0_mixed 136 = .ok (.iload_n 2, 1) := dk_28 (dk_at dksX0_mixed_5 18 rfl rfl)
theorem dX0_mixed_137 : decode cX0_mixed 137 = .ok (.invokestatic 386, 3) := dk_184 1 130 (dk_at dksX0_mixed_5 19 rfl rfl)
theorem dX0_mixed_140 : decode cX0_mixed 140 = .ok (.l2i, 1) := dk_136 (dk_at dksX0_mixed_5 22 rfl rfl)
theorem dX0_mixed_141 : decode cX0_mixed 141 = .ok (.ireturn, 1) := dk_172 (dk_at dksX0_mixed_5 23 rfl rfl)
abbrev cX0_part : ByteArray := prog_1_method_80_code
def yX0_part : MethodName := ⟨RX0, "part", "(JJZ)J"⟩
def dkwX0_part_0 : List UInt8 := [21, 4, 153, 0, 7, 32, 167, 0, 4, 30, 32, 30, 184, 1, 124, 109, 173]
abbrev dktX0_part_0 : List UInt8 := dkwX0_part_0 ++ []
theorem dksX0_part_0 : cX0_part.data.toList.drop 0 = dktX0_part_0 := by decide +kernel
theorem dX0_part_0 : decode cX0_part 0 = .ok (.iload 4, 2) := dk_21 4 (dk_at dksX0_part_0 0 rfl rfl)
theorem dX0_part_2 : decode cX0_part 2 = .ok (.ifCond .eq 7, 3) := dk_153 0 7 (dk_at dksX0_part_0 2 rfl rfl)
theorem dX0_part_5 : decode cX0_part 5 = .ok (.lload_n 2, 1) := dk_32 (dk_at dksX0_part_0 5 rfl rfl)
theorem dX0_part_6 : decode cX0_part 6 = .ok (.goto 4, 3) := dk_167 0 4 (dk_at dksX0_part_0 6 rfl rfl)
theorem dX0_part_9 : decode cX0_part 9 = .ok (.lload_n 0, 1) := dk_30 (dk_at dksX0_part_0 9 rfl rfl)
theorem dX0_part_10 : decode cX0_part 10 = .ok (.lload_n 2, 1) := dk_32 (dk_at dksX0_part_0 10 rfl rfl)
theorem dX0_part_11 : decode cX0_part 11 = .ok (.lload_n 0, 1) := dk_30 (dk_at dksX0_part_0 11 rfl rfl)
theorem dX0_part_12 : decode cX0_part 12 = .ok (.invokestatic 380, 3) := dk_184 1 124 (dk_at dksX0_part_0 12 rfl rfl)
theorem dX0_part_15 : decode cX0_part 15 = .ok (.ldiv, 1) := dk_109 (dk_at dksX0_part_0 15 rfl rfl)
theorem dX0_part_16 : decode cX0_part 16 = .ok (.lreturn, 1) := dk_173 (dk_at dksX0_part_0 16 rfl rfl)
abbrev cX0_common : ByteArray := prog_1_method_79_code
def yX0_common : MethodName := ⟨RX0, "common", "(JJ)J"⟩
def dkwX0_common_0 : List UInt8 := [32, 9, 148, 154, 0, 7, 30, 167, 0, 10, 32, 30, 32, 113, 184, 1, 124, 173]
abbrev dktX0_common_0 : List UInt8 := dkwX0_common_0 ++ []
theorem dksX0_common_0 : cX0_common.data.toList.drop 0 = dktX0_common_0 := by decide +kernel
theorem dX0_common_0 : decode cX0_common 0 = .ok (.lload_n 2, 1) := dk_32 (dk_at dksX0_common_0 0 rfl rfl)
theorem dX0_common_1 : decode cX0_common 1 = .ok (.lconst 0, 1) := dk_9 (dk_at dksX0_common_0 1 rfl rfl)
theorem dX0_common_2 : decode cX0_common 2 = .ok (.lcmp, 1) := dk_148 (dk_at dksX0_common_0 2 rfl rfl)
theorem dX0_common_3 : decode cX0_common 3 = .ok (.ifCond .ne 7, 3) := dk_154 0 7 (dk_at dksX0_common_0 3 rfl rfl)
theorem dX0_common_6 : decode cX0_common 6 = .ok (.lload_n 0, 1) := dk_30 (dk_at dksX0_common_0 6 rfl rfl)
theorem dX0_common_7 : decode cX0_common 7 = .ok (.goto 10, 3) := dk_167 0 10 (dk_at dksX0_common_0 7 rfl rfl)
theorem dX0_common_10 : decode cX0_common 10 = .ok (.lload_n 2, 1) := dk_32 (dk_at dksX0_common_0 10 rfl rfl)
theorem dX0_common_11 : decode cX0_common 11 = .ok (.lload_n 0, 1) := dk_30 (dk_at dksX0_common_0 11 rfl rfl)
theorem dX0_common_12 : decode cX0_common 12 = .ok (.lload_n 2, 1) := dk_32 (dk_at dksX0_common_0 12 rfl rfl)
theorem dX0_common_13 : decode cX0_common 13 = .ok (.lrem, 1) := dk_113 (dk_at dksX0_common_0 13 rfl rfl)
theorem dX0_common_14 : decode cX0_common 14 = .ok (.invokestatic 380, 3) := dk_184 1 124 (dk_at dksX0_common_0 14 rfl rfl)
theorem dX0_common_17 : decode cX0_common 17 = .ok (.lreturn, 1) := dk_173 (dk_at dksX0_common_0 17 rfl rfl)
abbrev cX0_saying : ByteArray := prog_1_method_82_code
def yX0_saying : MethodName := ⟨RX0, "saying", "(II)I"⟩
def dkwX0_saying_2 : List UInt8 := [42, 180, 0, 21, 42, 180, 0, 21, 180, 1, 134, 8, 27, 28, 182, 1, 94, 167, 0, 5, 16, 254, 172]
abbrev dktX0_saying_2 : List UInt8 := dkwX0_saying_2 ++ []
def dkwX0_saying_1 : List UInt8 := [28, 4, 16, 99, 184, 0, 72, 153, 0, 37, 42, 180, 0, 21, 180, 0, 65, 8, 46, 16, 8, 162, 0, 23]
abbrev dktX0_saying_1 : List UInt8 := dkwX0_saying_1 ++ dktX0_saying_2
def dkwX0_saying_0 : List UInt8 := [27, 2, 160, 0, 12, 42, 180, 0, 21, 8, 182, 1, 85, 172, 27, 3, 16, 99, 184, 0, 72, 153, 0, 47]
abbrev dktX0_saying_0 : List UInt8 := dkwX0_saying_0 ++ dktX0_saying_1
theorem dksX0_saying_0 : cX0_saying.data.toList.drop 0 = dktX0_saying_0 := by decide +kernel
theorem dksX0_saying_1 : cX0_saying.data.toList.drop 24 = dktX0_saying_1 := dk_seg dksX0_saying_0 24 rfl rfl
theorem dksX0_saying_2 : cX0_saying.data.toList.drop 48 = dktX0_saying_2 := dk_seg dksX0_saying_1 24 rfl rfl
theorem dX0_saying_0 : decode cX0_saying 0 = .ok (.iload_n 1, 1) := dk_27 (dk_at dksX0_saying_0 0 rfl rfl)
theorem dX0_saying_1 : decode cX0_saying 1 = .ok (.iconst (-1), 1) := dk_2 (dk_at dksX0_saying_0 1 rfl rfl)
theorem dX0_saying_2 : decode cX0_saying 2 = .ok (.if_icmp .ne 12, 3) := dk_160 0 12 (dk_at dksX0_saying_0 2 rfl rfl)
theorem dX0_saying_5 : decode cX0_saying 5 = .ok (.aload_n 0, 1) := dk_42 (dk_at dksX0_saying_0 5 rfl rfl)
theorem dX0_saying_6 : decode cX0_saying 6 = .ok (.getfield 21, 3) := dk_180 0 21 (dk_at dksX0_saying_0 6 rfl rfl)
theorem dX0_saying_9 : decode cX0_saying 9 = .ok (.iconst 5, 1) := dk_8 (dk_at dksX0_saying_0 9 rfl rfl)
theorem dX0_saying_10 : decode cX0_saying 10 = .ok (.invokevirtual 341, 3) := dk_182 1 85 (dk_at dksX0_saying_0 10 rfl rfl)
theorem dX0_saying_13 : decode cX0_saying 13 = .ok (.ireturn, 1) := dk_172 (dk_at dksX0_saying_0 13 rfl rfl)
theorem dX0_saying_14 : decode cX0_saying 14 = .ok (.iload_n 1, 1) := dk_27 (dk_at dksX0_saying_0 14 rfl rfl)
theorem dX0_saying_15 : decode cX0_saying 15 = .ok (.iconst 0, 1) := dk_3 (dk_at dksX0_saying_0 15 rfl rfl)
theorem dX0_saying_16 : decode cX0_saying 16 = .ok (.bipush 99, 2) := dk_16 99 (dk_at dksX0_saying_0 16 rfl rfl)
theorem dX0_saying_18 : decode cX0_saying 18 = .ok (.invokestatic 72, 3) := dk_184 0 72 (dk_at dksX0_saying_0 18 rfl rfl)
theorem dX0_saying_21 : decode cX0_saying 21 = .ok (.ifCond .eq 47, 3) := dk_153 0 47 (dk_at dksX0_saying_0 21 rfl rfl)
theorem dX0_saying_24 : decode cX0_saying 24 = .ok (.iload_n 2, 1) := dk_28 (dk_at dksX0_saying_1 0 rfl rfl)
theorem dX0_saying_25 : decode cX0_saying 25 = .ok (.iconst 1, 1) := dk_4 (dk_at dksX0_saying_1 1 rfl rfl)
theorem dX0_saying_26 : decode cX0_saying 26 = .ok (.bipush 99, 2) := dk_16 99 (dk_at dksX0_saying_1 2 rfl rfl)
theorem dX0_saying_28 : decode cX0_saying 28 = .ok (.invokestatic 72, 3) := dk_184 0 72 (dk_at dksX0_saying_1 4 rfl rfl)
theorem dX0_saying_31 : decode cX0_saying 31 = .ok (.ifCond .eq 37, 3) := dk_153 0 37 (dk_at dksX0_saying_1 7 rfl rfl)
theorem dX0_saying_34 : decode cX0_saying 34 = .ok (.aload_n 0, 1) := dk_42 (dk_at dksX0_saying_1 10 rfl rfl)
theorem dX0_saying_35 : decode cX0_saying 35 = .ok (.getfield 21, 3) := dk_180 0 21 (dk_at dksX0_saying_1 11 rfl rfl)
theorem dX0_saying_38 : decode cX0_saying 38 = .ok (.getfield 65, 3) := dk_180 0 65 (dk_at dksX0_saying_1 14 rfl rfl)
theorem dX0_saying_41 : decode cX0_saying 41 = .ok (.iconst 5, 1) := dk_8 (dk_at dksX0_saying_1 17 rfl rfl)
theorem dX0_saying_42 : decode cX0_saying 42 = .ok (.iaload, 1) := dk_46 (dk_at dksX0_saying_1 18 rfl rfl)
theorem dX0_saying_43 : decode cX0_saying 43 = .ok (.bipush 8, 2) := dk_16 8 (dk_at dksX0_saying_1 19 rfl rfl)
theorem dX0_saying_45 : decode cX0_saying 45 = .ok (.if_icmp .ge 23, 3) := dk_162 0 23 (dk_at dksX0_saying_1 21 rfl rfl)
theorem dX0_saying_48 : decode cX0_saying 48 = .ok (.aload_n 0, 1) := dk_42 (dk_at dksX0_saying_2 0 rfl rfl)
theorem dX0_saying_49 : decode cX0_saying 49 = .ok (.getfield 21, 3) := dk_180 0 21 (dk_at dksX0_saying_2 1 rfl rfl)
theorem dX0_saying_52 : decode cX0_saying 52 = .ok (.aload_n 0, 1) := dk_42 (dk_at dksX0_saying_2 4 rfl rfl)
theorem dX0_saying_53 : decode cX0_saying 53 = .ok (.getfield 21, 3) := dk_180 0 21 (dk_at dksX0_saying_2 5 rfl rfl)
theorem dX0_saying_56 : decode cX0_saying 56 = .ok (.getfield 390, 3) := dk_180 1 134 (dk_at dksX0_saying_2 8 rfl rfl)
theorem dX0_saying_59 : decode cX0_saying 59 = .ok (.iconst 5, 1) := dk_8 (dk_at dksX0_saying_2 11 rfl rfl)
theorem dX0_saying_60 : decode cX0_saying 60 = .ok (.iload_n 1, 1) := dk_27 (dk_at dksX0_saying_2 12 rfl rfl)
theorem dX0_saying_61 : decode cX0_saying 61 = .ok (.iload_n 2, 1) := dk_28 (dk_at dksX0_saying_2 13 rfl rfl)
theorem dX0_saying_62 : decode cX0_saying 62 = .ok (.invokevirtual 350, 3) := dk_182 1 94 (dk_at dksX0_saying_2 14 rfl rfl)
theorem dX0_saying_65 : decode cX0_saying 65 = .ok (.goto 5, 3) := dk_167 0 5 (dk_at dksX0_saying_2 17 rfl rfl)
theorem dX0_saying_68 : decode cX0_saying 68 = .ok (.bipush (-2), 2) := dk_16 254 (dk_at dksX0_saying_2 20 rfl rfl)
theorem dX0_saying_70 : decode cX0_saying 70 = .ok (.ireturn, 1) := dk_172 (dk_at dksX0_saying_2 22 rfl rfl)
abbrev cX0_least : ByteArray := prog_1_method_85_code
def yX0_least : MethodName := ⟨RX0, "least", "(IZ)I"⟩
def dkwX0_least_3 : List UInt8 := [153, 0, 17, 29, 2, 159, 0, 12, 42, 29, 3, 182, 1, 137, 167, 0, 4, 29, 172]
abbrev dktX0_least_3 : List UInt8 := dkwX0_least_3 ++ []
def dkwX0_least_2 : List UInt8 := [2, 159, 0, 13, 42, 21, 4, 29, 182, 1, 145, 153, 0, 6, 21, 4, 62, 132, 4, 1, 167, 255, 208, 28]
abbrev dktX0_least_2 : List UInt8 := dkwX0_least_2 ++ dktX0_least_3
def dkwX0_least_1 : List UInt8 := [180, 0, 21, 180, 0, 65, 8, 46, 120, 162, 0, 38, 42, 21, 4, 4, 182, 1, 137, 27, 161, 0, 21, 29]
abbrev dktX0_least_1 : List UInt8 := dkwX0_least_1 ++ dktX0_least_2
def dkwX0_least_0 : List UInt8 := [27, 3, 17, 3, 231, 184, 0, 72, 154, 0, 5, 2, 172, 2, 62, 3, 54, 4, 21, 4, 4, 42]
abbrev dktX0_least_0 : List UInt8 := dkwX0_least_0 ++ dktX0_least_1
theorem dksX0_least_0 : cX0_least.data.toList.drop 0 = dktX0_least_0 := by decide +kernel
theorem dksX0_least_1 : cX0_least.data.toList.drop 22 = dktX0_least_1 := dk_seg dksX0_least_0 22 rfl rfl
theorem dksX0_least_2 : cX0_least.data.toList.drop 46 = dktX0_least_2 := dk_seg dksX0_least_1 24 rfl rfl
theorem dksX0_least_3 : cX0_least.data.toList.drop 70 = dktX0_least_3 := dk_seg dksX0_least_2 24 rfl rfl
theorem dX0_least_0 : decode cX0_least 0 = .ok (.iload_n 1, 1) := dk_27 (dk_at dksX0_least_0 0 rfl rfl)
theorem dX0_least_1 : decode cX0_least 1 = .ok (.iconst 0, 1) := dk_3 (dk_at dksX0_least_0 1 rfl rfl)
theorem dX0_least_2 : decode cX0_least 2 = .ok (.sipush 999, 3) := dk_17 3 231 (dk_at dksX0_least_0 2 rfl rfl)
theorem dX0_least_5 : decode cX0_least 5 = .ok (.invokestatic 72, 3) := dk_184 0 72 (dk_at dksX0_least_0 5 rfl rfl)
theorem dX0_least_8 : decode cX0_least 8 = .ok (.ifCond .ne 5, 3) := dk_154 0 5 (dk_at dksX0_least_0 8 rfl rfl)
theorem dX0_least_11 : decode cX0_least 11 = .ok (.iconst (-1), 1) := dk_2 (dk_at dksX0_least_0 11 rfl rfl)
theorem dX0_least_12 : decode cX0_least 12 = .ok (.ireturn, 1) := dk_172 (dk_at dksX0_least_0 12 rfl rfl)
theorem dX0_least_13 : decode cX0_least 13 = .ok (.iconst (-1), 1) := dk_2 (dk_at dksX0_least_0 13 rfl rfl)
theorem dX0_least_14 : decode cX0_least 14 = .ok (.istore_n 3, 1) := dk_62 (dk_at dksX0_least_0 14 rfl rfl)
theorem dX0_least_15 : decode cX0_least 15 = .ok (.iconst 0, 1) := dk_3 (dk_at dksX0_least_0 15 rfl rfl)
theorem dX0_least_16 : decode cX0_least 16 = .ok (.istore 4, 2) := dk_54 4 (dk_at dksX0_least_0 16 rfl rfl)
theorem dX0_least_18 : decode cX0_least 18 = .ok (.iload 4, 2) := dk_21 4 (dk_at dksX0_least_0 18 rfl rfl)
theorem dX0_least_20 : decode cX0_least 20 = .ok (.iconst 1, 1) := dk_4 (dk_at dksX0_least_0 20 rfl rfl)
theorem dX0_least_21 : decode cX0_least 21 = .ok (.aload_n 0, 1) := dk_42 (dk_at dksX0_least_0 21 rfl rfl)
theorem dX0_least_22 : decode cX0_least 22 = .ok (.getfield 21, 3) := dk_180 0 21 (dk_at dksX0_least_1 0 rfl rfl)
theorem dX0_least_25 : decode cX0_least 25 = .ok (.getfield 65, 3) := dk_180 0 65 (dk_at dksX0_least_1 3 rfl rfl)
theorem dX0_least_28 : decode cX0_least 28 = .ok (.iconst 5, 1) := dk_8 (dk_at dksX0_least_1 6 rfl rfl)
theorem dX0_least_29 : decode cX0_least 29 = .ok (.iaload, 1) := dk_46 (dk_at dksX0_least_1 7 rfl rfl)
theorem dX0_least_30 : decode cX0_least 30 = .ok (.ishl, 1) := dk_120 (dk_at dksX0_least_1 8 rfl rfl)
theorem dX0_least_31 : decode cX0_least 31 = .ok (.if_icmp .ge 38, 3) := dk_162 0 38 (dk_at dksX0_least_1 9 rfl rfl)
theorem dX0_least_34 : decode cX0_least 34 = .ok (.aload_n 0, 1) := dk_42 (dk_at dksX0_least_1 12 rfl rfl)
theorem dX0_least_35 : decode cX0_least 35 = .ok (.iload 4, 2) := dk_21 4 (dk_at dksX0_least_1 13 rfl rfl)
theorem dX0_least_37 : decode cX0_least 37 = .ok (.iconst 1, 1) := dk_4 (dk_at dksX0_least_1 15 rfl rfl)
theorem dX0_least_38 : decode cX0_least 38 = .ok (.invokevirtual 393, 3) := dk_182 1 137 (dk_at dksX0_least_1 16 rfl rfl)
theorem dX0_least_41 : decode cX0_least 41 = .ok (.iload_n 1, 1) := dk_27 (dk_at dksX0_least_1 19 rfl rfl)
theorem dX0_least_42 : decode cX0_least 42 = .ok (.if_icmp .lt 21, 3) := dk_161 0 21 (dk_at dksX0_least_1 20 rfl rfl)
theorem dX0_least_45 : decode cX0_least 45 = .ok (.iload_n 3, 1) := dk_29 (dk_at dksX0_least_1 23 rfl rfl)
theorem dX0_least_46 : decode cX0_least 46 = .ok (.iconst (-1), 1) := dk_2 (dk_at dksX0_least_2 0 rfl rfl)
theorem dX0_least_47 : decode cX0_least 47 = .ok (.if_icmp .eq 13, 3) := dk_159 0 13 (dk_at dksX0_least_2 1 rfl rfl)
theorem dX0_least_50 : decode cX0_least 50 = .ok (.aload_n 0, 1) := dk_42 (dk_at dksX0_least_2 4 rfl rfl)
theorem dX0_least_51 : decode cX0_least 51 = .ok (.iload 4, 2) := dk_21 4 (dk_at dksX0_least_2 5 rfl rfl)
theorem dX0_least_53 : decode cX0_least 53 = .ok (.iload_n 3, 1) := dk_29 (dk_at dksX0_least_2 7 rfl rfl)
theorem dX0_least_54 : decode cX0_least 54 = .ok (.invokevirtual 401, 3) := dk_182 1 145 (dk_at dksX0_least_2 8 rfl rfl)
theorem dX0_least_57 : decode cX0_least 57 = .ok (.ifCond .eq 6, 3) := dk_153 0 6 (dk_at dksX0_least_2 11 rfl rfl)
theorem dX0_least_60 : decode cX0_least 60 = .ok (.iload 4, 2) := dk_21 4 (dk_at dksX0_least_2 14 rfl rfl)
theorem dX0_least_62 : decode cX0_least 62 = .ok (.istore_n 3, 1) := dk_62 (dk_at dksX0_least_2 16 rfl rfl)
theorem dX0_least_63 : decode cX0_least 63 = .ok (.iinc 4 1, 3) := dk_132 4 1 (dk_at dksX0_least_2 17 rfl rfl)
theorem dX0_least_66 : decode cX0_least 66 = .ok (.goto (-48), 3) := dk_167 255 208 (dk_at dksX0_least_2 20 rfl rfl)
theorem dX0_least_69 : decode cX0_least 69 = .ok (.iload_n 2, 1) := dk_28 (dk_at dksX0_least_2 23 rfl rfl)
theorem dX0_least_70 : decode cX0_least 70 = .ok (.ifCond .eq 17, 3) := dk_153 0 17 (dk_at dksX0_least_3 0 rfl rfl)
theorem dX0_least_73 : decode cX0_least 73 = .ok (.iload_n 3, 1) := dk_29 (dk_at dksX0_least_3 3 rfl rfl)
theorem dX0_least_74 : decode cX0_least 74 = .ok (.iconst (-1), 1) := dk_2 (dk_at dksX0_least_3 4 rfl rfl)
theorem dX0_least_75 : decode cX0_least 75 = .ok (.if_icmp .eq 12, 3) := dk_159 0 12 (dk_at dksX0_least_3 5 rfl rfl)
theorem dX0_least_78 : decode cX0_least 78 = .ok (.aload_n 0, 1) := dk_42 (dk_at dksX0_least_3 8 rfl rfl)
theorem dX0_least_79 : decode cX0_least 79 = .ok (.iload_n 3, 1) := dk_29 (dk_at dksX0_least_3 9 rfl rfl)
theorem dX0_least_80 : decode cX0_least 80 = .ok (.iconst 0, 1) := dk_3 (dk_at dksX0_least_3 10 rfl rfl)
theorem dX0_least_81 : decode cX0_least 81 = .ok (.invokevirtual 393, 3) := dk_182 1 137 (dk_at dksX0_least_3 11 rfl rfl)
theorem dX0_least_84 : decode cX0_least 84 = .ok (.goto 4, 3) := dk_167 0 4 (dk_at dksX0_least_3 14 rfl rfl)
theorem dX0_least_87 : decode cX0_least 87 = .ok (.iload_n 3, 1) := dk_29 (dk_at dksX0_least_3 17 rfl rfl)
theorem dX0_least_88 : decode cX0_least 88 = .ok (.ireturn, 1) := dk_172 (dk_at dksX0_least_3 18 rfl rfl)
abbrev cX0_sumOf : ByteArray := prog_1_method_83_code
def yX0_sumOf : MethodName := ⟨RX0, "sumOf", "(II)I"⟩
def dkwX0_sumOf_2 : List UInt8 := [132, 4, 1, 167, 255, 211, 29, 172]
abbrev dktX0_sumOf_2 : List UInt8 := dkwX0_sumOf_2 ++ []
def dkwX0_sumOf_1 : List UInt8 := [184, 0, 158, 153, 0, 18, 42, 180, 0, 21, 180, 1, 134, 21, 4, 50, 28, 46, 167, 0, 4, 3, 96, 62]
abbrev dktX0_sumOf_1 : List UInt8 := dkwX0_sumOf_1 ++ dktX0_sumOf_2
def dkwX0_sumOf_0 : List UInt8 := [3, 62, 3, 54, 4, 21, 4, 42, 180, 0, 21, 180, 0, 65, 8, 46, 162, 0, 37, 29, 27, 21, 4]
abbrev dktX0_sumOf_0 : List UInt8 := dkwX0_sumOf_0 ++ dktX0_sumOf_1
theorem dksX0_sumOf_0 : cX0_sumOf.data.toList.drop 0 = dktX0_sumOf_0 := by decide +kernel
theorem dksX0_sumOf_1 : cX0_sumOf.data.toList.drop 23 = dktX0_sumOf_1 := dk_seg dksX0_sumOf_0 23 rfl rfl
theorem dksX0_sumOf_2 : cX0_sumOf.data.toList.drop 47 = dktX0_sumOf_2 := dk_seg dksX0_sumOf_1 24 rfl rfl
theorem dX0_sumOf_0 : decode cX0_sumOf 0 = .ok (.iconst 0, 1) := dk_3 (dk_at dksX0_sumOf_0 0 rfl rfl)
theorem dX0_sumOf_1 : decode cX0_sumOf 1 = .ok (.istore_n 3, 1) := dk_62 (dk_at dksX0_sumOf_0 1 rfl rfl)
theorem dX0_sumOf_2 : decode cX0_sumOf 2 = .ok (.iconst 0, 1) := dk_3 (dk_at dksX0_sumOf_0 2 rfl rfl)
theorem dX0_sumOf_3 : decode cX0_sumOf 3 = .ok (.istore 4, 2) := dk_54 4 (dk_at dksX0_sumOf_0 3 rfl rfl)
theorem dX0_sumOf_5 : decode cX0_sumOf 5 = .ok (.iload 4, 2) := dk_21 4 (dk_at dksX0_sumOf_0 5 rfl rfl)
theorem dX0_sumOf_7 : decode cX0_sumOf 7 = .ok (.aload_n 0, 1) := dk_42 (dk_at dksX0_sumOf_0 7 rfl rfl)
theorem dX0_sumOf_8 : decode cX0_sumOf 8 = .ok (.getfield 21, 3) := dk_180 0 21 (dk_at dksX0_sumOf_0 8 rfl rfl)
theorem dX0_sumOf_11 : decode cX0_sumOf 11 = .ok (.getfield 65, 3) := dk_180 0 65 (dk_at dksX0_sumOf_0 11 rfl rfl)
theorem dX0_sumOf_14 : decode cX0_sumOf 14 = .ok (.iconst 5, 1) := dk_8 (dk_at dksX0_sumOf_0 14 rfl rfl)
theorem dX0_sumOf_15 : decode cX0_sumOf 15 = .ok (.iaload, 1) := dk_46 (dk_at dksX0_sumOf_0 15 rfl rfl)
theorem dX0_sumOf_16 : decode cX0_sumOf 16 = .ok (.if_icmp .ge 37, 3) := dk_162 0 37 (dk_at dksX0_sumOf_0 16 rfl rfl)
theorem dX0_sumOf_19 : decode cX0_sumOf 19 = .ok (.iload_n 3, 1) := dk_29 (dk_at dksX0_sumOf_0 19 rfl rfl)
theorem dX0_sumOf_20 : decode cX0_sumOf 20 = .ok (.iload_n 1, 1) := dk_27 (dk_at dksX0_sumOf_0 20 rfl rfl)
theorem dX0_sumOf_21 : decode cX0_sumOf 21 = .ok (.iload 4, 2) := dk_21 4 (dk_at dksX0_sumOf_0 21 rfl rfl)
theorem dX0_sumOf_23 : decode cX0_sumOf 23 = .ok (.invokestatic 158, 3) := dk_184 0 158 (dk_at dksX0_sumOf_1 0 rfl rfl)
theorem dX0_sumOf_26 : decode cX0_sumOf 26 = .ok (.ifCond .eq 18, 3) := dk_153 0 18 (dk_at dksX0_sumOf_1 3 rfl rfl)
theorem dX0_sumOf_29 : decode cX0_sumOf 29 = .ok (.aload_n 0, 1) := dk_42 (dk_at dksX0_sumOf_1 6 rfl rfl)
theorem dX0_sumOf_30 : decode cX0_sumOf 30 = .ok (.getfield 21, 3) := dk_180 0 21 (dk_at dksX0_sumOf_1 7 rfl rfl)
theorem dX0_sumOf_33 : decode cX0_sumOf 33 = .ok (.getfield 390, 3) := dk_180 1 134 (dk_at dksX0_sumOf_1 10 rfl rfl)
theorem dX0_sumOf_36 : decode cX0_sumOf 36 = .ok (.iload 4, 2) := dk_21 4 (dk_at dksX0_sumOf_1 13 rfl rfl)
theorem dX0_sumOf_38 : decode cX0_sumOf 38 = .ok (.aaload, 1) := dk_50 (dk_at dksX0_sumOf_1 15 rfl rfl)
theorem dX0_sumOf_39 : decode cX0_sumOf 39 = .ok (.iload_n 2, 1) := dk_28 (dk_at dksX0_sumOf_1 16 rfl rfl)
theorem dX0_sumOf_40 : decode cX0_sumOf 40 = .ok (.iaload, 1) := dk_46 (dk_at dksX0_sumOf_1 17 rfl rfl)
theorem dX0_sumOf_41 : decode cX0_sumOf 41 = .ok (.goto 4, 3) := dk_167 0 4 (dk_at dksX0_sumOf_1 18 rfl rfl)
theorem dX0_sumOf_44 : decode cX0_sumOf 44 = .ok (.iconst 0, 1) := dk_3 (dk_at dksX0_sumOf_1 21 rfl rfl)
theorem dX0_sumOf_45 : decode cX0_sumOf 45 = .ok (.iadd, 1) := dk_96 (dk_at dksX0_sumOf_1 22 rfl rfl)
theorem dX0_sumOf_46 : decode cX0_sumOf 46 = .ok (.istore_n 3, 1) := dk_62 (dk_at dksX0_sumOf_1 23 rfl rfl)
theorem dX0_sumOf_47 : decode cX0_sumOf 47 = .ok (.iinc 4 1, 3) := dk_132 4 1 (dk_at dksX0_sumOf_2 0 rfl rfl)
theorem dX0_sumOf_50 : decode cX0_sumOf 50 = .ok (.goto (-45), 3) := dk_167 255 211 (dk_at dksX0_sumOf_2 3 rfl rfl)
theorem dX0_sumOf_53 : decode cX0_sumOf 53 = .ok (.iload_n 3, 1) := dk_29 (dk_at dksX0_sumOf_2 6 rfl rfl)
theorem dX0_sumOf_54 : decode cX0_sumOf 54 = .ok (.ireturn, 1) := dk_172 (dk_at dksX0_sumOf_2 7 rfl rfl)
abbrev cX0_isLess : ByteArray := prog_1_method_84_code
def yX0_isLess : MethodName := ⟨RX0, "isLess", "(II)Z"⟩
def dkwX0_isLess_1 : List UInt8 := [182, 1, 137, 160, 0, 18, 27, 184, 1, 140, 28, 184, 1, 140, 162, 0, 7, 4, 167, 0, 4, 3, 172]
abbrev dktX0_isLess_1 : List UInt8 := dkwX0_isLess_1 ++ []
def dkwX0_isLess_0 : List UInt8 := [42, 27, 3, 182, 1, 137, 42, 28, 3, 182, 1, 137, 161, 0, 29, 42, 27, 3, 182, 1, 137, 42, 28, 3]
abbrev dktX0_isLess_0 : List UInt8 := dkwX0_isLess_0 ++ dktX0_isLess_1
theorem dksX0_isLess_0 : cX0_isLess.data.toList.drop 0 = dktX0_isLess_0 := by decide +kernel
theorem dksX0_isLess_1 : cX0_isLess.data.toList.drop 24 = dktX0_isLess_1 := dk_seg dksX0_isLess_0 24 rfl rfl
theorem dX0_isLess_0 : decode cX0_isLess 0 = .ok (.aload_n 0, 1) := dk_42 (dk_at dksX0_isLess_0 0 rfl rfl)
theorem dX0_isLess_1 : decode cX0_isLess 1 = .ok (.iload_n 1, 1) := dk_27 (dk_at dksX0_isLess_0 1 rfl rfl)
theorem dX0_isLess_2 : decode cX0_isLess 2 = .ok (.iconst 0, 1) := dk_3 (dk_at dksX0_isLess_0 2 rfl rfl)
theorem dX0_isLess_3 : decode cX0_isLess 3 = .ok (.invokevirtual 393, 3) := dk_182 1 137 (dk_at dksX0_isLess_0 3 rfl rfl)
theorem dX0_isLess_6 : decode cX0_isLess 6 = .ok (.aload_n 0, 1) := dk_42 (dk_at dksX0_isLess_0 6 rfl rfl)
theorem dX0_isLess_7 : decode cX0_isLess 7 = .ok (.iload_n 2, 1) := dk_28 (dk_at dksX0_isLess_0 7 rfl rfl)
theorem dX0_isLess_8 : decode cX0_isLess 8 = .ok (.iconst 0, 1) := dk_3 (dk_at dksX0_isLess_0 8 rfl rfl)
theorem dX0_isLess_9 : decode cX0_isLess 9 = .ok (.invokevirtual 393, 3) := dk_182 1 137 (dk_at dksX0_isLess_0 9 rfl rfl)
theorem dX0_isLess_12 : decode cX0_isLess 12 = .ok (.if_icmp .lt 29, 3) := dk_161 0 29 (dk_at dksX0_isLess_0 12 rfl rfl)
theorem dX0_isLess_15 : decode cX0_isLess 15 = .ok (.aload_n 0, 1) := dk_42 (dk_at dksX0_isLess_0 15 rfl rfl)
theorem dX0_isLess_16 : decode cX0_isLess 16 = .ok (.iload_n 1, 1) := dk_27 (dk_at dksX0_isLess_0 16 rfl rfl)
theorem dX0_isLess_17 : decode cX0_isLess 17 = .ok (.iconst 0, 1) := dk_3 (dk_at dksX0_isLess_0 17 rfl rfl)
theorem dX0_isLess_18 : decode cX0_isLess 18 = .ok (.invokevirtual 393, 3) := dk_182 1 137 (dk_at dksX0_isLess_0 18 rfl rfl)
theorem dX0_isLess_21 : decode cX0_isLess 21 = .ok (.aload_n 0, 1) := dk_42 (dk_at dksX0_isLess_0 21 rfl rfl)
theorem dX0_isLess_22 : decode cX0_isLess 22 = .ok (.iload_n 2, 1) := dk_28 (dk_at dksX0_isLess_0 22 rfl rfl)
theorem dX0_isLess_23 : decode cX0_isLess 23 = .ok (.iconst 0, 1) := dk_3 (dk_at dksX0_isLess_0 23 rfl rfl)
theorem dX0_isLess_24 : decode cX0_isLess 24 = .ok (.invokevirtual 393, 3) := dk_182 1 137 (dk_at dksX0_isLess_1 0 rfl rfl)
theorem dX0_isLess_27 : decode cX0_isLess 27 = .ok (.if_icmp .ne 18, 3) := dk_160 0 18 (dk_at dksX0_isLess_1 3 rfl rfl)
theorem dX0_isLess_30 : decode cX0_isLess 30 = .ok (.iload_n 1, 1) := dk_27 (dk_at dksX0_isLess_1 6 rfl rfl)
theorem dX0_isLess_31 : decode cX0_isLess 31 = .ok (.invokestatic 396, 3) := dk_184 1 140 (dk_at dksX0_isLess_1 7 rfl rfl)
theorem dX0_isLess_34 : decode cX0_isLess 34 = .ok (.iload_n 2, 1) := dk_28 (dk_at dksX0_isLess_1 10 rfl rfl)
theorem dX0_isLess_35 : decode cX0_isLess 35 = .ok (.invokestatic 396, 3) := dk_184 1 140 (dk_at dksX0_isLess_1 11 rfl rfl)
theorem dX0_isLess_38 : decode cX0_isLess 38 = .ok (.if_icmp .ge 7, 3) := dk_162 0 7 (dk_at dksX0_isLess_1 14 rfl rfl)
theorem dX0_isLess_41 : decode cX0_isLess 41 = .ok (.iconst 1, 1) := dk_4 (dk_at dksX0_isLess_1 17 rfl rfl)
theorem dX0_isLess_42 : decode cX0_isLess 42 = .ok (.goto 4, 3) := dk_167 0 4 (dk_at dksX0_isLess_1 18 rfl rfl)
theorem dX0_isLess_45 : decode cX0_isLess 45 = .ok (.iconst 0, 1) := dk_3 (dk_at dksX0_isLess_1 21 rfl rfl)
theorem dX0_isLess_46 : decode cX0_isLess 46 = .ok (.ireturn, 1) := dk_172 (dk_at dksX0_isLess_1 22 rfl rfl)
abbrev cX0_near : ByteArray := prog_1_method_86_code
def yX0_near : MethodName := ⟨RX0, "near", "(IIIZ)J"⟩
def dkwX0_near_5 : List UInt8 := [167, 255, 183, 22, 5, 22, 7, 21, 4, 184, 1, 130, 173]
abbrev dktX0_near_5 : List UInt8 := dkwX0_near_5 ++ []
def dkwX0_near_4 : List UInt8 := [162, 0, 8, 22, 10, 167, 0, 4, 9, 97, 55, 5, 22, 7, 22, 10, 97, 55, 7, 132, 9, 1]
abbrev dktX0_near_4 : List UInt8 := dkwX0_near_4 ++ dktX0_near_5
def dkwX0_near_3 : List UInt8 := [16, 10, 27, 100, 133, 167, 0, 5, 27, 133, 105, 55, 10, 132, 12, 1, 167, 255, 225, 22, 5, 21, 9, 28]
abbrev dktX0_near_3 : List UInt8 := dkwX0_near_3 ++ dktX0_near_4
def dkwX0_near_2 : List UInt8 := [162, 0, 73, 10, 55, 10, 4, 54, 12, 21, 12, 29, 162, 0, 31, 22, 10, 21, 12, 21, 9, 163, 0, 11]
abbrev dktX0_near_2 : List UInt8 := dkwX0_near_2 ++ dktX0_near_3
def dkwX0_near_1 : List UInt8 := [184, 0, 72, 154, 0, 7, 20, 1, 148, 173, 9, 55, 5, 9, 55, 7, 3, 54, 9, 21, 9, 29]
abbrev dktX0_near_1 : List UInt8 := dkwX0_near_1 ++ dktX0_near_2
def dkwX0_near_0 : List UInt8 := [27, 4, 16, 9, 184, 0, 72, 153, 0, 22, 29, 4, 16, 12, 184, 0, 72, 153, 0, 12, 28, 3, 29]
abbrev dktX0_near_0 : List UInt8 := dkwX0_near_0 ++ dktX0_near_1
theorem dksX0_near_0 : cX0_near.data.toList.drop 0 = dktX0_near_0 := by decide +kernel
theorem dksX0_near_1 : cX0_near.data.toList.drop 23 = dktX0_near_1 := dk_seg dksX0_near_0 23 rfl rfl
theorem dksX0_near_2 : cX0_near.data.toList.drop 45 = dktX0_near_2 := dk_seg dksX0_near_1 22 rfl rfl
theorem dksX0_near_3 : cX0_near.data.toList.drop 69 = dktX0_near_3 := dk_seg dksX0_near_2 24 rfl rfl
theorem dksX0_near_4 : cX0_near.data.toList.drop 93 = dktX0_near_4 := dk_seg dksX0_near_3 24 rfl rfl
theorem dksX0_near_5 : cX0_near.data.toList.drop 115 = dktX0_near_5 := dk_seg dksX0_near_4 22 rfl rfl
theorem dX0_near_0 : decode cX0_near 0 = .ok (.iload_n 1, 1) := dk_27 (dk_at dksX0_near_0 0 rfl rfl)
theorem dX0_near_1 : decode cX0_near 1 = .ok (.iconst 1, 1) := dk_4 (dk_at dksX0_near_0 1 rfl rfl)
theorem dX0_near_2 : decode cX0_near 2 = .ok (.bipush 9, 2) := dk_16 9 (dk_at dksX0_near_0 2 rfl rfl)
theorem dX0_near_4 : decode cX0_near 4 = .ok (.invokestatic 72, 3) := dk_184 0 72 (dk_at dksX0_near_0 4 rfl rfl)
theorem dX0_near_7 : decode cX0_near 7 = .ok (.ifCond .eq 22, 3) := dk_153 0 22 (dk_at dksX0_near_0 7 rfl rfl)
theorem dX0_near_10 : decode cX0_near 10 = .ok (.iload_n 3, 1) := dk_29 (dk_at dksX0_near_0 10 rfl rfl)
theorem dX0_near_11 : decode cX0_near 11 = .ok (.iconst 1, 1) := dk_4 (dk_at dksX0_near_0 11 rfl rfl)
theorem dX0_near_12 : decode cX0_near 12 = .ok (.bipush 12, 2) := dk_16 12 (dk_at dksX0_near_0 12 rfl rfl)
theorem dX0_near_14 : decode cX0_near 14 = .ok (.invokestatic 72, 3) := dk_184 0 72 (dk_at dksX0_near_0 14 rfl rfl)
theorem dX0_near_17 : decode cX0_near 17 = .ok (.ifCond .eq 12, 3) := dk_153 0 12 (dk_at dksX0_near_0 17 rfl rfl)
theorem dX0_near_20 : decode cX0_near 20 = .ok (.iload_n 2, 1) := dk_28 (dk_at dksX0_near_0 20 rfl rfl)
theorem dX0_near_21 : decode cX0_near 21 = .ok (.iconst 0, 1) := dk_3 (dk_at dksX0_near_0 21 rfl rfl)
theorem dX0_near_22 : decode cX0_near 22 = .ok (.iload_n 3, 1) := dk_29 (dk_at dksX0_near_0 22 rfl rfl)
theorem dX0_near_23 : decode cX0_near 23 = .ok (.invokestatic 72, 3) := dk_184 0 72 (dk_at dksX0_near_1 0 rfl rfl)
theorem dX0_near_26 : decode cX0_near 26 = .ok (.ifCond .ne 7, 3) := dk_154 0 7 (dk_at dksX0_near_1 3 rfl rfl)
theorem dX0_near_29 : decode cX0_near 29 = .ok (.ldc2_w 404, 3) := dk_20 1 148 (dk_at dksX0_near_1 6 rfl rfl)
theorem dX0_near_32 : decode cX0_near 32 = .ok (.lreturn, 1) := dk_173 (dk_at dksX0_near_1 9 rfl rfl)
theorem dX0_near_33 : decode cX0_near 33 = .ok (.lconst 0, 1) := dk_9 (dk_at dksX0_near_1 10 rfl rfl)
theorem dX0_near_34 : decode cX0_near 34 = .ok (.lstore 5, 2) := dk_55 5 (dk_at dksX0_near_1 11 rfl rfl)
theorem dX0_near_36 : decode cX0_near 36 = .ok (.lconst 0, 1) := dk_9 (dk_at dksX0_near_1 13 rfl rfl)
theorem dX0_near_37 : decode cX0_near 37 = .ok (.lstore 7, 2) := dk_55 7 (dk_at dksX0_near_1 14 rfl rfl)
theorem dX0_near_39 : decode cX0_near 39 = .ok (.iconst 0, 1) := dk_3 (dk_at dksX0_near_1 16 rfl rfl)
theorem dX0_near_40 : decode cX0_near 40 = .ok (.istore 9, 2) := dk_54 9 (dk_at dksX0_near_1 17 rfl rfl)
theorem dX0_near_42 : decode cX0_near 42 = .ok (.iload 9, 2) := dk_21 9 (dk_at dksX0_near_1 19 rfl rfl)
theorem dX0_near_44 : decode cX0_near 44 = .ok (.iload_n 3, 1) := dk_29 (dk_at dksX0_near_1 21 rfl rfl)
theorem dX0_near_45 : decode cX0_near 45 = .ok (.if_icmp .ge 73, 3) := dk_162 0 73 (dk_at dksX0_near_2 0 rfl rfl)
theorem dX0_near_48 : decode cX0_near 48 = .ok (.lconst 1, 1) := dk_10 (dk_at dksX0_near_2 3 rfl rfl)
theorem dX0_near_49 : decode cX0_near 49 = .ok (.lstore 10, 2) := dk_55 10 (dk_at dksX0_near_2 4 rfl rfl)
theorem dX0_near_51 : decode cX0_near 51 = .ok (.iconst 1, 1) := dk_4 (dk_at dksX0_near_2 6 rfl rfl)
theorem dX0_near_52 : decode cX0_near 52 = .ok (.istore 12, 2) := dk_54 12 (dk_at dksX0_near_2 7 rfl rfl)
theorem dX0_near_54 : decode cX0_near 54 = .ok (.iload 12, 2) := dk_21 12 (dk_at dksX0_near_2 9 rfl rfl)
theorem dX0_near_56 : decode cX0_near 56 = .ok (.iload_n 3, 1) := dk_29 (dk_at dksX0_near_2 11 rfl rfl)
theorem dX0_near_57 : decode cX0_near 57 = .ok (.if_icmp .ge 31, 3) := dk_162 0 31 (dk_at dksX0_near_2 12 rfl rfl)
theorem dX0_near_60 : decode cX0_near 60 = .ok (.lload 10, 2) := dk_22 10 (dk_at dksX0_near_2 15 rfl rfl)
theorem dX0_near_62 : decode cX0_near 62 = .ok (.iload 12, 2) := dk_21 12 (dk_at dksX0_near_2 17 rfl rfl)
theorem dX0_near_64 : decode cX0_near 64 = .ok (.iload 9, 2) := dk_21 9 (dk_at dksX0_near_2 19 rfl rfl)
theorem dX0_near_66 : decode cX0_near 66 = .ok (.if_icmp .gt 11, 3) := dk_163 0 11 (dk_at dksX0_near_2 21 rfl rfl)
theorem dX0_near_69 : decode cX0_near 69 = .ok (.bipush 10, 2) := dk_16 10 (dk_at dksX0_near_3 0 rfl rfl)
theorem dX0_near_71 : decode cX0_near 71 = .ok (.iload_n 1, 1) := dk_27 (dk_at dksX0_near_3 2 rfl rfl)
theorem dX0_near_72 : decode cX0_near 72 = .ok (.isub, 1) := dk_100 (dk_at dksX0_near_3 3 rfl rfl)
theorem dX0_near_73 : decode cX0_near 73 = .ok (.i2l, 1) := dk_133 (dk_at dksX0_near_3 4 rfl rfl)
theorem dX0_near_74 : decode cX0_near 74 = .ok (.goto 5, 3) := dk_167 0 5 (dk_at dksX0_near_3 5 rfl rfl)
theorem dX0_near_77 : decode cX0_near 77 = .ok (.iload_n 1, 1) := dk_27 (dk_at dksX0_near_3 8 rfl rfl)
theorem dX0_near_78 : decode cX0_near 78 = .ok (.i2l, 1) := dk_133 (dk_at dksX0_near_3 9 rfl rfl)
theorem dX0_near_79 : decode cX0_near 79 = .ok (.lmul, 1) := dk_105 (dk_at dksX0_near_3 10 rfl rfl)
theorem dX0_near_80 : decode cX0_near 80 = .ok (.lstore 10, 2) := dk_55 10 (dk_at dksX0_near_3 11 rfl rfl)
theorem dX0_near_82 : decode cX0_near 82 = .ok (.iinc 12 1, 3) := dk_132 12 1 (dk_at dksX0_near_3 13 rfl rfl)
theorem dX0_near_85 : decode cX0_near 85 = .ok (.goto (-31), 3) := dk_167 255 225 (dk_at dksX0_near_3 16 rfl rfl)
theorem dX0_near_88 : decode cX0_near 88 = .ok (.lload 5, 2) := dk_22 5 (dk_at dksX0_near_3 19 rfl rfl)
theorem dX0_near_90 : decode cX0_near 90 = .ok (.iload 9, 2) := dk_21 9 (dk_at dksX0_near_3 21 rfl rfl)
theorem dX0_near_92 : decode cX0_near 92 = .ok (.iload_n 2, 1) := dk_28 (dk_at dksX0_near_3 23 rfl rfl)
theorem dX0_near_93 : decode cX0_near 93 = .ok (.if_icmp .ge 8, 3) := dk_162 0 8 (dk_at dksX0_near_4 0 rfl rfl)
theorem dX0_near_96 : decode cX0_near 96 = .ok (.lload 10, 2) := dk_22 10 (dk_at dksX0_near_4 3 rfl rfl)
theorem dX0_near_98 : decode cX0_near 98 = .ok (.goto 4, 3) := dk_167 0 4 (dk_at dksX0_near_4 5 rfl rfl)
theorem dX0_near_101 : decode cX0_near 101 = .ok (.lconst 0, 1) := dk_9 (dk_at dksX0_near_4 8 rfl rfl)
theorem dX0_near_102 : decode cX0_near 102 = .ok (.ladd, 1) := dk_97 (dk_at dksX0_near_4 9 rfl rfl)
theorem dX0_near_103 : decode cX0_near 103 = .ok (.lstore 5, 2) := dk_55 5 (dk_at dksX0_near_4 10 rfl rfl)
theorem dX0_near_105 : decode cX0_near 105 = .ok (.lload 7, 2) := dk_22 7 (dk_at dksX0_near_4 12 rfl rfl)
theorem dX0_near_107 : decode cX0_near 107 = .ok (.lload 10, 2) := dk_22 10 (dk_at dksX0_near_4 14 rfl rfl)
theorem dX0_near_109 : decode cX0_near 109 = .ok (.ladd, 1) := dk_97 (dk_at dksX0_near_4 16 rfl rfl)
theorem dX0_near_110 : decode cX0_near 110 = .ok (.lstore 7, 2) := dk_55 7 (dk_at dksX0_near_4 17 rfl rfl)
theorem dX0_near_112 : decode cX0_near 112 = .ok (.iinc 9 1, 3) := dk_132 9 1 (dk_at dksX0_near_4 19 rfl rfl)
theorem dX0_near_115 : decode cX0_near 115 = .ok (.goto (-73), 3) := dk_167 255 183 (dk_at dksX0_near_5 0 rfl rfl)
theorem dX0_near_118 : decode cX0_near 118 = .ok (.lload 5, 2) := dk_22 5 (dk_at dksX0_near_5 3 rfl rfl)
theorem dX0_near_120 : decode cX0_near 120 = .ok (.lload 7, 2) := dk_22 7 (dk_at dksX0_near_5 5 rfl rfl)
theorem dX0_near_122 : decode cX0_near 122 = .ok (.iload 4, 2) := dk_21 4 (dk_at dksX0_near_5 7 rfl rfl)
theorem dX0_near_124 : decode cX0_near 124 = .ok (.invokestatic 386, 3) := dk_184 1 130 (dk_at dksX0_near_5 9 rfl rfl)
theorem dX0_near_127 : decode cX0_near 127 = .ok (.lreturn, 1) := dk_173 (dk_at dksX0_near_5 12 rfl rfl)
abbrev cX0_game : ByteArray := prog_1_method_92_code
def yX0_game : MethodName := ⟨RX0, "game", "(II)I"⟩
def dkwX0_game_2 : List UInt8 := [62, 132, 4, 1, 167, 255, 230, 42, 29, 182, 1, 160, 153, 0, 7, 4, 167, 0, 4, 3, 172]
abbrev dktX0_game_2 : List UInt8 := dkwX0_game_2 ++ []
def dkwX0_game_1 : List UInt8 := [54, 4, 21, 4, 8, 162, 0, 26, 16, 10, 29, 104, 21, 4, 27, 162, 0, 7, 28, 167, 0, 4, 3, 96]
abbrev dktX0_game_1 : List UInt8 := dkwX0_game_1 ++ dktX0_game_2
def dkwX0_game_0 : List UInt8 := [27, 4, 8, 184, 0, 72, 153, 0, 12, 28, 4, 8, 184, 0, 72, 154, 0, 5, 2, 172, 3, 62, 3]
abbrev dktX0_game_0 : List UInt8 := dkwX0_game_0 ++ dktX0_game_1
theorem dksX0_game_0 : cX0_game.data.toList.drop 0 = dktX0_game_0 := by decide +kernel
theorem dksX0_game_1 : cX0_game.data.toList.drop 23 = dktX0_game_1 := dk_seg dksX0_game_0 23 rfl rfl
theorem dksX0_game_2 : cX0_game.data.toList.drop 47 = dktX0_game_2 := dk_seg dksX0_game_1 24 rfl rfl
theorem dX0_game_0 : decode cX0_game 0 = .ok (.iload_n 1, 1) := dk_27 (dk_at dksX0_game_0 0 rfl rfl)
theorem dX0_game_1 : decode cX0_game 1 = .ok (.iconst 1, 1) := dk_4 (dk_at dksX0_game_0 1 rfl rfl)
theorem dX0_game_2 : decode cX0_game 2 = .ok (.iconst 5, 1) := dk_8 (dk_at dksX0_game_0 2 rfl rfl)
theorem dX0_game_3 : decode cX0_game 3 = .ok (.invokestatic 72, 3) := dk_184 0 72 (dk_at dksX0_game_0 3 rfl rfl)
theorem dX0_game_6 : decode cX0_game 6 = .ok (.ifCond .eq 12, 3) := dk_153 0 12 (dk_at dksX0_game_0 6 rfl rfl)
theorem dX0_game_9 : decode cX0_game 9 = .ok (.iload_n 2, 1) := dk_28 (dk_at dksX0_game_0 9 rfl rfl)
theorem dX0_game_10 : decode cX0_game 10 = .ok (.iconst 1, 1) := dk_4 (dk_at dksX0_game_0 10 rfl rfl)
theorem dX0_game_11 : decode cX0_game 11 = .ok (.iconst 5, 1) := dk_8 (dk_at dksX0_game_0 11 rfl rfl)
theorem dX0_game_12 : decode cX0_game 12 = .ok (.invokestatic 72, 3) := dk_184 0 72 (dk_at dksX0_game_0 12 rfl rfl)
theorem dX0_game_15 : decode cX0_game 15 = .ok (.ifCond .ne 5, 3) := dk_154 0 5 (dk_at dksX0_game_0 15 rfl rfl)
theorem dX0_game_18 : decode cX0_game 18 = .ok (.iconst (-1), 1) := dk_2 (dk_at dksX0_game_0 18 rfl rfl)
theorem dX0_game_19 : decode cX0_game 19 = .ok (.ireturn, 1) := dk_172 (dk_at dksX0_game_0 19 rfl rfl)
theorem dX0_game_20 : decode cX0_game 20 = .ok (.iconst 0, 1) := dk_3 (dk_at dksX0_game_0 20 rfl rfl)
theorem dX0_game_21 : decode cX0_game 21 = .ok (.istore_n 3, 1) := dk_62 (dk_at dksX0_game_0 21 rfl rfl)
theorem dX0_game_22 : decode cX0_game 22 = .ok (.iconst 0, 1) := dk_3 (dk_at dksX0_game_0 22 rfl rfl)
theorem dX0_game_23 : decode cX0_game 23 = .ok (.istore 4, 2) := dk_54 4 (dk_at dksX0_game_1 0 rfl rfl)
theorem dX0_game_25 : decode cX0_game 25 = .ok (.iload 4, 2) := dk_21 4 (dk_at dksX0_game_1 2 rfl rfl)
theorem dX0_game_27 : decode cX0_game 27 = .ok (.iconst 5, 1) := dk_8 (dk_at dksX0_game_1 4 rfl rfl)
theorem dX0_game_28 : decode cX0_game 28 = .ok (.if_icmp .ge 26, 3) := dk_162 0 26 (dk_at dksX0_game_1 5 rfl rfl)
theorem dX0_game_31 : decode cX0_game 31 = .ok (.bipush 10, 2) := dk_16 10 (dk_at dksX0_game_1 8 rfl rfl)
theorem dX0_game_33 : decode cX0_game 33 = .ok (.iload_n 3, 1) := dk_29 (dk_at dksX0_game_1 10 rfl rfl)
theorem dX0_game_34 : decode cX0_game 34 = .ok (.imul, 1) := dk_104 (dk_at dksX0_game_1 11 rfl rfl)
theorem dX0_game_35 : decode cX0_game 35 = .ok (.iload 4, 2) := dk_21 4 (dk_at dksX0_game_1 12 rfl rfl)
theorem dX0_game_37 : decode cX0_game 37 = .ok (.iload_n 1, 1) := dk_27 (dk_at dksX0_game_1 14 rfl rfl)
theorem dX0_game_38 : decode cX0_game 38 = .ok (.if_icmp .ge 7, 3) := dk_162 0 7 (dk_at dksX0_game_1 15 rfl rfl)
theorem dX0_game_41 : decode cX0_game 41 = .ok (.iload_n 2, 1) := dk_28 (dk_at dksX0_game_1 18 rfl rfl)
theorem dX0_game_42 : decode cX0_game 42 = .ok (.goto 4, 3) := dk_167 0 4 (dk_at dksX0_game_1 19 rfl rfl)
theorem dX0_game_45 : decode cX0_game 45 = .ok (.iconst 0, 1) := dk_3 (dk_at dksX0_game_1 22 rfl rfl)
theorem dX0_game_46 : decode cX0_game 46 = .ok (.iadd, 1) := dk_96 (dk_at dksX0_game_1 23 rfl rfl)
theorem dX0_game_47 : decode cX0_game 47 = .ok (.istore_n 3, 1) := dk_62 (dk_at dksX0_game_2 0 rfl rfl)
theorem dX0_game_48 : decode cX0_game 48 = .ok (.iinc 4 1, 3) := dk_132 4 1 (dk_at dksX0_game_2 1 rfl rfl)
theorem dX0_game_51 : decode cX0_game 51 = .ok (.goto (-26), 3) := dk_167 255 230 (dk_at dksX0_game_2 4 rfl rfl)
theorem dX0_game_54 : decode cX0_game 54 = .ok (.aload_n 0, 1) := dk_42 (dk_at dksX0_game_2 7 rfl rfl)
theorem dX0_game_55 : decode cX0_game 55 = .ok (.iload_n 3, 1) := dk_29 (dk_at dksX0_game_2 8 rfl rfl)
theorem dX0_game_56 : decode cX0_game 56 = .ok (.invokevirtual 416, 3) := dk_182 1 160 (dk_at dksX0_game_2 9 rfl rfl)
theorem dX0_game_59 : decode cX0_game 59 = .ok (.ifCond .eq 7, 3) := dk_153 0 7 (dk_at dksX0_game_2 12 rfl rfl)
theorem dX0_game_62 : decode cX0_game 62 = .ok (.iconst 1, 1) := dk_4 (dk_at dksX0_game_2 15 rfl rfl)
theorem dX0_game_63 : decode cX0_game 63 = .ok (.goto 4, 3) := dk_167 0 4 (dk_at dksX0_game_2 16 rfl rfl)
theorem dX0_game_66 : decode cX0_game 66 = .ok (.iconst 0, 1) := dk_3 (dk_at dksX0_game_2 19 rfl rfl)
theorem dX0_game_67 : decode cX0_game 67 = .ok (.ireturn, 1) := dk_172 (dk_at dksX0_game_2 20 rfl rfl)
abbrev cX0_wins : ByteArray := prog_1_method_91_code
def yX0_wins : MethodName := ⟨RX0, "wins", "(I)Z"⟩
def dkwX0_wins_2 : List UInt8 := [167, 0, 4, 3, 172]
abbrev dktX0_wins_2 : List UInt8 := dkwX0_wins_2 ++ []
def dkwX0_wins_1 : List UInt8 := [2, 160, 0, 7, 4, 167, 0, 4, 5, 145, 84, 42, 180, 0, 58, 28, 51, 5, 160, 0, 7, 4]
abbrev dktX0_wins_1 : List UInt8 := dkwX0_wins_1 ++ dktX0_wins_2
def dkwX0_wins_0 : List UInt8 := [27, 184, 1, 150, 61, 42, 180, 0, 58, 28, 51, 154, 0, 24, 42, 180, 0, 58, 28, 42, 27, 182, 1, 163]
abbrev dktX0_wins_0 : List UInt8 := dkwX0_wins_0 ++ dktX0_wins_1
theorem dksX0_wins_0 : cX0_wins.data.toList.drop 0 = dktX0_wins_0 := by decide +kernel
theorem dksX0_wins_1 : cX0_wins.data.toList.drop 24 = dktX0_wins_1 := dk_seg dksX0_wins_0 24 rfl rfl
theorem dksX0_wins_2 : cX0_wins.data.toList.drop 46 = dktX0_wins_2 := dk_seg dksX0_wins_1 22 rfl rfl
theorem dX0_wins_0 : decode cX0_wins 0 = .ok (.iload_n 1, 1) := dk_27 (dk_at dksX0_wins_0 0 rfl rfl)
theorem dX0_wins_1 : decode cX0_wins 1 = .ok (.invokestatic 406, 3) := dk_184 1 150 (dk_at dksX0_wins_0 1 rfl rfl)
theorem dX0_wins_4 : decode cX0_wins 4 = .ok (.istore_n 2, 1) := dk_61 (dk_at dksX0_wins_0 4 rfl rfl)
theorem dX0_wins_5 : decode cX0_wins 5 = .ok (.aload_n 0, 1) := dk_42 (dk_at dksX0_wins_0 5 rfl rfl)
theorem dX0_wins_6 : decode cX0_wins 6 = .ok (.getfield 58, 3) := dk_180 0 58 (dk_at dksX0_wins_0 6 rfl rfl)
theorem dX0_wins_9 : decode cX0_wins 9 = .ok (.iload_n 2, 1) := dk_28 (dk_at dksX0_wins_0 9 rfl rfl)
theorem dX0_wins_10 : decode cX0_wins 10 = .ok (.baload, 1) := dk_51 (dk_at dksX0_wins_0 10 rfl rfl)
theorem dX0_wins_11 : decode cX0_wins 11 = .ok (.ifCond .ne 24, 3) := dk_154 0 24 (dk_at dksX0_wins_0 11 rfl rfl)
theorem dX0_wins_14 : decode cX0_wins 14 = .ok (.aload_n 0, 1) := dk_42 (dk_at dksX0_wins_0 14 rfl rfl)
theorem dX0_wins_15 : decode cX0_wins 15 = .ok (.getfield 58, 3) := dk_180 0 58 (dk_at dksX0_wins_0 15 rfl rfl)
theorem dX0_wins_18 : decode cX0_wins 18 = .ok (.iload_n 2, 1) := dk_28 (dk_at dksX0_wins_0 18 rfl rfl)
theorem dX0_wins_19 : decode cX0_wins 19 = .ok (.aload_n 0, 1) := dk_42 (dk_at dksX0_wins_0 19 rfl rfl)
theorem dX0_wins_20 : decode cX0_wins 20 = .ok (.iload_n 1, 1) := dk_27 (dk_at dksX0_wins_0 20 rfl rfl)
theorem dX0_wins_21 : decode cX0_wins 21 = .ok (.invokevirtual 419, 3) := dk_182 1 163 (dk_at dksX0_wins_0 21 rfl rfl)
theorem dX0_wins_24 : decode cX0_wins 24 = .ok (.iconst (-1), 1) := dk_2 (dk_at dksX0_wins_1 0 rfl rfl)
theorem dX0_wins_25 : decode cX0_wins 25 = .ok (.if_icmp .ne 7, 3) := dk_160 0 7 (dk_at dksX0_wins_1 1 rfl rfl)
theorem dX0_wins_28 : decode cX0_wins 28 = .ok (.iconst 1, 1) := dk_4 (dk_at dksX0_wins_1 4 rfl rfl)
theorem dX0_wins_29 : decode cX0_wins 29 = .ok (.goto 4, 3) := dk_167 0 4 (dk_at dksX0_wins_1 5 rfl rfl)
theorem dX0_wins_32 : decode cX0_wins 32 = .ok (.iconst 2, 1) := dk_5 (dk_at dksX0_wins_1 8 rfl rfl)
theorem dX0_wins_33 : decode cX0_wins 33 = .ok (.i2b, 1) := dk_145 (dk_at dksX0_wins_1 9 rfl rfl)
theorem dX0_wins_34 : decode cX0_wins 34 = .ok (.bastore, 1) := dk_84 (dk_at dksX0_wins_1 10 rfl rfl)
theorem dX0_wins_35 : decode cX0_wins 35 = .ok (.aload_n 0, 1) := dk_42 (dk_at dksX0_wins_1 11 rfl rfl)
theorem dX0_wins_36 : decode cX0_wins 36 = .ok (.getfield 58, 3) := dk_180 0 58 (dk_at dksX0_wins_1 12 rfl rfl)
theorem dX0_wins_39 : decode cX0_wins 39 = .ok (.iload_n 2, 1) := dk_28 (dk_at dksX0_wins_1 15 rfl rfl)
theorem dX0_wins_40 : decode cX0_wins 40 = .ok (.baload, 1) := dk_51 (dk_at dksX0_wins_1 16 rfl rfl)
theorem dX0_wins_41 : decode cX0_wins 41 = .ok (.iconst 2, 1) := dk_5 (dk_at dksX0_wins_1 17 rfl rfl)
theorem dX0_wins_42 : decode cX0_wins 42 = .ok (.if_icmp .ne 7, 3) := dk_160 0 7 (dk_at dksX0_wins_1 18 rfl rfl)
theorem dX0_wins_45 : decode cX0_wins 45 = .ok (.iconst 1, 1) := dk_4 (dk_at dksX0_wins_1 21 rfl rfl)
theorem dX0_wins_46 : decode cX0_wins 46 = .ok (.goto 4, 3) := dk_167 0 4 (dk_at dksX0_wins_2 0 rfl rfl)
theorem dX0_wins_49 : decode cX0_wins 49 = .ok (.iconst 0, 1) := dk_3 (dk_at dksX0_wins_2 3 rfl rfl)
theorem dX0_wins_50 : decode cX0_wins 50 = .ok (.ireturn, 1) := dk_172 (dk_at dksX0_wins_2 4 rfl rfl)
abbrev cX0_sixesOf : ByteArray := prog_1_method_87_code
def yX0_sixesOf : MethodName := ⟨RX0, "sixesOf", "(I)I"⟩
def dkwX0_sixesOf_0 : List UInt8 := [26, 154, 0, 7, 3, 167, 0, 18, 16, 6, 26, 16, 10, 108, 184, 1, 150, 104, 26, 16, 10, 112, 96, 172]
abbrev dktX0_sixesOf_0 : List UInt8 := dkwX0_sixesOf_0 ++ []
theorem dksX0_sixesOf_0 : cX0_sixesOf.data.toList.drop 0 = dktX0_sixesOf_0 := by decide +kernel
theorem dX0_sixesOf_0 : decode cX0_sixesOf 0 = .ok (.iload_n 0, 1) := dk_26 (dk_at dksX0_sixesOf_0 0 rfl rfl)
theorem dX0_sixesOf_1 : decode cX0_sixesOf 1 = .ok (.ifCond .ne 7, 3) := dk_154 0 7 (dk_at dksX0_sixesOf_0 1 rfl rfl)
theorem dX0_sixesOf_4 : decode cX0_sixesOf 4 = .ok (.iconst 0, 1) := dk_3 (dk_at dksX0_sixesOf_0 4 rfl rfl)
theorem dX0_sixesOf_5 : decode cX0_sixesOf 5 = .ok (.goto 18, 3) := dk_167 0 18 (dk_at dksX0_sixesOf_0 5 rfl rfl)
theorem dX0_sixesOf_8 : decode cX0_sixesOf 8 = .ok (.bipush 6, 2) := dk_16 6 (dk_at dksX0_sixesOf_0 8 rfl rfl)
theorem dX0_sixesOf_10 : decode cX0_sixesOf 10 = .ok (.iload_n 0, 1) := dk_26 (dk_at dksX0_sixesOf_0 10 rfl rfl)
theorem dX0_sixesOf_11 : decode cX0_sixesOf 11 = .ok (.bipush 10, 2) := dk_16 10 (dk_at dksX0_sixesOf_0 11 rfl rfl)
theorem dX0_sixesOf_13 : decode cX0_sixesOf 13 = .ok (.idiv, 1) := dk_108 (dk_at dksX0_sixesOf_0 13 rfl rfl)
theorem dX0_sixesOf_14 : decode cX0_sixesOf 14 = .ok (.invokestatic 406, 3) := dk_184 1 150 (dk_at dksX0_sixesOf_0 14 rfl rfl)
theorem dX0_sixesOf_17 : decode cX0_sixesOf 17 = .ok (.imul, 1) := dk_104 (dk_at dksX0_sixesOf_0 17 rfl rfl)
theorem dX0_sixesOf_18 : decode cX0_sixesOf 18 = .ok (.iload_n 0, 1) := dk_26 (dk_at dksX0_sixesOf_0 18 rfl rfl)
theorem dX0_sixesOf_19 : decode cX0_sixesOf 19 = .ok (.bipush 10, 2) := dk_16 10 (dk_at dksX0_sixesOf_0 19 rfl rfl)
theorem dX0_sixesOf_21 : decode cX0_sixesOf 21 = .ok (.irem, 1) := dk_112 (dk_at dksX0_sixesOf_0 21 rfl rfl)
theorem dX0_sixesOf_22 : decode cX0_sixesOf 22 = .ok (.iadd, 1) := dk_96 (dk_at dksX0_sixesOf_0 22 rfl rfl)
theorem dX0_sixesOf_23 : decode cX0_sixesOf 23 = .ok (.ireturn, 1) := dk_172 (dk_at dksX0_sixesOf_0 23 rfl rfl)
abbrev cX0_biteOf : ByteArray := prog_1_method_90_code
def yX0_biteOf : MethodName := ⟨RX0, "biteOf", "(I)I"⟩
def dkwX0_biteOf_2 : List UInt8 := [167, 255, 218, 132, 2, 1, 167, 255, 205, 2, 172]
abbrev dktX0_biteOf_2 : List UInt8 := dkwX0_biteOf_2 ++ []
def dkwX0_biteOf_1 : List UInt8 := [42, 27, 28, 29, 184, 1, 156, 182, 1, 160, 154, 0, 10, 16, 10, 28, 104, 29, 96, 172, 132, 3, 1]
abbrev dktX0_biteOf_1 : List UInt8 := dkwX0_biteOf_1 ++ dktX0_biteOf_2
def dkwX0_biteOf_0 : List UInt8 := [3, 61, 28, 8, 162, 0, 52, 3, 62, 29, 27, 28, 184, 1, 153, 162, 0, 35, 28, 29, 96, 158, 0, 23]
abbrev dktX0_biteOf_0 : List UInt8 := dkwX0_biteOf_0 ++ dktX0_biteOf_1
theorem dksX0_biteOf_0 : cX0_biteOf.data.toList.drop 0 = dktX0_biteOf_0 := by decide +kernel
theorem dksX0_biteOf_1 : cX0_biteOf.data.toList.drop 24 = dktX0_biteOf_1 := dk_seg dksX0_biteOf_0 24 rfl rfl
theorem dksX0_biteOf_2 : cX0_biteOf.data.toList.drop 47 = dktX0_biteOf_2 := dk_seg dksX0_biteOf_1 23 rfl rfl
theorem dX0_biteOf_0 : decode cX0_biteOf 0 = .ok (.iconst 0, 1) := dk_3 (dk_at dksX0_biteOf_0 0 rfl rfl)
theorem dX0_biteOf_1 : decode cX0_biteOf 1 = .ok (.istore_n 2, 1) := dk_61 (dk_at dksX0_biteOf_0 1 rfl rfl)
theorem dX0_biteOf_2 : decode cX0_biteOf 2 = .ok (.iload_n 2, 1) := dk_28 (dk_at dksX0_biteOf_0 2 rfl rfl)
theorem dX0_biteOf_3 : decode cX0_biteOf 3 = .ok (.iconst 5, 1) := dk_8 (dk_at dksX0_biteOf_0 3 rfl rfl)
theorem dX0_biteOf_4 : decode cX0_biteOf 4 = .ok (.if_icmp .ge 52, 3) := dk_162 0 52 (dk_at dksX0_biteOf_0 4 rfl rfl)
theorem dX0_biteOf_7 : decode cX0_biteOf 7 = .ok (.iconst 0, 1) := dk_3 (dk_at dksX0_biteOf_0 7 rfl rfl)
theorem dX0_biteOf_8 : decode cX0_biteOf 8 = .ok (.istore_n 3, 1) := dk_62 (dk_at dksX0_biteOf_0 8 rfl rfl)
theorem dX0_biteOf_9 : decode cX0_biteOf 9 = .ok (.iload_n 3, 1) := dk_29 (dk_at dksX0_biteOf_0 9 rfl rfl)
theorem dX0_biteOf_10 : decode cX0_biteOf 10 = .ok (.iload_n 1, 1) := dk_27 (dk_at dksX0_biteOf_0 10 rfl rfl)
theorem dX0_biteOf_11 : decode cX0_biteOf 11 = .ok (.iload_n 2, 1) := dk_28 (dk_at dksX0_biteOf_0 11 rfl rfl)
theorem dX0_biteOf_12 : decode cX0_biteOf 12 = .ok (.invokestatic 409, 3) := dk_184 1 153 (dk_at dksX0_biteOf_0 12 rfl rfl)
theorem dX0_biteOf_15 : decode cX0_biteOf 15 = .ok (.if_icmp .ge 35, 3) := dk_162 0 35 (dk_at dksX0_biteOf_0 15 rfl rfl)
theorem dX0_biteOf_18 : decode cX0_biteOf 18 = .ok (.iload_n 2, 1) := dk_28 (dk_at dksX0_biteOf_0 18 rfl rfl)
theorem dX0_biteOf_19 : decode cX0_biteOf 19 = .ok (.iload_n 3, 1) := dk_29 (dk_at dksX0_biteOf_0 19 rfl rfl)
theorem dX0_biteOf_20 : decode cX0_biteOf 20 = .ok (.iadd, 1) := dk_96 (dk_at dksX0_biteOf_0 20 rfl rfl)
theorem dX0_biteOf_21 : decode cX0_biteOf 21 = .ok (.ifCond .le 23, 3) := dk_158 0 23 (dk_at dksX0_biteOf_0 21 rfl rfl)
theorem dX0_biteOf_24 : decode cX0_biteOf 24 = .ok (.aload_n 0, 1) := dk_42 (dk_at dksX0_biteOf_1 0 rfl rfl)
theorem dX0_biteOf_25 : decode cX0_biteOf 25 = .ok (.iload_n 1, 1) := dk_27 (dk_at dksX0_biteOf_1 1 rfl rfl)
theorem dX0_biteOf_26 : decode cX0_biteOf 26 = .ok (.iload_n 2, 1) := dk_28 (dk_at dksX0_biteOf_1 2 rfl rfl)
theorem dX0_biteOf_27 : decode cX0_biteOf 27 = .ok (.iload_n 3, 1) := dk_29 (dk_at dksX0_biteOf_1 3 rfl rfl)
theorem dX0_biteOf_28 : decode cX0_biteOf 28 = .ok (.invokestatic 412, 3) := dk_184 1 156 (dk_at dksX0_biteOf_1 4 rfl rfl)
theorem dX0_biteOf_31 : decode cX0_biteOf 31 = .ok (.invokevirtual 416, 3) := dk_182 1 160 (dk_at dksX0_biteOf_1 7 rfl rfl)
theorem dX0_biteOf_34 : decode cX0_biteOf 34 = .ok (.ifCond .ne 10, 3) := dk_154 0 10 (dk_at dksX0_biteOf_1 10 rfl rfl)
theorem dX0_biteOf_37 : decode cX0_biteOf 37 = .ok (.bipush 10, 2) := dk_16 10 (dk_at dksX0_biteOf_1 13 rfl rfl)
theorem dX0_biteOf_39 : decode cX0_biteOf 39 = .ok (.iload_n 2, 1) := dk_28 (dk_at dksX0_biteOf_1 15 rfl rfl)
theorem dX0_biteOf_40 : decode cX0_biteOf 40 = .ok (.imul, 1) := dk_104 (dk_at dksX0_biteOf_1 16 rfl rfl)
theorem dX0_biteOf_41 : decode cX0_biteOf 41 = .ok (.iload_n 3, 1) := dk_29 (dk_at dksX0_biteOf_1 17 rfl rfl)
theorem dX0_biteOf_42 : decode cX0_biteOf 42 = .ok (.iadd, 1) := dk_96 (dk_at dksX0_biteOf_1 18 rfl rfl)
theorem dX0_biteOf_43 : decode cX0_biteOf 43 = .ok (.ireturn, 1) := dk_172 (dk_at dksX0_biteOf_1 19 rfl rfl)
theorem dX0_biteOf_44 : decode cX0_biteOf 44 = .ok (.iinc 3 1, 3) := dk_132 3 1 (dk_at dksX0_biteOf_1 20 rfl rfl)
theorem dX0_biteOf_47 : decode cX0_biteOf 47 = .ok (.goto (-38), 3) := dk_167 255 218 (dk_at dksX0_biteOf_2 0 rfl rfl)
theorem dX0_biteOf_50 : decode cX0_biteOf 50 = .ok (.iinc 2 1, 3) := dk_132 2 1 (dk_at dksX0_biteOf_2 3 rfl rfl)
theorem dX0_biteOf_53 : decode cX0_biteOf 53 = .ok (.goto (-51), 3) := dk_167 255 205 (dk_at dksX0_biteOf_2 6 rfl rfl)
theorem dX0_biteOf_56 : decode cX0_biteOf 56 = .ok (.iconst (-1), 1) := dk_2 (dk_at dksX0_biteOf_2 9 rfl rfl)
theorem dX0_biteOf_57 : decode cX0_biteOf 57 = .ok (.ireturn, 1) := dk_172 (dk_at dksX0_biteOf_2 10 rfl rfl)
abbrev cX0_wideOf : ByteArray := prog_1_method_89_code
def yX0_wideOf : MethodName := ⟨RX0, "wideOf", "(II)I"⟩
def dkwX0_wideOf_1 : List UInt8 := [172]
abbrev dktX0_wideOf_1 : List UInt8 := dkwX0_wideOf_1 ++ []
def dkwX0_wideOf_0 : List UInt8 := [26, 61, 27, 62, 29, 7, 162, 0, 14, 28, 16, 10, 108, 61, 132, 3, 1, 167, 255, 243, 28, 16, 10, 112]
abbrev dktX0_wideOf_0 : List UInt8 := dkwX0_wideOf_0 ++ dktX0_wideOf_1
theorem dksX0_wideOf_0 : cX0_wideOf.data.toList.drop 0 = dktX0_wideOf_0 := by decide +kernel
theorem dksX0_wideOf_1 : cX0_wideOf.data.toList.drop 24 = dktX0_wideOf_1 := dk_seg dksX0_wideOf_0 24 rfl rfl
theorem dX0_wideOf_0 : decode cX0_wideOf 0 = .ok (.iload_n 0, 1) := dk_26 (dk_at dksX0_wideOf_0 0 rfl rfl)
theorem dX0_wideOf_1 : decode cX0_wideOf 1 = .ok (.istore_n 2, 1) := dk_61 (dk_at dksX0_wideOf_0 1 rfl rfl)
theorem dX0_wideOf_2 : decode cX0_wideOf 2 = .ok (.iload_n 1, 1) := dk_27 (dk_at dksX0_wideOf_0 2 rfl rfl)
theorem dX0_wideOf_3 : decode cX0_wideOf 3 = .ok (.istore_n 3, 1) := dk_62 (dk_at dksX0_wideOf_0 3 rfl rfl)
theorem dX0_wideOf_4 : decode cX0_wideOf 4 = .ok (.iload_n 3, 1) := dk_29 (dk_at dksX0_wideOf_0 4 rfl rfl)
theorem dX0_wideOf_5 : decode cX0_wideOf 5 = .ok (.iconst 4, 1) := dk_7 (dk_at dksX0_wideOf_0 5 rfl rfl)
theorem dX0_wideOf_6 : decode cX0_wideOf 6 = .ok (.if_icmp .ge 14, 3) := dk_162 0 14 (dk_at dksX0_wideOf_0 6 rfl rfl)
theorem dX0_wideOf_9 : decode cX0_wideOf 9 = .ok (.iload_n 2, 1) := dk_28 (dk_at dksX0_wideOf_0 9 rfl rfl)
theorem dX0_wideOf_10 : decode cX0_wideOf 10 = .ok (.bipush 10, 2) := dk_16 10 (dk_at dksX0_wideOf_0 10 rfl rfl)
theorem dX0_wideOf_12 : decode cX0_wideOf 12 = .ok (.idiv, 1) := dk_108 (dk_at dksX0_wideOf_0 12 rfl rfl)
theorem dX0_wideOf_13 : decode cX0_wideOf 13 = .ok (.istore_n 2, 1) := dk_61 (dk_at dksX0_wideOf_0 13 rfl rfl)
theorem dX0_wideOf_14 : decode cX0_wideOf 14 = .ok (.iinc 3 1, 3) := dk_132 3 1 (dk_at dksX0_wideOf_0 14 rfl rfl)
theorem dX0_wideOf_17 : decode cX0_wideOf 17 = .ok (.goto (-13), 3) := dk_167 255 243 (dk_at dksX0_wideOf_0 17 rfl rfl)
theorem dX0_wideOf_20 : decode cX0_wideOf 20 = .ok (.iload_n 2, 1) := dk_28 (dk_at dksX0_wideOf_0 20 rfl rfl)
theorem dX0_wideOf_21 : decode cX0_wideOf 21 = .ok (.bipush 10, 2) := dk_16 10 (dk_at dksX0_wideOf_0 21 rfl rfl)
theorem dX0_wideOf_23 : decode cX0_wideOf 23 = .ok (.irem, 1) := dk_112 (dk_at dksX0_wideOf_0 23 rfl rfl)
theorem dX0_wideOf_24 : decode cX0_wideOf 24 = .ok (.ireturn, 1) := dk_172 (dk_at dksX0_wideOf_1 0 rfl rfl)
abbrev cX0_bitten : ByteArray := prog_1_method_88_code
def yX0_bitten : MethodName := ⟨RX0, "bitten", "(III)I"⟩
def dkwX0_bitten_2 : List UInt8 := [62, 21, 4, 16, 10, 108, 54, 4, 132, 5, 1, 167, 255, 208, 29, 172]
abbrev dktX0_bitten_2 : List UInt8 := dkwX0_bitten_2 ++ []
def dkwX0_bitten_1 : List UInt8 := [54, 6, 29, 21, 4, 21, 5, 27, 162, 0, 8, 21, 6, 167, 0, 9, 21, 6, 28, 184, 0, 162, 104, 96]
abbrev dktX0_bitten_1 : List UInt8 := dkwX0_bitten_1 ++ dktX0_bitten_2
def dkwX0_bitten_0 : List UInt8 := [3, 62, 17, 39, 16, 54, 4, 3, 54, 5, 21, 5, 8, 162, 0, 48, 26, 21, 4, 108, 16, 10, 112]
abbrev dktX0_bitten_0 : List UInt8 := dkwX0_bitten_0 ++ dktX0_bitten_1
theorem dksX0_bitten_0 : cX0_bitten.data.toList.drop 0 = dktX0_bitten_0 := by decide +kernel
theorem dksX0_bitten_1 : cX0_bitten.data.toList.drop 23 = dktX0_bitten_1 := dk_seg dksX0_bitten_0 23 rfl rfl
theorem dksX0_bitten_2 : cX0_bitten.data.toList.drop 47 = dktX0_bitten_2 := dk_seg dksX0_bitten_1 24 rfl rfl
theorem dX0_bitten_0 : decode cX0_bitten 0 = .ok (.iconst 0, 1) := dk_3 (dk_at dksX0_bitten_0 0 rfl rfl)
theorem dX0_bitten_1 : decode cX0_bitten 1 = .ok (.istore_n 3, 1) := dk_62 (dk_at dksX0_bitten_0 1 rfl rfl)
theorem dX0_bitten_2 : decode cX0_bitten 2 = .ok (.sipush 10000, 3) := dk_17 39 16 (dk_at dksX0_bitten_0 2 rfl rfl)
theorem dX0_bitten_5 : decode cX0_bitten 5 = .ok (.istore 4, 2) := dk_54 4 (dk_at dksX0_bitten_0 5 rfl rfl)
theorem dX0_bitten_7 : decode cX0_bitten 7 = .ok (.iconst 0, 1) := dk_3 (dk_at dksX0_bitten_0 7 rfl rfl)
theorem dX0_bitten_8 : decode cX0_bitten 8 = .ok (.istore 5, 2) := dk_54 5 (dk_at dksX0_bitten_0 8 rfl rfl)
theorem dX0_bitten_10 : decode cX0_bitten 10 = .ok (.iload 5, 2) := dk_21 5 (dk_at dksX0_bitten_0 10 rfl rfl)
theorem dX0_bitten_12 : decode cX0_bitten 12 = .ok (.iconst 5, 1) := dk_8 (dk_at dksX0_bitten_0 12 rfl rfl)
theorem dX0_bitten_13 : decode cX0_bitten 13 = .ok (.if_icmp .ge 48, 3) := dk_162 0 48 (dk_at dksX0_bitten_0 13 rfl rfl)
theorem dX0_bitten_16 : decode cX0_bitten 16 = .ok (.iload_n 0, 1) := dk_26 (dk_at dksX0_bitten_0 16 rfl rfl)
theorem dX0_bitten_17 : decode cX0_bitten 17 = .ok (.iload 4, 2) := dk_21 4 (dk_at dksX0_bitten_0 17 rfl rfl)
theorem dX0_bitten_19 : decode cX0_bitten 19 = .ok (.idiv, 1) := dk_108 (dk_at dksX0_bitten_0 19 rfl rfl)
theorem dX0_bitten_20 : decode cX0_bitten 20 = .ok (.bipush 10, 2) := dk_16 10 (dk_at dksX0_bitten_0 20 rfl rfl)
theorem dX0_bitten_22 : decode cX0_bitten 22 = .ok (.irem, 1) := dk_112 (dk_at dksX0_bitten_0 22 rfl rfl)
theorem dX0_bitten_23 : decode cX0_bitten 23 = .ok (.istore 6, 2) := dk_54 6 (dk_at dksX0_bitten_1 0 rfl rfl)
theorem dX0_bitten_25 : decode cX0_bitten 25 = .ok (.iload_n 3, 1) := dk_29 (dk_at dksX0_bitten_1 2 rfl rfl)
theorem dX0_bitten_26 : decode cX0_bitten 26 = .ok (.iload 4, 2) := dk_21 4 (dk_at dksX0_bitten_1 3 rfl rfl)
theorem dX0_bitten_28 : decode cX0_bitten 28 = .ok (.iload 5, 2) := dk_21 5 (dk_at dksX0_bitten_1 5 rfl rfl)
theorem dX0_bitten_30 : decode cX0_bitten 30 = .ok (.iload_n 1, 1) := dk_27 (dk_at dksX0_bitten_1 7 rfl rfl)
theorem dX0_bitten_31 : decode cX0_bitten 31 = .ok (.if_icmp .ge 8, 3) := dk_162 0 8 (dk_at dksX0_bitten_1 8 rfl rfl)
theorem dX0_bitten_34 : decode cX0_bitten 34 = .ok (.iload 6, 2) := dk_21 6 (dk_at dksX0_bitten_1 11 rfl rfl)
theorem dX0_bitten_36 : decode cX0_bitten 36 = .ok (.goto 9, 3) := dk_167 0 9 (dk_at dksX0_bitten_1 13 rfl rfl)
theorem dX0_bitten_39 : decode cX0_bitten 39 = .ok (.iload 6, 2) := dk_21 6 (dk_at dksX0_bitten_1 16 rfl rfl)
theorem dX0_bitten_41 : decode cX0_bitten 41 = .ok (.iload_n 2, 1) := dk_28 (dk_at dksX0_bitten_1 18 rfl rfl)
theorem dX0_bitten_42 : decode cX0_bitten 42 = .ok (.invokestatic 162, 3) := dk_184 0 162 (dk_at dksX0_bitten_1 19 rfl rfl)
theorem dX0_bitten_45 : decode cX0_bitten 45 = .ok (.imul, 1) := dk_104 (dk_at dksX0_bitten_1 22 rfl rfl)
theorem dX0_bitten_46 : decode cX0_bitten 46 = .ok (.iadd, 1) := dk_96 (dk_at dksX0_bitten_1 23 rfl rfl)
theorem dX0_bitten_47 : decode cX0_bitten 47 = .ok (.istore_n 3, 1) := dk_62 (dk_at dksX0_bitten_2 0 rfl rfl)
theorem dX0_bitten_48 : decode cX0_bitten 48 = .ok (.iload 4, 2) := dk_21 4 (dk_at dksX0_bitten_2 1 rfl rfl)
theorem dX0_bitten_50 : decode cX0_bitten 50 = .ok (.bipush 10, 2) := dk_16 10 (dk_at dksX0_bitten_2 3 rfl rfl)
theorem dX0_bitten_52 : decode cX0_bitten 52 = .ok (.idiv, 1) := dk_108 (dk_at dksX0_bitten_2 5 rfl rfl)
theorem dX0_bitten_53 : decode cX0_bitten 53 = .ok (.istore 4, 2) := dk_54 4 (dk_at dksX0_bitten_2 6 rfl rfl)
theorem dX0_bitten_55 : decode cX0_bitten 55 = .ok (.iinc 5 1, 3) := dk_132 5 1 (dk_at dksX0_bitten_2 8 rfl rfl)
theorem dX0_bitten_58 : decode cX0_bitten 58 = .ok (.goto (-48), 3) := dk_167 255 208 (dk_at dksX0_bitten_2 11 rfl rfl)
theorem dX0_bitten_61 : decode cX0_bitten 61 = .ok (.iload_n 3, 1) := dk_29 (dk_at dksX0_bitten_2 14 rfl rfl)
theorem dX0_bitten_62 : decode cX0_bitten 62 = .ok (.ireturn, 1) := dk_172 (dk_at dksX0_bitten_2 15 rfl rfl)
abbrev cX0_bite : ByteArray := prog_1_method_94_code
def yX0_bite : MethodName := ⟨RX0, "bite", "(IZ)I"⟩
def dkwX0_bite_1 : List UInt8 := [167, 0, 18, 28, 153, 0, 10, 29, 16, 10, 108, 167, 0, 7, 29, 16, 10, 112, 172]
abbrev dktX0_bite_1 : List UInt8 := dkwX0_bite_1 ++ []
def dkwX0_bite_0 : List UInt8 := [27, 184, 1, 167, 153, 0, 11, 42, 27, 182, 1, 163, 167, 0, 4, 2, 62, 29, 2, 160, 0, 7, 2]
abbrev dktX0_bite_0 : List UInt8 := dkwX0_bite_0 ++ dktX0_bite_1
theorem dksX0_bite_0 : cX0_bite.data.toList.drop 0 = dktX0_bite_0 := by decide +kernel
theorem dksX0_bite_1 : cX0_bite.data.toList.drop 23 = dktX0_bite_1 := dk_seg dksX0_bite_0 23 rfl rfl
theorem dX0_bite_0 : decode cX0_bite 0 = .ok (.iload_n 1, 1) := dk_27 (dk_at dksX0_bite_0 0 rfl rfl)
theorem dX0_bite_1 : decode cX0_bite 1 = .ok (.invokestatic 423, 3) := dk_184 1 167 (dk_at dksX0_bite_0 1 rfl rfl)
theorem dX0_bite_4 : decode cX0_bite 4 = .ok (.ifCond .eq 11, 3) := dk_153 0 11 (dk_at dksX0_bite_0 4 rfl rfl)
theorem dX0_bite_7 : decode cX0_bite 7 = .ok (.aload_n 0, 1) := dk_42 (dk_at dksX0_bite_0 7 rfl rfl)
theorem dX0_bite_8 : decode cX0_bite 8 = .ok (.iload_n 1, 1) := dk_27 (dk_at dksX0_bite_0 8 rfl rfl)
theorem dX0_bite_9 : decode cX0_bite 9 = .ok (.invokevirtual 419, 3) := dk_182 1 163 (dk_at dksX0_bite_0 9 rfl rfl)
theorem dX0_bite_12 : decode cX0_bite 12 = .ok (.goto 4, 3) := dk_167 0 4 (dk_at dksX0_bite_0 12 rfl rfl)
theorem dX0_bite_15 : decode cX0_bite 15 = .ok (.iconst (-1), 1) := dk_2 (dk_at dksX0_bite_0 15 rfl rfl)
theorem dX0_bite_16 : decode cX0_bite 16 = .ok (.istore_n 3, 1) := dk_62 (dk_at dksX0_bite_0 16 rfl rfl)
theorem dX0_bite_17 : decode cX0_bite 17 = .ok (.iload_n 3, 1) := dk_29 (dk_at dksX0_bite_0 17 rfl rfl)
theorem dX0_bite_18 : decode cX0_bite 18 = .ok (.iconst (-1), 1) := dk_2 (dk_at dksX0_bite_0 18 rfl rfl)
theorem dX0_bite_19 : decode cX0_bite 19 = .ok (.if_icmp .ne 7, 3) := dk_160 0 7 (dk_at dksX0_bite_0 19 rfl rfl)
theorem dX0_bite_22 : decode cX0_bite 22 = .ok (.iconst (-1), 1) := dk_2 (dk_at dksX0_bite_0 22 rfl rfl)
theorem dX0_bite_23 : decode cX0_bite 23 = .ok (.goto 18, 3) := dk_167 0 18 (dk_at dksX0_bite_1 0 rfl rfl)
theorem dX0_bite_26 : decode cX0_bite 26 = .ok (.iload_n 2, 1) := dk_28 (dk_at dksX0_bite_1 3 rfl rfl)
theorem dX0_bite_27 : decode cX0_bite 27 = .ok (.ifCond .eq 10, 3) := dk_153 0 10 (dk_at dksX0_bite_1 4 rfl rfl)
theorem dX0_bite_30 : decode cX0_bite 30 = .ok (.iload_n 3, 1) := dk_29 (dk_at dksX0_bite_1 7 rfl rfl)
theorem dX0_bite_31 : decode cX0_bite 31 = .ok (.bipush 10, 2) := dk_16 10 (dk_at dksX0_bite_1 8 rfl rfl)
theorem dX0_bite_33 : decode cX0_bite 33 = .ok (.idiv, 1) := dk_108 (dk_at dksX0_bite_1 10 rfl rfl)
theorem dX0_bite_34 : decode cX0_bite 34 = .ok (.goto 7, 3) := dk_167 0 7 (dk_at dksX0_bite_1 11 rfl rfl)
theorem dX0_bite_37 : decode cX0_bite 37 = .ok (.iload_n 3, 1) := dk_29 (dk_at dksX0_bite_1 14 rfl rfl)
theorem dX0_bite_38 : decode cX0_bite 38 = .ok (.bipush 10, 2) := dk_16 10 (dk_at dksX0_bite_1 15 rfl rfl)
theorem dX0_bite_40 : decode cX0_bite 40 = .ok (.irem, 1) := dk_112 (dk_at dksX0_bite_1 17 rfl rfl)
theorem dX0_bite_41 : decode cX0_bite 41 = .ok (.ireturn, 1) := dk_172 (dk_at dksX0_bite_1 18 rfl rfl)
abbrev cX0_isShape : ByteArray := prog_1_method_93_code
def yX0_isShape : MethodName := ⟨RX0, "isShape", "(I)Z"⟩
def dkwX0_isShape_2 : List UInt8 := [172]
abbrev dktX0_isShape_2 : List UInt8 := dkwX0_isShape_2 ++ []
def dkwX0_isShape_1 : List UInt8 := [26, 28, 184, 1, 153, 27, 164, 0, 5, 3, 172, 26, 28, 184, 1, 153, 60, 132, 2, 1, 167, 255, 231, 4]
abbrev dktX0_isShape_1 : List UInt8 := dkwX0_isShape_1 ++ dktX0_isShape_2
def dkwX0_isShape_0 : List UInt8 := [26, 17, 39, 16, 19, 1, 166, 184, 0, 72, 154, 0, 5, 3, 172, 8, 60, 3, 61, 28, 8, 162, 0, 26]
abbrev dktX0_isShape_0 : List UInt8 := dkwX0_isShape_0 ++ dktX0_isShape_1
theorem dksX0_isShape_0 : cX0_isShape.data.toList.drop 0 = dktX0_isShape_0 := by decide +kernel
theorem dksX0_isShape_1 : cX0_isShape.data.toList.drop 24 = dktX0_isShape_1 := dk_seg dksX0_isShape_0 24 rfl rfl
theorem dksX0_isShape_2 : cX0_isShape.data.toList.drop 48 = dktX0_isShape_2 := dk_seg dksX0_isShape_1 24 rfl rfl
theorem dX0_isShape_0 : decode cX0_isShape 0 = .ok (.iload_n 0, 1) := dk_26 (dk_at dksX0_isShape_0 0 rfl rfl)
theorem dX0_isShape_1 : decode cX0_isShape 1 = .ok (.sipush 10000, 3) := dk_17 39 16 (dk_at dksX0_isShape_0 1 rfl rfl)
theorem dX0_isShape_4 : decode cX0_isShape 4 = .ok (.ldc_w 422, 3) := dk_19 1 166 (dk_at dksX0_isShape_0 4 rfl rfl)
theorem dX0_isShape_7 : decode cX0_isShape 7 = .ok (.invokestatic 72, 3) := dk_184 0 72 (dk_at dksX0_isShape_0 7 rfl rfl)
theorem dX0_isShape_10 : decode cX0_isShape 10 = .ok (.ifCond .ne 5, 3) := dk_154 0 5 (dk_at dksX0_isShape_0 10 rfl rfl)
theorem dX0_isShape_13 : decode cX0_isShape 13 = .ok (.iconst 0, 1) := dk_3 (dk_at dksX0_isShape_0 13 rfl rfl)
theorem dX0_isShape_14 : decode cX0_isShape 14 = .ok (.ireturn, 1) := dk_172 (dk_at dksX0_isShape_0 14 rfl rfl)
theorem dX0_isShape_15 : decode cX0_isShape 15 = .ok (.iconst 5, 1) := dk_8 (dk_at dksX0_isShape_0 15 rfl rfl)
theorem dX0_isShape_16 : decode cX0_isShape 16 = .ok (.istore_n 1, 1) := dk_60 (dk_at dksX0_isShape_0 16 rfl rfl)
theorem dX0_isShape_17 : decode cX0_isShape 17 = .ok (.iconst 0, 1) := dk_3 (dk_at dksX0_isShape_0 17 rfl rfl)
theorem dX0_isShape_18 : decode cX0_isShape 18 = .ok (.istore_n 2, 1) := dk_61 (dk_at dksX0_isShape_0 18 rfl rfl)
theorem dX0_isShape_19 : decode cX0_isShape 19 = .ok (.iload_n 2, 1) := dk_28 (dk_at dksX0_isShape_0 19 rfl rfl)
theorem dX0_isShape_20 : decode cX0_isShape 20 = .ok (.iconst 5, 1) := dk_8 (dk_at dksX0_isShape_0 20 rfl rfl)
theorem dX0_isShape_21 : decode cX0_isShape 21 = .ok (.if_icmp .ge 26, 3) := dk_162 0 26 (dk_at dksX0_isShape_0 21 rfl rfl)
theorem dX0_isShape_24 : decode cX0_isShape 24 = .ok (.iload_n 0, 1) := dk_26 (dk_at dksX0_isShape_1 0 rfl rfl)
theorem dX0_isShape_25 : decode cX0_isShape 25 = .ok (.iload_n 2, 1) := dk_28 (dk_at dksX0_isShape_1 1 rfl rfl)
theorem dX0_isShape_26 : decode cX0_isShape 26 = .ok (.invokestatic 409, 3) := dk_184 1 153 (dk_at dksX0_isShape_1 2 rfl rfl)
theorem dX0_isShape_29 : decode cX0_isShape 29 = .ok (.iload_n 1, 1) := dk_27 (dk_at dksX0_isShape_1 5 rfl rfl)
theorem dX0_isShape_30 : decode cX0_isShape 30 = .ok (.if_icmp .le 5, 3) := dk_164 0 5 (dk_at dksX0_isShape_1 6 rfl rfl)
theorem dX0_isShape_33 : decode cX0_isShape 33 = .ok (.iconst 0, 1) := dk_3 (dk_at dksX0_isShape_1 9 rfl rfl)
theorem dX0_isShape_34 : decode cX0_isShape 34 = .ok (.ireturn, 1) := dk_172 (dk_at dksX0_isShape_1 10 rfl rfl)
theorem dX0_isShape_35 : decode cX0_isShape 35 = .ok (.iload_n 0, 1) := dk_26 (dk_at dksX0_isShape_1 11 rfl rfl)
theorem dX0_isShape_36 : decode cX0_isShape 36 = .ok (.iload_n 2, 1) := dk_28 (dk_at dksX0_isShape_1 12 rfl rfl)
theorem dX0_isShape_37 : decode cX0_isShape 37 = .ok (.invokestatic 409, 3) := dk_184 1 153 (dk_at dksX0_isShape_1 13 rfl rfl)
theorem dX0_isShape_40 : decode cX0_isShape 40 = .ok (.istore_n 1, 1) := dk_60 (dk_at dksX0_isShape_1 16 rfl rfl)
theorem dX0_isShape_41 : decode cX0_isShape 41 = .ok (.iinc 2 1, 3) := dk_132 2 1 (dk_at dksX0_isShape_1 17 rfl rfl)
theorem dX0_isShape_44 : decode cX0_isShape 44 = .ok (.goto (-25), 3) := dk_167 255 231 (dk_at dksX0_isShape_1 20 rfl rfl)
theorem dX0_isShape_47 : decode cX0_isShape 47 = .ok (.iconst 1, 1) := dk_4 (dk_at dksX0_isShape_1 23 rfl rfl)
theorem dX0_isShape_48 : decode cX0_isShape 48 = .ok (.ireturn, 1) := dk_172 (dk_at dksX0_isShape_2 0 rfl rfl)
abbrev cX0_told : ByteArray := prog_1_method_95_code
def yX0_told : MethodName := ⟨RX0, "told", "(II)I"⟩
def dkwX0_told_2 : List UInt8 := [42, 180, 0, 21, 42, 180, 0, 21, 180, 1, 170, 16, 6, 27, 28, 182, 1, 94, 167, 0, 5, 16, 254, 172]
abbrev dktX0_told_2 : List UInt8 := dkwX0_told_2 ++ []
def dkwX0_told_1 : List UInt8 := [3, 16, 10, 184, 0, 72, 153, 0, 39, 42, 180, 0, 21, 180, 0, 65, 16, 6, 46, 16, 8, 162, 0, 24]
abbrev dktX0_told_1 : List UInt8 := dkwX0_told_1 ++ dktX0_told_2
def dkwX0_told_0 : List UInt8 := [27, 2, 160, 0, 13, 42, 180, 0, 21, 16, 6, 182, 1, 85, 172, 42, 27, 182, 0, 152, 153, 0, 49, 28]
abbrev dktX0_told_0 : List UInt8 := dkwX0_told_0 ++ dktX0_told_1
theorem dksX0_told_0 : cX0_told.data.toList.drop 0 = dktX0_told_0 := by decide +kernel
theorem dksX0_told_1 : cX0_told.data.toList.drop 24 = dktX0_told_1 := dk_seg dksX0_told_0 24 rfl rfl
theorem dksX0_told_2 : cX0_told.data.toList.drop 48 = dktX0_told_2 := dk_seg dksX0_told_1 24 rfl rfl
theorem dX0_told_0 : decode cX0_told 0 = .ok (.iload_n 1, 1) := dk_27 (dk_at dksX0_told_0 0 rfl rfl)
theorem dX0_told_1 : decode cX0_told 1 = .ok (.iconst (-1), 1) := dk_2 (dk_at dksX0_told_0 1 rfl rfl)
theorem dX0_told_2 : decode cX0_told 2 = .ok (.if_icmp .ne 13, 3) := dk_160 0 13 (dk_at dksX0_told_0 2 rfl rfl)
theorem dX0_told_5 : decode cX0_told 5 = .ok (.aload_n 0, 1) := dk_42 (dk_at dksX0_told_0 5 rfl rfl)
theorem dX0_told_6 : decode cX0_told 6 = .ok (.getfield 21, 3) := dk_180 0 21 (dk_at dksX0_told_0 6 rfl rfl)
theorem dX0_told_9 : decode cX0_told 9 = .ok (.bipush 6, 2) := dk_16 6 (dk_at dksX0_told_0 9 rfl rfl)
theorem dX0_told_11 : decode cX0_told 11 = .ok (.invokevirtual 341, 3) := dk_182 1 85 (dk_at dksX0_told_0 11 rfl rfl)
theorem dX0_told_14 : decode cX0_told 14 = .ok (.ireturn, 1) := dk_172 (dk_at dksX0_told_0 14 rfl rfl)
theorem dX0_told_15 : decode cX0_told 15 = .ok (.aload_n 0, 1) := dk_42 (dk_at dksX0_told_0 15 rfl rfl)
theorem dX0_told_16 : decode cX0_told 16 = .ok (.iload_n 1, 1) := dk_27 (dk_at dksX0_told_0 16 rfl rfl)
theorem dX0_told_17 : decode cX0_told 17 = .ok (.invokevirtual 152, 3) := dk_182 0 152 (dk_at dksX0_told_0 17 rfl rfl)
theorem dX0_told_20 : decode cX0_told 20 = .ok (.ifCond .eq 49, 3) := dk_153 0 49 (dk_at dksX0_told_0 20 rfl rfl)
theorem dX0_told_23 : decode cX0_told 23 = .ok (.iload_n 2, 1) := dk_28 (dk_at dksX0_told_0 23 rfl rfl)
theorem dX0_told_24 : decode cX0_told 24 = .ok (.iconst 0, 1) := dk_3 (dk_at dksX0_told_1 0 rfl rfl)
theorem dX0_told_25 : decode cX0_told 25 = .ok (.bipush 10, 2) := dk_16 10 (dk_at dksX0_told_1 1 rfl rfl)
theorem dX0_told_27 : decode cX0_told 27 = .ok (.invokestatic 72, 3) := dk_184 0 72 (dk_at dksX0_told_1 3 rfl rfl)
theorem dX0_told_30 : decode cX0_told 30 = .ok (.ifCond .eq 39, 3) := dk_153 0 39 (dk_at dksX0_told_1 6 rfl rfl)
theorem dX0_told_33 : decode cX0_told 33 = .ok (.aload_n 0, 1) := dk_42 (dk_at dksX0_told_1 9 rfl rfl)
theorem dX0_told_34 : decode cX0_told 34 = .ok (.getfield 21, 3) := dk_180 0 21 (dk_at dksX0_told_1 10 rfl rfl)
theorem dX0_told_37 : decode cX0_told 37 = .ok (.getfield 65, 3) := dk_180 0 65 (dk_at dksX0_told_1 13 rfl rfl)
theorem dX0_told_40 : decode cX0_told 40 = .ok (.bipush 6, 2) := dk_16 6 (dk_at dksX0_told_1 16 rfl rfl)
theorem dX0_told_42 : decode cX0_told 42 = .ok (.iaload, 1) := dk_46 (dk_at dksX0_told_1 18 rfl rfl)
theorem dX0_told_43 : decode cX0_told 43 = .ok (.bipush 8, 2) := dk_16 8 (dk_at dksX0_told_1 19 rfl rfl)
theorem dX0_told_45 : decode cX0_told 45 = .ok (.if_icmp .ge 24, 3) := dk_162 0 24 (dk_at dksX0_told_1 21 rfl rfl)
theorem dX0_told_48 : decode cX0_told 48 = .ok (.aload_n 0, 1) := dk_42 (dk_at dksX0_told_2 0 rfl rfl)
theorem dX0_told_49 : decode cX0_told 49 = .ok (.getfield 21, 3) := dk_180 0 21 (dk_at dksX0_told_2 1 rfl rfl)
theorem dX0_told_52 : decode cX0_told 52 = .ok (.aload_n 0, 1) := dk_42 (dk_at dksX0_told_2 4 rfl rfl)
theorem dX0_told_53 : decode cX0_told 53 = .ok (.getfield 21, 3) := dk_180 0 21 (dk_at dksX0_told_2 5 rfl rfl)
theorem dX0_told_56 : decode cX0_told 56 = .ok (.getfield 426, 3) := dk_180 1 170 (dk_at dksX0_told_2 8 rfl rfl)
theorem dX0_told_59 : decode cX0_told 59 = .ok (.bipush 6, 2) := dk_16 6 (dk_at dksX0_told_2 11 rfl rfl)
theorem dX0_told_61 : decode cX0_told 61 = .ok (.iload_n 1, 1) := dk_27 (dk_at dksX0_told_2 13 rfl rfl)
theorem dX0_told_62 : decode cX0_told 62 = .ok (.iload_n 2, 1) := dk_28 (dk_at dksX0_told_2 14 rfl rfl)
theorem dX0_told_63 : decode cX0_told 63 = .ok (.invokevirtual 350, 3) := dk_182 1 94 (dk_at dksX0_told_2 15 rfl rfl)
theorem dX0_told_66 : decode cX0_told 66 = .ok (.goto 5, 3) := dk_167 0 5 (dk_at dksX0_told_2 18 rfl rfl)
theorem dX0_told_69 : decode cX0_told 69 = .ok (.bipush (-2), 2) := dk_16 254 (dk_at dksX0_told_2 21 rfl rfl)
theorem dX0_told_71 : decode cX0_told 71 = .ok (.ireturn, 1) := dk_172 (dk_at dksX0_told_2 23 rfl rfl)
abbrev cX0_whose : ByteArray := prog_1_method_97_code
def yX0_whose : MethodName := ⟨RX0, "whose", "()I"⟩
def dkwX0_whose_2 : List UInt8 := [167, 255, 214, 27, 172]
abbrev dktX0_whose_2 : List UInt8 := dkwX0_whose_2 ++ []
def dkwX0_whose_1 : List UInt8 := [180, 0, 90, 28, 50, 182, 1, 173, 153, 0, 9, 4, 28, 120, 167, 0, 4, 3, 128, 60, 132, 2, 1]
abbrev dktX0_whose_1 : List UInt8 := dkwX0_whose_1 ++ dktX0_whose_2
def dkwX0_whose_0 : List UInt8 := [3, 60, 3, 61, 28, 42, 180, 0, 21, 180, 0, 65, 4, 46, 162, 0, 35, 27, 42, 42, 180, 0, 21]
abbrev dktX0_whose_0 : List UInt8 := dkwX0_whose_0 ++ dktX0_whose_1
theorem dksX0_whose_0 : cX0_whose.data.toList.drop 0 = dktX0_whose_0 := by decide +kernel
theorem dksX0_whose_1 : cX0_whose.data.toList.drop 23 = dktX0_whose_1 := dk_seg dksX0_whose_0 23 rfl rfl
theorem dksX0_whose_2 : cX0_whose.data.toList.drop 46 = dktX0_whose_2 := dk_seg dksX0_whose_1 23 rfl rfl
theorem dX0_whose_0 : decode cX0_whose 0 = .ok (.iconst 0, 1) := dk_3 (dk_at dksX0_whose_0 0 rfl rfl)
theorem dX0_whose_1 : decode cX0_whose 1 = .ok (.istore_n 1, 1) := dk_60 (dk_at dksX0_whose_0 1 rfl rfl)
theorem dX0_whose_2 : decode cX0_whose 2 = .ok (.iconst 0, 1) := dk_3 (dk_at dksX0_whose_0 2 rfl rfl)
theorem dX0_whose_3 : decode cX0_whose 3 = .ok (.istore_n 2, 1) := dk_61 (dk_at dksX0_whose_0 3 rfl rfl)
theorem dX0_whose_4 : decode cX0_whose 4 = .ok (.iload_n 2, 1) := dk_28 (dk_at dksX0_whose_0 4 rfl rfl)
theorem dX0_whose_5 : decode cX0_whose 5 = .ok (.aload_n 0, 1) := dk_42 (dk_at dksX0_whose_0 5 rfl rfl)
theorem dX0_whose_6 : decode cX0_whose 6 = .ok (.getfield 21, 3) := dk_180 0 21 (dk_at dksX0_whose_0 6 rfl rfl)
theorem dX0_whose_9 : decode cX0_whose 9 = .ok (.getfield 65, 3) := dk_180 0 65 (dk_at dksX0_whose_0 9 rfl rfl)
theorem dX0_whose_12 : decode cX0_whose 12 = .ok (.iconst 1, 1) := dk_4 (dk_at dksX0_whose_0 12 rfl rfl)
theorem dX0_whose_13 : decode cX0_whose 13 = .ok (.iaload, 1) := dk_46 (dk_at dksX0_whose_0 13 rfl rfl)
theorem dX0_whose_14 : decode cX0_whose 14 = .ok (.if_icmp .ge 35, 3) := dk_162 0 35 (dk_at dksX0_whose_0 14 rfl rfl)
theorem dX0_whose_17 : decode cX0_whose 17 = .ok (.iload_n 1, 1) := dk_27 (dk_at dksX0_whose_0 17 rfl rfl)
theorem dX0_whose_18 : decode cX0_whose 18 = .ok (.aload_n 0, 1) := dk_42 (dk_at dksX0_whose_0 18 rfl rfl)
theorem dX0_whose_19 : decode cX0_whose 19 = .ok (.aload_n 0, 1) := dk_42 (dk_at dksX0_whose_0 19 rfl rfl)
theorem dX0_whose_20 : decode cX0_whose 20 = .ok (.getfield 21, 3) := dk_180 0 21 (dk_at dksX0_whose_0 20 rfl rfl)
theorem dX0_whose_23 : decode cX0_whose 23 = .ok (.getfield 90, 3) := dk_180 0 90 (dk_at dksX0_whose_1 0 rfl rfl)
theorem dX0_whose_26 : decode cX0_whose 26 = .ok (.iload_n 2, 1) := dk_28 (dk_at dksX0_whose_1 3 rfl rfl)
theorem dX0_whose_27 : decode cX0_whose 27 = .ok (.aaload, 1) := dk_50 (dk_at dksX0_whose_1 4 rfl rfl)
theorem dX0_whose_28 : decode cX0_whose 28 = .ok (.invokevirtual 429, 3) := dk_182 1 173 (dk_at dksX0_whose_1 5 rfl rfl)
theorem dX0_whose_31 : decode cX0_whose 31 = .ok (.ifCond .eq 9, 3) := dk_153 0 9 (dk_at dksX0_whose_1 8 rfl rfl)
theorem dX0_whose_34 : decode cX0_whose 34 = .ok (.iconst 1, 1) := dk_4 (dk_at dksX0_whose_1 11 rfl rfl)
theorem dX0_whose_35 : decode cX0_whose 35 = .ok (.iload_n 2, 1) := dk_28 (dk_at dksX0_whose_1 12 rfl rfl)
theorem dX0_whose_36 : decode cX0_whose 36 = .ok (.ishl, 1) := dk_120 (dk_at dksX0_whose_1 13 rfl rfl)
theorem dX0_whose_37 : decode cX0_whose 37 = .ok (.goto 4, 3) := dk_167 0 4 (dk_at dksX0_whose_1 14 rfl rfl)
theorem dX0_whose_40 : decode cX0_whose 40 = .ok (.iconst 0, 1) := dk_3 (dk_at dksX0_whose_1 17 rfl rfl)
theorem dX0_whose_41 : decode cX0_whose 41 = .ok (.ior, 1) := dk_128 (dk_at dksX0_whose_1 18 rfl rfl)
theorem dX0_whose_42 : decode cX0_whose 42 = .ok (.istore_n 1, 1) := dk_60 (dk_at dksX0_whose_1 19 rfl rfl)
theorem dX0_whose_43 : decode cX0_whose 43 = .ok (.iinc 2 1, 3) := dk_132 2 1 (dk_at dksX0_whose_1 20 rfl rfl)
theorem dX0_whose_46 : decode cX0_whose 46 = .ok (.goto (-42), 3) := dk_167 255 214 (dk_at dksX0_whose_2 0 rfl rfl)
theorem dX0_whose_49 : decode cX0_whose 49 = .ok (.iload_n 1, 1) := dk_27 (dk_at dksX0_whose_2 3 rfl rfl)
theorem dX0_whose_50 : decode cX0_whose 50 = .ok (.ireturn, 1) := dk_172 (dk_at dksX0_whose_2 4 rfl rfl)
abbrev cX0_isLaw : ByteArray := prog_1_method_96_code
def yX0_isLaw : MethodName := ⟨RX0, "isLaw", "(LQuiverKin$Text;)Z"⟩
def dkwX0_isLaw_2 : List UInt8 := [28, 50, 4, 46, 159, 0, 5, 3, 172, 132, 2, 1, 167, 255, 200, 4, 172]
abbrev dktX0_isLaw_2 : List UInt8 := dkwX0_isLaw_2 ++ []
def dkwX0_isLaw_1 : List UInt8 := [180, 0, 155, 42, 180, 0, 21, 180, 1, 170, 28, 50, 3, 46, 182, 0, 197, 42, 180, 0, 21, 180, 1, 170]
abbrev dktX0_isLaw_1 : List UInt8 := dkwX0_isLaw_1 ++ dktX0_isLaw_2
def dkwX0_isLaw_0 : List UInt8 := [3, 61, 28, 42, 180, 0, 21, 180, 0, 65, 16, 6, 46, 162, 0, 48, 42, 43, 42, 180, 0, 21]
abbrev dktX0_isLaw_0 : List UInt8 := dkwX0_isLaw_0 ++ dktX0_isLaw_1
theorem dksX0_isLaw_0 : cX0_isLaw.data.toList.drop 0 = dktX0_isLaw_0 := by decide +kernel
theorem dksX0_isLaw_1 : cX0_isLaw.data.toList.drop 22 = dktX0_isLaw_1 := dk_seg dksX0_isLaw_0 22 rfl rfl
theorem dksX0_isLaw_2 : cX0_isLaw.data.toList.drop 46 = dktX0_isLaw_2 := dk_seg dksX0_isLaw_1 24 rfl rfl
theorem dX0_isLaw_0 : decode cX0_isLaw 0 = .ok (.iconst 0, 1) := dk_3 (dk_at dksX0_isLaw_0 0 rfl rfl)
theorem dX0_isLaw_1 : decode cX0_isLaw 1 = .ok (.istore_n 2, 1) := dk_61 (dk_at dksX0_isLaw_0 1 rfl rfl)
theorem dX0_isLaw_2 : decode cX0_isLaw 2 = .ok (.iload_n 2, 1) := dk_28 (dk_at dksX0_isLaw_0 2 rfl rfl)
theorem dX0_isLaw_3 : decode cX0_isLaw 3 = .ok (.aload_n 0, 1) := dk_42 (dk_at dksX0_isLaw_0 3 rfl rfl)
theorem dX0_isLaw_4 : decode cX0_isLaw 4 = .ok (.getfield 21, 3) := dk_180 0 21 (dk_at dksX0_isLaw_0 4 rfl rfl)
theorem dX0_isLaw_7 : decode cX0_isLaw 7 = .ok (.getfield 65, 3) := dk_180 0 65 (dk_at dksX0_isLaw_0 7 rfl rfl)
theorem dX0_isLaw_10 : decode cX0_isLaw 10 = .ok (.bipush 6, 2) := dk_16 6 (dk_at dksX0_isLaw_0 10 rfl rfl)
theorem dX0_isLaw_12 : decode cX0_isLaw 12 = .ok (.iaload, 1) := dk_46 (dk_at dksX0_isLaw_0 12 rfl rfl)
theorem dX0_isLaw_13 : decode cX0_isLaw 13 = .ok (.if_icmp .ge 48, 3) := dk_162 0 48 (dk_at dksX0_isLaw_0 13 rfl rfl)
theorem dX0_isLaw_16 : decode cX0_isLaw 16 = .ok (.aload_n 0, 1) := dk_42 (dk_at dksX0_isLaw_0 16 rfl rfl)
theorem dX0_isLaw_17 : decode cX0_isLaw 17 = .ok (.aload_n 1, 1) := dk_43 (dk_at dksX0_isLaw_0 17 rfl rfl)
theorem dX0_isLaw_18 : decode cX0_isLaw 18 = .ok (.aload_n 0, 1) := dk_42 (dk_at dksX0_isLaw_0 18 rfl rfl)
theorem dX0_isLaw_19 : decode cX0_isLaw 19 = .ok (.getfield 21, 3) := dk_180 0 21 (dk_at dksX0_isLaw_0 19 rfl rfl)
theorem dX0_isLaw_22 : decode cX0_isLaw 22 = .ok (.getfield 155, 3) := dk_180 0 155 (dk_at dksX0_isLaw_1 0 rfl rfl)
theorem dX0_isLaw_25 : decode cX0_isLaw 25 = .ok (.aload_n 0, 1) := dk_42 (dk_at dksX0_isLaw_1 3 rfl rfl)
theorem dX0_isLaw_26 : decode cX0_isLaw 26 = .ok (.getfield 21, 3) := dk_180 0 21 (dk_at dksX0_isLaw_1 4 rfl rfl)
theorem dX0_isLaw_29 : decode cX0_isLaw 29 = .ok (.getfield 426, 3) := dk_180 1 170 (dk_at dksX0_isLaw_1 7 rfl rfl)
theorem dX0_isLaw_32 : decode cX0_isLaw 32 = .ok (.iload_n 2, 1) := dk_28 (dk_at dksX0_isLaw_1 10 rfl rfl)
theorem dX0_isLaw_33 : decode cX0_isLaw 33 = .ok (.aaload, 1) := dk_50 (dk_at dksX0_isLaw_1 11 rfl rfl)
theorem dX0_isLaw_34 : decode cX0_isLaw 34 = .ok (.iconst 0, 1) := dk_3 (dk_at dksX0_isLaw_1 12 rfl rfl)
theorem dX0_isLaw_35 : decode cX0_isLaw 35 = .ok (.iaload, 1) := dk_46 (dk_at dksX0_isLaw_1 13 rfl rfl)
theorem dX0_isLaw_36 : decode cX0_isLaw 36 = .ok (.invokevirtual 197, 3) := dk_182 0 197 (dk_at dksX0_isLaw_1 14 rfl rfl)
theorem dX0_isLaw_39 : decode cX0_isLaw 39 = .ok (.aload_n 0, 1) := dk_42 (dk_at dksX0_isLaw_1 17 rfl rfl)
theorem dX0_isLaw_40 : decode cX0_isLaw 40 = .ok (.getfield 21, 3) := dk_180 0 21 (dk_at dksX0_isLaw_1 18 rfl rfl)
theorem dX0_isLaw_43 : decode cX0_isLaw 43 = .ok (.getfield 426, 3) := dk_180 1 170 (dk_at dksX0_isLaw_1 21 rfl rfl)
theorem dX0_isLaw_46 : decode cX0_isLaw 46 = .ok (.iload_n 2, 1) := dk_28 (dk_at dksX0_isLaw_2 0 rfl rfl)
theorem dX0_isLaw_47 : decode cX0_isLaw 47 = .ok (.aaload, 1) := dk_50 (dk_at dksX0_isLaw_2 1 rfl rfl)
theorem dX0_isLaw_48 : decode cX0_isLaw 48 = .ok (.iconst 1, 1) := dk_4 (dk_at dksX0_isLaw_2 2 rfl rfl)
theorem dX0_isLaw_49 : decode cX0_isLaw 49 = .ok (.iaload, 1) := dk_46 (dk_at dksX0_isLaw_2 3 rfl rfl)
theorem dX0_isLaw_50 : decode cX0_isLaw 50 = .ok (.if_icmp .eq 5, 3) := dk_159 0 5 (dk_at dksX0_isLaw_2 4 rfl rfl)
theorem dX0_isLaw_53 : decode cX0_isLaw 53 = .ok (.iconst 0, 1) := dk_3 (dk_at dksX0_isLaw_2 7 rfl rfl)
theorem dX0_isLaw_54 : decode cX0_isLaw 54 = .ok (.ireturn, 1) := dk_172 (dk_at dksX0_isLaw_2 8 rfl rfl)
theorem dX0_isLaw_55 : decode cX0_isLaw 55 = .ok (.iinc 2 1, 3) := dk_132 2 1 (dk_at dksX0_isLaw_2 9 rfl rfl)
theorem dX0_isLaw_58 : decode cX0_isLaw 58 = .ok (.goto (-56), 3) := dk_167 255 200 (dk_at dksX0_isLaw_2 12 rfl rfl)
theorem dX0_isLaw_61 : decode cX0_isLaw 61 = .ok (.iconst 1, 1) := dk_4 (dk_at dksX0_isLaw_2 15 rfl rfl)
theorem dX0_isLaw_62 : decode cX0_isLaw 62 = .ok (.ireturn, 1) := dk_172 (dk_at dksX0_isLaw_2 16 rfl rfl)
abbrev cX0_fullest : ByteArray := prog_1_method_98_code
def yX0_fullest : MethodName := ⟨RX0, "fullest", "()I"⟩
def dkwX0_fullest_2 : List UInt8 := [28, 60, 132, 2, 1, 167, 255, 207, 27, 172]
abbrev dktX0_fullest_2 : List UInt8 := dkwX0_fullest_2 ++ []
def dkwX0_fullest_1 : List UInt8 := [27, 2, 160, 0, 7, 3, 167, 0, 15, 42, 180, 0, 21, 180, 0, 155, 16, 8, 27, 96, 46, 164, 0, 5]
abbrev dktX0_fullest_1 : List UInt8 := dkwX0_fullest_1 ++ dktX0_fullest_2
def dkwX0_fullest_0 : List UInt8 := [2, 60, 3, 61, 28, 42, 182, 0, 68, 162, 0, 47, 42, 180, 0, 21, 180, 0, 155, 16, 8, 28, 96, 46]
abbrev dktX0_fullest_0 : List UInt8 := dkwX0_fullest_0 ++ dktX0_fullest_1
theorem dksX0_fullest_0 : cX0_fullest.data.toList.drop 0 = dktX0_fullest_0 := by decide +kernel
theorem dksX0_fullest_1 : cX0_fullest.data.toList.drop 24 = dktX0_fullest_1 := dk_seg dksX0_fullest_0 24 rfl rfl
theorem dksX0_fullest_2 : cX0_fullest.data.toList.drop 48 = dktX0_fullest_2 := dk_seg dksX0_fullest_1 24 rfl rfl
theorem dX0_fullest_0 : decode cX0_fullest 0 = .ok (.iconst (-1), 1) := dk_2 (dk_at dksX0_fullest_0 0 rfl rfl)
theorem dX0_fullest_1 : decode cX0_fullest 1 = .ok (.istore_n 1, 1) := dk_60 (dk_at dksX0_fullest_0 1 rfl rfl)
theorem dX0_fullest_2 : decode cX0_fullest 2 = .ok (.iconst 0, 1) := dk_3 (dk_at dksX0_fullest_0 2 rfl rfl)
theorem dX0_fullest_3 : decode cX0_fullest 3 = .ok (.istore_n 2, 1) := dk_61 (dk_at dksX0_fullest_0 3 rfl rfl)
theorem dX0_fullest_4 : decode cX0_fullest 4 = .ok (.iload_n 2, 1) := dk_28 (dk_at dksX0_fullest_0 4 rfl rfl)
theorem dX0_fullest_5 : decode cX0_fullest 5 = .ok (.aload_n 0, 1) := dk_42 (dk_at dksX0_fullest_0 5 rfl rfl)
theorem dX0_fullest_6 : decode cX0_fullest 6 = .ok (.invokevirtual 68, 3) := dk_182 0 68 (dk_at dksX0_fullest_0 6 rfl rfl)
theorem dX0_fullest_9 : decode cX0_fullest 9 = .ok (.if_icmp .ge 47, 3) := dk_162 0 47 (dk_at dksX0_fullest_0 9 rfl rfl)
theorem dX0_fullest_12 : decode cX0_fullest 12 = .ok (.aload_n 0, 1) := dk_42 (dk_at dksX0_fullest_0 12 rfl rfl)
theorem dX0_fullest_13 : decode cX0_fullest 13 = .ok (.getfield 21, 3) := dk_180 0 21 (dk_at dksX0_fullest_0 13 rfl rfl)
theorem dX0_fullest_16 : decode cX0_fullest 16 = .ok (.getfield 155, 3) := dk_180 0 155 (dk_at dksX0_fullest_0 16 rfl rfl)
theorem dX0_fullest_19 : decode cX0_fullest 19 = .ok (.bipush 8, 2) := dk_16 8 (dk_at dksX0_fullest_0 19 rfl rfl)
theorem dX0_fullest_21 : decode cX0_fullest 21 = .ok (.iload_n 2, 1) := dk_28 (dk_at dksX0_fullest_0 21 rfl rfl)
theorem dX0_fullest_22 : decode cX0_fullest 22 = .ok (.iadd, 1) := dk_96 (dk_at dksX0_fullest_0 22 rfl rfl)
theorem dX0_fullest_23 : decode cX0_fullest 23 = .ok (.iaload, 1) := dk_46 (dk_at dksX0_fullest_0 23 rfl rfl)
theorem dX0_fullest_24 : decode cX0_fullest 24 = .ok (.iload_n 1, 1) := dk_27 (dk_at dksX0_fullest_1 0 rfl rfl)
theorem dX0_fullest_25 : decode cX0_fullest 25 = .ok (.iconst (-1), 1) := dk_2 (dk_at dksX0_fullest_1 1 rfl rfl)
theorem dX0_fullest_26 : decode cX0_fullest 26 = .ok (.if_icmp .ne 7, 3) := dk_160 0 7 (dk_at dksX0_fullest_1 2 rfl rfl)
theorem dX0_fullest_29 : decode cX0_fullest 29 = .ok (.iconst 0, 1) := dk_3 (dk_at dksX0_fullest_1 5 rfl rfl)
theorem dX0_fullest_30 : decode cX0_fullest 30 = .ok (.goto 15, 3) := dk_167 0 15 (dk_at dksX0_fullest_1 6 rfl rfl)
theorem dX0_fullest_33 : decode cX0_fullest 33 = .ok (.aload_n 0, 1) := dk_42 (dk_at dksX0_fullest_1 9 rfl rfl)
theorem dX0_fullest_34 : decode cX0_fullest 34 = .ok (.getfield 21, 3) := dk_180 0 21 (dk_at dksX0_fullest_1 10 rfl rfl)
theorem dX0_fullest_37 : decode cX0_fullest 37 = .ok (.getfield 155, 3) := dk_180 0 155 (dk_at dksX0_fullest_1 13 rfl rfl)
theorem dX0_fullest_40 : decode cX0_fullest 40 = .ok (.bipush 8, 2) := dk_16 8 (dk_at dksX0_fullest_1 16 rfl rfl)
theorem dX0_fullest_42 : decode cX0_fullest 42 = .ok (.iload_n 1, 1) := dk_27 (dk_at dksX0_fullest_1 18 rfl rfl)
theorem dX0_fullest_43 : decode cX0_fullest 43 = .ok (.iadd, 1) := dk_96 (dk_at dksX0_fullest_1 19 rfl rfl)
theorem dX0_fullest_44 : decode cX0_fullest 44 = .ok (.iaload, 1) := dk_46 (dk_at dksX0_fullest_1 20 rfl rfl)
theorem dX0_fullest_45 : decode cX0_fullest 45 = .ok (.if_icmp .le 5, 3) := dk_164 0 5 (dk_at dksX0_fullest_1 21 rfl rfl)
theorem dX0_fullest_48 : decode cX0_fullest 48 = .ok (.iload_n 2, 1) := dk_28 (dk_at dksX0_fullest_2 0 rfl rfl)
theorem dX0_fullest_49 : decode cX0_fullest 49 = .ok (.istore_n 1, 1) := dk_60 (dk_at dksX0_fullest_2 1 rfl rfl)
theorem dX0_fullest_50 : decode cX0_fullest 50 = .ok (.iinc 2 1, 3) := dk_132 2 1 (dk_at dksX0_fullest_2 2 rfl rfl)
theorem dX0_fullest_53 : decode cX0_fullest 53 = .ok (.goto (-49), 3) := dk_167 255 207 (dk_at dksX0_fullest_2 5 rfl rfl)
theorem dX0_fullest_56 : decode cX0_fullest 56 = .ok (.iload_n 1, 1) := dk_27 (dk_at dksX0_fullest_2 8 rfl rfl)
theorem dX0_fullest_57 : decode cX0_fullest 57 = .ok (.ireturn, 1) := dk_172 (dk_at dksX0_fullest_2 9 rfl rfl)
abbrev cX0_calm : ByteArray := prog_1_method_99_code
def yX0_calm : MethodName := ⟨RX0, "calm", "()I"⟩
def dkwX0_calm_1 : List UInt8 := [46, 154, 0, 9, 4, 28, 120, 167, 0, 4, 3, 128, 60, 132, 2, 1, 167, 255, 220, 27, 172]
abbrev dktX0_calm_1 : List UInt8 := dkwX0_calm_1 ++ []
def dkwX0_calm_0 : List UInt8 := [3, 60, 3, 61, 28, 42, 182, 0, 68, 162, 0, 34, 27, 42, 180, 0, 21, 180, 0, 155, 16, 8, 28, 96]
abbrev dktX0_calm_0 : List UInt8 := dkwX0_calm_0 ++ dktX0_calm_1
theorem dksX0_calm_0 : cX0_calm.data.toList.drop 0 = dktX0_calm_0 := by decide +kernel
theorem dksX0_calm_1 : cX0_calm.data.toList.drop 24 = dktX0_calm_1 := dk_seg dksX0_calm_0 24 rfl rfl
theorem dX0_calm_0 : decode cX0_calm 0 = .ok (.iconst 0, 1) := dk_3 (dk_at dksX0_calm_0 0 rfl rfl)
theorem dX0_calm_1 : decode cX0_calm 1 = .ok (.istore_n 1, 1) := dk_60 (dk_at dksX0_calm_0 1 rfl rfl)
theorem dX0_calm_2 : decode cX0_calm 2 = .ok (.iconst 0, 1) := dk_3 (dk_at dksX0_calm_0 2 rfl rfl)
theorem dX0_calm_3 : decode cX0_calm 3 = .ok (.istore_n 2, 1) := dk_61 (dk_at dksX0_calm_0 3 rfl rfl)
theorem dX0_calm_4 : decode cX0_calm 4 = .ok (.iload_n 2, 1) := dk_28 (dk_at dksX0_calm_0 4 rfl rfl)
theorem dX0_calm_5 : decode cX0_calm 5 = .ok (.aload_n 0, 1) := dk_42 (dk_at dksX0_calm_0 5 rfl rfl)
theorem dX0_calm_6 : decode cX0_calm 6 = .ok (.invokevirtual 68, 3) := dk_182 0 68 (dk_at dksX0_calm_0 6 rfl rfl)
theorem dX0_calm_9 : decode cX0_calm 9 = .ok (.if_icmp .ge 34, 3) := dk_162 0 34 (dk_at dksX0_calm_0 9 rfl rfl)
theorem dX0_calm_12 : decode cX0_calm 12 = .ok (.iload_n 1, 1) := dk_27 (dk_at dksX0_calm_0 12 rfl rfl)
theorem dX0_calm_13 : decode cX0_calm 13 = .ok (.aload_n 0, 1) := dk_42 (dk_at dksX0_calm_0 13 rfl rfl)
theorem dX0_calm_14 : decode cX0_calm 14 = .ok (.getfield 21, 3) := dk_180 0 21 (dk_at dksX0_calm_0 14 rfl rfl)
theorem dX0_calm_17 : decode cX0_calm 17 = .ok (.getfield 155, 3) := dk_180 0 155 (dk_at dksX0_calm_0 17 rfl rfl)
theorem dX0_calm_20 : decode cX0_calm 20 = .ok (.bipush 8, 2) := dk_16 8 (dk_at dksX0_calm_0 20 rfl rfl)
theorem dX0_calm_22 : decode cX0_calm 22 = .ok (.iload_n 2, 1) := dk_28 (dk_at dksX0_calm_0 22 rfl rfl)
theorem dX0_calm_23 : decode cX0_calm 23 = .ok (.iadd, 1) := dk_96 (dk_at dksX0_calm_0 23 rfl rfl)
theorem dX0_calm_24 : decode cX0_calm 24 = .ok (.iaload, 1) := dk_46 (dk_at dksX0_calm_1 0 rfl rfl)
theorem dX0_calm_25 : decode cX0_calm 25 = .ok (.ifCond .ne 9, 3) := dk_154 0 9 (dk_at dksX0_calm_1 1 rfl rfl)
theorem dX0_calm_28 : decode cX0_calm 28 = .ok (.iconst 1, 1) := dk_4 (dk_at dksX0_calm_1 4 rfl rfl)
theorem dX0_calm_29 : decode cX0_calm 29 = .ok (.iload_n 2, 1) := dk_28 (dk_at dksX0_calm_1 5 rfl rfl)
theorem dX0_calm_30 : decode cX0_calm 30 = .ok (.ishl, 1) := dk_120 (dk_at dksX0_calm_1 6 rfl rfl)
theorem dX0_calm_31 : decode cX0_calm 31 = .ok (.goto 4, 3) := dk_167 0 4 (dk_at dksX0_calm_1 7 rfl rfl)
theorem dX0_calm_34 : decode cX0_calm 34 = .ok (.iconst 0, 1) := dk_3 (dk_at dksX0_calm_1 10 rfl rfl)
theorem dX0_calm_35 : decode cX0_calm 35 = .ok (.ior, 1) := dk_128 (dk_at dksX0_calm_1 11 rfl rfl)
theorem dX0_calm_36 : decode cX0_calm 36 = .ok (.istore_n 1, 1) := dk_60 (dk_at dksX0_calm_1 12 rfl rfl)
theorem dX0_calm_37 : decode cX0_calm 37 = .ok (.iinc 2 1, 3) := dk_132 2 1 (dk_at dksX0_calm_1 13 rfl rfl)
theorem dX0_calm_40 : decode cX0_calm 40 = .ok (.goto (-36), 3) := dk_167 255 220 (dk_at dksX0_calm_1 16 rfl rfl)
theorem dX0_calm_43 : decode cX0_calm 43 = .ok (.iload_n 1, 1) := dk_27 (dk_at dksX0_calm_1 19 rfl rfl)
theorem dX0_calm_44 : decode cX0_calm 44 = .ok (.ireturn, 1) := dk_172 (dk_at dksX0_calm_1 20 rfl rfl)
abbrev cX0_ledger : ByteArray := prog_1_method_100_code
def yX0_ledger : MethodName := ⟨RX0, "ledger", "(I)I"⟩
def dkwX0_ledger_3 : List UInt8 := [132, 3, 1, 167, 255, 206, 28, 172]
abbrev dktX0_ledger_3 : List UInt8 := dkwX0_ledger_3 ++ []
def dkwX0_ledger_2 : List UInt8 := [180, 0, 155, 16, 16, 7, 29, 104, 96, 4, 96, 46, 27, 160, 0, 7, 4, 167, 0, 4, 3, 96, 61]
abbrev dktX0_ledger_2 : List UInt8 := dkwX0_ledger_2 ++ dktX0_ledger_3
def dkwX0_ledger_1 : List UInt8 := [180, 0, 21, 180, 0, 155, 16, 15, 46, 162, 0, 42, 28, 27, 2, 159, 0, 23, 42, 180, 0, 21]
abbrev dktX0_ledger_1 : List UInt8 := dkwX0_ledger_1 ++ dktX0_ledger_2
def dkwX0_ledger_0 : List UInt8 := [27, 2, 159, 0, 14, 42, 27, 182, 0, 152, 154, 0, 6, 16, 254, 172, 3, 61, 3, 62, 29, 42]
abbrev dktX0_ledger_0 : List UInt8 := dkwX0_ledger_0 ++ dktX0_ledger_1
theorem dksX0_ledger_0 : cX0_ledger.data.toList.drop 0 = dktX0_ledger_0 := by decide +kernel
theorem dksX0_ledger_1 : cX0_ledger.data.toList.drop 22 = dktX0_ledger_1 := dk_seg dksX0_ledger_0 22 rfl rfl
theorem dksX0_ledger_2 : cX0_ledger.data.toList.drop 44 = dktX0_ledger_2 := dk_seg dksX0_ledger_1 22 rfl rfl
theorem dksX0_ledger_3 : cX0_ledger.data.toList.drop 67 = dktX0_ledger_3 := dk_seg dksX0_ledger_2 23 rfl rfl
theorem dX0_ledger_0 : decode cX0_ledger 0 = .ok (.iload_n 1, 1) := dk_27 (dk_at dksX0_ledger_0 0 rfl rfl)
theorem dX0_ledger_1 : decode cX0_ledger 1 = .ok (.iconst (-1), 1) := dk_2 (dk_at dksX0_ledger_0 1 rfl rfl)
theorem dX0_ledger_2 : decode cX0_ledger 2 = .ok (.if_icmp .eq 14, 3) := dk_159 0 14 (dk_at dksX0_ledger_0 2 rfl rfl)
theorem dX0_ledger_5 : decode cX0_ledger 5 = .ok (.aload_n 0, 1) := dk_42 (dk_at dksX0_ledger_0 5 rfl rfl)
theorem dX0_ledger_6 : decode cX0_ledger 6 = .ok (.iload_n 1, 1) := dk_27 (dk_at dksX0_ledger_0 6 rfl rfl)
theorem dX0_ledger_7 : decode cX0_ledger 7 = .ok (.invokevirtual 152, 3) := dk_182 0 152 (dk_at dksX0_ledger_0 7 rfl rfl)
theorem dX0_ledger_10 : decode cX0_ledger 10 = .ok (.ifCond .ne 6, 3) := dk_154 0 6 (dk_at dksX0_ledger_0 10 rfl rfl)
theorem dX0_ledger_13 : decode cX0_ledger 13 = .ok (.bipush (-2), 2) := dk_16 254 (dk_at dksX0_ledger_0 13 rfl rfl)
theorem dX0_ledger_15 : decode cX0_ledger 15 = .ok (.ireturn, 1) := dk_172 (dk_at dksX0_ledger_0 15 rfl rfl)
theorem dX0_ledger_16 : decode cX0_ledger 16 = .ok (.iconst 0, 1) := dk_3 (dk_at dksX0_ledger_0 16 rfl rfl)
theorem dX0_ledger_17 : decode cX0_ledger 17 = .ok (.istore_n 2, 1) := dk_61 (dk_at dksX0_ledger_0 17 rfl rfl)
theorem dX0_ledger_18 : decode cX0_ledger 18 = .ok (.iconst 0, 1) := dk_3 (dk_at dksX0_ledger_0 18 rfl rfl)
theorem dX0_ledger_19 : decode cX0_ledger 19 = .ok (.istore_n 3, 1) := dk_62 (dk_at dksX0_ledger_0 19 rfl rfl)
theorem dX0_ledger_20 : decode cX0_ledger 20 = .ok (.iload_n 3, 1) := dk_29 (dk_at dksX0_ledger_0 20 rfl rfl)
theorem dX0_ledger_21 : decode cX0_ledger 21 = .ok (.aload_n 0, 1) := dk_42 (dk_at dksX0_ledger_0 21 rfl rfl)
theorem dX0_ledger_22 : decode cX0_ledger 22 = .ok (.getfield 21, 3) := dk_180 0 21 (dk_at dksX0_ledger_1 0 rfl rfl)
theorem dX0_ledger_25 : decode cX0_ledger 25 = .ok (.getfield 155, 3) := dk_180 0 155 (dk_at dksX0_ledger_1 3 rfl rfl)
theorem dX0_ledger_28 : decode cX0_ledger 28 = .ok (.bipush 15, 2) := dk_16 15 (dk_at dksX0_ledger_1 6 rfl rfl)
theorem dX0_ledger_30 : decode cX0_ledger 30 = .ok (.iaload, 1) := dk_46 (dk_at dksX0_ledger_1 8 rfl rfl)
theorem dX0_ledger_31 : decode cX0_ledger 31 = .ok (.if_icmp .ge 42, 3) := dk_162 0 42 (dk_at dksX0_ledger_1 9 rfl rfl)
theorem dX0_ledger_34 : decode cX0_ledger 34 = .ok (.iload_n 2, 1) := dk_28 (dk_at dksX0_ledger_1 12 rfl rfl)
theorem dX0_ledger_35 : decode cX0_ledger 35 = .ok (.iload_n 1, 1) := dk_27 (dk_at dksX0_ledger_1 13 rfl rfl)
theorem dX0_ledger_36 : decode cX0_ledger 36 = .ok (.iconst (-1), 1) := dk_2 (dk_at dksX0_ledger_1 14 rfl rfl)
theorem dX0_ledger_37 : decode cX0_ledger 37 = .ok (.if_icmp .eq 23, 3) := dk_159 0 23 (dk_at dksX0_ledger_1 15 rfl rfl)
theorem dX0_ledger_40 : decode cX0_ledger 40 = .ok (.aload_n 0, 1) := dk_42 (dk_at dksX0_ledger_1 18 rfl rfl)
theorem dX0_ledger_41 : decode cX0_ledger 41 = .ok (.getfield 21, 3) := dk_180 0 21 (dk_at dksX0_ledger_1 19 rfl rfl)
theorem dX0_ledger_44 : decode cX0_ledger 44 = .ok (.getfield 155, 3) := dk_180 0 155 (dk_at dksX0_ledger_2 0 rfl rfl)
theorem dX0_ledger_47 : decode cX0_ledger 47 = .ok (.bipush 16, 2) := dk_16 16 (dk_at dksX0_ledger_2 3 rfl rfl)
theorem dX0_ledger_49 : decode cX0_ledger 49 = .ok (.iconst 4, 1) := dk_7 (dk_at dksX0_ledger_2 5 rfl rfl)
theorem dX0_ledger_50 : decode cX0_ledger 50 = .ok (.iload_n 3, 1) := dk_29 (dk_at dksX0_ledger_2 6 rfl rfl)
theorem dX0_ledger_51 : decode cX0_ledger 51 = .ok (.imul, 1) := dk_104 (dk_at dksX0_ledger_2 7 rfl rfl)
theorem dX0_ledger_52 : decode cX0_ledger 52 = .ok (.iadd, 1) := dk_96 (dk_at dksX0_ledger_2 8 rfl rfl)
theorem dX0_ledger_53 : decode cX0_ledger 53 = .ok (.iconst 1, 1) := dk_4 (dk_at dksX0_ledger_2 9 rfl rfl)
theorem dX0_ledger_54 : decode cX0_ledger 54 = .ok (.iadd, 1) := dk_96 (dk_at dksX0_ledger_2 10 rfl rfl)
theorem dX0_ledger_55 : decode cX0_ledger 55 = .ok (.iaload, 1) := dk_46 (dk_at dksX0_ledger_2 11 rfl rfl)
theorem dX0_ledger_56 : decode cX0_ledger 56 = .ok (.iload_n 1, 1) := dk_27 (dk_at dksX0_ledger_2 12 rfl rfl)
theorem dX0_ledger_57 : decode cX0_ledger 57 = .ok (.if_icmp .ne 7, 3) := dk_160 0 7 (dk_at dksX0_ledger_2 13 rfl rfl)
theorem dX0_ledger_60 : decode cX0_ledger 60 = .ok (.iconst 1, 1) := dk_4 (dk_at dksX0_ledger_2 16 rfl rfl)
theorem dX0_ledger_61 : decode cX0_ledger 61 = .ok (.goto 4, 3) := dk_167 0 4 (dk_at dksX0_ledger_2 17 rfl rfl)
theorem dX0_ledger_64 : decode cX0_ledger 64 = .ok (.iconst 0, 1) := dk_3 (dk_at dksX0_ledger_2 20 rfl rfl)
theorem dX0_ledger_65 : decode cX0_ledger 65 = .ok (.iadd, 1) := dk_96 (dk_at dksX0_ledger_2 21 rfl rfl)
theorem dX0_ledger_66 : decode cX0_ledger 66 = .ok (.istore_n 2, 1) := dk_61 (dk_at dksX0_ledger_2 22 rfl rfl)
theorem dX0_ledger_67 : decode cX0_ledger 67 = .ok (.iinc 3 1, 3) := dk_132 3 1 (dk_at dksX0_ledger_3 0 rfl rfl)
theorem dX0_ledger_70 : decode cX0_ledger 70 = .ok (.goto (-50), 3) := dk_167 255 206 (dk_at dksX0_ledger_3 3 rfl rfl)
theorem dX0_ledger_73 : decode cX0_ledger 73 = .ok (.iload_n 2, 1) := dk_28 (dk_at dksX0_ledger_3 6 rfl rfl)
theorem dX0_ledger_74 : decode cX0_ledger 74 = .ok (.ireturn, 1) := dk_172 (dk_at dksX0_ledger_3 7 rfl rfl)
abbrev cX0_image : ByteArray := prog_1_method_101_code
def yX0_image : MethodName := ⟨RX0, "image", "()I"⟩
def dkwX0_image_0 : List UInt8 := [42, 180, 0, 25, 42, 180, 0, 21, 182, 0, 61, 42, 180, 0, 21, 180, 0, 155, 3, 46, 172]
abbrev dktX0_image_0 : List UInt8 := dkwX0_image_0 ++ []
theorem dksX0_image_0 : cX0_image.data.toList.drop 0 = dktX0_image_0 := by decide +kernel
theorem dX0_image_0 : decode cX0_image 0 = .ok (.aload_n 0, 1) := dk_42 (dk_at dksX0_image_0 0 rfl rfl)
theorem dX0_image_1 : decode cX0_image 1 = .ok (.getfield 25, 3) := dk_180 0 25 (dk_at dksX0_image_0 1 rfl rfl)
theorem dX0_image_4 : decode cX0_image 4 = .ok (.aload_n 0, 1) := dk_42 (dk_at dksX0_image_0 4 rfl rfl)
theorem dX0_image_5 : decode cX0_image 5 = .ok (.getfield 21, 3) := dk_180 0 21 (dk_at dksX0_image_0 5 rfl rfl)
theorem dX0_image_8 : decode cX0_image 8 = .ok (.invokevirtual 61, 3) := dk_182 0 61 (dk_at dksX0_image_0 8 rfl rfl)
theorem dX0_image_11 : decode cX0_image 11 = .ok (.aload_n 0, 1) := dk_42 (dk_at dksX0_image_0 11 rfl rfl)
theorem dX0_image_12 : decode cX0_image 12 = .ok (.getfield 21, 3) := dk_180 0 21 (dk_at dksX0_image_0 12 rfl rfl)
theorem dX0_image_15 : decode cX0_image 15 = .ok (.getfield 155, 3) := dk_180 0 155 (dk_at dksX0_image_0 15 rfl rfl)
theorem dX0_image_18 : decode cX0_image 18 = .ok (.iconst 0, 1) := dk_3 (dk_at dksX0_image_0 18 rfl rfl)
theorem dX0_image_19 : decode cX0_image 19 = .ok (.iaload, 1) := dk_46 (dk_at dksX0_image_0 19 rfl rfl)
theorem dX0_image_20 : decode cX0_image 20 = .ok (.ireturn, 1) := dk_172 (dk_at dksX0_image_0 20 rfl rfl)
abbrev cX0_back : ByteArray := prog_1_method_102_code
def yX0_back : MethodName := ⟨RX0, "back", "()I"⟩
def dkwX0_back_0 : List UInt8 := [42, 180, 0, 21, 42, 180, 0, 25, 182, 0, 61, 42, 180, 0, 21, 180, 0, 155, 3, 46, 172]
abbrev dktX0_back_0 : List UInt8 := dkwX0_back_0 ++ []
theorem dksX0_back_0 : cX0_back.data.toList.drop 0 = dktX0_back_0 := by decide +kernel
theorem dX0_back_0 : decode cX0_back 0 = .ok (.aload_n 0, 1) := dk_42 (dk_at dksX0_back_0 0 rfl rfl)
theorem dX0_back_1 : decode cX0_back 1 = .ok (.getfield 21, 3) := dk_180 0 21 (dk_at dksX0_back_0 1 rfl rfl)
theorem dX0_back_4 : decode cX0_back 4 = .ok (.aload_n 0, 1) := dk_42 (dk_at dksX0_back_0 4 rfl rfl)
theorem dX0_back_5 : decode cX0_back 5 = .ok (.getfield 25, 3) := dk_180 0 25 (dk_at dksX0_back_0 5 rfl rfl)
theorem dX0_back_8 : decode cX0_back 8 = .ok (.invokevirtual 61, 3) := dk_182 0 61 (dk_at dksX0_back_0 8 rfl rfl)
theorem dX0_back_11 : decode cX0_back 11 = .ok (.aload_n 0, 1) := dk_42 (dk_at dksX0_back_0 11 rfl rfl)
theorem dX0_back_12 : decode cX0_back 12 = .ok (.getfield 21, 3) := dk_180 0 21 (dk_at dksX0_back_0 12 rfl rfl)
theorem dX0_back_15 : decode cX0_back 15 = .ok (.getfield 155, 3) := dk_180 0 155 (dk_at dksX0_back_0 15 rfl rfl)
theorem dX0_back_18 : decode cX0_back 18 = .ok (.iconst 0, 1) := dk_3 (dk_at dksX0_back_0 18 rfl rfl)
theorem dX0_back_19 : decode cX0_back 19 = .ok (.iaload, 1) := dk_46 (dk_at dksX0_back_0 19 rfl rfl)
theorem dX0_back_20 : decode cX0_back 20 = .ok (.ireturn, 1) := dk_172 (dk_at dksX0_back_0 20 rfl rfl)
abbrev cX0_about : ByteArray := prog_1_method_103_code
def yX0_about : MethodName := ⟨RX0, "about", "(I)I"⟩
def dkwX0_about_5 : List UInt8 := [172, 16, 254, 172]
abbrev dktX0_about_5 : List UInt8 := dkwX0_about_5 ++ []
def dkwX0_about_4 : List UInt8 := [180, 0, 21, 180, 0, 65, 8, 46, 172, 42, 180, 0, 21, 180, 0, 65, 16, 6, 46, 172, 42, 180, 0, 83]
abbrev dktX0_about_4 : List UInt8 := dkwX0_about_4 ++ dktX0_about_5
def dkwX0_about_3 : List UInt8 := [172, 42, 180, 0, 21, 180, 0, 65, 6, 46, 172, 42, 180, 0, 21, 180, 0, 65, 7, 46, 172, 42]
abbrev dktX0_about_3 : List UInt8 := dkwX0_about_3 ++ dktX0_about_4
def dkwX0_about_2 : List UInt8 := [42, 182, 0, 68, 172, 42, 180, 0, 21, 180, 0, 65, 4, 46, 172, 42, 180, 0, 21, 180, 0, 65, 5, 46]
abbrev dktX0_about_2 : List UInt8 := dkwX0_about_2 ++ dktX0_about_3
def dkwX0_about_1 : List UInt8 := [170, 0, 0, 0, 0, 0, 118, 0, 0, 0, 0, 0, 0, 0, 7, 0, 0, 0, 47, 0, 0, 0, 52, 0, 0, 0, 62, 0, 0, 0, 72, 0, 0, 0, 82, 0, 0, 0, 92, 0, 0, 0, 102, 0, 0, 0, 113]
abbrev dktX0_about_1 : List UInt8 := dkwX0_about_1 ++ dktX0_about_2
def dkwX0_about_0 : List UInt8 := [27]
abbrev dktX0_about_0 : List UInt8 := dkwX0_about_0 ++ dktX0_about_1
theorem dksX0_about_0 : cX0_about.data.toList.drop 0 = dktX0_about_0 := by decide +kernel
theorem dksX0_about_1 : cX0_about.data.toList.drop 1 = dktX0_about_1 := dk_seg dksX0_about_0 1 rfl rfl
theorem dksX0_about_2 : cX0_about.data.toList.drop 48 = dktX0_about_2 := dk_seg dksX0_about_1 47 rfl rfl
theorem dksX0_about_3 : cX0_about.data.toList.drop 72 = dktX0_about_3 := dk_seg dksX0_about_2 24 rfl rfl
theorem dksX0_about_4 : cX0_about.data.toList.drop 94 = dktX0_about_4 := dk_seg dksX0_about_3 22 rfl rfl
theorem dksX0_about_5 : cX0_about.data.toList.drop 118 = dktX0_about_5 := dk_seg dksX0_about_4 24 rfl rfl
theorem dX0_about_0 : decode cX0_about 0 = .ok (.iload_n 1, 1) := dk_27 (dk_at dksX0_about_0 0 rfl rfl)
theorem dX0_about_1 : decode cX0_about 1 = .ok (.tableswitch 118 0 7 #[47, 52, 62, 72, 82, 92, 102, 113], 47) := by decide +kernel
theorem dX0_about_48 : decode cX0_about 48 = .ok (.aload_n 0, 1) := dk_42 (dk_at dksX0_about_2 0 rfl rfl)
theorem dX0_about_49 : decode cX0_about 49 = .ok (.invokevirtual 68, 3) := dk_182 0 68 (dk_at dksX0_about_2 1 rfl rfl)
theorem dX0_about_52 : decode cX0_about 52 = .ok (.ireturn, 1) := dk_172 (dk_at dksX0_about_2 4 rfl rfl)
theorem dX0_about_53 : decode cX0_about 53 = .ok (.aload_n 0, 1) := dk_42 (dk_at dksX0_about_2 5 rfl rfl)
theorem dX0_about_54 : decode cX0_about 54 = .ok (.getfield 21, 3) := dk_180 0 21 (dk_at dksX0_about_2 6 rfl rfl)
theorem dX0_about_57 : decode cX0_about 57 = .ok (.getfield 65, 3) := dk_180 0 65 (dk_at dksX0_about_2 9 rfl rfl)
theorem dX0_about_60 : decode cX0_about 60 = .ok (.iconst 1, 1) := dk_4 (dk_at dksX0_about_2 12 rfl rfl)
theorem dX0_about_61 : decode cX0_about 61 = .ok (.iaload, 1) := dk_46 (dk_at dksX0_about_2 13 rfl rfl)
theorem dX0_about_62 : decode cX0_about 62 = .ok (.ireturn, 1) := dk_172 (dk_at dksX0_about_2 14 rfl rfl)
theorem dX0_about_63 : decode cX0_about 63 = .ok (.aload_n 0, 1) := dk_42 (dk_at dksX0_about_2 15 rfl rfl)
theorem dX0_about_64 : decode cX0_about 64 = .ok (.getfield 21, 3) := dk_180 0 21 (dk_at dksX0_about_2 16 rfl rfl)
theorem dX0_about_67 : decode cX0_about 67 = .ok (.getfield 65, 3) := dk_180 0 65 (dk_at dksX0_about_2 19 rfl rfl)
theorem dX0_about_70 : decode cX0_about 70 = .ok (.iconst 2, 1) := dk_5 (dk_at dksX0_about_2 22 rfl rfl)
theorem dX0_about_71 : decode cX0_about 71 = .ok (.iaload, 1) := dk_46 (dk_at dksX0_about_2 23 rfl rfl)
theorem dX0_about_72 : decode cX0_about 72 = .ok (.ireturn, 1) := dk_172 (dk_at dksX0_about_3 0 rfl rfl)
theorem dX0_about_73 : decode cX0_about 73 = .ok (.aload_n 0, 1) := dk_42 (dk_at dksX0_about_3 1 rfl rfl)
theorem dX0_about_74 : decode cX0_about 74 = .ok (.getfield 21, 3) := dk_180 0 21 (dk_at dksX0_about_3 2 rfl rfl)
theorem dX0_about_77 : decode cX0_about 77 = .ok (.getfield 65, 3) := dk_180 0 65 (dk_at dksX0_about_3 5 rfl rfl)
theorem dX0_about_80 : decode cX0_about 80 = .ok (.iconst 3, 1) := dk_6 (dk_at dksX0_about_3 8 rfl rfl)
theorem dX0_about_81 : decode cX0_about 81 = .ok (.iaload, 1) := dk_46 (dk_at dksX0_about_3 9 rfl rfl)
theorem dX0_about_82 : decode cX0_about 82 = .ok (.ireturn, 1) := dk_172 (dk_at dksX0_about_3 10 rfl rfl)
theorem dX0_about_83 : decode cX0_about 83 = .ok (.aload_n 0, 1) := dk_42 (dk_at dksX0_about_3 11 rfl rfl)
theorem dX0_about_84 : decode cX0_about 84 = .ok (.getfield 21, 3) := dk_180 0 21 (dk_at dksX0_about_3 12 rfl rfl)
theorem dX0_about_87 : decode cX0_about 87 = .ok (.getfield 65, 3) := dk_180 0 65 (dk_at dksX0_about_3 15 rfl rfl)
theorem dX0_about_90 : decode cX0_about 90 = .ok (.iconst 4, 1) := dk_7 (dk_at dksX0_about_3 18 rfl rfl)
theorem dX0_about_91 : decode cX0_about 91 = .ok (.iaload, 1) := dk_46 (dk_at dksX0_about_3 19 rfl rfl)
theorem dX0_about_92 : decode cX0_about 92 = .ok (.ireturn, 1) := dk_172 (dk_at dksX0_about_3 20 rfl rfl)
theorem dX0_about_93 : decode cX0_about 93 = .ok (.aload_n 0, 1) := dk_42 (dk_at dksX0_about_3 21 rfl rfl)
theorem dX0_about_94 : decode cX0_about 94 = .ok (.getfield 21, 3) := dk_180 0 21 (dk_at dksX0_about_4 0 rfl rfl)
theorem dX0_about_97 : decode cX0_about 97 = .ok (.getfield 65, 3) := dk_180 0 65 (dk_at dksX0_about_4 3 rfl rfl)
theorem dX0_about_100 : decode cX0_about 100 = .ok (.iconst 5, 1) := dk_8 (dk_at dksX0_about_4 6 rfl rfl)
theorem dX0_about_101 : decode cX0_about 101 = .ok (.iaload, 1) := dk_46 (dk_at dksX0_about_4 7 rfl rfl)
theorem dX0_about_102 : decode cX0_about 102 = .ok (.ireturn, 1) := dk_172 (dk_at dksX0_about_4 8 rfl rfl)
theorem dX0_about_103 : decode cX0_about 103 = .ok (.aload_n 0, 1) := dk_42 (dk_at dksX0_about_4 9 rfl rfl)
theorem dX0_about_104 : decode cX0_about 104 = .ok (.getfield 21, 3) := dk_180 0 21 (dk_at dksX0_about_4 10 rfl rfl)
theorem dX0_about_107 : decode cX0_about 107 = .ok (.getfield 65, 3) := dk_180 0 65 (dk_at dksX0_about_4 13 rfl rfl)
theorem dX0_about_110 : decode cX0_about 110 = .ok (.bipush 6, 2) := dk_16 6 (dk_at dksX0_about_4 16 rfl rfl)
theorem dX0_about_112 : decode cX0_about 112 = .ok (.iaload, 1) := dk_46 (dk_at dksX0_about_4 18 rfl rfl)
theorem dX0_about_113 : decode cX0_about 113 = .ok (.ireturn, 1) := dk_172 (dk_at dksX0_about_4 19 rfl rfl)
theorem dX0_about_114 : decode cX0_about 114 = .ok (.aload_n 0, 1) := dk_42 (dk_at dksX0_about_4 20 rfl rfl)
theorem dX0_about_115 : decode cX0_about 115 = .ok (.getfield 83, 3) := dk_180 0 83 (dk_at dksX0_about_4 21 rfl rfl)
theorem dX0_about_118 : decode cX0_about 118 = .ok (.ireturn, 1) := dk_172 (dk_at dksX0_about_5 0 rfl rfl)
theorem dX0_about_119 : decode cX0_about 119 = .ok (.bipush (-2), 2) := dk_16 254 (dk_at dksX0_about_5 1 rfl rfl)
theorem dX0_about_121 : decode cX0_about 121 = .ok (.ireturn, 1) := dk_172 (dk_at dksX0_about_5 3 rfl rfl)
theorem q123 : (Jvm.Cond.initialized "QuiverKin") ∈ lw_all := lw_g (lw_at lw_m1 1 rfl) rfl
theorem q159 : (Jvm.Cond.instantiable "QuiverKin" (21 : Nat)) ∈ lw_all := lw_g (lw_at lw_m1 37 rfl) rfl
theorem q161 : (Jvm.Cond.instanceMethod ({ cls := "QuiverKin", name := "<init>", desc := "()V" } : Jvm.MethodName)) ∈ lw_all := lw_g (lw_at lw_m1 39 rfl) rfl
theorem q162 : (Jvm.Cond.code ({ cls := "QuiverKin", name := "<init>", desc := "()V" } : Jvm.MethodName) prog_1_method_4_code (1 : Nat) (Option.none : Option Jvm.ClassFile.FieldType)) ∈ lw_all := lw_g (lw_at lw_m1 40 rfl) rfl
theorem q163 : (Jvm.Cond.methodLink "QuiverKin" (12 : Nat) ({ cls := "java/lang/Object", name := "<init>", desc := "()V" } : Jvm.MethodName)) ∈ lw_all := lw_g (lw_at lw_m1 41 rfl) rfl
theorem q166 : (Jvm.Cond.classLink "QuiverKin" (18 : Nat) "QuiverKin$State") ∈ lw_all := lw_g (lw_at lw_m1 44 rfl) rfl
theorem q168 : (Jvm.Cond.methodLink "QuiverKin" (20 : Nat) ({ cls := "QuiverKin$State", name := "<init>", desc := "()V" } : Jvm.MethodName)) ∈ lw_all := lw_g (lw_at lw_m1 46 rfl) rfl
theorem q177 : (Jvm.Cond.fieldLinkNest "QuiverKin" (65 : Nat) "QuiverKin$State" "n" "[I" "QuiverKin") ∈ lw_tbl := lw_at lw_m1 55 rfl
theorem q179 : (Jvm.Cond.fieldLinkNest "QuiverKin" (155 : Nat) "QuiverKin$State" "row" "[I" "QuiverKin") ∈ lw_tbl := lw_at lw_m1 57 rfl
theorem q181 : (Jvm.Cond.fieldLinkNest "QuiverKin" (76 : Nat) "QuiverKin$State" "temper" "[I" "QuiverKin") ∈ lw_tbl := lw_at lw_m1 59 rfl
theorem q183 : (Jvm.Cond.fieldLinkNest "QuiverKin" (326 : Nat) "QuiverKin$State" "hedge" "[I" "QuiverKin") ∈ lw_tbl := lw_at lw_m1 61 rfl
theorem q185 : (Jvm.Cond.fieldLinkNest "QuiverKin" (374 : Nat) "QuiverKin$State" "mine" "[I" "QuiverKin") ∈ lw_tbl := lw_at lw_m1 63 rfl
theorem q187 : (Jvm.Cond.fieldLinkNest "QuiverKin" (377 : Nat) "QuiverKin$State" "yours" "[I" "QuiverKin") ∈ lw_tbl := lw_at lw_m1 65 rfl
theorem q189 : (Jvm.Cond.fieldLinkNest "QuiverKin" (278 : Nat) "QuiverKin$State" "spite" "[[I" "QuiverKin") ∈ lw_tbl := lw_at lw_m1 67 rfl
theorem q191 : (Jvm.Cond.fieldLinkNest "QuiverKin" (347 : Nat) "QuiverKin$State" "guess" "[[I" "QuiverKin") ∈ lw_tbl := lw_at lw_m1 69 rfl
theorem q193 : (Jvm.Cond.fieldLinkNest "QuiverKin" (390 : Nat) "QuiverKin$State" "saying" "[[I" "QuiverKin") ∈ lw_tbl := lw_at lw_m1 71 rfl
theorem q195 : (Jvm.Cond.fieldLinkNest "QuiverKin" (426 : Nat) "QuiverKin$State" "told" "[[I" "QuiverKin") ∈ lw_tbl := lw_at lw_m1 73 rfl
theorem q197 : (Jvm.Cond.fieldLinkNest "QuiverKin" (267 : Nat) "QuiverKin$State" "step" "[[I" "QuiverKin") ∈ lw_tbl := lw_at lw_m1 75 rfl
theorem q199 : (Jvm.Cond.fieldLinkNest "QuiverKin" (90 : Nat) "QuiverKin$State" "text" "[LQuiverKin$Text;" "QuiverKin") ∈ lw_tbl := lw_at lw_m1 77 rfl
theorem q226 : (Jvm.Cond.methodLink "QuiverKin" (61 : Nat) ({ cls := "QuiverKin$State", name := "be", desc := "(LQuiverKin$State;)V" } : Jvm.MethodName)) ∈ lw_all := lw_g (lw_at lw_m1 104 rfl) rfl
theorem q239 : (Jvm.Cond.fieldLink "QuiverKin" (21 : Nat) "QuiverKin" "now" "LQuiverKin$State;") ∈ lw_all := lw_g (lw_at lw_m1 117 rfl) rfl
theorem q240 : (Jvm.Cond.fieldLink "QuiverKin" (25 : Nat) "QuiverKin" "image" "LQuiverKin$State;") ∈ lw_all := lw_g (lw_at lw_m1 118 rfl) rfl
theorem q241 : (Jvm.Cond.fieldLink "QuiverKin" (28 : Nat) "QuiverKin" "tape" "[B") ∈ lw_all := lw_g (lw_at lw_m1 119 rfl) rfl
theorem q242 : (Jvm.Cond.fieldLink "QuiverKin" (83 : Nat) "QuiverKin" "taped" "I") ∈ lw_all := lw_g (lw_at lw_m1 120 rfl) rfl
theorem q243 : (Jvm.Cond.fieldLink "QuiverKin" (32 : Nat) "QuiverKin" "fault" "I") ∈ lw_all := lw_g (lw_at lw_m1 121 rfl) rfl
theorem q244 : (Jvm.Cond.fieldLink "QuiverKin" (36 : Nat) "QuiverKin" "faultAt" "I") ∈ lw_all := lw_g (lw_at lw_m1 122 rfl) rfl
theorem q245 : (Jvm.Cond.fieldLink "QuiverKin" (39 : Nat) "QuiverKin" "names" "[I") ∈ lw_all := lw_g (lw_at lw_m1 123 rfl) rfl
theorem q246 : (Jvm.Cond.fieldLink "QuiverKin" (43 : Nat) "QuiverKin" "tried" "[I") ∈ lw_all := lw_g (lw_at lw_m1 124 rfl) rfl
theorem q247 : (Jvm.Cond.fieldLink "QuiverKin" (46 : Nat) "QuiverKin" "seats" "[I") ∈ lw_all := lw_g (lw_at lw_m1 125 rfl) rfl
theorem q248 : (Jvm.Cond.fieldLink "QuiverKin" (49 : Nat) "QuiverKin" "bestSeats" "[I") ∈ lw_all := lw_g (lw_at lw_m1 126 rfl) rfl
theorem q249 : (Jvm.Cond.fieldLink "QuiverKin" (289 : Nat) "QuiverKin" "least" "I") ∈ lw_all := lw_g (lw_at lw_m1 127 rfl) rfl
theorem q250 : (Jvm.Cond.fieldLink "QuiverKin" (284 : Nat) "QuiverKin" "most" "I") ∈ lw_all := lw_g (lw_at lw_m1 128 rfl) rfl
theorem q251 : (Jvm.Cond.fieldLink "QuiverKin" (292 : Nat) "QuiverKin" "asGood" "I") ∈ lw_all := lw_g (lw_at lw_m1 129 rfl) rfl
theorem q252 : (Jvm.Cond.fieldLink "QuiverKin" (308 : Nat) "QuiverKin" "flown" "I") ∈ lw_all := lw_g (lw_at lw_m1 130 rfl) rfl
theorem q253 : (Jvm.Cond.fieldLink "QuiverKin" (311 : Nat) "QuiverKin" "flownTo" "I") ∈ lw_all := lw_g (lw_at lw_m1 131 rfl) rfl
theorem q254 : (Jvm.Cond.fieldLink "QuiverKin" (314 : Nat) "QuiverKin" "turned" "I") ∈ lw_all := lw_g (lw_at lw_m1 132 rfl) rfl
theorem q255 : (Jvm.Cond.fieldLink "QuiverKin" (317 : Nat) "QuiverKin" "wayAtLast" "I") ∈ lw_all := lw_g (lw_at lw_m1 133 rfl) rfl
theorem q256 : (Jvm.Cond.fieldLink "QuiverKin" (52 : Nat) "QuiverKin" "fitting" "[I") ∈ lw_all := lw_g (lw_at lw_m1 134 rfl) rfl
theorem q257 : (Jvm.Cond.fieldLink "QuiverKin" (357 : Nat) "QuiverKin" "nFitting" "I") ∈ lw_all := lw_g (lw_at lw_m1 135 rfl) rfl
theorem q258 : (Jvm.Cond.fieldLink "QuiverKin" (55 : Nat) "QuiverKin" "alike" "[I") ∈ lw_all := lw_g (lw_at lw_m1 136 rfl) rfl
theorem q259 : (Jvm.Cond.fieldLink "QuiverKin" (58 : Nat) "QuiverKin" "known" "[B") ∈ lw_all := lw_g (lw_at lw_m1 137 rfl) rfl
theorem q260 : (Jvm.Cond.laysFinal "QuiverKin" "QuiverKin" "now" "LQuiverKin$State;") ∈ lw_all := lw_g (lw_at lw_m1 138 rfl) rfl
theorem q261 : (Jvm.Cond.soleField "QuiverKin" "now") ∈ lw_all := lw_g (lw_at lw_m1 139 rfl) rfl
theorem q262 : (Jvm.Cond.laysFinal "QuiverKin" "QuiverKin" "image" "LQuiverKin$State;") ∈ lw_all := lw_g (lw_at lw_m1 140 rfl) rfl
theorem q263 : (Jvm.Cond.soleField "QuiverKin" "image") ∈ lw_all := lw_g (lw_at lw_m1 141 rfl) rfl
theorem q264 : (Jvm.Cond.laysFinal "QuiverKin" "QuiverKin" "tape" "[B") ∈ lw_all := lw_g (lw_at lw_m1 142 rfl) rfl
theorem q265 : (Jvm.Cond.soleField "QuiverKin" "tape") ∈ lw_all := lw_g (lw_at lw_m1 143 rfl) rfl
theorem q266 : (Jvm.Cond.lays "QuiverKin" "QuiverKin" "taped" "I") ∈ lw_all := lw_g (lw_at lw_m1 144 rfl) rfl
theorem q267 : (Jvm.Cond.soleField "QuiverKin" "taped") ∈ lw_all := lw_g (lw_at lw_m1 145 rfl) rfl
theorem q268 : (Jvm.Cond.lays "QuiverKin" "QuiverKin" "fault" "I") ∈ lw_all := lw_g (lw_at lw_m1 146 rfl) rfl
theorem q269 : (Jvm.Cond.soleField "QuiverKin" "fault") ∈ lw_all := lw_g (lw_at lw_m1 147 rfl) rfl
theorem q270 : (Jvm.Cond.lays "QuiverKin" "QuiverKin" "faultAt" "I") ∈ lw_all := lw_g (lw_at lw_m1 148 rfl) rfl
theorem q271 : (Jvm.Cond.soleField "QuiverKin" "faultAt") ∈ lw_all := lw_g (lw_at lw_m1 149 rfl) rfl
theorem q272 : (Jvm.Cond.laysFinal "QuiverKin" "QuiverKin" "names" "[I") ∈ lw_all := lw_g (lw_at lw_m1 150 rfl) rfl
theorem q273 : (Jvm.Cond.soleField "QuiverKin" "names") ∈ lw_all := lw_g (lw_at lw_m1 151 rfl) rfl
theorem q274 : (Jvm.Cond.laysFinal "QuiverKin" "QuiverKin" "tried" "[I") ∈ lw_all := lw_g (lw_at lw_m1 152 rfl) rfl
theorem q275 : (Jvm.Cond.soleField "QuiverKin" "tried") ∈ lw_all := lw_g (lw_at lw_m1 153 rfl) rfl
theorem q276 : (Jvm.Cond.laysFinal "QuiverKin" "QuiverKin" "seats" "[I") ∈ lw_all := lw_g (lw_at lw_m1 154 rfl) rfl
theorem q277 : (Jvm.Cond.soleField "QuiverKin" "seats") ∈ lw_all := lw_g (lw_at lw_m1 155 rfl) rfl
theorem q278 : (Jvm.Cond.laysFinal "QuiverKin" "QuiverKin" "bestSeats" "[I") ∈ lw_all := lw_g (lw_at lw_m1 156 rfl) rfl
theorem q279 : (Jvm.Cond.soleField "QuiverKin" "bestSeats") ∈ lw_all := lw_g (lw_at lw_m1 157 rfl) rfl
theorem q280 : (Jvm.Cond.lays "QuiverKin" "QuiverKin" "least" "I") ∈ lw_all := lw_g (lw_at lw_m1 158 rfl) rfl
theorem q281 : (Jvm.Cond.soleField "QuiverKin" "least") ∈ lw_all := lw_g (lw_at lw_m1 159 rfl) rfl
theorem q282 : (Jvm.Cond.lays "QuiverKin" "QuiverKin" "most" "I") ∈ lw_all := lw_g (lw_at lw_m1 160 rfl) rfl
theorem q283 : (Jvm.Cond.soleField "QuiverKin" "most") ∈ lw_all := lw_g (lw_at lw_m1 161 rfl) rfl
theorem q284 : (Jvm.Cond.lays "QuiverKin" "QuiverKin" "asGood" "I") ∈ lw_all := lw_g (lw_at lw_m1 162 rfl) rfl
theorem q285 : (Jvm.Cond.soleField "QuiverKin" "asGood") ∈ lw_all := lw_g (lw_at lw_m1 163 rfl) rfl
theorem q286 : (Jvm.Cond.lays "QuiverKin" "QuiverKin" "flown" "I") ∈ lw_all := lw_g (lw_at lw_m1 164 rfl) rfl
theorem q287 : (Jvm.Cond.soleField "QuiverKin" "flown") ∈ lw_all := lw_g (lw_at lw_m1 165 rfl) rfl
theorem q288 : (Jvm.Cond.lays "QuiverKin" "QuiverKin" "flownTo" "I") ∈ lw_all := lw_g (lw_at lw_m1 166 rfl) rfl
theorem q289 : (Jvm.Cond.soleField "QuiverKin" "flownTo") ∈ lw_all := lw_g (lw_at lw_m1 167 rfl) rfl
theorem q290 : (Jvm.Cond.lays "QuiverKin" "QuiverKin" "turned" "I") ∈ lw_all := lw_g (lw_at lw_m1 168 rfl) rfl
theorem q291 : (Jvm.Cond.soleField "QuiverKin" "turned") ∈ lw_all := lw_g (lw_at lw_m1 169 rfl) rfl
theorem q292 : (Jvm.Cond.lays "QuiverKin" "QuiverKin" "wayAtLast" "I") ∈ lw_all := lw_g (lw_at lw_m1 170 rfl) rfl
theorem q293 : (Jvm.Cond.soleField "QuiverKin" "wayAtLast") ∈ lw_all := lw_g (lw_at lw_m1 171 rfl) rfl
theorem q294 : (Jvm.Cond.laysFinal "QuiverKin" "QuiverKin" "fitting" "[I") ∈ lw_all := lw_g (lw_at lw_m1 172 rfl) rfl
theorem q295 : (Jvm.Cond.soleField "QuiverKin" "fitting") ∈ lw_all := lw_g (lw_at lw_m1 173 rfl) rfl
theorem q296 : (Jvm.Cond.lays "QuiverKin" "QuiverKin" "nFitting" "I") ∈ lw_all := lw_g (lw_at lw_m1 174 rfl) rfl
theorem q297 : (Jvm.Cond.soleField "QuiverKin" "nFitting") ∈ lw_all := lw_g (lw_at lw_m1 175 rfl) rfl
theorem q298 : (Jvm.Cond.laysFinal "QuiverKin" "QuiverKin" "alike" "[I") ∈ lw_all := lw_g (lw_at lw_m1 176 rfl) rfl
theorem q299 : (Jvm.Cond.soleField "QuiverKin" "alike") ∈ lw_all := lw_g (lw_at lw_m1 177 rfl) rfl
theorem q300 : (Jvm.Cond.laysFinal "QuiverKin" "QuiverKin" "known" "[B") ∈ lw_all := lw_g (lw_at lw_m1 178 rfl) rfl
theorem q301 : (Jvm.Cond.soleField "QuiverKin" "known") ∈ lw_all := lw_g (lw_at lw_m1 179 rfl) rfl
theorem q302 : (Jvm.Cond.superclass "QuiverKin" "java/lang/Object") ∈ lw_all := lw_g (lw_at lw_m1 180 rfl) rfl
theorem q305 : (Jvm.Cond.instanceMethod ({ cls := "QuiverKin", name := "kin", desc := "(II)I" } : Jvm.MethodName)) ∈ lw_all := lw_g (lw_at lw_m1 183 rfl) rfl
theorem q306 : (Jvm.Cond.selects "QuiverKin" ({ cls := "QuiverKin", name := "kin", desc := "(II)I" } : Jvm.MethodName) ({ cls := "QuiverKin", name := "kin", desc := "(II)I" } : Jvm.MethodName)) ∈ lw_all := lw_g (lw_at lw_m1 184 rfl) rfl
theorem q307 : (Jvm.Cond.code ({ cls := "QuiverKin", name := "kin", desc := "(II)I" } : Jvm.MethodName) prog_1_method_7_code (4 : Nat) (Option.some Jvm.ClassFile.FieldType.int)) ∈ lw_all := lw_g (lw_at lw_m1 185 rfl) rfl
theorem q308 : (Jvm.Cond.methodLink "QuiverKin" (68 : Nat) ({ cls := "QuiverKin", name := "many", desc := "()I" } : Jvm.MethodName)) ∈ lw_all := lw_g (lw_at lw_m1 186 rfl) rfl
theorem q309 : (Jvm.Cond.privateMethod ({ cls := "QuiverKin", name := "many", desc := "()I" } : Jvm.MethodName)) ∈ lw_tbl := lw_at lw_m1 187 rfl
theorem q310 : (Jvm.Cond.instanceMethod ({ cls := "QuiverKin", name := "many", desc := "()I" } : Jvm.MethodName)) ∈ lw_all := lw_g (lw_at lw_m1 188 rfl) rfl
theorem q311 : (Jvm.Cond.code ({ cls := "QuiverKin", name := "many", desc := "()I" } : Jvm.MethodName) prog_1_method_5_code (1 : Nat) (Option.some Jvm.ClassFile.FieldType.int)) ∈ lw_all := lw_g (lw_at lw_m1 189 rfl) rfl
theorem q312 : (Jvm.Cond.methodLink "QuiverKin" (72 : Nat) ({ cls := "QuiverKin", name := "in", desc := "(III)Z" } : Jvm.MethodName)) ∈ lw_all := lw_g (lw_at lw_m1 190 rfl) rfl
theorem q313 : (Jvm.Cond.static ({ cls := "QuiverKin", name := "in", desc := "(III)Z" } : Jvm.MethodName)) ∈ lw_all := lw_g (lw_at lw_m1 191 rfl) rfl
theorem q314 : (Jvm.Cond.code ({ cls := "QuiverKin", name := "in", desc := "(III)Z" } : Jvm.MethodName) prog_1_method_1_code (3 : Nat) (Option.some Jvm.ClassFile.FieldType.boolean)) ∈ lw_all := lw_g (lw_at lw_m1 192 rfl) rfl
theorem q315 : (Jvm.Cond.methodLink "QuiverKin" (79 : Nat) ({ cls := "QuiverKin$State", name := "tells", desc := "(II)V" } : Jvm.MethodName)) ∈ lw_all := lw_g (lw_at lw_m1 193 rfl) rfl
theorem q320 : (Jvm.Cond.instanceMethod ({ cls := "QuiverKin", name := "feed", desc := "(IIIII)I" } : Jvm.MethodName)) ∈ lw_all := lw_g (lw_at lw_m1 198 rfl) rfl
theorem q321 : (Jvm.Cond.selects "QuiverKin" ({ cls := "QuiverKin", name := "feed", desc := "(IIIII)I" } : Jvm.MethodName) ({ cls := "QuiverKin", name := "feed", desc := "(IIIII)I" } : Jvm.MethodName)) ∈ lw_all := lw_g (lw_at lw_m1 199 rfl) rfl
theorem q322 : (Jvm.Cond.code ({ cls := "QuiverKin", name := "feed", desc := "(IIIII)I" } : Jvm.MethodName) prog_1_method_9_code (6 : Nat) (Option.some Jvm.ClassFile.FieldType.int)) ∈ lw_all := lw_g (lw_at lw_m1 200 rfl) rfl
theorem q323 : (Jvm.Cond.methodLink "QuiverKin" (86 : Nat) ({ cls := "QuiverKin", name := "put", desc := "(I)V" } : Jvm.MethodName)) ∈ lw_all := lw_g (lw_at lw_m1 201 rfl) rfl
theorem q324 : (Jvm.Cond.privateMethod ({ cls := "QuiverKin", name := "put", desc := "(I)V" } : Jvm.MethodName)) ∈ lw_tbl := lw_at lw_m1 202 rfl
theorem q325 : (Jvm.Cond.instanceMethod ({ cls := "QuiverKin", name := "put", desc := "(I)V" } : Jvm.MethodName)) ∈ lw_all := lw_g (lw_at lw_m1 203 rfl) rfl
theorem q326 : (Jvm.Cond.code ({ cls := "QuiverKin", name := "put", desc := "(I)V" } : Jvm.MethodName) prog_1_method_8_code (3 : Nat) (Option.none : Option Jvm.ClassFile.FieldType)) ∈ lw_all := lw_g (lw_at lw_m1 204 rfl) rfl
theorem q328 : (Jvm.Cond.instanceMethod ({ cls := "QuiverKin", name := "end", desc := "(I)I" } : Jvm.MethodName)) ∈ lw_all := lw_g (lw_at lw_m1 206 rfl) rfl
theorem q329 : (Jvm.Cond.selects "QuiverKin" ({ cls := "QuiverKin", name := "end", desc := "(I)I" } : Jvm.MethodName) ({ cls := "QuiverKin", name := "end", desc := "(I)I" } : Jvm.MethodName)) ∈ lw_all := lw_g (lw_at lw_m1 207 rfl) rfl
theorem q330 : (Jvm.Cond.code ({ cls := "QuiverKin", name := "end", desc := "(I)I" } : Jvm.MethodName) prog_1_method_10_code (2 : Nat) (Option.some Jvm.ClassFile.FieldType.int)) ∈ lw_all := lw_g (lw_at lw_m1 208 rfl) rfl
theorem q332 : (Jvm.Cond.instanceMethod ({ cls := "QuiverKin", name := "text", desc := "()I" } : Jvm.MethodName)) ∈ lw_all := lw_g (lw_at lw_m1 210 rfl) rfl
theorem q333 : (Jvm.Cond.selects "QuiverKin" ({ cls := "QuiverKin", name := "text", desc := "()I" } : Jvm.MethodName) ({ cls := "QuiverKin", name := "text", desc := "()I" } : Jvm.MethodName)) ∈ lw_all := lw_g (lw_at lw_m1 211 rfl) rfl
theorem q334 : (Jvm.Cond.codeWith ({ cls := "QuiverKin", name := "text", desc := "()I" } : Jvm.MethodName) prog_1_method_11_code (5 : Nat) (Option.some Jvm.ClassFile.FieldType.int) [((30 : Nat), (62 : Nat), (70 : Nat), (103 : Nat)), ((30 : Nat), (62 : Nat), (96 : Nat), (0 : Nat)), ((70 : Nat), (89 : Nat), (96 : Nat), (0 : Nat)), ((96 : Nat), (98 : Nat), (96 : Nat), (0 : Nat))]) ∈ lw_all := lw_g (lw_at lw_m1 212 rfl) rfl
theorem q335 : (Jvm.Cond.classLink "QuiverKin" (103 : Nat) "QuiverKin$Wrong") ∈ lw_all := lw_g (lw_at lw_m1 213 rfl) rfl
theorem q336 : (Jvm.Cond.classLink "QuiverKin" (94 : Nat) "QuiverKin$Tokens") ∈ lw_all := lw_g (lw_at lw_m1 214 rfl) rfl
theorem q338 : (Jvm.Cond.methodLink "QuiverKin" (96 : Nat) ({ cls := "QuiverKin$Tokens", name := "<init>", desc := "([BI)V" } : Jvm.MethodName)) ∈ lw_all := lw_g (lw_at lw_m1 216 rfl) rfl
theorem q367 : (Jvm.Cond.methodLink "QuiverKin" (99 : Nat) ({ cls := "QuiverKin$Tokens", name := "read", desc := "()LQuiverKin$Text;" } : Jvm.MethodName)) ∈ lw_all := lw_g (lw_at lw_m2 5 rfl) rfl
theorem q407 : (Jvm.Cond.fieldLinkNest "QuiverKin" (131 : Nat) "QuiverKin$Text" "law" "[LQuiverKin$Sum;" "QuiverKin") ∈ lw_tbl := lw_at lw_m2 45 rfl
theorem q411 : (Jvm.Cond.fieldLinkNest "QuiverKin" (244 : Nat) "QuiverKin$Text" "doings" "Ljava/util/ArrayList;" "QuiverKin") ∈ lw_tbl := lw_at lw_m2 49 rfl
theorem q537 : (Jvm.Cond.fieldLinkNest "QuiverKin" (105 : Nat) "QuiverKin$Wrong" "fault" "I" "QuiverKin") ∈ lw_tbl := lw_at lw_m2 175 rfl
theorem q539 : (Jvm.Cond.fieldLinkNest "QuiverKin" (106 : Nat) "QuiverKin$Wrong" "place" "I" "QuiverKin") ∈ lw_tbl := lw_at lw_m2 177 rfl
theorem q667 : (Jvm.Cond.selects "QuiverKin" ({ cls := "java/lang/Object", name := "getClass", desc := "()Ljava/lang/Class;" } : Jvm.MethodName) ({ cls := "java/lang/Object", name := "getClass", desc := "()Ljava/lang/Class;" } : Jvm.MethodName)) ∈ lw_all := lw_g (lw_at lw_m3 65 rfl) rfl
theorem q874 : (Jvm.Cond.instanceMethod ({ cls := "QuiverKin", name := "fault", desc := "(I)I" } : Jvm.MethodName)) ∈ lw_all := lw_g (lw_at lw_m4 32 rfl) rfl
theorem q875 : (Jvm.Cond.selects "QuiverKin" ({ cls := "QuiverKin", name := "fault", desc := "(I)I" } : Jvm.MethodName) ({ cls := "QuiverKin", name := "fault", desc := "(I)I" } : Jvm.MethodName)) ∈ lw_all := lw_g (lw_at lw_m4 33 rfl) rfl
theorem q876 : (Jvm.Cond.code ({ cls := "QuiverKin", name := "fault", desc := "(I)I" } : Jvm.MethodName) prog_1_method_12_code (2 : Nat) (Option.some Jvm.ClassFile.FieldType.int)) ∈ lw_all := lw_g (lw_at lw_m4 34 rfl) rfl
theorem q878 : (Jvm.Cond.instanceMethod ({ cls := "QuiverKin", name := "by", desc := "(I)Z" } : Jvm.MethodName)) ∈ lw_all := lw_g (lw_at lw_m4 36 rfl) rfl
theorem q879 : (Jvm.Cond.selects "QuiverKin" ({ cls := "QuiverKin", name := "by", desc := "(I)Z" } : Jvm.MethodName) ({ cls := "QuiverKin", name := "by", desc := "(I)Z" } : Jvm.MethodName)) ∈ lw_all := lw_g (lw_at lw_m4 37 rfl) rfl
theorem q880 : (Jvm.Cond.code ({ cls := "QuiverKin", name := "by", desc := "(I)Z" } : Jvm.MethodName) prog_1_method_14_code (2 : Nat) (Option.some Jvm.ClassFile.FieldType.boolean)) ∈ lw_all := lw_g (lw_at lw_m4 38 rfl) rfl
theorem q881 : (Jvm.Cond.methodLink "QuiverKin" (109 : Nat) ({ cls := "QuiverKin", name := "isText", desc := "(I)Z" } : Jvm.MethodName)) ∈ lw_all := lw_g (lw_at lw_m4 39 rfl) rfl
theorem q882 : (Jvm.Cond.privateMethod ({ cls := "QuiverKin", name := "isText", desc := "(I)Z" } : Jvm.MethodName)) ∈ lw_tbl := lw_at lw_m4 40 rfl
theorem q883 : (Jvm.Cond.instanceMethod ({ cls := "QuiverKin", name := "isText", desc := "(I)Z" } : Jvm.MethodName)) ∈ lw_all := lw_g (lw_at lw_m4 41 rfl) rfl
theorem q884 : (Jvm.Cond.code ({ cls := "QuiverKin", name := "isText", desc := "(I)Z" } : Jvm.MethodName) prog_1_method_13_code (2 : Nat) (Option.some Jvm.ClassFile.FieldType.boolean)) ∈ lw_all := lw_g (lw_at lw_m4 42 rfl) rfl
theorem q886 : (Jvm.Cond.instanceMethod ({ cls := "QuiverKin", name := "reach", desc := "(I)I" } : Jvm.MethodName)) ∈ lw_all := lw_g (lw_at lw_m4 44 rfl) rfl
theorem q887 : (Jvm.Cond.selects "QuiverKin" ({ cls := "QuiverKin", name := "reach", desc := "(I)I" } : Jvm.MethodName) ({ cls := "QuiverKin", name := "reach", desc := "(I)I" } : Jvm.MethodName)) ∈ lw_all := lw_g (lw_at lw_m4 45 rfl) rfl
theorem q888 : (Jvm.Cond.code ({ cls := "QuiverKin", name := "reach", desc := "(I)I" } : Jvm.MethodName) prog_1_method_27_code (2 : Nat) (Option.some Jvm.ClassFile.FieldType.int)) ∈ lw_all := lw_g (lw_at lw_m4 46 rfl) rfl
theorem q889 : (Jvm.Cond.methodLink "QuiverKin" (165 : Nat) ({ cls := "QuiverKin", name := "canReach", desc := "(I)Z" } : Jvm.MethodName)) ∈ lw_all := lw_g (lw_at lw_m4 47 rfl) rfl
theorem q890 : (Jvm.Cond.privateMethod ({ cls := "QuiverKin", name := "canReach", desc := "(I)Z" } : Jvm.MethodName)) ∈ lw_tbl := lw_at lw_m4 48 rfl
theorem q891 : (Jvm.Cond.instanceMethod ({ cls := "QuiverKin", name := "canReach", desc := "(I)Z" } : Jvm.MethodName)) ∈ lw_all := lw_g (lw_at lw_m4 49 rfl) rfl
theorem q892 : (Jvm.Cond.code ({ cls := "QuiverKin", name := "canReach", desc := "(I)Z" } : Jvm.MethodName) prog_1_method_22_code (2 : Nat) (Option.some Jvm.ClassFile.FieldType.boolean)) ∈ lw_all := lw_g (lw_at lw_m4 50 rfl) rfl
theorem q893 : (Jvm.Cond.methodLink "QuiverKin" (152 : Nat) ({ cls := "QuiverKin", name := "isKin", desc := "(I)Z" } : Jvm.MethodName)) ∈ lw_all := lw_g (lw_at lw_m4 51 rfl) rfl
theorem q894 : (Jvm.Cond.privateMethod ({ cls := "QuiverKin", name := "isKin", desc := "(I)Z" } : Jvm.MethodName)) ∈ lw_tbl := lw_at lw_m4 52 rfl
theorem q895 : (Jvm.Cond.instanceMethod ({ cls := "QuiverKin", name := "isKin", desc := "(I)Z" } : Jvm.MethodName)) ∈ lw_all := lw_g (lw_at lw_m4 53 rfl) rfl
theorem q896 : (Jvm.Cond.code ({ cls := "QuiverKin", name := "isKin", desc := "(I)Z" } : Jvm.MethodName) prog_1_method_6_code (2 : Nat) (Option.some Jvm.ClassFile.FieldType.boolean)) ∈ lw_all := lw_g (lw_at lw_m4 54 rfl) rfl
theorem q897 : (Jvm.Cond.methodLink "QuiverKin" (158 : Nat) ({ cls := "QuiverKin", name := "has", desc := "(II)Z" } : Jvm.MethodName)) ∈ lw_all := lw_g (lw_at lw_m4 55 rfl) rfl
theorem q898 : (Jvm.Cond.static ({ cls := "QuiverKin", name := "has", desc := "(II)Z" } : Jvm.MethodName)) ∈ lw_all := lw_g (lw_at lw_m4 56 rfl) rfl
theorem q899 : (Jvm.Cond.code ({ cls := "QuiverKin", name := "has", desc := "(II)Z" } : Jvm.MethodName) prog_1_method_2_code (2 : Nat) (Option.some Jvm.ClassFile.FieldType.boolean)) ∈ lw_all := lw_g (lw_at lw_m4 57 rfl) rfl
theorem q900 : (Jvm.Cond.methodLink "QuiverKin" (168 : Nat) ({ cls := "QuiverKin$State", name := "keeps", desc := "()V" } : Jvm.MethodName)) ∈ lw_all := lw_g (lw_at lw_m4 58 rfl) rfl
theorem q904 : (Jvm.Cond.methodLink "QuiverKin" (171 : Nat) ({ cls := "QuiverKin", name := "reaches", desc := "([II)V" } : Jvm.MethodName)) ∈ lw_all := lw_g (lw_at lw_m4 62 rfl) rfl
theorem q905 : (Jvm.Cond.static ({ cls := "QuiverKin", name := "reaches", desc := "([II)V" } : Jvm.MethodName)) ∈ lw_all := lw_g (lw_at lw_m4 63 rfl) rfl
theorem q906 : (Jvm.Cond.code ({ cls := "QuiverKin", name := "reaches", desc := "([II)V" } : Jvm.MethodName) prog_1_method_23_code (2 : Nat) (Option.none : Option Jvm.ClassFile.FieldType)) ∈ lw_all := lw_g (lw_at lw_m4 64 rfl) rfl
theorem q907 : (Jvm.Cond.methodLink "QuiverKin" (162 : Nat) ({ cls := "java/lang/Math", name := "min", desc := "(II)I" } : Jvm.MethodName)) ∈ lw_all := lw_g (lw_at lw_m4 65 rfl) rfl
theorem q909 : (Jvm.Cond.instanceMethod ({ cls := "QuiverKin", name := "down", desc := "(II)Z" } : Jvm.MethodName)) ∈ lw_all := lw_g (lw_at lw_m4 67 rfl) rfl
theorem q910 : (Jvm.Cond.selects "QuiverKin" ({ cls := "QuiverKin", name := "down", desc := "(II)Z" } : Jvm.MethodName) ({ cls := "QuiverKin", name := "down", desc := "(II)Z" } : Jvm.MethodName)) ∈ lw_all := lw_g (lw_at lw_m4 68 rfl) rfl
theorem q911 : (Jvm.Cond.code ({ cls := "QuiverKin", name := "down", desc := "(II)Z" } : Jvm.MethodName) prog_1_method_28_code (3 : Nat) (Option.some Jvm.ClassFile.FieldType.boolean)) ∈ lw_all := lw_g (lw_at lw_m4 69 rfl) rfl
theorem q912 : (Jvm.Cond.methodLink "QuiverKin" (174 : Nat) ({ cls := "QuiverKin", name := "canPut", desc := "(II)Z" } : Jvm.MethodName)) ∈ lw_all := lw_g (lw_at lw_m4 70 rfl) rfl
theorem q913 : (Jvm.Cond.privateMethod ({ cls := "QuiverKin", name := "canPut", desc := "(II)Z" } : Jvm.MethodName)) ∈ lw_tbl := lw_at lw_m4 71 rfl
theorem q914 : (Jvm.Cond.instanceMethod ({ cls := "QuiverKin", name := "canPut", desc := "(II)Z" } : Jvm.MethodName)) ∈ lw_all := lw_g (lw_at lw_m4 72 rfl) rfl
theorem q915 : (Jvm.Cond.code ({ cls := "QuiverKin", name := "canPut", desc := "(II)Z" } : Jvm.MethodName) prog_1_method_24_code (3 : Nat) (Option.some Jvm.ClassFile.FieldType.boolean)) ∈ lw_all := lw_g (lw_at lw_m4 73 rfl) rfl
theorem q917 : (Jvm.Cond.instanceMethod ({ cls := "QuiverKin", name := "strap", desc := "(I)Z" } : Jvm.MethodName)) ∈ lw_all := lw_g (lw_at lw_m4 75 rfl) rfl
theorem q918 : (Jvm.Cond.selects "QuiverKin" ({ cls := "QuiverKin", name := "strap", desc := "(I)Z" } : Jvm.MethodName) ({ cls := "QuiverKin", name := "strap", desc := "(I)Z" } : Jvm.MethodName)) ∈ lw_all := lw_g (lw_at lw_m4 76 rfl) rfl
theorem q919 : (Jvm.Cond.code ({ cls := "QuiverKin", name := "strap", desc := "(I)Z" } : Jvm.MethodName) prog_1_method_29_code (2 : Nat) (Option.some Jvm.ClassFile.FieldType.boolean)) ∈ lw_all := lw_g (lw_at lw_m4 77 rfl) rfl
theorem q921 : (Jvm.Cond.instanceMethod ({ cls := "QuiverKin", name := "swap", desc := "(II)Z" } : Jvm.MethodName)) ∈ lw_all := lw_g (lw_at lw_m4 79 rfl) rfl
theorem q922 : (Jvm.Cond.selects "QuiverKin" ({ cls := "QuiverKin", name := "swap", desc := "(II)Z" } : Jvm.MethodName) ({ cls := "QuiverKin", name := "swap", desc := "(II)Z" } : Jvm.MethodName)) ∈ lw_all := lw_g (lw_at lw_m4 80 rfl) rfl
theorem q923 : (Jvm.Cond.code ({ cls := "QuiverKin", name := "swap", desc := "(II)Z" } : Jvm.MethodName) prog_1_method_30_code (3 : Nat) (Option.some Jvm.ClassFile.FieldType.boolean)) ∈ lw_all := lw_g (lw_at lw_m4 81 rfl) rfl
theorem q924 : (Jvm.Cond.methodLink "QuiverKin" (177 : Nat) ({ cls := "QuiverKin", name := "canSwap", desc := "(II)Z" } : Jvm.MethodName)) ∈ lw_all := lw_g (lw_at lw_m4 82 rfl) rfl
theorem q925 : (Jvm.Cond.privateMethod ({ cls := "QuiverKin", name := "canSwap", desc := "(II)Z" } : Jvm.MethodName)) ∈ lw_tbl := lw_at lw_m4 83 rfl
theorem q926 : (Jvm.Cond.instanceMethod ({ cls := "QuiverKin", name := "canSwap", desc := "(II)Z" } : Jvm.MethodName)) ∈ lw_all := lw_g (lw_at lw_m4 84 rfl) rfl
theorem q927 : (Jvm.Cond.code ({ cls := "QuiverKin", name := "canSwap", desc := "(II)Z" } : Jvm.MethodName) prog_1_method_25_code (3 : Nat) (Option.some Jvm.ClassFile.FieldType.boolean)) ∈ lw_all := lw_g (lw_at lw_m4 85 rfl) rfl
theorem q928 : (Jvm.Cond.methodLink "QuiverKin" (117 : Nat) ({ cls := "QuiverKin", name := "seatOf", desc := "([II)I" } : Jvm.MethodName)) ∈ lw_all := lw_g (lw_at lw_m4 86 rfl) rfl
theorem q929 : (Jvm.Cond.privateMethod ({ cls := "QuiverKin", name := "seatOf", desc := "([II)I" } : Jvm.MethodName)) ∈ lw_tbl := lw_at lw_m4 87 rfl
theorem q930 : (Jvm.Cond.instanceMethod ({ cls := "QuiverKin", name := "seatOf", desc := "([II)I" } : Jvm.MethodName)) ∈ lw_all := lw_g (lw_at lw_m4 88 rfl) rfl
theorem q931 : (Jvm.Cond.code ({ cls := "QuiverKin", name := "seatOf", desc := "([II)I" } : Jvm.MethodName) prog_1_method_16_code (4 : Nat) (Option.some Jvm.ClassFile.FieldType.int)) ∈ lw_all := lw_g (lw_at lw_m4 89 rfl) rfl
theorem q932 : (Jvm.Cond.methodLink "QuiverKin" (180 : Nat) ({ cls := "QuiverKin", name := "swaps", desc := "([III)V" } : Jvm.MethodName)) ∈ lw_all := lw_g (lw_at lw_m4 90 rfl) rfl
theorem q933 : (Jvm.Cond.static ({ cls := "QuiverKin", name := "swaps", desc := "([III)V" } : Jvm.MethodName)) ∈ lw_all := lw_g (lw_at lw_m4 91 rfl) rfl
theorem q934 : (Jvm.Cond.code ({ cls := "QuiverKin", name := "swaps", desc := "([III)V" } : Jvm.MethodName) prog_1_method_26_code (4 : Nat) (Option.none : Option Jvm.ClassFile.FieldType)) ∈ lw_all := lw_g (lw_at lw_m4 92 rfl) rfl
theorem q936 : (Jvm.Cond.instanceMethod ({ cls := "QuiverKin", name := "dinner", desc := "(I)I" } : Jvm.MethodName)) ∈ lw_all := lw_g (lw_at lw_m4 94 rfl) rfl
theorem q937 : (Jvm.Cond.selects "QuiverKin" ({ cls := "QuiverKin", name := "dinner", desc := "(I)I" } : Jvm.MethodName) ({ cls := "QuiverKin", name := "dinner", desc := "(I)I" } : Jvm.MethodName)) ∈ lw_all := lw_g (lw_at lw_m4 95 rfl) rfl
theorem q938 : (Jvm.Cond.code ({ cls := "QuiverKin", name := "dinner", desc := "(I)I" } : Jvm.MethodName) prog_1_method_35_code (4 : Nat) (Option.some Jvm.ClassFile.FieldType.int)) ∈ lw_all := lw_g (lw_at lw_m4 96 rfl) rfl
theorem q939 : (Jvm.Cond.methodLink "QuiverKin" (207 : Nat) ({ cls := "QuiverKin", name := "passes", desc := "([I)I" } : Jvm.MethodName)) ∈ lw_all := lw_g (lw_at lw_m4 97 rfl) rfl
theorem q940 : (Jvm.Cond.privateMethod ({ cls := "QuiverKin", name := "passes", desc := "([I)I" } : Jvm.MethodName)) ∈ lw_tbl := lw_at lw_m4 98 rfl
theorem q941 : (Jvm.Cond.instanceMethod ({ cls := "QuiverKin", name := "passes", desc := "([I)I" } : Jvm.MethodName)) ∈ lw_all := lw_g (lw_at lw_m4 99 rfl) rfl
theorem q942 : (Jvm.Cond.code ({ cls := "QuiverKin", name := "passes", desc := "([I)I" } : Jvm.MethodName) prog_1_method_34_code (5 : Nat) (Option.some Jvm.ClassFile.FieldType.int)) ∈ lw_all := lw_g (lw_at lw_m4 100 rfl) rfl
theorem q943 : (Jvm.Cond.methodLink "QuiverKin" (194 : Nat) ({ cls := "QuiverKin", name := "drawn", desc := "([II)I" } : Jvm.MethodName)) ∈ lw_all := lw_g (lw_at lw_m4 101 rfl) rfl
theorem q944 : (Jvm.Cond.static ({ cls := "QuiverKin", name := "drawn", desc := "([II)I" } : Jvm.MethodName)) ∈ lw_all := lw_g (lw_at lw_m4 102 rfl) rfl
theorem q945 : (Jvm.Cond.code ({ cls := "QuiverKin", name := "drawn", desc := "([II)I" } : Jvm.MethodName) prog_1_method_31_code (3 : Nat) (Option.some Jvm.ClassFile.FieldType.int)) ∈ lw_all := lw_g (lw_at lw_m4 103 rfl) rfl
theorem q946 : (Jvm.Cond.methodLink "QuiverKin" (147 : Nat) ({ cls := "QuiverKin", name := "rules", desc := "()LQuiverKin$Text;" } : Jvm.MethodName)) ∈ lw_all := lw_g (lw_at lw_m4 104 rfl) rfl
theorem q947 : (Jvm.Cond.privateMethod ({ cls := "QuiverKin", name := "rules", desc := "()LQuiverKin$Text;" } : Jvm.MethodName)) ∈ lw_tbl := lw_at lw_m4 105 rfl
theorem q948 : (Jvm.Cond.instanceMethod ({ cls := "QuiverKin", name := "rules", desc := "()LQuiverKin$Text;" } : Jvm.MethodName)) ∈ lw_all := lw_g (lw_at lw_m4 106 rfl) rfl
theorem q949 : (Jvm.Cond.code ({ cls := "QuiverKin", name := "rules", desc := "()LQuiverKin$Text;" } : Jvm.MethodName) prog_1_method_15_code (1 : Nat) (Option.some (Jvm.ClassFile.FieldType.object "QuiverKin$Text"))) ∈ lw_all := lw_g (lw_at lw_m4 107 rfl) rfl
theorem q950 : (Jvm.Cond.fieldLink "QuiverKin" (113 : Nat) "QuiverKin" "NOTHING" "LQuiverKin$Text;") ∈ lw_all := lw_g (lw_at lw_m4 108 rfl) rfl
theorem q951 : (Jvm.Cond.laysStatic "QuiverKin" "NOTHING" "LQuiverKin$Text;") ∈ lw_tbl := lw_at lw_m4 109 rfl
theorem q952 : (Jvm.Cond.methodLink "QuiverKin" (197 : Nat) ({ cls := "QuiverKin", name := "reachesBy", desc := "(LQuiverKin$Text;[II)I" } : Jvm.MethodName)) ∈ lw_all := lw_g (lw_at lw_m4 110 rfl) rfl
theorem q953 : (Jvm.Cond.privateMethod ({ cls := "QuiverKin", name := "reachesBy", desc := "(LQuiverKin$Text;[II)I" } : Jvm.MethodName)) ∈ lw_tbl := lw_at lw_m4 111 rfl
theorem q954 : (Jvm.Cond.instanceMethod ({ cls := "QuiverKin", name := "reachesBy", desc := "(LQuiverKin$Text;[II)I" } : Jvm.MethodName)) ∈ lw_all := lw_g (lw_at lw_m4 112 rfl) rfl
theorem q955 : (Jvm.Cond.code ({ cls := "QuiverKin", name := "reachesBy", desc := "(LQuiverKin$Text;[II)I" } : Jvm.MethodName) prog_1_method_20_code (4 : Nat) (Option.some Jvm.ClassFile.FieldType.int)) ∈ lw_all := lw_g (lw_at lw_m4 113 rfl) rfl
theorem q956 : (Jvm.Cond.methodLink "QuiverKin" (127 : Nat) ({ cls := "QuiverKin", name := "namesOf", desc := "([II)V" } : Jvm.MethodName)) ∈ lw_all := lw_g (lw_at lw_m4 114 rfl) rfl
theorem q957 : (Jvm.Cond.privateMethod ({ cls := "QuiverKin", name := "namesOf", desc := "([II)V" } : Jvm.MethodName)) ∈ lw_tbl := lw_at lw_m4 115 rfl
theorem q958 : (Jvm.Cond.instanceMethod ({ cls := "QuiverKin", name := "namesOf", desc := "([II)V" } : Jvm.MethodName)) ∈ lw_all := lw_g (lw_at lw_m4 116 rfl) rfl
theorem q959 : (Jvm.Cond.code ({ cls := "QuiverKin", name := "namesOf", desc := "([II)V" } : Jvm.MethodName) prog_1_method_19_code (4 : Nat) (Option.none : Option Jvm.ClassFile.FieldType)) ∈ lw_all := lw_g (lw_at lw_m4 117 rfl) rfl
theorem q960 : (Jvm.Cond.methodLink "QuiverKin" (124 : Nat) ({ cls := "QuiverKin", name := "acrossOf", desc := "([II)I" } : Jvm.MethodName)) ∈ lw_all := lw_g (lw_at lw_m4 118 rfl) rfl
theorem q961 : (Jvm.Cond.privateMethod ({ cls := "QuiverKin", name := "acrossOf", desc := "([II)I" } : Jvm.MethodName)) ∈ lw_tbl := lw_at lw_m4 119 rfl
theorem q962 : (Jvm.Cond.instanceMethod ({ cls := "QuiverKin", name := "acrossOf", desc := "([II)I" } : Jvm.MethodName)) ∈ lw_all := lw_g (lw_at lw_m4 120 rfl) rfl
theorem q963 : (Jvm.Cond.code ({ cls := "QuiverKin", name := "acrossOf", desc := "([II)I" } : Jvm.MethodName) prog_1_method_18_code (3 : Nat) (Option.some Jvm.ClassFile.FieldType.int)) ∈ lw_all := lw_g (lw_at lw_m4 121 rfl) rfl
theorem q964 : (Jvm.Cond.methodLink "QuiverKin" (121 : Nat) ({ cls := "QuiverKin", name := "whoAt", desc := "([II)I" } : Jvm.MethodName)) ∈ lw_all := lw_g (lw_at lw_m4 122 rfl) rfl
theorem q965 : (Jvm.Cond.privateMethod ({ cls := "QuiverKin", name := "whoAt", desc := "([II)I" } : Jvm.MethodName)) ∈ lw_tbl := lw_at lw_m4 123 rfl
theorem q966 : (Jvm.Cond.instanceMethod ({ cls := "QuiverKin", name := "whoAt", desc := "([II)I" } : Jvm.MethodName)) ∈ lw_all := lw_g (lw_at lw_m4 124 rfl) rfl
theorem q967 : (Jvm.Cond.code ({ cls := "QuiverKin", name := "whoAt", desc := "([II)I" } : Jvm.MethodName) prog_1_method_17_code (3 : Nat) (Option.some Jvm.ClassFile.FieldType.int)) ∈ lw_all := lw_g (lw_at lw_m4 125 rfl) rfl
theorem q968 : (Jvm.Cond.interfaceEntry "QuiverKin" (137 : Nat)) ∈ lw_tbl := lw_at lw_m4 126 rfl
theorem q969 : (Jvm.Cond.methodLink "QuiverKin" (137 : Nat) ({ cls := "QuiverKin$Sum", name := "of", desc := "([I)J" } : Jvm.MethodName)) ∈ lw_all := lw_g (lw_at lw_m4 127 rfl) rfl
theorem q1073 : (Jvm.Cond.methodLink "QuiverKin" (143 : Nat) ({ cls := "QuiverKin", name := "held", desc := "(JII)I" } : Jvm.MethodName)) ∈ lw_all := lw_g (lw_at lw_m4 231 rfl) rfl
theorem q1074 : (Jvm.Cond.static ({ cls := "QuiverKin", name := "held", desc := "(JII)I" } : Jvm.MethodName)) ∈ lw_all := lw_g (lw_at lw_m4 232 rfl) rfl
theorem q1075 : (Jvm.Cond.code ({ cls := "QuiverKin", name := "held", desc := "(JII)I" } : Jvm.MethodName) prog_1_method_3_code (4 : Nat) (Option.some Jvm.ClassFile.FieldType.int)) ∈ lw_all := lw_g (lw_at lw_m4 233 rfl) rfl
theorem q1076 : (Jvm.Cond.methodLink "QuiverKin" (3 : Nat) ({ cls := "java/lang/Math", name := "min", desc := "(JJ)J" } : Jvm.MethodName)) ∈ lw_all := lw_g (lw_at lw_m4 234 rfl) rfl
theorem q1077 : (Jvm.Cond.methodLink "QuiverKin" (9 : Nat) ({ cls := "java/lang/Math", name := "max", desc := "(JJ)J" } : Jvm.MethodName)) ∈ lw_all := lw_g (lw_at lw_m4 235 rfl) rfl
theorem q1078 : (Jvm.Cond.methodLink "QuiverKin" (201 : Nat) ({ cls := "QuiverKin", name := "bearsOf", desc := "([II)I" } : Jvm.MethodName)) ∈ lw_all := lw_g (lw_at lw_m4 236 rfl) rfl
theorem q1079 : (Jvm.Cond.privateMethod ({ cls := "QuiverKin", name := "bearsOf", desc := "([II)I" } : Jvm.MethodName)) ∈ lw_tbl := lw_at lw_m4 237 rfl
theorem q1080 : (Jvm.Cond.instanceMethod ({ cls := "QuiverKin", name := "bearsOf", desc := "([II)I" } : Jvm.MethodName)) ∈ lw_all := lw_g (lw_at lw_m4 238 rfl) rfl
theorem q1081 : (Jvm.Cond.code ({ cls := "QuiverKin", name := "bearsOf", desc := "([II)I" } : Jvm.MethodName) prog_1_method_21_code (3 : Nat) (Option.some Jvm.ClassFile.FieldType.int)) ∈ lw_all := lw_g (lw_at lw_m4 239 rfl) rfl
theorem q1082 : (Jvm.Cond.constantLong "QuiverKin" (150 : Nat) (5 : Int64)) ∈ lw_all := lw_g (lw_at lw_m5 0 rfl) rfl
theorem q1083 : (Jvm.Cond.methodLink "QuiverKin" (204 : Nat) ({ cls := "QuiverKin", name := "looses", desc := "([II)V" } : Jvm.MethodName)) ∈ lw_all := lw_g (lw_at lw_m5 1 rfl) rfl
theorem q1084 : (Jvm.Cond.privateMethod ({ cls := "QuiverKin", name := "looses", desc := "([II)V" } : Jvm.MethodName)) ∈ lw_tbl := lw_at lw_m5 2 rfl
theorem q1085 : (Jvm.Cond.instanceMethod ({ cls := "QuiverKin", name := "looses", desc := "([II)V" } : Jvm.MethodName)) ∈ lw_all := lw_g (lw_at lw_m5 3 rfl) rfl
theorem q1086 : (Jvm.Cond.code ({ cls := "QuiverKin", name := "looses", desc := "([II)V" } : Jvm.MethodName) prog_1_method_33_code (6 : Nat) (Option.none : Option Jvm.ClassFile.FieldType)) ∈ lw_all := lw_g (lw_at lw_m5 4 rfl) rfl
theorem q1087 : (Jvm.Cond.methodLink "QuiverKin" (190 : Nat) ({ cls := "QuiverKin", name := "writes", desc := "([IIII)V" } : Jvm.MethodName)) ∈ lw_all := lw_g (lw_at lw_m5 5 rfl) rfl
theorem q1088 : (Jvm.Cond.static ({ cls := "QuiverKin", name := "writes", desc := "([IIII)V" } : Jvm.MethodName)) ∈ lw_all := lw_g (lw_at lw_m5 6 rfl) rfl
theorem q1089 : (Jvm.Cond.code ({ cls := "QuiverKin", name := "writes", desc := "([IIII)V" } : Jvm.MethodName) prog_1_method_32_code (5 : Nat) (Option.none : Option Jvm.ClassFile.FieldType)) ∈ lw_all := lw_g (lw_at lw_m5 7 rfl) rfl
theorem q1090 : (Jvm.Cond.methodLink "QuiverKin" (184 : Nat) ({ cls := "java/lang/System", name := "arraycopy", desc := "(Ljava/lang/Object;ILjava/lang/Object;II)V" } : Jvm.MethodName)) ∈ lw_all := lw_g (lw_at lw_m5 8 rfl) rfl
theorem q1092 : (Jvm.Cond.instanceMethod ({ cls := "QuiverKin", name := "played", desc := "(I)I" } : Jvm.MethodName)) ∈ lw_all := lw_g (lw_at lw_m5 10 rfl) rfl
theorem q1093 : (Jvm.Cond.selects "QuiverKin" ({ cls := "QuiverKin", name := "played", desc := "(I)I" } : Jvm.MethodName) ({ cls := "QuiverKin", name := "played", desc := "(I)I" } : Jvm.MethodName)) ∈ lw_all := lw_g (lw_at lw_m5 11 rfl) rfl
theorem q1094 : (Jvm.Cond.code ({ cls := "QuiverKin", name := "played", desc := "(I)I" } : Jvm.MethodName) prog_1_method_38_code (4 : Nat) (Option.some Jvm.ClassFile.FieldType.int)) ∈ lw_all := lw_g (lw_at lw_m5 12 rfl) rfl
theorem q1095 : (Jvm.Cond.methodLink "QuiverKin" (248 : Nat) ({ cls := "java/util/ArrayList", name := "size", desc := "()I" } : Jvm.MethodName)) ∈ lw_all := lw_g (lw_at lw_m5 13 rfl) rfl
theorem q1096 : (Jvm.Cond.methodLink "QuiverKin" (253 : Nat) ({ cls := "java/util/ArrayList", name := "get", desc := "(I)Ljava/lang/Object;" } : Jvm.MethodName)) ∈ lw_all := lw_g (lw_at lw_m5 14 rfl) rfl
theorem q1097 : (Jvm.Cond.classLink "QuiverKin" (216 : Nat) "QuiverKin$Doing") ∈ lw_all := lw_g (lw_at lw_m5 15 rfl) rfl
theorem q1098 : (Jvm.Cond.methodLink "QuiverKin" (257 : Nat) ({ cls := "QuiverKin", name := "does", desc := "(LQuiverKin$Doing;)Z" } : Jvm.MethodName)) ∈ lw_all := lw_g (lw_at lw_m5 16 rfl) rfl
theorem q1099 : (Jvm.Cond.privateMethod ({ cls := "QuiverKin", name := "does", desc := "(LQuiverKin$Doing;)Z" } : Jvm.MethodName)) ∈ lw_tbl := lw_at lw_m5 17 rfl
theorem q1100 : (Jvm.Cond.instanceMethod ({ cls := "QuiverKin", name := "does", desc := "(LQuiverKin$Doing;)Z" } : Jvm.MethodName)) ∈ lw_all := lw_g (lw_at lw_m5 18 rfl) rfl
theorem q1101 : (Jvm.Cond.code ({ cls := "QuiverKin", name := "does", desc := "(LQuiverKin$Doing;)Z" } : Jvm.MethodName) prog_1_method_37_code (2 : Nat) (Option.some Jvm.ClassFile.FieldType.boolean)) ∈ lw_all := lw_g (lw_at lw_m5 19 rfl) rfl
theorem q1102 : (Jvm.Cond.methodLink "QuiverKin" (215 : Nat) ({ cls := "QuiverKin$Doing", name := "sort", desc := "()I" } : Jvm.MethodName)) ∈ lw_all := lw_g (lw_at lw_m5 20 rfl) rfl
theorem q1106 : (Jvm.Cond.methodLink "QuiverKin" (220 : Nat) ({ cls := "QuiverKin$Doing", name := "a", desc := "()I" } : Jvm.MethodName)) ∈ lw_all := lw_g (lw_at lw_m5 24 rfl) rfl
theorem q1110 : (Jvm.Cond.methodLink "QuiverKin" (223 : Nat) ({ cls := "QuiverKin$Doing", name := "b", desc := "()I" } : Jvm.MethodName)) ∈ lw_all := lw_g (lw_at lw_m5 28 rfl) rfl
theorem q1114 : (Jvm.Cond.methodLink "QuiverKin" (226 : Nat) ({ cls := "QuiverKin", name := "kin", desc := "(II)I" } : Jvm.MethodName)) ∈ lw_all := lw_g (lw_at lw_m5 32 rfl) rfl
theorem q1115 : (Jvm.Cond.methodLink "QuiverKin" (229 : Nat) ({ cls := "QuiverKin", name := "reach", desc := "(I)I" } : Jvm.MethodName)) ∈ lw_all := lw_g (lw_at lw_m5 33 rfl) rfl
theorem q1116 : (Jvm.Cond.methodLink "QuiverKin" (232 : Nat) ({ cls := "QuiverKin", name := "down", desc := "(II)Z" } : Jvm.MethodName)) ∈ lw_all := lw_g (lw_at lw_m5 34 rfl) rfl
theorem q1117 : (Jvm.Cond.methodLink "QuiverKin" (235 : Nat) ({ cls := "QuiverKin", name := "strap", desc := "(I)Z" } : Jvm.MethodName)) ∈ lw_all := lw_g (lw_at lw_m5 35 rfl) rfl
theorem q1118 : (Jvm.Cond.methodLink "QuiverKin" (238 : Nat) ({ cls := "QuiverKin", name := "swap", desc := "(II)Z" } : Jvm.MethodName)) ∈ lw_all := lw_g (lw_at lw_m5 36 rfl) rfl
theorem q1119 : (Jvm.Cond.methodLink "QuiverKin" (241 : Nat) ({ cls := "QuiverKin", name := "passesAll", desc := "(I)Z" } : Jvm.MethodName)) ∈ lw_all := lw_g (lw_at lw_m5 37 rfl) rfl
theorem q1120 : (Jvm.Cond.privateMethod ({ cls := "QuiverKin", name := "passesAll", desc := "(I)Z" } : Jvm.MethodName)) ∈ lw_tbl := lw_at lw_m5 38 rfl
theorem q1121 : (Jvm.Cond.instanceMethod ({ cls := "QuiverKin", name := "passesAll", desc := "(I)Z" } : Jvm.MethodName)) ∈ lw_all := lw_g (lw_at lw_m5 39 rfl) rfl
theorem q1122 : (Jvm.Cond.code ({ cls := "QuiverKin", name := "passesAll", desc := "(I)Z" } : Jvm.MethodName) prog_1_method_36_code (3 : Nat) (Option.some Jvm.ClassFile.FieldType.boolean)) ∈ lw_all := lw_g (lw_at lw_m5 40 rfl) rfl
theorem q1123 : (Jvm.Cond.methodLink "QuiverKin" (211 : Nat) ({ cls := "QuiverKin", name := "dinner", desc := "(I)I" } : Jvm.MethodName)) ∈ lw_all := lw_g (lw_at lw_m5 41 rfl) rfl
theorem q1124 : (Jvm.Cond.methodLink "QuiverKin" (261 : Nat) ({ cls := "QuiverKin$Doing", name := "number", desc := "()I" } : Jvm.MethodName)) ∈ lw_all := lw_g (lw_at lw_m5 42 rfl) rfl
theorem q1129 : (Jvm.Cond.instanceMethod ({ cls := "QuiverKin", name := "years", desc := "(II)I" } : Jvm.MethodName)) ∈ lw_all := lw_g (lw_at lw_m5 47 rfl) rfl
theorem q1130 : (Jvm.Cond.selects "QuiverKin" ({ cls := "QuiverKin", name := "years", desc := "(II)I" } : Jvm.MethodName) ({ cls := "QuiverKin", name := "years", desc := "(II)I" } : Jvm.MethodName)) ∈ lw_all := lw_g (lw_at lw_m5 48 rfl) rfl
theorem q1131 : (Jvm.Cond.code ({ cls := "QuiverKin", name := "years", desc := "(II)I" } : Jvm.MethodName) prog_1_method_40_code (7 : Nat) (Option.some Jvm.ClassFile.FieldType.int)) ∈ lw_all := lw_g (lw_at lw_m5 49 rfl) rfl
theorem q1132 : (Jvm.Cond.methodLink "QuiverKin" (264 : Nat) ({ cls := "QuiverKin", name := "befalls", desc := "(I)V" } : Jvm.MethodName)) ∈ lw_all := lw_g (lw_at lw_m5 50 rfl) rfl
theorem q1133 : (Jvm.Cond.privateMethod ({ cls := "QuiverKin", name := "befalls", desc := "(I)V" } : Jvm.MethodName)) ∈ lw_tbl := lw_at lw_m5 51 rfl
theorem q1134 : (Jvm.Cond.instanceMethod ({ cls := "QuiverKin", name := "befalls", desc := "(I)V" } : Jvm.MethodName)) ∈ lw_all := lw_g (lw_at lw_m5 52 rfl) rfl
theorem q1135 : (Jvm.Cond.code ({ cls := "QuiverKin", name := "befalls", desc := "(I)V" } : Jvm.MethodName) prog_1_method_39_code (4 : Nat) (Option.none : Option Jvm.ClassFile.FieldType)) ∈ lw_all := lw_g (lw_at lw_m5 53 rfl) rfl
theorem q1137 : (Jvm.Cond.instanceMethod ({ cls := "QuiverKin", name := "undo", desc := "()I" } : Jvm.MethodName)) ∈ lw_all := lw_g (lw_at lw_m5 55 rfl) rfl
theorem q1138 : (Jvm.Cond.selects "QuiverKin" ({ cls := "QuiverKin", name := "undo", desc := "()I" } : Jvm.MethodName) ({ cls := "QuiverKin", name := "undo", desc := "()I" } : Jvm.MethodName)) ∈ lw_all := lw_g (lw_at lw_m5 56 rfl) rfl
theorem q1139 : (Jvm.Cond.code ({ cls := "QuiverKin", name := "undo", desc := "()I" } : Jvm.MethodName) prog_1_method_41_code (1 : Nat) (Option.some Jvm.ClassFile.FieldType.int)) ∈ lw_all := lw_g (lw_at lw_m5 57 rfl) rfl
theorem q1140 : (Jvm.Cond.methodLinkNest "QuiverKin" (271 : Nat) ({ cls := "QuiverKin$State", name := "copy", desc := "([I[I)V" } : Jvm.MethodName) "QuiverKin") ∈ lw_tbl := lw_at lw_m5 58 rfl
theorem q1142 : (Jvm.Cond.instanceMethod ({ cls := "QuiverKin", name := "of", desc := "(II)I" } : Jvm.MethodName)) ∈ lw_all := lw_g (lw_at lw_m5 60 rfl) rfl
theorem q1143 : (Jvm.Cond.selects "QuiverKin" ({ cls := "QuiverKin", name := "of", desc := "(II)I" } : Jvm.MethodName) ({ cls := "QuiverKin", name := "of", desc := "(II)I" } : Jvm.MethodName)) ∈ lw_all := lw_g (lw_at lw_m5 61 rfl) rfl
theorem q1144 : (Jvm.Cond.code ({ cls := "QuiverKin", name := "of", desc := "(II)I" } : Jvm.MethodName) prog_1_method_42_code (3 : Nat) (Option.some Jvm.ClassFile.FieldType.int)) ∈ lw_all := lw_g (lw_at lw_m5 62 rfl) rfl
theorem q1146 : (Jvm.Cond.instanceMethod ({ cls := "QuiverKin", name := "at", desc := "(I)I" } : Jvm.MethodName)) ∈ lw_all := lw_g (lw_at lw_m5 64 rfl) rfl
theorem q1147 : (Jvm.Cond.selects "QuiverKin" ({ cls := "QuiverKin", name := "at", desc := "(I)I" } : Jvm.MethodName) ({ cls := "QuiverKin", name := "at", desc := "(I)I" } : Jvm.MethodName)) ∈ lw_all := lw_g (lw_at lw_m5 65 rfl) rfl
theorem q1148 : (Jvm.Cond.code ({ cls := "QuiverKin", name := "at", desc := "(I)I" } : Jvm.MethodName) prog_1_method_43_code (2 : Nat) (Option.some Jvm.ClassFile.FieldType.int)) ∈ lw_all := lw_g (lw_at lw_m5 66 rfl) rfl
theorem q1150 : (Jvm.Cond.instanceMethod ({ cls := "QuiverKin", name := "is", desc := "(I)I" } : Jvm.MethodName)) ∈ lw_all := lw_g (lw_at lw_m5 68 rfl) rfl
theorem q1151 : (Jvm.Cond.selects "QuiverKin" ({ cls := "QuiverKin", name := "is", desc := "(I)I" } : Jvm.MethodName) ({ cls := "QuiverKin", name := "is", desc := "(I)I" } : Jvm.MethodName)) ∈ lw_all := lw_g (lw_at lw_m5 69 rfl) rfl
theorem q1152 : (Jvm.Cond.code ({ cls := "QuiverKin", name := "is", desc := "(I)I" } : Jvm.MethodName) prog_1_method_45_code (2 : Nat) (Option.some Jvm.ClassFile.FieldType.int)) ∈ lw_all := lw_g (lw_at lw_m5 70 rfl) rfl
theorem q1153 : (Jvm.Cond.methodLink "QuiverKin" (275 : Nat) ({ cls := "QuiverKin", name := "keptOfAll", desc := "()I" } : Jvm.MethodName)) ∈ lw_all := lw_g (lw_at lw_m5 71 rfl) rfl
theorem q1154 : (Jvm.Cond.privateMethod ({ cls := "QuiverKin", name := "keptOfAll", desc := "()I" } : Jvm.MethodName)) ∈ lw_tbl := lw_at lw_m5 72 rfl
theorem q1155 : (Jvm.Cond.instanceMethod ({ cls := "QuiverKin", name := "keptOfAll", desc := "()I" } : Jvm.MethodName)) ∈ lw_all := lw_g (lw_at lw_m5 73 rfl) rfl
theorem q1156 : (Jvm.Cond.code ({ cls := "QuiverKin", name := "keptOfAll", desc := "()I" } : Jvm.MethodName) prog_1_method_44_code (3 : Nat) (Option.some Jvm.ClassFile.FieldType.int)) ∈ lw_all := lw_g (lw_at lw_m5 74 rfl) rfl
theorem q1158 : (Jvm.Cond.instanceMethod ({ cls := "QuiverKin", name := "book", desc := "(II)I" } : Jvm.MethodName)) ∈ lw_all := lw_g (lw_at lw_m5 76 rfl) rfl
theorem q1159 : (Jvm.Cond.selects "QuiverKin" ({ cls := "QuiverKin", name := "book", desc := "(II)I" } : Jvm.MethodName) ({ cls := "QuiverKin", name := "book", desc := "(II)I" } : Jvm.MethodName)) ∈ lw_all := lw_g (lw_at lw_m5 77 rfl) rfl
theorem q1160 : (Jvm.Cond.code ({ cls := "QuiverKin", name := "book", desc := "(II)I" } : Jvm.MethodName) prog_1_method_46_code (3 : Nat) (Option.some Jvm.ClassFile.FieldType.int)) ∈ lw_all := lw_g (lw_at lw_m5 78 rfl) rfl
theorem q1162 : (Jvm.Cond.instanceMethod ({ cls := "QuiverKin", name := "foretold", desc := "(II)I" } : Jvm.MethodName)) ∈ lw_all := lw_g (lw_at lw_m5 80 rfl) rfl
theorem q1163 : (Jvm.Cond.selects "QuiverKin" ({ cls := "QuiverKin", name := "foretold", desc := "(II)I" } : Jvm.MethodName) ({ cls := "QuiverKin", name := "foretold", desc := "(II)I" } : Jvm.MethodName)) ∈ lw_all := lw_g (lw_at lw_m5 81 rfl) rfl
theorem q1164 : (Jvm.Cond.code ({ cls := "QuiverKin", name := "foretold", desc := "(II)I" } : Jvm.MethodName) prog_1_method_47_code (5 : Nat) (Option.some Jvm.ClassFile.FieldType.int)) ∈ lw_all := lw_g (lw_at lw_m5 82 rfl) rfl
theorem q1166 : (Jvm.Cond.instanceMethod ({ cls := "QuiverKin", name := "spite", desc := "(III)Z" } : Jvm.MethodName)) ∈ lw_all := lw_g (lw_at lw_m5 84 rfl) rfl
theorem q1167 : (Jvm.Cond.selects "QuiverKin" ({ cls := "QuiverKin", name := "spite", desc := "(III)Z" } : Jvm.MethodName) ({ cls := "QuiverKin", name := "spite", desc := "(III)Z" } : Jvm.MethodName)) ∈ lw_all := lw_g (lw_at lw_m5 85 rfl) rfl
theorem q1168 : (Jvm.Cond.code ({ cls := "QuiverKin", name := "spite", desc := "(III)Z" } : Jvm.MethodName) prog_1_method_48_code (4 : Nat) (Option.some Jvm.ClassFile.FieldType.boolean)) ∈ lw_all := lw_g (lw_at lw_m5 86 rfl) rfl
theorem q1170 : (Jvm.Cond.instanceMethod ({ cls := "QuiverKin", name := "round", desc := "(Z)I" } : Jvm.MethodName)) ∈ lw_all := lw_g (lw_at lw_m5 88 rfl) rfl
theorem q1171 : (Jvm.Cond.selects "QuiverKin" ({ cls := "QuiverKin", name := "round", desc := "(Z)I" } : Jvm.MethodName) ({ cls := "QuiverKin", name := "round", desc := "(Z)I" } : Jvm.MethodName)) ∈ lw_all := lw_g (lw_at lw_m5 89 rfl) rfl
theorem q1172 : (Jvm.Cond.code ({ cls := "QuiverKin", name := "round", desc := "(Z)I" } : Jvm.MethodName) prog_1_method_52_code (2 : Nat) (Option.some Jvm.ClassFile.FieldType.int)) ∈ lw_all := lw_g (lw_at lw_m5 90 rfl) rfl
theorem q1173 : (Jvm.Cond.methodLink "QuiverKin" (299 : Nat) ({ cls := "QuiverKin", name := "laysSeats", desc := "()V" } : Jvm.MethodName)) ∈ lw_all := lw_g (lw_at lw_m5 91 rfl) rfl
theorem q1174 : (Jvm.Cond.privateMethod ({ cls := "QuiverKin", name := "laysSeats", desc := "()V" } : Jvm.MethodName)) ∈ lw_tbl := lw_at lw_m5 92 rfl
theorem q1175 : (Jvm.Cond.instanceMethod ({ cls := "QuiverKin", name := "laysSeats", desc := "()V" } : Jvm.MethodName)) ∈ lw_all := lw_g (lw_at lw_m5 93 rfl) rfl
theorem q1176 : (Jvm.Cond.code ({ cls := "QuiverKin", name := "laysSeats", desc := "()V" } : Jvm.MethodName) prog_1_method_51_code (1 : Nat) (Option.none : Option Jvm.ClassFile.FieldType)) ∈ lw_all := lw_g (lw_at lw_m5 94 rfl) rfl
theorem q1177 : (Jvm.Cond.constant "QuiverKin" (298 : Nat) (99999 : Int32)) ∈ lw_all := lw_g (lw_at lw_m5 95 rfl) rfl
theorem q1178 : (Jvm.Cond.methodLink "QuiverKin" (295 : Nat) ({ cls := "QuiverKin", name := "seatsFrom", desc := "(II)V" } : Jvm.MethodName)) ∈ lw_all := lw_g (lw_at lw_m5 96 rfl) rfl
theorem q1179 : (Jvm.Cond.privateMethod ({ cls := "QuiverKin", name := "seatsFrom", desc := "(II)V" } : Jvm.MethodName)) ∈ lw_tbl := lw_at lw_m5 97 rfl
theorem q1180 : (Jvm.Cond.instanceMethod ({ cls := "QuiverKin", name := "seatsFrom", desc := "(II)V" } : Jvm.MethodName)) ∈ lw_all := lw_g (lw_at lw_m5 98 rfl) rfl
theorem q1181 : (Jvm.Cond.code ({ cls := "QuiverKin", name := "seatsFrom", desc := "(II)V" } : Jvm.MethodName) prog_1_method_50_code (4 : Nat) (Option.none : Option Jvm.ClassFile.FieldType)) ∈ lw_all := lw_g (lw_at lw_m5 99 rfl) rfl
theorem q1182 : (Jvm.Cond.methodLink "QuiverKin" (281 : Nat) ({ cls := "QuiverKin", name := "spiteAround", desc := "([II)I" } : Jvm.MethodName)) ∈ lw_all := lw_g (lw_at lw_m5 100 rfl) rfl
theorem q1183 : (Jvm.Cond.privateMethod ({ cls := "QuiverKin", name := "spiteAround", desc := "([II)I" } : Jvm.MethodName)) ∈ lw_tbl := lw_at lw_m5 101 rfl
theorem q1184 : (Jvm.Cond.instanceMethod ({ cls := "QuiverKin", name := "spiteAround", desc := "([II)I" } : Jvm.MethodName)) ∈ lw_all := lw_g (lw_at lw_m5 102 rfl) rfl
theorem q1185 : (Jvm.Cond.code ({ cls := "QuiverKin", name := "spiteAround", desc := "([II)I" } : Jvm.MethodName) prog_1_method_49_code (5 : Nat) (Option.some Jvm.ClassFile.FieldType.int)) ∈ lw_all := lw_g (lw_at lw_m5 103 rfl) rfl
theorem q1186 : (Jvm.Cond.methodLink "QuiverKin" (287 : Nat) ({ cls := "java/lang/Math", name := "max", desc := "(II)I" } : Jvm.MethodName)) ∈ lw_all := lw_g (lw_at lw_m5 104 rfl) rfl
theorem q1188 : (Jvm.Cond.instanceMethod ({ cls := "QuiverKin", name := "seating", desc := "(I)I" } : Jvm.MethodName)) ∈ lw_all := lw_g (lw_at lw_m5 106 rfl) rfl
theorem q1189 : (Jvm.Cond.selects "QuiverKin" ({ cls := "QuiverKin", name := "seating", desc := "(I)I" } : Jvm.MethodName) ({ cls := "QuiverKin", name := "seating", desc := "(I)I" } : Jvm.MethodName)) ∈ lw_all := lw_g (lw_at lw_m5 107 rfl) rfl
theorem q1190 : (Jvm.Cond.code ({ cls := "QuiverKin", name := "seating", desc := "(I)I" } : Jvm.MethodName) prog_1_method_53_code (2 : Nat) (Option.some Jvm.ClassFile.FieldType.int)) ∈ lw_all := lw_g (lw_at lw_m5 108 rfl) rfl
theorem q1192 : (Jvm.Cond.instanceMethod ({ cls := "QuiverKin", name := "seatings", desc := "()I" } : Jvm.MethodName)) ∈ lw_all := lw_g (lw_at lw_m5 110 rfl) rfl
theorem q1193 : (Jvm.Cond.selects "QuiverKin" ({ cls := "QuiverKin", name := "seatings", desc := "()I" } : Jvm.MethodName) ({ cls := "QuiverKin", name := "seatings", desc := "()I" } : Jvm.MethodName)) ∈ lw_all := lw_g (lw_at lw_m5 111 rfl) rfl
theorem q1194 : (Jvm.Cond.code ({ cls := "QuiverKin", name := "seatings", desc := "()I" } : Jvm.MethodName) prog_1_method_54_code (1 : Nat) (Option.some Jvm.ClassFile.FieldType.int)) ∈ lw_all := lw_g (lw_at lw_m5 112 rfl) rfl
theorem q1196 : (Jvm.Cond.instanceMethod ({ cls := "QuiverKin", name := "spiteNow", desc := "()I" } : Jvm.MethodName)) ∈ lw_all := lw_g (lw_at lw_m5 114 rfl) rfl
theorem q1197 : (Jvm.Cond.selects "QuiverKin" ({ cls := "QuiverKin", name := "spiteNow", desc := "()I" } : Jvm.MethodName) ({ cls := "QuiverKin", name := "spiteNow", desc := "()I" } : Jvm.MethodName)) ∈ lw_all := lw_g (lw_at lw_m5 115 rfl) rfl
theorem q1198 : (Jvm.Cond.code ({ cls := "QuiverKin", name := "spiteNow", desc := "()I" } : Jvm.MethodName) prog_1_method_55_code (1 : Nat) (Option.some Jvm.ClassFile.FieldType.int)) ∈ lw_all := lw_g (lw_at lw_m5 116 rfl) rfl
theorem q1200 : (Jvm.Cond.instanceMethod ({ cls := "QuiverKin", name := "mend", desc := "(I)I" } : Jvm.MethodName)) ∈ lw_all := lw_g (lw_at lw_m5 118 rfl) rfl
theorem q1201 : (Jvm.Cond.selects "QuiverKin" ({ cls := "QuiverKin", name := "mend", desc := "(I)I" } : Jvm.MethodName) ({ cls := "QuiverKin", name := "mend", desc := "(I)I" } : Jvm.MethodName)) ∈ lw_all := lw_g (lw_at lw_m5 119 rfl) rfl
theorem q1202 : (Jvm.Cond.code ({ cls := "QuiverKin", name := "mend", desc := "(I)I" } : Jvm.MethodName) prog_1_method_57_code (7 : Nat) (Option.some Jvm.ClassFile.FieldType.int)) ∈ lw_all := lw_g (lw_at lw_m5 120 rfl) rfl
theorem q1203 : (Jvm.Cond.methodLink "QuiverKin" (302 : Nat) ({ cls := "QuiverKin", name := "spiteNow", desc := "()I" } : Jvm.MethodName)) ∈ lw_all := lw_g (lw_at lw_m5 121 rfl) rfl
theorem q1204 : (Jvm.Cond.methodLink "QuiverKin" (305 : Nat) ({ cls := "QuiverKin", name := "spiteBy", desc := "(II)I" } : Jvm.MethodName)) ∈ lw_all := lw_g (lw_at lw_m5 122 rfl) rfl
theorem q1205 : (Jvm.Cond.privateMethod ({ cls := "QuiverKin", name := "spiteBy", desc := "(II)I" } : Jvm.MethodName)) ∈ lw_tbl := lw_at lw_m5 123 rfl
theorem q1206 : (Jvm.Cond.instanceMethod ({ cls := "QuiverKin", name := "spiteBy", desc := "(II)I" } : Jvm.MethodName)) ∈ lw_all := lw_g (lw_at lw_m5 124 rfl) rfl
theorem q1207 : (Jvm.Cond.code ({ cls := "QuiverKin", name := "spiteBy", desc := "(II)I" } : Jvm.MethodName) prog_1_method_56_code (3 : Nat) (Option.some Jvm.ClassFile.FieldType.int)) ∈ lw_all := lw_g (lw_at lw_m5 125 rfl) rfl
theorem q1209 : (Jvm.Cond.instanceMethod ({ cls := "QuiverKin", name := "hedge", desc := "(II)Z" } : Jvm.MethodName)) ∈ lw_all := lw_g (lw_at lw_m5 127 rfl) rfl
theorem q1210 : (Jvm.Cond.selects "QuiverKin" ({ cls := "QuiverKin", name := "hedge", desc := "(II)Z" } : Jvm.MethodName) ({ cls := "QuiverKin", name := "hedge", desc := "(II)Z" } : Jvm.MethodName)) ∈ lw_all := lw_g (lw_at lw_m5 128 rfl) rfl
theorem q1211 : (Jvm.Cond.code ({ cls := "QuiverKin", name := "hedge", desc := "(II)Z" } : Jvm.MethodName) prog_1_method_61_code (3 : Nat) (Option.some Jvm.ClassFile.FieldType.boolean)) ∈ lw_all := lw_g (lw_at lw_m5 129 rfl) rfl
theorem q1213 : (Jvm.Cond.instanceMethod ({ cls := "QuiverKin", name := "flight", desc := "(III)I" } : Jvm.MethodName)) ∈ lw_all := lw_g (lw_at lw_m5 131 rfl) rfl
theorem q1214 : (Jvm.Cond.selects "QuiverKin" ({ cls := "QuiverKin", name := "flight", desc := "(III)I" } : Jvm.MethodName) ({ cls := "QuiverKin", name := "flight", desc := "(III)I" } : Jvm.MethodName)) ∈ lw_all := lw_g (lw_at lw_m5 132 rfl) rfl
theorem q1215 : (Jvm.Cond.code ({ cls := "QuiverKin", name := "flight", desc := "(III)I" } : Jvm.MethodName) prog_1_method_63_code (4 : Nat) (Option.some Jvm.ClassFile.FieldType.int)) ∈ lw_all := lw_g (lw_at lw_m5 133 rfl) rfl
theorem q1216 : (Jvm.Cond.methodLink "QuiverKin" (329 : Nat) ({ cls := "QuiverKin", name := "isFlight", desc := "(II)Z" } : Jvm.MethodName)) ∈ lw_all := lw_g (lw_at lw_m5 134 rfl) rfl
theorem q1217 : (Jvm.Cond.static ({ cls := "QuiverKin", name := "isFlight", desc := "(II)Z" } : Jvm.MethodName)) ∈ lw_all := lw_g (lw_at lw_m5 135 rfl) rfl
theorem q1218 : (Jvm.Cond.code ({ cls := "QuiverKin", name := "isFlight", desc := "(II)Z" } : Jvm.MethodName) prog_1_method_62_code (2 : Nat) (Option.some Jvm.ClassFile.FieldType.boolean)) ∈ lw_all := lw_g (lw_at lw_m5 136 rfl) rfl
theorem q1219 : (Jvm.Cond.methodLink "QuiverKin" (332 : Nat) ({ cls := "QuiverKin", name := "flies", desc := "(II)Z" } : Jvm.MethodName)) ∈ lw_all := lw_g (lw_at lw_m5 137 rfl) rfl
theorem q1220 : (Jvm.Cond.privateMethod ({ cls := "QuiverKin", name := "flies", desc := "(II)Z" } : Jvm.MethodName)) ∈ lw_tbl := lw_at lw_m5 138 rfl
theorem q1221 : (Jvm.Cond.instanceMethod ({ cls := "QuiverKin", name := "flies", desc := "(II)Z" } : Jvm.MethodName)) ∈ lw_all := lw_g (lw_at lw_m5 139 rfl) rfl
theorem q1222 : (Jvm.Cond.code ({ cls := "QuiverKin", name := "flies", desc := "(II)Z" } : Jvm.MethodName) prog_1_method_60_code (4 : Nat) (Option.some Jvm.ClassFile.FieldType.boolean)) ∈ lw_all := lw_g (lw_at lw_m5 140 rfl) rfl
theorem q1223 : (Jvm.Cond.methodLink "QuiverKin" (320 : Nat) ({ cls := "QuiverKin", name := "leavesBy", desc := "(II)Z" } : Jvm.MethodName)) ∈ lw_all := lw_g (lw_at lw_m5 141 rfl) rfl
theorem q1224 : (Jvm.Cond.static ({ cls := "QuiverKin", name := "leavesBy", desc := "(II)Z" } : Jvm.MethodName)) ∈ lw_all := lw_g (lw_at lw_m5 142 rfl) rfl
theorem q1225 : (Jvm.Cond.code ({ cls := "QuiverKin", name := "leavesBy", desc := "(II)Z" } : Jvm.MethodName) prog_1_method_58_code (2 : Nat) (Option.some Jvm.ClassFile.FieldType.boolean)) ∈ lw_all := lw_g (lw_at lw_m5 143 rfl) rfl
theorem q1226 : (Jvm.Cond.methodLink "QuiverKin" (323 : Nat) ({ cls := "QuiverKin", name := "nextCell", desc := "(II)I" } : Jvm.MethodName)) ∈ lw_all := lw_g (lw_at lw_m5 144 rfl) rfl
theorem q1227 : (Jvm.Cond.static ({ cls := "QuiverKin", name := "nextCell", desc := "(II)I" } : Jvm.MethodName)) ∈ lw_all := lw_g (lw_at lw_m5 145 rfl) rfl
theorem q1228 : (Jvm.Cond.code ({ cls := "QuiverKin", name := "nextCell", desc := "(II)I" } : Jvm.MethodName) prog_1_method_59_code (2 : Nat) (Option.some Jvm.ClassFile.FieldType.int)) ∈ lw_all := lw_g (lw_at lw_m5 146 rfl) rfl
theorem q1230 : (Jvm.Cond.instanceMethod ({ cls := "QuiverKin", name := "comes", desc := "(II)I" } : Jvm.MethodName)) ∈ lw_all := lw_g (lw_at lw_m5 148 rfl) rfl
theorem q1231 : (Jvm.Cond.selects "QuiverKin" ({ cls := "QuiverKin", name := "comes", desc := "(II)I" } : Jvm.MethodName) ({ cls := "QuiverKin", name := "comes", desc := "(II)I" } : Jvm.MethodName)) ∈ lw_all := lw_g (lw_at lw_m5 149 rfl) rfl
theorem q1232 : (Jvm.Cond.code ({ cls := "QuiverKin", name := "comes", desc := "(II)I" } : Jvm.MethodName) prog_1_method_64_code (5 : Nat) (Option.some Jvm.ClassFile.FieldType.int)) ∈ lw_all := lw_g (lw_at lw_m5 150 rfl) rfl
theorem q1234 : (Jvm.Cond.instanceMethod ({ cls := "QuiverKin", name := "guess", desc := "(III)I" } : Jvm.MethodName)) ∈ lw_all := lw_g (lw_at lw_m5 152 rfl) rfl
theorem q1235 : (Jvm.Cond.selects "QuiverKin" ({ cls := "QuiverKin", name := "guess", desc := "(III)I" } : Jvm.MethodName) ({ cls := "QuiverKin", name := "guess", desc := "(III)I" } : Jvm.MethodName)) ∈ lw_all := lw_g (lw_at lw_m5 153 rfl) rfl
theorem q1236 : (Jvm.Cond.code ({ cls := "QuiverKin", name := "guess", desc := "(III)I" } : Jvm.MethodName) prog_1_method_69_code (4 : Nat) (Option.some Jvm.ClassFile.FieldType.int)) ∈ lw_all := lw_g (lw_at lw_m5 154 rfl) rfl
theorem q1237 : (Jvm.Cond.methodLink "QuiverKin" (341 : Nat) ({ cls := "QuiverKin$State", name := "clears", desc := "(I)I" } : Jvm.MethodName)) ∈ lw_all := lw_g (lw_at lw_m5 155 rfl) rfl
theorem q1241 : (Jvm.Cond.methodLink "QuiverKin" (344 : Nat) ({ cls := "QuiverKin", name := "isRow", desc := "(I)Z" } : Jvm.MethodName)) ∈ lw_all := lw_g (lw_at lw_m5 159 rfl) rfl
theorem q1242 : (Jvm.Cond.static ({ cls := "QuiverKin", name := "isRow", desc := "(I)Z" } : Jvm.MethodName)) ∈ lw_all := lw_g (lw_at lw_m5 160 rfl) rfl
theorem q1243 : (Jvm.Cond.code ({ cls := "QuiverKin", name := "isRow", desc := "(I)Z" } : Jvm.MethodName) prog_1_method_68_code (1 : Nat) (Option.some Jvm.ClassFile.FieldType.boolean)) ∈ lw_all := lw_g (lw_at lw_m5 161 rfl) rfl
theorem q1244 : (Jvm.Cond.methodLink "QuiverKin" (350 : Nat) ({ cls := "QuiverKin$State", name := "adds", desc := "([[IIII)I" } : Jvm.MethodName)) ∈ lw_all := lw_g (lw_at lw_m5 162 rfl) rfl
theorem q1249 : (Jvm.Cond.instanceMethod ({ cls := "QuiverKin", name := "answer", desc := "(II)I" } : Jvm.MethodName)) ∈ lw_all := lw_g (lw_at lw_m5 167 rfl) rfl
theorem q1250 : (Jvm.Cond.selects "QuiverKin" ({ cls := "QuiverKin", name := "answer", desc := "(II)I" } : Jvm.MethodName) ({ cls := "QuiverKin", name := "answer", desc := "(II)I" } : Jvm.MethodName)) ∈ lw_all := lw_g (lw_at lw_m5 168 rfl) rfl
theorem q1251 : (Jvm.Cond.code ({ cls := "QuiverKin", name := "answer", desc := "(II)I" } : Jvm.MethodName) prog_1_method_70_code (3 : Nat) (Option.some Jvm.ClassFile.FieldType.int)) ∈ lw_all := lw_g (lw_at lw_m5 169 rfl) rfl
theorem q1252 : (Jvm.Cond.methodLink "QuiverKin" (354 : Nat) ({ cls := "QuiverKin", name := "answerTo", desc := "(II)I" } : Jvm.MethodName)) ∈ lw_all := lw_g (lw_at lw_m5 170 rfl) rfl
theorem q1253 : (Jvm.Cond.static ({ cls := "QuiverKin", name := "answerTo", desc := "(II)I" } : Jvm.MethodName)) ∈ lw_all := lw_g (lw_at lw_m5 171 rfl) rfl
theorem q1254 : (Jvm.Cond.code ({ cls := "QuiverKin", name := "answerTo", desc := "(II)I" } : Jvm.MethodName) prog_1_method_67_code (5 : Nat) (Option.some Jvm.ClassFile.FieldType.int)) ∈ lw_all := lw_g (lw_at lw_m5 172 rfl) rfl
theorem q1255 : (Jvm.Cond.methodLink "QuiverKin" (335 : Nat) ({ cls := "QuiverKin", name := "letterOf", desc := "(II)I" } : Jvm.MethodName)) ∈ lw_all := lw_g (lw_at lw_m5 173 rfl) rfl
theorem q1256 : (Jvm.Cond.static ({ cls := "QuiverKin", name := "letterOf", desc := "(II)I" } : Jvm.MethodName)) ∈ lw_all := lw_g (lw_at lw_m5 174 rfl) rfl
theorem q1257 : (Jvm.Cond.code ({ cls := "QuiverKin", name := "letterOf", desc := "(II)I" } : Jvm.MethodName) prog_1_method_65_code (2 : Nat) (Option.some Jvm.ClassFile.FieldType.int)) ∈ lw_all := lw_g (lw_at lw_m5 175 rfl) rfl
theorem q1258 : (Jvm.Cond.methodLink "QuiverKin" (338 : Nat) ({ cls := "QuiverKin", name := "howOften", desc := "(II)I" } : Jvm.MethodName)) ∈ lw_all := lw_g (lw_at lw_m5 176 rfl) rfl
theorem q1259 : (Jvm.Cond.static ({ cls := "QuiverKin", name := "howOften", desc := "(II)I" } : Jvm.MethodName)) ∈ lw_all := lw_g (lw_at lw_m5 177 rfl) rfl
theorem q1260 : (Jvm.Cond.code ({ cls := "QuiverKin", name := "howOften", desc := "(II)I" } : Jvm.MethodName) prog_1_method_66_code (4 : Nat) (Option.some Jvm.ClassFile.FieldType.int)) ∈ lw_all := lw_g (lw_at lw_m5 178 rfl) rfl
theorem q1262 : (Jvm.Cond.instanceMethod ({ cls := "QuiverKin", name := "fits", desc := "()I" } : Jvm.MethodName)) ∈ lw_all := lw_g (lw_at lw_m5 180 rfl) rfl
theorem q1263 : (Jvm.Cond.selects "QuiverKin" ({ cls := "QuiverKin", name := "fits", desc := "()I" } : Jvm.MethodName) ({ cls := "QuiverKin", name := "fits", desc := "()I" } : Jvm.MethodName)) ∈ lw_all := lw_g (lw_at lw_m5 181 rfl) rfl
theorem q1264 : (Jvm.Cond.code ({ cls := "QuiverKin", name := "fits", desc := "()I" } : Jvm.MethodName) prog_1_method_73_code (1 : Nat) (Option.some Jvm.ClassFile.FieldType.int)) ∈ lw_all := lw_g (lw_at lw_m5 182 rfl) rfl
theorem q1265 : (Jvm.Cond.methodLink "QuiverKin" (363 : Nat) ({ cls := "QuiverKin", name := "laysFits", desc := "()V" } : Jvm.MethodName)) ∈ lw_all := lw_g (lw_at lw_m5 183 rfl) rfl
theorem q1266 : (Jvm.Cond.privateMethod ({ cls := "QuiverKin", name := "laysFits", desc := "()V" } : Jvm.MethodName)) ∈ lw_tbl := lw_at lw_m5 184 rfl
theorem q1267 : (Jvm.Cond.instanceMethod ({ cls := "QuiverKin", name := "laysFits", desc := "()V" } : Jvm.MethodName)) ∈ lw_all := lw_g (lw_at lw_m5 185 rfl) rfl
theorem q1268 : (Jvm.Cond.code ({ cls := "QuiverKin", name := "laysFits", desc := "()V" } : Jvm.MethodName) prog_1_method_72_code (2 : Nat) (Option.none : Option Jvm.ClassFile.FieldType)) ∈ lw_all := lw_g (lw_at lw_m5 186 rfl) rfl
theorem q1269 : (Jvm.Cond.methodLink "QuiverKin" (360 : Nat) ({ cls := "QuiverKin", name := "doesFit", desc := "(I)Z" } : Jvm.MethodName)) ∈ lw_all := lw_g (lw_at lw_m5 187 rfl) rfl
theorem q1270 : (Jvm.Cond.privateMethod ({ cls := "QuiverKin", name := "doesFit", desc := "(I)Z" } : Jvm.MethodName)) ∈ lw_tbl := lw_at lw_m5 188 rfl
theorem q1271 : (Jvm.Cond.instanceMethod ({ cls := "QuiverKin", name := "doesFit", desc := "(I)Z" } : Jvm.MethodName)) ∈ lw_all := lw_g (lw_at lw_m5 189 rfl) rfl
theorem q1272 : (Jvm.Cond.code ({ cls := "QuiverKin", name := "doesFit", desc := "(I)Z" } : Jvm.MethodName) prog_1_method_71_code (3 : Nat) (Option.some Jvm.ClassFile.FieldType.boolean)) ∈ lw_all := lw_g (lw_at lw_m5 190 rfl) rfl
theorem q1274 : (Jvm.Cond.instanceMethod ({ cls := "QuiverKin", name := "fit", desc := "(I)I" } : Jvm.MethodName)) ∈ lw_all := lw_g (lw_at lw_m5 192 rfl) rfl
theorem q1275 : (Jvm.Cond.selects "QuiverKin" ({ cls := "QuiverKin", name := "fit", desc := "(I)I" } : Jvm.MethodName) ({ cls := "QuiverKin", name := "fit", desc := "(I)I" } : Jvm.MethodName)) ∈ lw_all := lw_g (lw_at lw_m5 193 rfl) rfl
theorem q1276 : (Jvm.Cond.code ({ cls := "QuiverKin", name := "fit", desc := "(I)I" } : Jvm.MethodName) prog_1_method_74_code (2 : Nat) (Option.some Jvm.ClassFile.FieldType.int)) ∈ lw_all := lw_g (lw_at lw_m5 194 rfl) rfl
theorem q1278 : (Jvm.Cond.instanceMethod ({ cls := "QuiverKin", name := "ask", desc := "()I" } : Jvm.MethodName)) ∈ lw_all := lw_g (lw_at lw_m5 196 rfl) rfl
theorem q1279 : (Jvm.Cond.selects "QuiverKin" ({ cls := "QuiverKin", name := "ask", desc := "()I" } : Jvm.MethodName) ({ cls := "QuiverKin", name := "ask", desc := "()I" } : Jvm.MethodName)) ∈ lw_all := lw_g (lw_at lw_m5 197 rfl) rfl
theorem q1280 : (Jvm.Cond.code ({ cls := "QuiverKin", name := "ask", desc := "()I" } : Jvm.MethodName) prog_1_method_76_code (5 : Nat) (Option.some Jvm.ClassFile.FieldType.int)) ∈ lw_all := lw_g (lw_at lw_m5 198 rfl) rfl
theorem q1281 : (Jvm.Cond.methodLink "QuiverKin" (371 : Nat) ({ cls := "QuiverKin", name := "mostAlike", desc := "(I)I" } : Jvm.MethodName)) ∈ lw_all := lw_g (lw_at lw_m5 199 rfl) rfl
theorem q1282 : (Jvm.Cond.privateMethod ({ cls := "QuiverKin", name := "mostAlike", desc := "(I)I" } : Jvm.MethodName)) ∈ lw_tbl := lw_at lw_m5 200 rfl
theorem q1283 : (Jvm.Cond.instanceMethod ({ cls := "QuiverKin", name := "mostAlike", desc := "(I)I" } : Jvm.MethodName)) ∈ lw_all := lw_g (lw_at lw_m5 201 rfl) rfl
theorem q1284 : (Jvm.Cond.code ({ cls := "QuiverKin", name := "mostAlike", desc := "(I)I" } : Jvm.MethodName) prog_1_method_75_code (6 : Nat) (Option.some Jvm.ClassFile.FieldType.int)) ∈ lw_all := lw_g (lw_at lw_m5 202 rfl) rfl
theorem q1285 : (Jvm.Cond.methodLink "QuiverKin" (366 : Nat) ({ cls := "java/util/Arrays", name := "fill", desc := "([II)V" } : Jvm.MethodName)) ∈ lw_all := lw_g (lw_at lw_m5 203 rfl) rfl
theorem q1289 : (Jvm.Cond.instanceMethod ({ cls := "QuiverKin", name := "gain", desc := "(IIII)Z" } : Jvm.MethodName)) ∈ lw_all := lw_g (lw_at lw_m5 207 rfl) rfl
theorem q1290 : (Jvm.Cond.selects "QuiverKin" ({ cls := "QuiverKin", name := "gain", desc := "(IIII)Z" } : Jvm.MethodName) ({ cls := "QuiverKin", name := "gain", desc := "(IIII)Z" } : Jvm.MethodName)) ∈ lw_all := lw_g (lw_at lw_m5 208 rfl) rfl
theorem q1291 : (Jvm.Cond.code ({ cls := "QuiverKin", name := "gain", desc := "(IIII)Z" } : Jvm.MethodName) prog_1_method_77_code (5 : Nat) (Option.some Jvm.ClassFile.FieldType.boolean)) ∈ lw_all := lw_g (lw_at lw_m5 209 rfl) rfl
theorem q1293 : (Jvm.Cond.instanceMethod ({ cls := "QuiverKin", name := "rests", desc := "()I" } : Jvm.MethodName)) ∈ lw_all := lw_g (lw_at lw_m5 211 rfl) rfl
theorem q1294 : (Jvm.Cond.selects "QuiverKin" ({ cls := "QuiverKin", name := "rests", desc := "()I" } : Jvm.MethodName) ({ cls := "QuiverKin", name := "rests", desc := "()I" } : Jvm.MethodName)) ∈ lw_all := lw_g (lw_at lw_m5 212 rfl) rfl
theorem q1295 : (Jvm.Cond.code ({ cls := "QuiverKin", name := "rests", desc := "()I" } : Jvm.MethodName) prog_1_method_78_code (3 : Nat) (Option.some Jvm.ClassFile.FieldType.int)) ∈ lw_all := lw_g (lw_at lw_m5 213 rfl) rfl
theorem q1297 : (Jvm.Cond.instanceMethod ({ cls := "QuiverKin", name := "mixed", desc := "(ZZ)I" } : Jvm.MethodName)) ∈ lw_all := lw_g (lw_at lw_m5 215 rfl) rfl
theorem q1298 : (Jvm.Cond.selects "QuiverKin" ({ cls := "QuiverKin", name := "mixed", desc := "(ZZ)I" } : Jvm.MethodName) ({ cls := "QuiverKin", name := "mixed", desc := "(ZZ)I" } : Jvm.MethodName)) ∈ lw_all := lw_g (lw_at lw_m5 216 rfl) rfl
theorem q1299 : (Jvm.Cond.code ({ cls := "QuiverKin", name := "mixed", desc := "(ZZ)I" } : Jvm.MethodName) prog_1_method_81_code (8 : Nat) (Option.some Jvm.ClassFile.FieldType.int)) ∈ lw_all := lw_g (lw_at lw_m5 217 rfl) rfl
theorem q1300 : (Jvm.Cond.methodLink "QuiverKin" (383 : Nat) ({ cls := "java/lang/Math", name := "abs", desc := "(I)I" } : Jvm.MethodName)) ∈ lw_all := lw_g (lw_at lw_m5 218 rfl) rfl
theorem q1303 : (Jvm.Cond.methodLink "QuiverKin" (386 : Nat) ({ cls := "QuiverKin", name := "part", desc := "(JJZ)J" } : Jvm.MethodName)) ∈ lw_all := lw_g (lw_at lw_m5 221 rfl) rfl
theorem q1304 : (Jvm.Cond.static ({ cls := "QuiverKin", name := "part", desc := "(JJZ)J" } : Jvm.MethodName)) ∈ lw_all := lw_g (lw_at lw_m5 222 rfl) rfl
theorem q1305 : (Jvm.Cond.code ({ cls := "QuiverKin", name := "part", desc := "(JJZ)J" } : Jvm.MethodName) prog_1_method_80_code (5 : Nat) (Option.some Jvm.ClassFile.FieldType.long)) ∈ lw_all := lw_g (lw_at lw_m5 223 rfl) rfl
theorem q1306 : (Jvm.Cond.methodLink "QuiverKin" (380 : Nat) ({ cls := "QuiverKin", name := "common", desc := "(JJ)J" } : Jvm.MethodName)) ∈ lw_all := lw_g (lw_at lw_m5 224 rfl) rfl
theorem q1307 : (Jvm.Cond.static ({ cls := "QuiverKin", name := "common", desc := "(JJ)J" } : Jvm.MethodName)) ∈ lw_all := lw_g (lw_at lw_m5 225 rfl) rfl
theorem q1308 : (Jvm.Cond.code ({ cls := "QuiverKin", name := "common", desc := "(JJ)J" } : Jvm.MethodName) prog_1_method_79_code (4 : Nat) (Option.some Jvm.ClassFile.FieldType.long)) ∈ lw_all := lw_g (lw_at lw_m5 226 rfl) rfl
theorem q1310 : (Jvm.Cond.instanceMethod ({ cls := "QuiverKin", name := "saying", desc := "(II)I" } : Jvm.MethodName)) ∈ lw_all := lw_g (lw_at lw_m5 228 rfl) rfl
theorem q1311 : (Jvm.Cond.selects "QuiverKin" ({ cls := "QuiverKin", name := "saying", desc := "(II)I" } : Jvm.MethodName) ({ cls := "QuiverKin", name := "saying", desc := "(II)I" } : Jvm.MethodName)) ∈ lw_all := lw_g (lw_at lw_m5 229 rfl) rfl
theorem q1312 : (Jvm.Cond.code ({ cls := "QuiverKin", name := "saying", desc := "(II)I" } : Jvm.MethodName) prog_1_method_82_code (3 : Nat) (Option.some Jvm.ClassFile.FieldType.int)) ∈ lw_all := lw_g (lw_at lw_m5 230 rfl) rfl
theorem q1314 : (Jvm.Cond.instanceMethod ({ cls := "QuiverKin", name := "least", desc := "(IZ)I" } : Jvm.MethodName)) ∈ lw_all := lw_g (lw_at lw_m5 232 rfl) rfl
theorem q1315 : (Jvm.Cond.selects "QuiverKin" ({ cls := "QuiverKin", name := "least", desc := "(IZ)I" } : Jvm.MethodName) ({ cls := "QuiverKin", name := "least", desc := "(IZ)I" } : Jvm.MethodName)) ∈ lw_all := lw_g (lw_at lw_m5 233 rfl) rfl
theorem q1316 : (Jvm.Cond.code ({ cls := "QuiverKin", name := "least", desc := "(IZ)I" } : Jvm.MethodName) prog_1_method_85_code (5 : Nat) (Option.some Jvm.ClassFile.FieldType.int)) ∈ lw_all := lw_g (lw_at lw_m5 234 rfl) rfl
theorem q1317 : (Jvm.Cond.methodLink "QuiverKin" (393 : Nat) ({ cls := "QuiverKin", name := "sumOf", desc := "(II)I" } : Jvm.MethodName)) ∈ lw_all := lw_g (lw_at lw_m5 235 rfl) rfl
theorem q1318 : (Jvm.Cond.privateMethod ({ cls := "QuiverKin", name := "sumOf", desc := "(II)I" } : Jvm.MethodName)) ∈ lw_tbl := lw_at lw_m5 236 rfl
theorem q1319 : (Jvm.Cond.instanceMethod ({ cls := "QuiverKin", name := "sumOf", desc := "(II)I" } : Jvm.MethodName)) ∈ lw_all := lw_g (lw_at lw_m5 237 rfl) rfl
theorem q1320 : (Jvm.Cond.code ({ cls := "QuiverKin", name := "sumOf", desc := "(II)I" } : Jvm.MethodName) prog_1_method_83_code (5 : Nat) (Option.some Jvm.ClassFile.FieldType.int)) ∈ lw_all := lw_g (lw_at lw_m5 238 rfl) rfl
theorem q1321 : (Jvm.Cond.methodLink "QuiverKin" (401 : Nat) ({ cls := "QuiverKin", name := "isLess", desc := "(II)Z" } : Jvm.MethodName)) ∈ lw_all := lw_g (lw_at lw_m5 239 rfl) rfl
theorem q1322 : (Jvm.Cond.privateMethod ({ cls := "QuiverKin", name := "isLess", desc := "(II)Z" } : Jvm.MethodName)) ∈ lw_tbl := lw_at lw_m6 0 rfl
theorem q1323 : (Jvm.Cond.instanceMethod ({ cls := "QuiverKin", name := "isLess", desc := "(II)Z" } : Jvm.MethodName)) ∈ lw_all := lw_g (lw_at lw_m6 1 rfl) rfl
theorem q1324 : (Jvm.Cond.code ({ cls := "QuiverKin", name := "isLess", desc := "(II)Z" } : Jvm.MethodName) prog_1_method_84_code (3 : Nat) (Option.some Jvm.ClassFile.FieldType.boolean)) ∈ lw_all := lw_g (lw_at lw_m6 2 rfl) rfl
theorem q1325 : (Jvm.Cond.methodLink "QuiverKin" (396 : Nat) ({ cls := "java/lang/Integer", name := "bitCount", desc := "(I)I" } : Jvm.MethodName)) ∈ lw_all := lw_g (lw_at lw_m6 3 rfl) rfl
theorem q1332 : (Jvm.Cond.instanceMethod ({ cls := "QuiverKin", name := "near", desc := "(IIIZ)J" } : Jvm.MethodName)) ∈ lw_all := lw_g (lw_at lw_m6 10 rfl) rfl
theorem q1333 : (Jvm.Cond.selects "QuiverKin" ({ cls := "QuiverKin", name := "near", desc := "(IIIZ)J" } : Jvm.MethodName) ({ cls := "QuiverKin", name := "near", desc := "(IIIZ)J" } : Jvm.MethodName)) ∈ lw_all := lw_g (lw_at lw_m6 11 rfl) rfl
theorem q1334 : (Jvm.Cond.code ({ cls := "QuiverKin", name := "near", desc := "(IIIZ)J" } : Jvm.MethodName) prog_1_method_86_code (13 : Nat) (Option.some Jvm.ClassFile.FieldType.long)) ∈ lw_all := lw_g (lw_at lw_m6 12 rfl) rfl
theorem q1335 : (Jvm.Cond.constantLong "QuiverKin" (404 : Nat) (-1 : Int64)) ∈ lw_all := lw_g (lw_at lw_m6 13 rfl) rfl
theorem q1337 : (Jvm.Cond.instanceMethod ({ cls := "QuiverKin", name := "game", desc := "(II)I" } : Jvm.MethodName)) ∈ lw_all := lw_g (lw_at lw_m6 15 rfl) rfl
theorem q1338 : (Jvm.Cond.selects "QuiverKin" ({ cls := "QuiverKin", name := "game", desc := "(II)I" } : Jvm.MethodName) ({ cls := "QuiverKin", name := "game", desc := "(II)I" } : Jvm.MethodName)) ∈ lw_all := lw_g (lw_at lw_m6 16 rfl) rfl
theorem q1339 : (Jvm.Cond.code ({ cls := "QuiverKin", name := "game", desc := "(II)I" } : Jvm.MethodName) prog_1_method_92_code (5 : Nat) (Option.some Jvm.ClassFile.FieldType.int)) ∈ lw_all := lw_g (lw_at lw_m6 17 rfl) rfl
theorem q1340 : (Jvm.Cond.methodLink "QuiverKin" (416 : Nat) ({ cls := "QuiverKin", name := "wins", desc := "(I)Z" } : Jvm.MethodName)) ∈ lw_all := lw_g (lw_at lw_m6 18 rfl) rfl
theorem q1341 : (Jvm.Cond.privateMethod ({ cls := "QuiverKin", name := "wins", desc := "(I)Z" } : Jvm.MethodName)) ∈ lw_tbl := lw_at lw_m6 19 rfl
theorem q1342 : (Jvm.Cond.instanceMethod ({ cls := "QuiverKin", name := "wins", desc := "(I)Z" } : Jvm.MethodName)) ∈ lw_all := lw_g (lw_at lw_m6 20 rfl) rfl
theorem q1343 : (Jvm.Cond.code ({ cls := "QuiverKin", name := "wins", desc := "(I)Z" } : Jvm.MethodName) prog_1_method_91_code (3 : Nat) (Option.some Jvm.ClassFile.FieldType.boolean)) ∈ lw_all := lw_g (lw_at lw_m6 21 rfl) rfl
theorem q1344 : (Jvm.Cond.methodLink "QuiverKin" (406 : Nat) ({ cls := "QuiverKin", name := "sixesOf", desc := "(I)I" } : Jvm.MethodName)) ∈ lw_all := lw_g (lw_at lw_m6 22 rfl) rfl
theorem q1345 : (Jvm.Cond.static ({ cls := "QuiverKin", name := "sixesOf", desc := "(I)I" } : Jvm.MethodName)) ∈ lw_all := lw_g (lw_at lw_m6 23 rfl) rfl
theorem q1346 : (Jvm.Cond.code ({ cls := "QuiverKin", name := "sixesOf", desc := "(I)I" } : Jvm.MethodName) prog_1_method_87_code (1 : Nat) (Option.some Jvm.ClassFile.FieldType.int)) ∈ lw_all := lw_g (lw_at lw_m6 24 rfl) rfl
theorem q1347 : (Jvm.Cond.methodLink "QuiverKin" (419 : Nat) ({ cls := "QuiverKin", name := "biteOf", desc := "(I)I" } : Jvm.MethodName)) ∈ lw_all := lw_g (lw_at lw_m6 25 rfl) rfl
theorem q1348 : (Jvm.Cond.privateMethod ({ cls := "QuiverKin", name := "biteOf", desc := "(I)I" } : Jvm.MethodName)) ∈ lw_tbl := lw_at lw_m6 26 rfl
theorem q1349 : (Jvm.Cond.instanceMethod ({ cls := "QuiverKin", name := "biteOf", desc := "(I)I" } : Jvm.MethodName)) ∈ lw_all := lw_g (lw_at lw_m6 27 rfl) rfl
theorem q1350 : (Jvm.Cond.code ({ cls := "QuiverKin", name := "biteOf", desc := "(I)I" } : Jvm.MethodName) prog_1_method_90_code (4 : Nat) (Option.some Jvm.ClassFile.FieldType.int)) ∈ lw_all := lw_g (lw_at lw_m6 28 rfl) rfl
theorem q1351 : (Jvm.Cond.methodLink "QuiverKin" (409 : Nat) ({ cls := "QuiverKin", name := "wideOf", desc := "(II)I" } : Jvm.MethodName)) ∈ lw_all := lw_g (lw_at lw_m6 29 rfl) rfl
theorem q1352 : (Jvm.Cond.static ({ cls := "QuiverKin", name := "wideOf", desc := "(II)I" } : Jvm.MethodName)) ∈ lw_all := lw_g (lw_at lw_m6 30 rfl) rfl
theorem q1353 : (Jvm.Cond.code ({ cls := "QuiverKin", name := "wideOf", desc := "(II)I" } : Jvm.MethodName) prog_1_method_89_code (4 : Nat) (Option.some Jvm.ClassFile.FieldType.int)) ∈ lw_all := lw_g (lw_at lw_m6 31 rfl) rfl
theorem q1354 : (Jvm.Cond.methodLink "QuiverKin" (412 : Nat) ({ cls := "QuiverKin", name := "bitten", desc := "(III)I" } : Jvm.MethodName)) ∈ lw_all := lw_g (lw_at lw_m6 32 rfl) rfl
theorem q1355 : (Jvm.Cond.static ({ cls := "QuiverKin", name := "bitten", desc := "(III)I" } : Jvm.MethodName)) ∈ lw_all := lw_g (lw_at lw_m6 33 rfl) rfl
theorem q1356 : (Jvm.Cond.code ({ cls := "QuiverKin", name := "bitten", desc := "(III)I" } : Jvm.MethodName) prog_1_method_88_code (7 : Nat) (Option.some Jvm.ClassFile.FieldType.int)) ∈ lw_all := lw_g (lw_at lw_m6 34 rfl) rfl
theorem q1358 : (Jvm.Cond.instanceMethod ({ cls := "QuiverKin", name := "bite", desc := "(IZ)I" } : Jvm.MethodName)) ∈ lw_all := lw_g (lw_at lw_m6 36 rfl) rfl
theorem q1359 : (Jvm.Cond.selects "QuiverKin" ({ cls := "QuiverKin", name := "bite", desc := "(IZ)I" } : Jvm.MethodName) ({ cls := "QuiverKin", name := "bite", desc := "(IZ)I" } : Jvm.MethodName)) ∈ lw_all := lw_g (lw_at lw_m6 37 rfl) rfl
theorem q1360 : (Jvm.Cond.code ({ cls := "QuiverKin", name := "bite", desc := "(IZ)I" } : Jvm.MethodName) prog_1_method_94_code (4 : Nat) (Option.some Jvm.ClassFile.FieldType.int)) ∈ lw_all := lw_g (lw_at lw_m6 38 rfl) rfl
theorem q1361 : (Jvm.Cond.methodLink "QuiverKin" (423 : Nat) ({ cls := "QuiverKin", name := "isShape", desc := "(I)Z" } : Jvm.MethodName)) ∈ lw_all := lw_g (lw_at lw_m6 39 rfl) rfl
theorem q1362 : (Jvm.Cond.static ({ cls := "QuiverKin", name := "isShape", desc := "(I)Z" } : Jvm.MethodName)) ∈ lw_all := lw_g (lw_at lw_m6 40 rfl) rfl
theorem q1363 : (Jvm.Cond.code ({ cls := "QuiverKin", name := "isShape", desc := "(I)Z" } : Jvm.MethodName) prog_1_method_93_code (3 : Nat) (Option.some Jvm.ClassFile.FieldType.boolean)) ∈ lw_all := lw_g (lw_at lw_m6 41 rfl) rfl
theorem q1364 : (Jvm.Cond.constant "QuiverKin" (422 : Nat) (55555 : Int32)) ∈ lw_all := lw_g (lw_at lw_m6 42 rfl) rfl
theorem q1366 : (Jvm.Cond.instanceMethod ({ cls := "QuiverKin", name := "told", desc := "(II)I" } : Jvm.MethodName)) ∈ lw_all := lw_g (lw_at lw_m6 44 rfl) rfl
theorem q1367 : (Jvm.Cond.selects "QuiverKin" ({ cls := "QuiverKin", name := "told", desc := "(II)I" } : Jvm.MethodName) ({ cls := "QuiverKin", name := "told", desc := "(II)I" } : Jvm.MethodName)) ∈ lw_all := lw_g (lw_at lw_m6 45 rfl) rfl
theorem q1368 : (Jvm.Cond.code ({ cls := "QuiverKin", name := "told", desc := "(II)I" } : Jvm.MethodName) prog_1_method_95_code (3 : Nat) (Option.some Jvm.ClassFile.FieldType.int)) ∈ lw_all := lw_g (lw_at lw_m6 46 rfl) rfl
theorem q1370 : (Jvm.Cond.instanceMethod ({ cls := "QuiverKin", name := "whose", desc := "()I" } : Jvm.MethodName)) ∈ lw_all := lw_g (lw_at lw_m6 48 rfl) rfl
theorem q1371 : (Jvm.Cond.selects "QuiverKin" ({ cls := "QuiverKin", name := "whose", desc := "()I" } : Jvm.MethodName) ({ cls := "QuiverKin", name := "whose", desc := "()I" } : Jvm.MethodName)) ∈ lw_all := lw_g (lw_at lw_m6 49 rfl) rfl
theorem q1372 : (Jvm.Cond.code ({ cls := "QuiverKin", name := "whose", desc := "()I" } : Jvm.MethodName) prog_1_method_97_code (3 : Nat) (Option.some Jvm.ClassFile.FieldType.int)) ∈ lw_all := lw_g (lw_at lw_m6 50 rfl) rfl
theorem q1373 : (Jvm.Cond.methodLink "QuiverKin" (429 : Nat) ({ cls := "QuiverKin", name := "isLaw", desc := "(LQuiverKin$Text;)Z" } : Jvm.MethodName)) ∈ lw_all := lw_g (lw_at lw_m6 51 rfl) rfl
theorem q1374 : (Jvm.Cond.privateMethod ({ cls := "QuiverKin", name := "isLaw", desc := "(LQuiverKin$Text;)Z" } : Jvm.MethodName)) ∈ lw_tbl := lw_at lw_m6 52 rfl
theorem q1375 : (Jvm.Cond.instanceMethod ({ cls := "QuiverKin", name := "isLaw", desc := "(LQuiverKin$Text;)Z" } : Jvm.MethodName)) ∈ lw_all := lw_g (lw_at lw_m6 53 rfl) rfl
theorem q1376 : (Jvm.Cond.code ({ cls := "QuiverKin", name := "isLaw", desc := "(LQuiverKin$Text;)Z" } : Jvm.MethodName) prog_1_method_96_code (3 : Nat) (Option.some Jvm.ClassFile.FieldType.boolean)) ∈ lw_all := lw_g (lw_at lw_m6 54 rfl) rfl
theorem q1378 : (Jvm.Cond.instanceMethod ({ cls := "QuiverKin", name := "fullest", desc := "()I" } : Jvm.MethodName)) ∈ lw_all := lw_g (lw_at lw_m6 56 rfl) rfl
theorem q1379 : (Jvm.Cond.selects "QuiverKin" ({ cls := "QuiverKin", name := "fullest", desc := "()I" } : Jvm.MethodName) ({ cls := "QuiverKin", name := "fullest", desc := "()I" } : Jvm.MethodName)) ∈ lw_all := lw_g (lw_at lw_m6 57 rfl) rfl
theorem q1380 : (Jvm.Cond.code ({ cls := "QuiverKin", name := "fullest", desc := "()I" } : Jvm.MethodName) prog_1_method_98_code (3 : Nat) (Option.some Jvm.ClassFile.FieldType.int)) ∈ lw_all := lw_g (lw_at lw_m6 58 rfl) rfl
theorem q1382 : (Jvm.Cond.instanceMethod ({ cls := "QuiverKin", name := "calm", desc := "()I" } : Jvm.MethodName)) ∈ lw_all := lw_g (lw_at lw_m6 60 rfl) rfl
theorem q1383 : (Jvm.Cond.selects "QuiverKin" ({ cls := "QuiverKin", name := "calm", desc := "()I" } : Jvm.MethodName) ({ cls := "QuiverKin", name := "calm", desc := "()I" } : Jvm.MethodName)) ∈ lw_all := lw_g (lw_at lw_m6 61 rfl) rfl
theorem q1384 : (Jvm.Cond.code ({ cls := "QuiverKin", name := "calm", desc := "()I" } : Jvm.MethodName) prog_1_method_99_code (3 : Nat) (Option.some Jvm.ClassFile.FieldType.int)) ∈ lw_all := lw_g (lw_at lw_m6 62 rfl) rfl
theorem q1386 : (Jvm.Cond.instanceMethod ({ cls := "QuiverKin", name := "ledger", desc := "(I)I" } : Jvm.MethodName)) ∈ lw_all := lw_g (lw_at lw_m6 64 rfl) rfl
theorem q1387 : (Jvm.Cond.selects "QuiverKin" ({ cls := "QuiverKin", name := "ledger", desc := "(I)I" } : Jvm.MethodName) ({ cls := "QuiverKin", name := "ledger", desc := "(I)I" } : Jvm.MethodName)) ∈ lw_all := lw_g (lw_at lw_m6 65 rfl) rfl
theorem q1388 : (Jvm.Cond.code ({ cls := "QuiverKin", name := "ledger", desc := "(I)I" } : Jvm.MethodName) prog_1_method_100_code (4 : Nat) (Option.some Jvm.ClassFile.FieldType.int)) ∈ lw_all := lw_g (lw_at lw_m6 66 rfl) rfl
theorem q1390 : (Jvm.Cond.instanceMethod ({ cls := "QuiverKin", name := "image", desc := "()I" } : Jvm.MethodName)) ∈ lw_all := lw_g (lw_at lw_m6 68 rfl) rfl
theorem q1391 : (Jvm.Cond.selects "QuiverKin" ({ cls := "QuiverKin", name := "image", desc := "()I" } : Jvm.MethodName) ({ cls := "QuiverKin", name := "image", desc := "()I" } : Jvm.MethodName)) ∈ lw_all := lw_g (lw_at lw_m6 69 rfl) rfl
theorem q1392 : (Jvm.Cond.code ({ cls := "QuiverKin", name := "image", desc := "()I" } : Jvm.MethodName) prog_1_method_101_code (1 : Nat) (Option.some Jvm.ClassFile.FieldType.int)) ∈ lw_all := lw_g (lw_at lw_m6 70 rfl) rfl
theorem q1394 : (Jvm.Cond.instanceMethod ({ cls := "QuiverKin", name := "back", desc := "()I" } : Jvm.MethodName)) ∈ lw_all := lw_g (lw_at lw_m6 72 rfl) rfl
theorem q1395 : (Jvm.Cond.selects "QuiverKin" ({ cls := "QuiverKin", name := "back", desc := "()I" } : Jvm.MethodName) ({ cls := "QuiverKin", name := "back", desc := "()I" } : Jvm.MethodName)) ∈ lw_all := lw_g (lw_at lw_m6 73 rfl) rfl
theorem q1396 : (Jvm.Cond.code ({ cls := "QuiverKin", name := "back", desc := "()I" } : Jvm.MethodName) prog_1_method_102_code (1 : Nat) (Option.some Jvm.ClassFile.FieldType.int)) ∈ lw_all := lw_g (lw_at lw_m6 74 rfl) rfl
theorem q1398 : (Jvm.Cond.instanceMethod ({ cls := "QuiverKin", name := "about", desc := "(I)I" } : Jvm.MethodName)) ∈ lw_all := lw_g (lw_at lw_m6 76 rfl) rfl
theorem q1399 : (Jvm.Cond.selects "QuiverKin" ({ cls := "QuiverKin", name := "about", desc := "(I)I" } : Jvm.MethodName) ({ cls := "QuiverKin", name := "about", desc := "(I)I" } : Jvm.MethodName)) ∈ lw_all := lw_g (lw_at lw_m6 77 rfl) rfl
theorem q1400 : (Jvm.Cond.code ({ cls := "QuiverKin", name := "about", desc := "(I)I" } : Jvm.MethodName) prog_1_method_103_code (2 : Nat) (Option.some Jvm.ClassFile.FieldType.int)) ∈ lw_all := lw_g (lw_at lw_m6 78 rfl) rfl
theorem q2114 : (Jvm.Cond.castable "QuiverKin" "java/lang/Object") ∈ lw_tbl := lw_at lw_m9 72 rfl
theorem in_X0 : ∀ w ∈ wsX00, w ∈ lw_all := lw_in wsX00 [260, 262, 264, 266, 268, 270, 272, 274, 276, 278, 280, 282, 284, 286, 288, 290, 292, 294, 296, 298, 300] (by decide +kernel) (by decide +kernel)
