/-! DairyBookModel -/
set_option maxRecDepth 100000
def RX4 : String := "DairyBookModel"
def TX4 : u_T := fun k => match k with
  | 0 => ("DairyBookModel", "g", "[I", true)
  | 1 => ("DairyBookModel", "kept", "[I", true)
  | 2 => ("DairyBookModel", "spare", "[I", true)
  | 3 => ("DairyBookModel", "hasKept", "Z", false)
  | 4 => ("DairyBookModel", "past", "[I", true)
  | 5 => ("DairyBookModel", "pasts", "I", false)
  | 6 => ("DairyBookModel", "reason", "I", false)
  | 7 => ("DairyBookModel", "thrown", "I", false)
  | 8 => ("DairyBookModel", "paper", "Ljava/lang/StringBuilder;", true)
  | 9 => ("DairyBookModel", "text", "[I", true)
  | 10 => ("DairyBookModel", "length", "I", false)
  | 11 => ("DairyBookModel", "spot", "I", false)
  | 12 => ("DairyBookModel", "number", "I", false)
  | 13 => ("DairyBookModel", "wrong", "I", false)
  | 14 => ("DairyBookModel", "told", "[I", true)
  | _ => ("DairyBookModel", "tolds", "I", false)
def tyX4 : Nat → FieldType := fun k => match k with
  | 0 => .array .int
  | 1 => .array .int
  | 2 => .array .int
  | 3 => .boolean
  | 4 => .array .int
  | 5 => .int
  | 6 => .int
  | 7 => .int
  | 8 => .object "java/lang/StringBuilder"
  | 9 => .array .int
  | 10 => .int
  | 11 => .int
  | 12 => .int
  | 13 => .int
  | 14 => .array .int
  | _ => .int
abbrev wsX40 : List Cond := u_ws RX4 TX4 16
set_option maxRecDepth 100000 in
theorem nmX4 : ∀ a, a < 16 → ∀ b, b < 16 → a ≠ b → (TX4 a).2.1 ≠ (TX4 b).2.1 := by decide +kernel
set_option maxRecDepth 100000 in
theorem tyX4_ok : ∀ k, k < 16 → parseFieldDescriptor (TX4 k).2.2.1 = some (tyX4 k) := by decide +kernel
abbrev cX4_init : ByteArray := prog_15_method_1_code
def yX4_init : MethodName := ⟨RX4, "<init>", "()V"⟩
def dkwX4_init_5 : List UInt8 := [16, 40, 79, 177]
abbrev dktX4_init_5 : List UInt8 := dkwX4_init_5 ++ []
def dkwX4_init_4 : List UInt8 := [5, 79, 42, 180, 0, 7, 7, 17, 0, 200, 79, 42, 180, 0, 7, 8, 6, 79, 42, 180, 0, 7, 16, 6]
abbrev dktX4_init_4 : List UInt8 := dkwX4_init_4 ++ dktX4_init_5
def dkwX4_init_3 : List UInt8 := [181, 0, 36, 42, 180, 0, 7, 4, 16, 60, 79, 42, 180, 0, 7, 5, 16, 10, 79, 42, 180, 0, 7, 6]
abbrev dktX4_init_3 : List UInt8 := dkwX4_init_3 ++ dktX4_init_4
def dkwX4_init_2 : List UInt8 := [183, 0, 24, 181, 0, 25, 42, 16, 50, 188, 10, 181, 0, 29, 42, 2, 181, 0, 32, 42, 16, 60, 188, 10]
abbrev dktX4_init_2 : List UInt8 := dkwX4_init_2 ++ dktX4_init_3
def dkwX4_init_1 : List UInt8 := [17, 2, 11, 188, 10, 181, 0, 16, 42, 17, 16, 88, 188, 10, 181, 0, 19, 42, 187, 0, 22, 89]
abbrev dktX4_init_1 : List UInt8 := dkwX4_init_1 ++ dktX4_init_2
def dkwX4_init_0 : List UInt8 := [42, 183, 0, 1, 42, 17, 2, 11, 188, 10, 181, 0, 7, 42, 17, 2, 11, 188, 10, 181, 0, 13, 42]
abbrev dktX4_init_0 : List UInt8 := dkwX4_init_0 ++ dktX4_init_1
theorem dksX4_init_0 : cX4_init.data.toList.drop 0 = dktX4_init_0 := by decide +kernel
theorem dksX4_init_1 : cX4_init.data.toList.drop 23 = dktX4_init_1 := dk_seg dksX4_init_0 23 rfl rfl
theorem dksX4_init_2 : cX4_init.data.toList.drop 45 = dktX4_init_2 := dk_seg dksX4_init_1 22 rfl rfl
theorem dksX4_init_3 : cX4_init.data.toList.drop 69 = dktX4_init_3 := dk_seg dksX4_init_2 24 rfl rfl
theorem dksX4_init_4 : cX4_init.data.toList.drop 93 = dktX4_init_4 := dk_seg dksX4_init_3 24 rfl rfl
theorem dksX4_init_5 : cX4_init.data.toList.drop 117 = dktX4_init_5 := dk_seg dksX4_init_4 24 rfl rfl
theorem dX4_init_0 : decode cX4_init 0 = .ok (.aload_n 0, 1) := dk_42 (dk_at dksX4_init_0 0 rfl rfl)
theorem dX4_init_1 : decode cX4_init 1 = .ok (.invokespecial 1, 3) := dk_183 0 1 (dk_at dksX4_init_0 1 rfl rfl)
theorem dX4_init_4 : decode cX4_init 4 = .ok (.aload_n 0, 1) := dk_42 (dk_at dksX4_init_0 4 rfl rfl)
theorem dX4_init_5 : decode cX4_init 5 = .ok (.sipush 523, 3) := dk_17 2 11 (dk_at dksX4_init_0 5 rfl rfl)
theorem dX4_init_8 : decode cX4_init 8 = .ok (.newarray .int, 2) := dk_188_10 (dk_at dksX4_init_0 8 rfl rfl)
theorem dX4_init_10 : decode cX4_init 10 = .ok (.putfield 7, 3) := dk_181 0 7 (dk_at dksX4_init_0 10 rfl rfl)
theorem dX4_init_13 : decode cX4_init 13 = .ok (.aload_n 0, 1) := dk_42 (dk_at dksX4_init_0 13 rfl rfl)
theorem dX4_init_14 : decode cX4_init 14 = .ok (.sipush 523, 3) := dk_17 2 11 (dk_at dksX4_init_0 14 rfl rfl)
theorem dX4_init_17 : decode cX4_init 17 = .ok (.newarray .int, 2) := dk_188_10 (dk_at dksX4_init_0 17 rfl rfl)
theorem dX4_init_19 : decode cX4_init 19 = .ok (.putfield 13, 3) := dk_181 0 13 (dk_at dksX4_init_0 19 rfl rfl)
theorem dX4_init_22 : decode cX4_init 22 = .ok (.aload_n 0, 1) := dk_42 (dk_at dksX4_init_0 22 rfl rfl)
theorem dX4_init_23 : decode cX4_init 23 = .ok (.sipush 523, 3) := dk_17 2 11 (dk_at dksX4_init_1 0 rfl rfl)
theorem dX4_init_26 : decode cX4_init 26 = .ok (.newarray .int, 2) := dk_188_10 (dk_at dksX4_init_1 3 rfl rfl)
theorem dX4_init_28 : decode cX4_init 28 = .ok (.putfield 16, 3) := dk_181 0 16 (dk_at dksX4_init_1 5 rfl rfl)
theorem dX4_init_31 : decode cX4_init 31 = .ok (.aload_n 0, 1) := dk_42 (dk_at dksX4_init_1 8 rfl rfl)
theorem dX4_init_32 : decode cX4_init 32 = .ok (.sipush 4184, 3) := dk_17 16 88 (dk_at dksX4_init_1 9 rfl rfl)
theorem dX4_init_35 : decode cX4_init 35 = .ok (.newarray .int, 2) := dk_188_10 (dk_at dksX4_init_1 12 rfl rfl)
theorem dX4_init_37 : decode cX4_init 37 = .ok (.putfield 19, 3) := dk_181 0 19 (dk_at dksX4_init_1 14 rfl rfl)
theorem dX4_init_40 : decode cX4_init 40 = .ok (.aload_n 0, 1) := dk_42 (dk_at dksX4_init_1 17 rfl rfl)
theorem dX4_init_41 : decode cX4_init 41 = .ok (.new 22, 3) := dk_187 0 22 (dk_at dksX4_init_1 18 rfl rfl)
theorem dX4_init_44 : decode cX4_init 44 = .ok (.dup, 1) := dk_89 (dk_at dksX4_init_1 21 rfl rfl)
theorem dX4_init_45 : decode cX4_init 45 = .ok (.invokespecial 24, 3) := dk_183 0 24 (dk_at dksX4_init_2 0 rfl rfl)
theorem dX4_init_48 : decode cX4_init 48 = .ok (.putfield 25, 3) := dk_181 0 25 (dk_at dksX4_init_2 3 rfl rfl)
theorem dX4_init_51 : decode cX4_init 51 = .ok (.aload_n 0, 1) := dk_42 (dk_at dksX4_init_2 6 rfl rfl)
theorem dX4_init_52 : decode cX4_init 52 = .ok (.bipush 50, 2) := dk_16 50 (dk_at dksX4_init_2 7 rfl rfl)
theorem dX4_init_54 : decode cX4_init 54 = .ok (.newarray .int, 2) := dk_188_10 (dk_at dksX4_init_2 9 rfl rfl)
theorem dX4_init_56 : decode cX4_init 56 = .ok (.putfield 29, 3) := dk_181 0 29 (dk_at dksX4_init_2 11 rfl rfl)
theorem dX4_init_59 : decode cX4_init 59 = .ok (.aload_n 0, 1) := dk_42 (dk_at dksX4_init_2 14 rfl rfl)
theorem dX4_init_60 : decode cX4_init 60 = .ok (.iconst (-1), 1) := dk_2 (dk_at dksX4_init_2 15 rfl rfl)
theorem dX4_init_61 : decode cX4_init 61 = .ok (.putfield 32, 3) := dk_181 0 32 (dk_at dksX4_init_2 16 rfl rfl)
theorem dX4_init_64 : decode cX4_init 64 = .ok (.aload_n 0, 1) := dk_42 (dk_at dksX4_init_2 19 rfl rfl)
theorem dX4_init_65 : decode cX4_init 65 = .ok (.bipush 60, 2) := dk_16 60 (dk_at dksX4_init_2 20 rfl rfl)
theorem dX4_init_67 : decode cX4_init 67 = .ok (.newarray .int, 2) := dk_188_10 (dk_at dksX4_init_2 22 rfl rfl)
theorem dX4_init_69 : decode cX4_init 69 = .ok (.putfield 36, 3) := dk_181 0 36 (dk_at dksX4_init_3 0 rfl rfl)
theorem dX4_init_72 : decode cX4_init 72 = .ok (.aload_n 0, 1) := dk_42 (dk_at dksX4_init_3 3 rfl rfl)
theorem dX4_init_73 : decode cX4_init 73 = .ok (.getfield 7, 3) := dk_180 0 7 (dk_at dksX4_init_3 4 rfl rfl)
theorem dX4_init_76 : decode cX4_init 76 = .ok (.iconst 1, 1) := dk_4 (dk_at dksX4_init_3 7 rfl rfl)
theorem dX4_init_77 : decode cX4_init 77 = .ok (.bipush 60, 2) := dk_16 60 (dk_at dksX4_init_3 8 rfl rfl)
theorem dX4_init_79 : decode cX4_init 79 = .ok (.iastore, 1) := dk_79 (dk_at dksX4_init_3 10 rfl rfl)
theorem dX4_init_80 : decode cX4_init 80 = .ok (.aload_n 0, 1) := dk_42 (dk_at dksX4_init_3 11 rfl rfl)
theorem dX4_init_81 : decode cX4_init 81 = .ok (.getfield 7, 3) := dk_180 0 7 (dk_at dksX4_init_3 12 rfl rfl)
theorem dX4_init_84 : decode cX4_init 84 = .ok (.iconst 2, 1) := dk_5 (dk_at dksX4_init_3 15 rfl rfl)
theorem dX4_init_85 : decode cX4_init 85 = .ok (.bipush 10, 2) := dk_16 10 (dk_at dksX4_init_3 16 rfl rfl)
theorem dX4_init_87 : decode cX4_init 87 = .ok (.iastore, 1) := dk_79 (dk_at dksX4_init_3 18 rfl rfl)
theorem dX4_init_88 : decode cX4_init 88 = .ok (.aload_n 0, 1) := dk_42 (dk_at dksX4_init_3 19 rfl rfl)
theorem dX4_init_89 : decode cX4_init 89 = .ok (.getfield 7, 3) := dk_180 0 7 (dk_at dksX4_init_3 20 rfl rfl)
theorem dX4_init_92 : decode cX4_init 92 = .ok (.iconst 3, 1) := dk_6 (dk_at dksX4_init_3 23 rfl rfl)
theorem dX4_init_93 : decode cX4_init 93 = .ok (.iconst 2, 1) := dk_5 (dk_at dksX4_init_4 0 rfl rfl)
theorem dX4_init_94 : decode cX4_init 94 = .ok (.iastore, 1) := dk_79 (dk_at dksX4_init_4 1 rfl rfl)
theorem dX4_init_95 : decode cX4_init 95 = .ok (.aload_n 0, 1) := dk_42 (dk_at dksX4_init_4 2 rfl rfl)
theorem dX4_init_96 : decode cX4_init 96 = .ok (.getfield 7, 3) := dk_180 0 7 (dk_at dksX4_init_4 3 rfl rfl)
theorem dX4_init_99 : decode cX4_init 99 = .ok (.iconst 4, 1) := dk_7 (dk_at dksX4_init_4 6 rfl rfl)
theorem dX4_init_100 : decode cX4_init 100 = .ok (.sipush 200, 3) := dk_17 0 200 (dk_at dksX4_init_4 7 rfl rfl)
theorem dX4_init_103 : decode cX4_init 103 = .ok (.iastore, 1) := dk_79 (dk_at dksX4_init_4 10 rfl rfl)
theorem dX4_init_104 : decode cX4_init 104 = .ok (.aload_n 0, 1) := dk_42 (dk_at dksX4_init_4 11 rfl rfl)
theorem dX4_init_105 : decode cX4_init 105 = .ok (.getfield 7, 3) := dk_180 0 7 (dk_at dksX4_init_4 12 rfl rfl)
theorem dX4_init_108 : decode cX4_init 108 = .ok (.iconst 5, 1) := dk_8 (dk_at dksX4_init_4 15 rfl rfl)
theorem dX4_init_109 : decode cX4_init 109 = .ok (.iconst 3, 1) := dk_6 (dk_at dksX4_init_4 16 rfl rfl)
theorem dX4_init_110 : decode cX4_init 110 = .ok (.iastore, 1) := dk_79 (dk_at dksX4_init_4 17 rfl rfl)
theorem dX4_init_111 : decode cX4_init 111 = .ok (.aload_n 0, 1) := dk_42 (dk_at dksX4_init_4 18 rfl rfl)
theorem dX4_init_112 : decode cX4_init 112 = .ok (.getfield 7, 3) := dk_180 0 7 (dk_at dksX4_init_4 19 rfl rfl)
theorem dX4_init_115 : decode cX4_init 115 = .ok (.bipush 6, 2) := dk_16 6 (dk_at dksX4_init_4 22 rfl rfl)
theorem dX4_init_117 : decode cX4_init 117 = .ok (.bipush 40, 2) := dk_16 40 (dk_at dksX4_init_5 0 rfl rfl)
theorem dX4_init_119 : decode cX4_init 119 = .ok (.iastore, 1) := dk_79 (dk_at dksX4_init_5 2 rfl rfl)
theorem dX4_init_120 : decode cX4_init 120 = .ok (.return_, 1) := dk_177 (dk_at dksX4_init_5 3 rfl rfl)
abbrev cX4_thrown : ByteArray := prog_15_method_2_code
def yX4_thrown : MethodName := ⟨RX4, "thrown", "()I"⟩
theorem dX4_thrown_0 : decode cX4_thrown 0 = .ok (.aload_n 0, 1) := by decide +kernel
theorem dX4_thrown_1 : decode cX4_thrown 1 = .ok (.getfield 39, 3) := by decide +kernel
theorem dX4_thrown_4 : decode cX4_thrown 4 = .ok (.ireturn, 1) := by decide +kernel
abbrev cX4_undo : ByteArray := prog_15_method_12_code
def yX4_undo : MethodName := ⟨RX4, "undo", "()I"⟩
def dkwX4_undo_2 : List UInt8 := [180, 0, 7, 3, 184, 0, 57, 42, 180, 0, 54, 172]
abbrev dktX4_undo_2 : List UInt8 := dkwX4_undo_2 ++ []
def dkwX4_undo_1 : List UInt8 := [172, 42, 89, 180, 0, 54, 4, 100, 181, 0, 54, 42, 180, 0, 19, 17, 2, 11, 42, 180, 0, 54, 104, 42]
abbrev dktX4_undo_1 : List UInt8 := dkwX4_undo_1 ++ dktX4_undo_2
def dkwX4_undo_0 : List UInt8 := [42, 42, 180, 0, 54, 154, 0, 7, 4, 167, 0, 4, 3, 181, 0, 39, 42, 180, 0, 39, 158, 0, 5, 3]
abbrev dktX4_undo_0 : List UInt8 := dkwX4_undo_0 ++ dktX4_undo_1
theorem dksX4_undo_0 : cX4_undo.data.toList.drop 0 = dktX4_undo_0 := by decide +kernel
theorem dksX4_undo_1 : cX4_undo.data.toList.drop 24 = dktX4_undo_1 := dk_seg dksX4_undo_0 24 rfl rfl
theorem dksX4_undo_2 : cX4_undo.data.toList.drop 48 = dktX4_undo_2 := dk_seg dksX4_undo_1 24 rfl rfl
theorem dX4_undo_0 : decode cX4_undo 0 = .ok (.aload_n 0, 1) := dk_42 (dk_at dksX4_undo_0 0 rfl rfl)
theorem dX4_undo_1 : decode cX4_undo 1 = .ok (.aload_n 0, 1) := dk_42 (dk_at dksX4_undo_0 1 rfl rfl)
theorem dX4_undo_2 : decode cX4_undo 2 = .ok (.getfield 54, 3) := dk_180 0 54 (dk_at dksX4_undo_0 2 rfl rfl)
theorem dX4_undo_5 : decode cX4_undo 5 = .ok (.ifCond .ne 7, 3) := dk_154 0 7 (dk_at dksX4_undo_0 5 rfl rfl)
theorem dX4_undo_8 : decode cX4_undo 8 = .ok (.iconst 1, 1) := dk_4 (dk_at dksX4_undo_0 8 rfl rfl)
theorem dX4_undo_9 : decode cX4_undo 9 = .ok (.goto 4, 3) := dk_167 0 4 (dk_at dksX4_undo_0 9 rfl rfl)
theorem dX4_undo_12 : decode cX4_undo 12 = .ok (.iconst 0, 1) := dk_3 (dk_at dksX4_undo_0 12 rfl rfl)
theorem dX4_undo_13 : decode cX4_undo 13 = .ok (.putfield 39, 3) := dk_181 0 39 (dk_at dksX4_undo_0 13 rfl rfl)
theorem dX4_undo_16 : decode cX4_undo 16 = .ok (.aload_n 0, 1) := dk_42 (dk_at dksX4_undo_0 16 rfl rfl)
theorem dX4_undo_17 : decode cX4_undo 17 = .ok (.getfield 39, 3) := dk_180 0 39 (dk_at dksX4_undo_0 17 rfl rfl)
theorem dX4_undo_20 : decode cX4_undo 20 = .ok (.ifCond .le 5, 3) := dk_158 0 5 (dk_at dksX4_undo_0 20 rfl rfl)
theorem dX4_undo_23 : decode cX4_undo 23 = .ok (.iconst 0, 1) := dk_3 (dk_at dksX4_undo_0 23 rfl rfl)
theorem dX4_undo_24 : decode cX4_undo 24 = .ok (.ireturn, 1) := dk_172 (dk_at dksX4_undo_1 0 rfl rfl)
theorem dX4_undo_25 : decode cX4_undo 25 = .ok (.aload_n 0, 1) := dk_42 (dk_at dksX4_undo_1 1 rfl rfl)
theorem dX4_undo_26 : decode cX4_undo 26 = .ok (.dup, 1) := dk_89 (dk_at dksX4_undo_1 2 rfl rfl)
theorem dX4_undo_27 : decode cX4_undo 27 = .ok (.getfield 54, 3) := dk_180 0 54 (dk_at dksX4_undo_1 3 rfl rfl)
theorem dX4_undo_30 : decode cX4_undo 30 = .ok (.iconst 1, 1) := dk_4 (dk_at dksX4_undo_1 6 rfl rfl)
theorem dX4_undo_31 : decode cX4_undo 31 = .ok (.isub, 1) := dk_100 (dk_at dksX4_undo_1 7 rfl rfl)
theorem dX4_undo_32 : decode cX4_undo 32 = .ok (.putfield 54, 3) := dk_181 0 54 (dk_at dksX4_undo_1 8 rfl rfl)
theorem dX4_undo_35 : decode cX4_undo 35 = .ok (.aload_n 0, 1) := dk_42 (dk_at dksX4_undo_1 11 rfl rfl)
theorem dX4_undo_36 : decode cX4_undo 36 = .ok (.getfield 19, 3) := dk_180 0 19 (dk_at dksX4_undo_1 12 rfl rfl)
theorem dX4_undo_39 : decode cX4_undo 39 = .ok (.sipush 523, 3) := dk_17 2 11 (dk_at dksX4_undo_1 15 rfl rfl)
theorem dX4_undo_42 : decode cX4_undo 42 = .ok (.aload_n 0, 1) := dk_42 (dk_at dksX4_undo_1 18 rfl rfl)
theorem dX4_undo_43 : decode cX4_undo 43 = .ok (.getfield 54, 3) := dk_180 0 54 (dk_at dksX4_undo_1 19 rfl rfl)
theorem dX4_undo_46 : decode cX4_undo 46 = .ok (.imul, 1) := dk_104 (dk_at dksX4_undo_1 22 rfl rfl)
theorem dX4_undo_47 : decode cX4_undo 47 = .ok (.aload_n 0, 1) := dk_42 (dk_at dksX4_undo_1 23 rfl rfl)
theorem dX4_undo_48 : decode cX4_undo 48 = .ok (.getfield 7, 3) := dk_180 0 7 (dk_at dksX4_undo_2 0 rfl rfl)
theorem dX4_undo_51 : decode cX4_undo 51 = .ok (.iconst 0, 1) := dk_3 (dk_at dksX4_undo_2 3 rfl rfl)
theorem dX4_undo_52 : decode cX4_undo 52 = .ok (.invokestatic 57, 3) := dk_184 0 57 (dk_at dksX4_undo_2 4 rfl rfl)
theorem dX4_undo_55 : decode cX4_undo 55 = .ok (.aload_n 0, 1) := dk_42 (dk_at dksX4_undo_2 7 rfl rfl)
theorem dX4_undo_56 : decode cX4_undo 56 = .ok (.getfield 54, 3) := dk_180 0 54 (dk_at dksX4_undo_2 8 rfl rfl)
theorem dX4_undo_59 : decode cX4_undo 59 = .ok (.ireturn, 1) := dk_172 (dk_at dksX4_undo_2 11 rfl rfl)
abbrev cX4_copies : ByteArray := prog_15_method_10_code
def yX4_copies : MethodName := ⟨RX4, "copies", "([II[II)V"⟩
def dkwX4_copies_1 : List UInt8 := [132, 4, 1, 167, 255, 233, 177]
abbrev dktX4_copies_1 : List UInt8 := dkwX4_copies_1 ++ []
def dkwX4_copies_0 : List UInt8 := [3, 54, 4, 21, 4, 17, 2, 11, 162, 0, 21, 44, 29, 21, 4, 96, 42, 27, 21, 4, 96, 46, 79]
abbrev dktX4_copies_0 : List UInt8 := dkwX4_copies_0 ++ dktX4_copies_1
theorem dksX4_copies_0 : cX4_copies.data.toList.drop 0 = dktX4_copies_0 := by decide +kernel
theorem dksX4_copies_1 : cX4_copies.data.toList.drop 23 = dktX4_copies_1 := dk_seg dksX4_copies_0 23 rfl rfl
theorem dX4_copies_0 : decode cX4_copies 0 = .ok (.iconst 0, 1) := dk_3 (dk_at dksX4_copies_0 0 rfl rfl)
theorem dX4_copies_1 : decode cX4_copies 1 = .ok (.istore 4, 2) := dk_54 4 (dk_at dksX4_copies_0 1 rfl rfl)
theorem dX4_copies_3 : decode cX4_copies 3 = .ok (.iload 4, 2) := dk_21 4 (dk_at dksX4_copies_0 3 rfl rfl)
theorem dX4_copies_5 : decode cX4_copies 5 = .ok (.sipush 523, 3) := dk_17 2 11 (dk_at dksX4_copies_0 5 rfl rfl)
theorem dX4_copies_8 : decode cX4_copies 8 = .ok (.if_icmp .ge 21, 3) := dk_162 0 21 (dk_at dksX4_copies_0 8 rfl rfl)
theorem dX4_copies_11 : decode cX4_copies 11 = .ok (.aload_n 2, 1) := dk_44 (dk_at dksX4_copies_0 11 rfl rfl)
theorem dX4_copies_12 : decode cX4_copies 12 = .ok (.iload_n 3, 1) := dk_29 (dk_at dksX4_copies_0 12 rfl rfl)
theorem dX4_copies_13 : decode cX4_copies 13 = .ok (.iload 4, 2) := dk_21 4 (dk_at dksX4_copies_0 13 rfl rfl)
theorem dX4_copies_15 : decode cX4_copies 15 = .ok (.iadd, 1) := dk_96 (dk_at dksX4_copies_0 15 rfl rfl)
theorem dX4_copies_16 : decode cX4_copies 16 = .ok (.aload_n 0, 1) := dk_42 (dk_at dksX4_copies_0 16 rfl rfl)
theorem dX4_copies_17 : decode cX4_copies 17 = .ok (.iload_n 1, 1) := dk_27 (dk_at dksX4_copies_0 17 rfl rfl)
theorem dX4_copies_18 : decode cX4_copies 18 = .ok (.iload 4, 2) := dk_21 4 (dk_at dksX4_copies_0 18 rfl rfl)
theorem dX4_copies_20 : decode cX4_copies 20 = .ok (.iadd, 1) := dk_96 (dk_at dksX4_copies_0 20 rfl rfl)
theorem dX4_copies_21 : decode cX4_copies 21 = .ok (.iaload, 1) := dk_46 (dk_at dksX4_copies_0 21 rfl rfl)
theorem dX4_copies_22 : decode cX4_copies 22 = .ok (.iastore, 1) := dk_79 (dk_at dksX4_copies_0 22 rfl rfl)
theorem dX4_copies_23 : decode cX4_copies 23 = .ok (.iinc 4 1, 3) := dk_132 4 1 (dk_at dksX4_copies_1 0 rfl rfl)
theorem dX4_copies_26 : decode cX4_copies 26 = .ok (.goto (-23), 3) := dk_167 255 233 (dk_at dksX4_copies_1 3 rfl rfl)
theorem dX4_copies_29 : decode cX4_copies 29 = .ok (.return_, 1) := dk_177 (dk_at dksX4_copies_1 6 rfl rfl)
abbrev cX4_save : ByteArray := prog_15_method_13_code
def yX4_save : MethodName := ⟨RX4, "save", "()V"⟩
def dkwX4_save_0 : List UInt8 := [42, 3, 181, 0, 39, 42, 4, 181, 0, 61, 42, 180, 0, 7, 3, 42, 180, 0, 13, 3, 184, 0, 57, 177]
abbrev dktX4_save_0 : List UInt8 := dkwX4_save_0 ++ []
theorem dksX4_save_0 : cX4_save.data.toList.drop 0 = dktX4_save_0 := by decide +kernel
theorem dX4_save_0 : decode cX4_save 0 = .ok (.aload_n 0, 1) := dk_42 (dk_at dksX4_save_0 0 rfl rfl)
theorem dX4_save_1 : decode cX4_save 1 = .ok (.iconst 0, 1) := dk_3 (dk_at dksX4_save_0 1 rfl rfl)
theorem dX4_save_2 : decode cX4_save 2 = .ok (.putfield 39, 3) := dk_181 0 39 (dk_at dksX4_save_0 2 rfl rfl)
theorem dX4_save_5 : decode cX4_save 5 = .ok (.aload_n 0, 1) := dk_42 (dk_at dksX4_save_0 5 rfl rfl)
theorem dX4_save_6 : decode cX4_save 6 = .ok (.iconst 1, 1) := dk_4 (dk_at dksX4_save_0 6 rfl rfl)
theorem dX4_save_7 : decode cX4_save 7 = .ok (.putfield 61, 3) := dk_181 0 61 (dk_at dksX4_save_0 7 rfl rfl)
theorem dX4_save_10 : decode cX4_save 10 = .ok (.aload_n 0, 1) := dk_42 (dk_at dksX4_save_0 10 rfl rfl)
theorem dX4_save_11 : decode cX4_save 11 = .ok (.getfield 7, 3) := dk_180 0 7 (dk_at dksX4_save_0 11 rfl rfl)
theorem dX4_save_14 : decode cX4_save 14 = .ok (.iconst 0, 1) := dk_3 (dk_at dksX4_save_0 14 rfl rfl)
theorem dX4_save_15 : decode cX4_save 15 = .ok (.aload_n 0, 1) := dk_42 (dk_at dksX4_save_0 15 rfl rfl)
theorem dX4_save_16 : decode cX4_save 16 = .ok (.getfield 13, 3) := dk_180 0 13 (dk_at dksX4_save_0 16 rfl rfl)
theorem dX4_save_19 : decode cX4_save 19 = .ok (.iconst 0, 1) := dk_3 (dk_at dksX4_save_0 19 rfl rfl)
theorem dX4_save_20 : decode cX4_save 20 = .ok (.invokestatic 57, 3) := dk_184 0 57 (dk_at dksX4_save_0 20 rfl rfl)
theorem dX4_save_23 : decode cX4_save 23 = .ok (.return_, 1) := dk_177 (dk_at dksX4_save_0 23 rfl rfl)
abbrev cX4_restore : ByteArray := prog_15_method_14_code
def yX4_restore : MethodName := ⟨RX4, "restore", "()V"⟩
def dkwX4_restore_1 : List UInt8 := [180, 0, 13, 3, 42, 180, 0, 7, 3, 184, 0, 57, 42, 3, 181, 0, 54, 177]
abbrev dktX4_restore_1 : List UInt8 := dkwX4_restore_1 ++ []
def dkwX4_restore_0 : List UInt8 := [42, 42, 180, 0, 61, 153, 0, 7, 3, 167, 0, 4, 4, 181, 0, 39, 42, 180, 0, 61, 153, 0, 21, 42]
abbrev dktX4_restore_0 : List UInt8 := dkwX4_restore_0 ++ dktX4_restore_1
theorem dksX4_restore_0 : cX4_restore.data.toList.drop 0 = dktX4_restore_0 := by decide +kernel
theorem dksX4_restore_1 : cX4_restore.data.toList.drop 24 = dktX4_restore_1 := dk_seg dksX4_restore_0 24 rfl rfl
theorem dX4_restore_0 : decode cX4_restore 0 = .ok (.aload_n 0, 1) := dk_42 (dk_at dksX4_restore_0 0 rfl rfl)
theorem dX4_restore_1 : decode cX4_restore 1 = .ok (.aload_n 0, 1) := dk_42 (dk_at dksX4_restore_0 1 rfl rfl)
theorem dX4_restore_2 : decode cX4_restore 2 = .ok (.getfield 61, 3) := dk_180 0 61 (dk_at dksX4_restore_0 2 rfl rfl)
theorem dX4_restore_5 : decode cX4_restore 5 = .ok (.ifCond .eq 7, 3) := dk_153 0 7 (dk_at dksX4_restore_0 5 rfl rfl)
theorem dX4_restore_8 : decode cX4_restore 8 = .ok (.iconst 0, 1) := dk_3 (dk_at dksX4_restore_0 8 rfl rfl)
theorem dX4_restore_9 : decode cX4_restore 9 = .ok (.goto 4, 3) := dk_167 0 4 (dk_at dksX4_restore_0 9 rfl rfl)
theorem dX4_restore_12 : decode cX4_restore 12 = .ok (.iconst 1, 1) := dk_4 (dk_at dksX4_restore_0 12 rfl rfl)
theorem dX4_restore_13 : decode cX4_restore 13 = .ok (.putfield 39, 3) := dk_181 0 39 (dk_at dksX4_restore_0 13 rfl rfl)
theorem dX4_restore_16 : decode cX4_restore 16 = .ok (.aload_n 0, 1) := dk_42 (dk_at dksX4_restore_0 16 rfl rfl)
theorem dX4_restore_17 : decode cX4_restore 17 = .ok (.getfield 61, 3) := dk_180 0 61 (dk_at dksX4_restore_0 17 rfl rfl)
theorem dX4_restore_20 : decode cX4_restore 20 = .ok (.ifCond .eq 21, 3) := dk_153 0 21 (dk_at dksX4_restore_0 20 rfl rfl)
theorem dX4_restore_23 : decode cX4_restore 23 = .ok (.aload_n 0, 1) := dk_42 (dk_at dksX4_restore_0 23 rfl rfl)
theorem dX4_restore_24 : decode cX4_restore 24 = .ok (.getfield 13, 3) := dk_180 0 13 (dk_at dksX4_restore_1 0 rfl rfl)
theorem dX4_restore_27 : decode cX4_restore 27 = .ok (.iconst 0, 1) := dk_3 (dk_at dksX4_restore_1 3 rfl rfl)
theorem dX4_restore_28 : decode cX4_restore 28 = .ok (.aload_n 0, 1) := dk_42 (dk_at dksX4_restore_1 4 rfl rfl)
theorem dX4_restore_29 : decode cX4_restore 29 = .ok (.getfield 7, 3) := dk_180 0 7 (dk_at dksX4_restore_1 5 rfl rfl)
theorem dX4_restore_32 : decode cX4_restore 32 = .ok (.iconst 0, 1) := dk_3 (dk_at dksX4_restore_1 8 rfl rfl)
theorem dX4_restore_33 : decode cX4_restore 33 = .ok (.invokestatic 57, 3) := dk_184 0 57 (dk_at dksX4_restore_1 9 rfl rfl)
theorem dX4_restore_36 : decode cX4_restore 36 = .ok (.aload_n 0, 1) := dk_42 (dk_at dksX4_restore_1 12 rfl rfl)
theorem dX4_restore_37 : decode cX4_restore 37 = .ok (.iconst 0, 1) := dk_3 (dk_at dksX4_restore_1 13 rfl rfl)
theorem dX4_restore_38 : decode cX4_restore 38 = .ok (.putfield 54, 3) := dk_181 0 54 (dk_at dksX4_restore_1 14 rfl rfl)
theorem dX4_restore_41 : decode cX4_restore 41 = .ok (.return_, 1) := dk_177 (dk_at dksX4_restore_1 17 rfl rfl)
abbrev cX4_addCow : ByteArray := prog_15_method_15_code
def yX4_addCow : MethodName := ⟨RX4, "addCow", "(III)I"⟩
def dkwX4_addCow_9 : List UInt8 := [180, 0, 7, 3, 46, 29, 100, 79, 21, 4, 172]
abbrev dktX4_addCow_9 : List UInt8 := dkwX4_addCow_9 ++ []
def dkwX4_addCow_8 : List UInt8 := [79, 42, 180, 0, 7, 21, 4, 7, 184, 0, 50, 4, 79, 42, 180, 0, 7, 21, 4, 8, 184, 0, 50, 42]
abbrev dktX4_addCow_8 : List UInt8 := dkwX4_addCow_8 ++ dktX4_addCow_9
def dkwX4_addCow_7 : List UInt8 := [21, 4, 16, 6, 184, 0, 50, 2, 79, 29, 155, 0, 46, 42, 180, 0, 7, 21, 4, 6, 184, 0, 50, 4]
abbrev dktX4_addCow_7 : List UInt8 := dkwX4_addCow_7 ++ dktX4_addCow_8
def dkwX4_addCow_6 : List UInt8 := [4, 184, 0, 50, 28, 79, 42, 180, 0, 7, 21, 4, 5, 184, 0, 50, 16, 100, 79, 42, 180, 0, 7]
abbrev dktX4_addCow_6 : List UInt8 := dkwX4_addCow_6 ++ dktX4_addCow_7
def dkwX4_addCow_5 : List UInt8 := [132, 5, 1, 167, 255, 233, 42, 180, 0, 7, 21, 4, 3, 184, 0, 50, 27, 79, 42, 180, 0, 7, 21, 4]
abbrev dktX4_addCow_5 : List UInt8 := dkwX4_addCow_5 ++ dktX4_addCow_6
def dkwX4_addCow_4 : List UInt8 := [54, 5, 21, 5, 16, 10, 162, 0, 22, 42, 180, 0, 7, 21, 4, 21, 5, 184, 0, 50, 3, 79]
abbrev dktX4_addCow_4 : List UInt8 := dkwX4_addCow_4 ++ dktX4_addCow_5
def dkwX4_addCow_3 : List UInt8 := [182, 0, 65, 42, 180, 0, 7, 16, 7, 46, 54, 4, 42, 180, 0, 7, 16, 7, 92, 46, 4, 96, 79, 3]
abbrev dktX4_addCow_3 : List UInt8 := dkwX4_addCow_3 ++ dktX4_addCow_4
def dkwX4_addCow_2 : List UInt8 := [5, 167, 0, 4, 3, 181, 0, 39, 42, 180, 0, 39, 158, 0, 5, 3, 172, 42, 42, 180, 0, 7]
abbrev dktX4_addCow_2 : List UInt8 := dkwX4_addCow_2 ++ dktX4_addCow_3
def dkwX4_addCow_1 : List UInt8 := [16, 99, 184, 0, 42, 154, 0, 7, 4, 167, 0, 20, 42, 180, 0, 7, 16, 7, 46, 16, 8, 160, 0, 7]
abbrev dktX4_addCow_1 : List UInt8 := dkwX4_addCow_1 ++ dktX4_addCow_2
def dkwX4_addCow_0 : List UInt8 := [42, 27, 16, 8, 16, 40, 184, 0, 42, 153, 0, 23, 28, 3, 16, 9, 184, 0, 42, 153, 0, 13, 29, 2]
abbrev dktX4_addCow_0 : List UInt8 := dkwX4_addCow_0 ++ dktX4_addCow_1
theorem dksX4_addCow_0 : cX4_addCow.data.toList.drop 0 = dktX4_addCow_0 := by decide +kernel
theorem dksX4_addCow_1 : cX4_addCow.data.toList.drop 24 = dktX4_addCow_1 := dk_seg dksX4_addCow_0 24 rfl rfl
theorem dksX4_addCow_2 : cX4_addCow.data.toList.drop 48 = dktX4_addCow_2 := dk_seg dksX4_addCow_1 24 rfl rfl
theorem dksX4_addCow_3 : cX4_addCow.data.toList.drop 70 = dktX4_addCow_3 := dk_seg dksX4_addCow_2 22 rfl rfl
theorem dksX4_addCow_4 : cX4_addCow.data.toList.drop 94 = dktX4_addCow_4 := dk_seg dksX4_addCow_3 24 rfl rfl
theorem dksX4_addCow_5 : cX4_addCow.data.toList.drop 116 = dktX4_addCow_5 := dk_seg dksX4_addCow_4 22 rfl rfl
theorem dksX4_addCow_6 : cX4_addCow.data.toList.drop 140 = dktX4_addCow_6 := dk_seg dksX4_addCow_5 24 rfl rfl
theorem dksX4_addCow_7 : cX4_addCow.data.toList.drop 163 = dktX4_addCow_7 := dk_seg dksX4_addCow_6 23 rfl rfl
theorem dksX4_addCow_8 : cX4_addCow.data.toList.drop 187 = dktX4_addCow_8 := dk_seg dksX4_addCow_7 24 rfl rfl
theorem dksX4_addCow_9 : cX4_addCow.data.toList.drop 211 = dktX4_addCow_9 := dk_seg dksX4_addCow_8 24 rfl rfl
theorem dX4_addCow_0 : decode cX4_addCow 0 = .ok (.aload_n 0, 1) := dk_42 (dk_at dksX4_addCow_0 0 rfl rfl)
theorem dX4_addCow_1 : decode cX4_addCow 1 = .ok (.iload_n 1, 1) := dk_27 (dk_at dksX4_addCow_0 1 rfl rfl)
theorem dX4_addCow_2 : decode cX4_addCow 2 = .ok (.bipush 8, 2) := dk_16 8 (dk_at dksX4_addCow_0 2 rfl rfl)
theorem dX4_addCow_4 : decode cX4_addCow 4 = .ok (.bipush 40, 2) := dk_16 40 (dk_at dksX4_addCow_0 4 rfl rfl)
theorem dX4_addCow_6 : decode cX4_addCow 6 = .ok (.invokestatic 42, 3) := dk_184 0 42 (dk_at dksX4_addCow_0 6 rfl rfl)
theorem dX4_addCow_9 : decode cX4_addCow 9 = .ok (.ifCond .eq 23, 3) := dk_153 0 23 (dk_at dksX4_addCow_0 9 rfl rfl)
theorem dX4_addCow_12 : decode cX4_addCow 12 = .ok (.iload_n 2, 1) := dk_28 (dk_at dksX4_addCow_0 12 rfl rfl)
theorem dX4_addCow_13 : decode cX4_addCow 13 = .ok (.iconst 0, 1) := dk_3 (dk_at dksX4_addCow_0 13 rfl rfl)
theorem dX4_addCow_14 : decode cX4_addCow 14 = .ok (.bipush 9, 2) := dk_16 9 (dk_at dksX4_addCow_0 14 rfl rfl)
theorem dX4_addCow_16 : decode cX4_addCow 16 = .ok (.invokestatic 42, 3) := dk_184 0 42 (dk_at dksX4_addCow_0 16 rfl rfl)
theorem dX4_addCow_19 : decode cX4_addCow 19 = .ok (.ifCond .eq 13, 3) := dk_153 0 13 (dk_at dksX4_addCow_0 19 rfl rfl)
theorem dX4_addCow_22 : decode cX4_addCow 22 = .ok (.iload_n 3, 1) := dk_29 (dk_at dksX4_addCow_0 22 rfl rfl)
theorem dX4_addCow_23 : decode cX4_addCow 23 = .ok (.iconst (-1), 1) := dk_2 (dk_at dksX4_addCow_0 23 rfl rfl)
theorem dX4_addCow_24 : decode cX4_addCow 24 = .ok (.bipush 99, 2) := dk_16 99 (dk_at dksX4_addCow_1 0 rfl rfl)
theorem dX4_addCow_26 : decode cX4_addCow 26 = .ok (.invokestatic 42, 3) := dk_184 0 42 (dk_at dksX4_addCow_1 2 rfl rfl)
theorem dX4_addCow_29 : decode cX4_addCow 29 = .ok (.ifCond .ne 7, 3) := dk_154 0 7 (dk_at dksX4_addCow_1 5 rfl rfl)
theorem dX4_addCow_32 : decode cX4_addCow 32 = .ok (.iconst 1, 1) := dk_4 (dk_at dksX4_addCow_1 8 rfl rfl)
theorem dX4_addCow_33 : decode cX4_addCow 33 = .ok (.goto 20, 3) := dk_167 0 20 (dk_at dksX4_addCow_1 9 rfl rfl)
theorem dX4_addCow_36 : decode cX4_addCow 36 = .ok (.aload_n 0, 1) := dk_42 (dk_at dksX4_addCow_1 12 rfl rfl)
theorem dX4_addCow_37 : decode cX4_addCow 37 = .ok (.getfield 7, 3) := dk_180 0 7 (dk_at dksX4_addCow_1 13 rfl rfl)
theorem dX4_addCow_40 : decode cX4_addCow 40 = .ok (.bipush 7, 2) := dk_16 7 (dk_at dksX4_addCow_1 16 rfl rfl)
theorem dX4_addCow_42 : decode cX4_addCow 42 = .ok (.iaload, 1) := dk_46 (dk_at dksX4_addCow_1 18 rfl rfl)
theorem dX4_addCow_43 : decode cX4_addCow 43 = .ok (.bipush 8, 2) := dk_16 8 (dk_at dksX4_addCow_1 19 rfl rfl)
theorem dX4_addCow_45 : decode cX4_addCow 45 = .ok (.if_icmp .ne 7, 3) := dk_160 0 7 (dk_at dksX4_addCow_1 21 rfl rfl)
theorem dX4_addCow_48 : decode cX4_addCow 48 = .ok (.iconst 2, 1) := dk_5 (dk_at dksX4_addCow_2 0 rfl rfl)
theorem dX4_addCow_49 : decode cX4_addCow 49 = .ok (.goto 4, 3) := dk_167 0 4 (dk_at dksX4_addCow_2 1 rfl rfl)
theorem dX4_addCow_52 : decode cX4_addCow 52 = .ok (.iconst 0, 1) := dk_3 (dk_at dksX4_addCow_2 4 rfl rfl)
theorem dX4_addCow_53 : decode cX4_addCow 53 = .ok (.putfield 39, 3) := dk_181 0 39 (dk_at dksX4_addCow_2 5 rfl rfl)
theorem dX4_addCow_56 : decode cX4_addCow 56 = .ok (.aload_n 0, 1) := dk_42 (dk_at dksX4_addCow_2 8 rfl rfl)
theorem dX4_addCow_57 : decode cX4_addCow 57 = .ok (.getfield 39, 3) := dk_180 0 39 (dk_at dksX4_addCow_2 9 rfl rfl)
theorem dX4_addCow_60 : decode cX4_addCow 60 = .ok (.ifCond .le 5, 3) := dk_158 0 5 (dk_at dksX4_addCow_2 12 rfl rfl)
theorem dX4_addCow_63 : decode cX4_addCow 63 = .ok (.iconst 0, 1) := dk_3 (dk_at dksX4_addCow_2 15 rfl rfl)
theorem dX4_addCow_64 : decode cX4_addCow 64 = .ok (.ireturn, 1) := dk_172 (dk_at dksX4_addCow_2 16 rfl rfl)
theorem dX4_addCow_65 : decode cX4_addCow 65 = .ok (.aload_n 0, 1) := dk_42 (dk_at dksX4_addCow_2 17 rfl rfl)
theorem dX4_addCow_66 : decode cX4_addCow 66 = .ok (.aload_n 0, 1) := dk_42 (dk_at dksX4_addCow_2 18 rfl rfl)
theorem dX4_addCow_67 : decode cX4_addCow 67 = .ok (.getfield 7, 3) := dk_180 0 7 (dk_at dksX4_addCow_2 19 rfl rfl)
theorem dX4_addCow_70 : decode cX4_addCow 70 = .ok (.invokevirtual 65, 3) := dk_182 0 65 (dk_at dksX4_addCow_3 0 rfl rfl)
theorem dX4_addCow_73 : decode cX4_addCow 73 = .ok (.aload_n 0, 1) := dk_42 (dk_at dksX4_addCow_3 3 rfl rfl)
theorem dX4_addCow_74 : decode cX4_addCow 74 = .ok (.getfield 7, 3) := dk_180 0 7 (dk_at dksX4_addCow_3 4 rfl rfl)
theorem dX4_addCow_77 : decode cX4_addCow 77 = .ok (.bipush 7, 2) := dk_16 7 (dk_at dksX4_addCow_3 7 rfl rfl)
theorem dX4_addCow_79 : decode cX4_addCow 79 = .ok (.iaload, 1) := dk_46 (dk_at dksX4_addCow_3 9 rfl rfl)
theorem dX4_addCow_80 : decode cX4_addCow 80 = .ok (.istore 4, 2) := dk_54 4 (dk_at dksX4_addCow_3 10 rfl rfl)
theorem dX4_addCow_82 : decode cX4_addCow 82 = .ok (.aload_n 0, 1) := dk_42 (dk_at dksX4_addCow_3 12 rfl rfl)
theorem dX4_addCow_83 : decode cX4_addCow 83 = .ok (.getfield 7, 3) := dk_180 0 7 (dk_at dksX4_addCow_3 13 rfl rfl)
theorem dX4_addCow_86 : decode cX4_addCow 86 = .ok (.bipush 7, 2) := dk_16 7 (dk_at dksX4_addCow_3 16 rfl rfl)
theorem dX4_addCow_88 : decode cX4_addCow 88 = .ok (.dup2, 1) := dk_92 (dk_at dksX4_addCow_3 18 rfl rfl)
theorem dX4_addCow_89 : decode cX4_addCow 89 = .ok (.iaload, 1) := dk_46 (dk_at dksX4_addCow_3 19 rfl rfl)
theorem dX4_addCow_90 : decode cX4_addCow 90 = .ok (.iconst 1, 1) := dk_4 (dk_at dksX4_addCow_3 20 rfl rfl)
theorem dX4_addCow_91 : decode cX4_addCow 91 = .ok (.iadd, 1) := dk_96 (dk_at dksX4_addCow_3 21 rfl rfl)
theorem dX4_addCow_92 : decode cX4_addCow 92 = .ok (.iastore, 1) := dk_79 (dk_at dksX4_addCow_3 22 rfl rfl)
theorem dX4_addCow_93 : decode cX4_addCow 93 = .ok (.iconst 0, 1) := dk_3 (dk_at dksX4_addCow_3 23 rfl rfl)
theorem dX4_addCow_94 : decode cX4_addCow 94 = .ok (.istore 5, 2) := dk_54 5 (dk_at dksX4_addCow_4 0 rfl rfl)
theorem dX4_addCow_96 : decode cX4_addCow 96 = .ok (.iload 5, 2) := dk_21 5 (dk_at dksX4_addCow_4 2 rfl rfl)
theorem dX4_addCow_98 : decode cX4_addCow 98 = .ok (.bipush 10, 2) := dk_16 10 (dk_at dksX4_addCow_4 4 rfl rfl)
theorem dX4_addCow_100 : decode cX4_addCow 100 = .ok (.if_icmp .ge 22, 3) := dk_162 0 22 (dk_at dksX4_addCow_4 6 rfl rfl)
theorem dX4_addCow_103 : decode cX4_addCow 103 = .ok (.aload_n 0, 1) := dk_42 (dk_at dksX4_addCow_4 9 rfl rfl)
theorem dX4_addCow_104 : decode cX4_addCow 104 = .ok (.getfield 7, 3) := dk_180 0 7 (dk_at dksX4_addCow_4 10 rfl rfl)
theorem dX4_addCow_107 : decode cX4_addCow 107 = .ok (.iload 4, 2) := dk_21 4 (dk_at dksX4_addCow_4 13 rfl rfl)
theorem dX4_addCow_109 : decode cX4_addCow 109 = .ok (.iload 5, 2) := dk_21 5 (dk_at dksX4_addCow_4 15 rfl rfl)
theorem dX4_addCow_111 : decode cX4_addCow 111 = .ok (.invokestatic 50, 3) := dk_184 0 50 (dk_at dksX4_addCow_4 17 rfl rfl)
theorem dX4_addCow_114 : decode cX4_addCow 114 = .ok (.iconst 0, 1) := dk_3 (dk_at dksX4_addCow_4 20 rfl rfl)
theorem dX4_addCow_115 : decode cX4_addCow 115 = .ok (.iastore, 1) := dk_79 (dk_at dksX4_addCow_4 21 rfl rfl)
theorem dX4_addCow_116 : decode cX4_addCow 116 = .ok (.iinc 5 1, 3) := dk_132 5 1 (dk_at dksX4_addCow_5 0 rfl rfl)
theorem dX4_addCow_119 : decode cX4_addCow 119 = .ok (.goto (-23), 3) := dk_167 255 233 (dk_at dksX4_addCow_5 3 rfl rfl)
theorem dX4_addCow_122 : decode cX4_addCow 122 = .ok (.aload_n 0, 1) := dk_42 (dk_at dksX4_addCow_5 6 rfl rfl)
theorem dX4_addCow_123 : decode cX4_addCow 123 = .ok (.getfield 7, 3) := dk_180 0 7 (dk_at dksX4_addCow_5 7 rfl rfl)
theorem dX4_addCow_126 : decode cX4_addCow 126 = .ok (.iload 4, 2) := dk_21 4 (dk_at dksX4_addCow_5 10 rfl rfl)
theorem dX4_addCow_128 : decode cX4_addCow 128 = .ok (.iconst 0, 1) := dk_3 (dk_at dksX4_addCow_5 12 rfl rfl)
theorem dX4_addCow_129 : decode cX4_addCow 129 = .ok (.invokestatic 50, 3) := dk_184 0 50 (dk_at dksX4_addCow_5 13 rfl rfl)
theorem dX4_addCow_132 : decode cX4_addCow 132 = .ok (.iload_n 1, 1) := dk_27 (dk_at dksX4_addCow_5 16 rfl rfl)
theorem dX4_addCow_133 : decode cX4_addCow 133 = .ok (.iastore, 1) := dk_79 (dk_at dksX4_addCow_5 17 rfl rfl)
theorem dX4_addCow_134 : decode cX4_addCow 134 = .ok (.aload_n 0, 1) := dk_42 (dk_at dksX4_addCow_5 18 rfl rfl)
theorem dX4_addCow_135 : decode cX4_addCow 135 = .ok (.getfield 7, 3) := dk_180 0 7 (dk_at dksX4_addCow_5 19 rfl rfl)
theorem dX4_addCow_138 : decode cX4_addCow 138 = .ok (.iload 4, 2) := dk_21 4 (dk_at dksX4_addCow_5 22 rfl rfl)
theorem dX4_addCow_140 : decode cX4_addCow 140 = .ok (.iconst 1, 1) := dk_4 (dk_at dksX4_addCow_6 0 rfl rfl)
theorem dX4_addCow_141 : decode cX4_addCow 141 = .ok (.invokestatic 50, 3) := dk_184 0 50 (dk_at dksX4_addCow_6 1 rfl rfl)
theorem dX4_addCow_144 : decode cX4_addCow 144 = .ok (.iload_n 2, 1) := dk_28 (dk_at dksX4_addCow_6 4 rfl rfl)
theorem dX4_addCow_145 : decode cX4_addCow 145 = .ok (.iastore, 1) := dk_79 (dk_at dksX4_addCow_6 5 rfl rfl)
theorem dX4_addCow_146 : decode cX4_addCow 146 = .ok (.aload_n 0, 1) := dk_42 (dk_at dksX4_addCow_6 6 rfl rfl)
theorem dX4_addCow_147 : decode cX4_addCow 147 = .ok (.getfield 7, 3) := dk_180 0 7 (dk_at dksX4_addCow_6 7 rfl rfl)
theorem dX4_addCow_150 : decode cX4_addCow 150 = .ok (.iload 4, 2) := dk_21 4 (dk_at dksX4_addCow_6 10 rfl rfl)
theorem dX4_addCow_152 : decode cX4_addCow 152 = .ok (.iconst 2, 1) := dk_5 (dk_at dksX4_addCow_6 12 rfl rfl)
theorem dX4_addCow_153 : decode cX4_addCow 153 = .ok (.invokestatic 50, 3) := dk_184 0 50 (dk_at dksX4_addCow_6 13 rfl rfl)
theorem dX4_addCow_156 : decode cX4_addCow 156 = .ok (.bipush 100, 2) := dk_16 100 (dk_at dksX4_addCow_6 16 rfl rfl)
theorem dX4_addCow_158 : decode cX4_addCow 158 = .ok (.iastore, 1) := dk_79 (dk_at dksX4_addCow_6 18 rfl rfl)
theorem dX4_addCow_159 : decode cX4_addCow 159 = .ok (.aload_n 0, 1) := dk_42 (dk_at dksX4_addCow_6 19 rfl rfl)
theorem dX4_addCow_160 : decode cX4_addCow 160 = .ok (.getfield 7, 3) := dk_180 0 7 (dk_at dksX4_addCow_6 20 rfl rfl)
theorem dX4_addCow_163 : decode cX4_addCow 163 = .ok (.iload 4, 2) := dk_21 4 (dk_at dksX4_addCow_7 0 rfl rfl)
theorem dX4_addCow_165 : decode cX4_addCow 165 = .ok (.bipush 6, 2) := dk_16 6 (dk_at dksX4_addCow_7 2 rfl rfl)
theorem dX4_addCow_167 : decode cX4_addCow 167 = .ok (.invokestatic 50, 3) := dk_184 0 50 (dk_at dksX4_addCow_7 4 rfl rfl)
theorem dX4_addCow_170 : decode cX4_addCow 170 = .ok (.iconst (-1), 1) := dk_2 (dk_at dksX4_addCow_7 7 rfl rfl)
theorem dX4_addCow_171 : decode cX4_addCow 171 = .ok (.iastore, 1) := dk_79 (dk_at dksX4_addCow_7 8 rfl rfl)
theorem dX4_addCow_172 : decode cX4_addCow 172 = .ok (.iload_n 3, 1) := dk_29 (dk_at dksX4_addCow_7 9 rfl rfl)
theorem dX4_addCow_173 : decode cX4_addCow 173 = .ok (.ifCond .lt 46, 3) := dk_155 0 46 (dk_at dksX4_addCow_7 10 rfl rfl)
theorem dX4_addCow_176 : decode cX4_addCow 176 = .ok (.aload_n 0, 1) := dk_42 (dk_at dksX4_addCow_7 13 rfl rfl)
theorem dX4_addCow_177 : decode cX4_addCow 177 = .ok (.getfield 7, 3) := dk_180 0 7 (dk_at dksX4_addCow_7 14 rfl rfl)
theorem dX4_addCow_180 : decode cX4_addCow 180 = .ok (.iload 4, 2) := dk_21 4 (dk_at dksX4_addCow_7 17 rfl rfl)
theorem dX4_addCow_182 : decode cX4_addCow 182 = .ok (.iconst 3, 1) := dk_6 (dk_at dksX4_addCow_7 19 rfl rfl)
theorem dX4_addCow_183 : decode cX4_addCow 183 = .ok (.invokestatic 50, 3) := dk_184 0 50 (dk_at dksX4_addCow_7 20 rfl rfl)
theorem dX4_addCow_186 : decode cX4_addCow 186 = .ok (.iconst 1, 1) := dk_4 (dk_at dksX4_addCow_7 23 rfl rfl)
theorem dX4_addCow_187 : decode cX4_addCow 187 = .ok (.iastore, 1) := dk_79 (dk_at dksX4_addCow_8 0 rfl rfl)
theorem dX4_addCow_188 : decode cX4_addCow 188 = .ok (.aload_n 0, 1) := dk_42 (dk_at dksX4_addCow_8 1 rfl rfl)
theorem dX4_addCow_189 : decode cX4_addCow 189 = .ok (.getfield 7, 3) := dk_180 0 7 (dk_at dksX4_addCow_8 2 rfl rfl)
theorem dX4_addCow_192 : decode cX4_addCow 192 = .ok (.iload 4, 2) := dk_21 4 (dk_at dksX4_addCow_8 5 rfl rfl)
theorem dX4_addCow_194 : decode cX4_addCow 194 = .ok (.iconst 4, 1) := dk_7 (dk_at dksX4_addCow_8 7 rfl rfl)
theorem dX4_addCow_195 : decode cX4_addCow 195 = .ok (.invokestatic 50, 3) := dk_184 0 50 (dk_at dksX4_addCow_8 8 rfl rfl)
theorem dX4_addCow_198 : decode cX4_addCow 198 = .ok (.iconst 1, 1) := dk_4 (dk_at dksX4_addCow_8 11 rfl rfl)
theorem dX4_addCow_199 : decode cX4_addCow 199 = .ok (.iastore, 1) := dk_79 (dk_at dksX4_addCow_8 12 rfl rfl)
theorem dX4_addCow_200 : decode cX4_addCow 200 = .ok (.aload_n 0, 1) := dk_42 (dk_at dksX4_addCow_8 13 rfl rfl)
theorem dX4_addCow_201 : decode cX4_addCow 201 = .ok (.getfield 7, 3) := dk_180 0 7 (dk_at dksX4_addCow_8 14 rfl rfl)
theorem dX4_addCow_204 : decode cX4_addCow 204 = .ok (.iload 4, 2) := dk_21 4 (dk_at dksX4_addCow_8 17 rfl rfl)
theorem dX4_addCow_206 : decode cX4_addCow 206 = .ok (.iconst 5, 1) := dk_8 (dk_at dksX4_addCow_8 19 rfl rfl)
theorem dX4_addCow_207 : decode cX4_addCow 207 = .ok (.invokestatic 50, 3) := dk_184 0 50 (dk_at dksX4_addCow_8 20 rfl rfl)
theorem dX4_addCow_210 : decode cX4_addCow 210 = .ok (.aload_n 0, 1) := dk_42 (dk_at dksX4_addCow_8 23 rfl rfl)
theorem dX4_addCow_211 : decode cX4_addCow 211 = .ok (.getfield 7, 3) := dk_180 0 7 (dk_at dksX4_addCow_9 0 rfl rfl)
theorem dX4_addCow_214 : decode cX4_addCow 214 = .ok (.iconst 0, 1) := dk_3 (dk_at dksX4_addCow_9 3 rfl rfl)
theorem dX4_addCow_215 : decode cX4_addCow 215 = .ok (.iaload, 1) := dk_46 (dk_at dksX4_addCow_9 4 rfl rfl)
theorem dX4_addCow_216 : decode cX4_addCow 216 = .ok (.iload_n 3, 1) := dk_29 (dk_at dksX4_addCow_9 5 rfl rfl)
theorem dX4_addCow_217 : decode cX4_addCow 217 = .ok (.isub, 1) := dk_100 (dk_at dksX4_addCow_9 6 rfl rfl)
theorem dX4_addCow_218 : decode cX4_addCow 218 = .ok (.iastore, 1) := dk_79 (dk_at dksX4_addCow_9 7 rfl rfl)
theorem dX4_addCow_219 : decode cX4_addCow 219 = .ok (.iload 4, 2) := dk_21 4 (dk_at dksX4_addCow_9 8 rfl rfl)
theorem dX4_addCow_221 : decode cX4_addCow 221 = .ok (.ireturn, 1) := dk_172 (dk_at dksX4_addCow_9 10 rfl rfl)
abbrev cX4_in : ByteArray := prog_15_method_4_code
def yX4_in : MethodName := ⟨RX4, "in", "(III)Z"⟩
def dkwX4_in_0 : List UInt8 := [26, 27, 161, 0, 12, 26, 28, 163, 0, 7, 4, 167, 0, 4, 3, 172]
abbrev dktX4_in_0 : List UInt8 := dkwX4_in_0 ++ []
theorem dksX4_in_0 : cX4_in.data.toList.drop 0 = dktX4_in_0 := by decide +kernel
theorem dX4_in_0 : decode cX4_in 0 = .ok (.iload_n 0, 1) := dk_26 (dk_at dksX4_in_0 0 rfl rfl)
theorem dX4_in_1 : decode cX4_in 1 = .ok (.iload_n 1, 1) := dk_27 (dk_at dksX4_in_0 1 rfl rfl)
theorem dX4_in_2 : decode cX4_in 2 = .ok (.if_icmp .lt 12, 3) := dk_161 0 12 (dk_at dksX4_in_0 2 rfl rfl)
theorem dX4_in_5 : decode cX4_in 5 = .ok (.iload_n 0, 1) := dk_26 (dk_at dksX4_in_0 5 rfl rfl)
theorem dX4_in_6 : decode cX4_in 6 = .ok (.iload_n 2, 1) := dk_28 (dk_at dksX4_in_0 6 rfl rfl)
theorem dX4_in_7 : decode cX4_in 7 = .ok (.if_icmp .gt 7, 3) := dk_163 0 7 (dk_at dksX4_in_0 7 rfl rfl)
theorem dX4_in_10 : decode cX4_in 10 = .ok (.iconst 1, 1) := dk_4 (dk_at dksX4_in_0 10 rfl rfl)
theorem dX4_in_11 : decode cX4_in 11 = .ok (.goto 4, 3) := dk_167 0 4 (dk_at dksX4_in_0 11 rfl rfl)
theorem dX4_in_14 : decode cX4_in 14 = .ok (.iconst 0, 1) := dk_3 (dk_at dksX4_in_0 14 rfl rfl)
theorem dX4_in_15 : decode cX4_in 15 = .ok (.ireturn, 1) := dk_172 (dk_at dksX4_in_0 15 rfl rfl)
abbrev cX4_changes : ByteArray := prog_15_method_11_code
def yX4_changes : MethodName := ⟨RX4, "changes", "([I)V"⟩
def dkwX4_changes_3 : List UInt8 := [180, 0, 54, 4, 96, 181, 0, 54, 177]
abbrev dktX4_changes_3 : List UInt8 := dkwX4_changes_3 ++ []
def dkwX4_changes_2 : List UInt8 := [181, 0, 54, 43, 3, 42, 180, 0, 19, 17, 2, 11, 42, 180, 0, 54, 104, 184, 0, 57, 42, 89]
abbrev dktX4_changes_2 : List UInt8 := dkwX4_changes_2 ++ dktX4_changes_3
def dkwX4_changes_1 : List UInt8 := [180, 0, 19, 28, 17, 2, 11, 96, 46, 79, 132, 2, 1, 167, 255, 230, 42, 89, 180, 0, 54, 4, 100]
abbrev dktX4_changes_1 : List UInt8 := dkwX4_changes_1 ++ dktX4_changes_2
def dkwX4_changes_0 : List UInt8 := [42, 180, 0, 54, 16, 8, 160, 0, 44, 3, 61, 28, 17, 14, 77, 162, 0, 25, 42, 180, 0, 19, 28, 42]
abbrev dktX4_changes_0 : List UInt8 := dkwX4_changes_0 ++ dktX4_changes_1
theorem dksX4_changes_0 : cX4_changes.data.toList.drop 0 = dktX4_changes_0 := by decide +kernel
theorem dksX4_changes_1 : cX4_changes.data.toList.drop 24 = dktX4_changes_1 := dk_seg dksX4_changes_0 24 rfl rfl
theorem dksX4_changes_2 : cX4_changes.data.toList.drop 47 = dktX4_changes_2 := dk_seg dksX4_changes_1 23 rfl rfl
theorem dksX4_changes_3 : cX4_changes.data.toList.drop 69 = dktX4_changes_3 := dk_seg dksX4_changes_2 22 rfl rfl
theorem dX4_changes_0 : decode cX4_changes 0 = .ok (.aload_n 0, 1) := dk_42 (dk_at dksX4_changes_0 0 rfl rfl)
theorem dX4_changes_1 : decode cX4_changes 1 = .ok (.getfield 54, 3) := dk_180 0 54 (dk_at dksX4_changes_0 1 rfl rfl)
theorem dX4_changes_4 : decode cX4_changes 4 = .ok (.bipush 8, 2) := dk_16 8 (dk_at dksX4_changes_0 4 rfl rfl)
theorem dX4_changes_6 : decode cX4_changes 6 = .ok (.if_icmp .ne 44, 3) := dk_160 0 44 (dk_at dksX4_changes_0 6 rfl rfl)
theorem dX4_changes_9 : decode cX4_changes 9 = .ok (.iconst 0, 1) := dk_3 (dk_at dksX4_changes_0 9 rfl rfl)
theorem dX4_changes_10 : decode cX4_changes 10 = .ok (.istore_n 2, 1) := dk_61 (dk_at dksX4_changes_0 10 rfl rfl)
theorem dX4_changes_11 : decode cX4_changes 11 = .ok (.iload_n 2, 1) := dk_28 (dk_at dksX4_changes_0 11 rfl rfl)
theorem dX4_changes_12 : decode cX4_changes 12 = .ok (.sipush 3661, 3) := dk_17 14 77 (dk_at dksX4_changes_0 12 rfl rfl)
theorem dX4_changes_15 : decode cX4_changes 15 = .ok (.if_icmp .ge 25, 3) := dk_162 0 25 (dk_at dksX4_changes_0 15 rfl rfl)
theorem dX4_changes_18 : decode cX4_changes 18 = .ok (.aload_n 0, 1) := dk_42 (dk_at dksX4_changes_0 18 rfl rfl)
theorem dX4_changes_19 : decode cX4_changes 19 = .ok (.getfield 19, 3) := dk_180 0 19 (dk_at dksX4_changes_0 19 rfl rfl)
theorem dX4_changes_22 : decode cX4_changes 22 = .ok (.iload_n 2, 1) := dk_28 (dk_at dksX4_changes_0 22 rfl rfl)
theorem dX4_changes_23 : decode cX4_changes 23 = .ok (.aload_n 0, 1) := dk_42 (dk_at dksX4_changes_0 23 rfl rfl)
theorem dX4_changes_24 : decode cX4_changes 24 = .ok (.getfield 19, 3) := dk_180 0 19 (dk_at dksX4_changes_1 0 rfl rfl)
theorem dX4_changes_27 : decode cX4_changes 27 = .ok (.iload_n 2, 1) := dk_28 (dk_at dksX4_changes_1 3 rfl rfl)
theorem dX4_changes_28 : decode cX4_changes 28 = .ok (.sipush 523, 3) := dk_17 2 11 (dk_at dksX4_changes_1 4 rfl rfl)
theorem dX4_changes_31 : decode cX4_changes 31 = .ok (.iadd, 1) := dk_96 (dk_at dksX4_changes_1 7 rfl rfl)
theorem dX4_changes_32 : decode cX4_changes 32 = .ok (.iaload, 1) := dk_46 (dk_at dksX4_changes_1 8 rfl rfl)
theorem dX4_changes_33 : decode cX4_changes 33 = .ok (.iastore, 1) := dk_79 (dk_at dksX4_changes_1 9 rfl rfl)
theorem dX4_changes_34 : decode cX4_changes 34 = .ok (.iinc 2 1, 3) := dk_132 2 1 (dk_at dksX4_changes_1 10 rfl rfl)
theorem dX4_changes_37 : decode cX4_changes 37 = .ok (.goto (-26), 3) := dk_167 255 230 (dk_at dksX4_changes_1 13 rfl rfl)
theorem dX4_changes_40 : decode cX4_changes 40 = .ok (.aload_n 0, 1) := dk_42 (dk_at dksX4_changes_1 16 rfl rfl)
theorem dX4_changes_41 : decode cX4_changes 41 = .ok (.dup, 1) := dk_89 (dk_at dksX4_changes_1 17 rfl rfl)
theorem dX4_changes_42 : decode cX4_changes 42 = .ok (.getfield 54, 3) := dk_180 0 54 (dk_at dksX4_changes_1 18 rfl rfl)
theorem dX4_changes_45 : decode cX4_changes 45 = .ok (.iconst 1, 1) := dk_4 (dk_at dksX4_changes_1 21 rfl rfl)
theorem dX4_changes_46 : decode cX4_changes 46 = .ok (.isub, 1) := dk_100 (dk_at dksX4_changes_1 22 rfl rfl)
theorem dX4_changes_47 : decode cX4_changes 47 = .ok (.putfield 54, 3) := dk_181 0 54 (dk_at dksX4_changes_2 0 rfl rfl)
theorem dX4_changes_50 : decode cX4_changes 50 = .ok (.aload_n 1, 1) := dk_43 (dk_at dksX4_changes_2 3 rfl rfl)
theorem dX4_changes_51 : decode cX4_changes 51 = .ok (.iconst 0, 1) := dk_3 (dk_at dksX4_changes_2 4 rfl rfl)
theorem dX4_changes_52 : decode cX4_changes 52 = .ok (.aload_n 0, 1) := dk_42 (dk_at dksX4_changes_2 5 rfl rfl)
theorem dX4_changes_53 : decode cX4_changes 53 = .ok (.getfield 19, 3) := dk_180 0 19 (dk_at dksX4_changes_2 6 rfl rfl)
theorem dX4_changes_56 : decode cX4_changes 56 = .ok (.sipush 523, 3) := dk_17 2 11 (dk_at dksX4_changes_2 9 rfl rfl)
theorem dX4_changes_59 : decode cX4_changes 59 = .ok (.aload_n 0, 1) := dk_42 (dk_at dksX4_changes_2 12 rfl rfl)
theorem dX4_changes_60 : decode cX4_changes 60 = .ok (.getfield 54, 3) := dk_180 0 54 (dk_at dksX4_changes_2 13 rfl rfl)
theorem dX4_changes_63 : decode cX4_changes 63 = .ok (.imul, 1) := dk_104 (dk_at dksX4_changes_2 16 rfl rfl)
theorem dX4_changes_64 : decode cX4_changes 64 = .ok (.invokestatic 57, 3) := dk_184 0 57 (dk_at dksX4_changes_2 17 rfl rfl)
theorem dX4_changes_67 : decode cX4_changes 67 = .ok (.aload_n 0, 1) := dk_42 (dk_at dksX4_changes_2 20 rfl rfl)
theorem dX4_changes_68 : decode cX4_changes 68 = .ok (.dup, 1) := dk_89 (dk_at dksX4_changes_2 21 rfl rfl)
theorem dX4_changes_69 : decode cX4_changes 69 = .ok (.getfield 54, 3) := dk_180 0 54 (dk_at dksX4_changes_3 0 rfl rfl)
theorem dX4_changes_72 : decode cX4_changes 72 = .ok (.iconst 1, 1) := dk_4 (dk_at dksX4_changes_3 3 rfl rfl)
theorem dX4_changes_73 : decode cX4_changes 73 = .ok (.iadd, 1) := dk_96 (dk_at dksX4_changes_3 4 rfl rfl)
theorem dX4_changes_74 : decode cX4_changes 74 = .ok (.putfield 54, 3) := dk_181 0 54 (dk_at dksX4_changes_3 5 rfl rfl)
theorem dX4_changes_77 : decode cX4_changes 77 = .ok (.return_, 1) := dk_177 (dk_at dksX4_changes_3 8 rfl rfl)
abbrev cX4_at : ByteArray := prog_15_method_5_code
def yX4_at : MethodName := ⟨RX4, "at", "(II)I"⟩
def dkwX4_at_0 : List UInt8 := [16, 15, 16, 10, 26, 104, 96, 27, 96, 172]
abbrev dktX4_at_0 : List UInt8 := dkwX4_at_0 ++ []
theorem dksX4_at_0 : cX4_at.data.toList.drop 0 = dktX4_at_0 := by decide +kernel
theorem dX4_at_0 : decode cX4_at 0 = .ok (.bipush 15, 2) := dk_16 15 (dk_at dksX4_at_0 0 rfl rfl)
theorem dX4_at_2 : decode cX4_at 2 = .ok (.bipush 10, 2) := dk_16 10 (dk_at dksX4_at_0 2 rfl rfl)
theorem dX4_at_4 : decode cX4_at 4 = .ok (.iload_n 0, 1) := dk_26 (dk_at dksX4_at_0 4 rfl rfl)
theorem dX4_at_5 : decode cX4_at 5 = .ok (.imul, 1) := dk_104 (dk_at dksX4_at_0 5 rfl rfl)
theorem dX4_at_6 : decode cX4_at 6 = .ok (.iadd, 1) := dk_96 (dk_at dksX4_at_0 6 rfl rfl)
theorem dX4_at_7 : decode cX4_at 7 = .ok (.iload_n 1, 1) := dk_27 (dk_at dksX4_at_0 7 rfl rfl)
theorem dX4_at_8 : decode cX4_at 8 = .ok (.iadd, 1) := dk_96 (dk_at dksX4_at_0 8 rfl rfl)
theorem dX4_at_9 : decode cX4_at 9 = .ok (.ireturn, 1) := dk_172 (dk_at dksX4_at_0 9 rfl rfl)
abbrev cX4_set : ByteArray := prog_15_method_17_code
def yX4_set : MethodName := ⟨RX4, "set", "(II)I"⟩
def dkwX4_set_2 : List UInt8 := [42, 180, 0, 7, 4, 27, 96, 46, 62, 42, 180, 0, 7, 4, 27, 96, 28, 79, 29, 172]
abbrev dktX4_set_2 : List UInt8 := dkwX4_set_2 ++ []
def dkwX4_set_1 : List UInt8 := [167, 0, 4, 4, 181, 0, 39, 42, 180, 0, 39, 158, 0, 5, 3, 172, 42, 42, 180, 0, 7, 182, 0, 65]
abbrev dktX4_set_1 : List UInt8 := dkwX4_set_1 ++ dktX4_set_2
def dkwX4_set_0 : List UInt8 := [42, 27, 3, 8, 184, 0, 42, 153, 0, 19, 27, 28, 184, 0, 69, 153, 0, 7, 3, 167, 0, 8, 5]
abbrev dktX4_set_0 : List UInt8 := dkwX4_set_0 ++ dktX4_set_1
theorem dksX4_set_0 : cX4_set.data.toList.drop 0 = dktX4_set_0 := by decide +kernel
theorem dksX4_set_1 : cX4_set.data.toList.drop 23 = dktX4_set_1 := dk_seg dksX4_set_0 23 rfl rfl
theorem dksX4_set_2 : cX4_set.data.toList.drop 47 = dktX4_set_2 := dk_seg dksX4_set_1 24 rfl rfl
theorem dX4_set_0 : decode cX4_set 0 = .ok (.aload_n 0, 1) := dk_42 (dk_at dksX4_set_0 0 rfl rfl)
theorem dX4_set_1 : decode cX4_set 1 = .ok (.iload_n 1, 1) := dk_27 (dk_at dksX4_set_0 1 rfl rfl)
theorem dX4_set_2 : decode cX4_set 2 = .ok (.iconst 0, 1) := dk_3 (dk_at dksX4_set_0 2 rfl rfl)
theorem dX4_set_3 : decode cX4_set 3 = .ok (.iconst 5, 1) := dk_8 (dk_at dksX4_set_0 3 rfl rfl)
theorem dX4_set_4 : decode cX4_set 4 = .ok (.invokestatic 42, 3) := dk_184 0 42 (dk_at dksX4_set_0 4 rfl rfl)
theorem dX4_set_7 : decode cX4_set 7 = .ok (.ifCond .eq 19, 3) := dk_153 0 19 (dk_at dksX4_set_0 7 rfl rfl)
theorem dX4_set_10 : decode cX4_set 10 = .ok (.iload_n 1, 1) := dk_27 (dk_at dksX4_set_0 10 rfl rfl)
theorem dX4_set_11 : decode cX4_set 11 = .ok (.iload_n 2, 1) := dk_28 (dk_at dksX4_set_0 11 rfl rfl)
theorem dX4_set_12 : decode cX4_set 12 = .ok (.invokestatic 69, 3) := dk_184 0 69 (dk_at dksX4_set_0 12 rfl rfl)
theorem dX4_set_15 : decode cX4_set 15 = .ok (.ifCond .eq 7, 3) := dk_153 0 7 (dk_at dksX4_set_0 15 rfl rfl)
theorem dX4_set_18 : decode cX4_set 18 = .ok (.iconst 0, 1) := dk_3 (dk_at dksX4_set_0 18 rfl rfl)
theorem dX4_set_19 : decode cX4_set 19 = .ok (.goto 8, 3) := dk_167 0 8 (dk_at dksX4_set_0 19 rfl rfl)
theorem dX4_set_22 : decode cX4_set 22 = .ok (.iconst 2, 1) := dk_5 (dk_at dksX4_set_0 22 rfl rfl)
theorem dX4_set_23 : decode cX4_set 23 = .ok (.goto 4, 3) := dk_167 0 4 (dk_at dksX4_set_1 0 rfl rfl)
theorem dX4_set_26 : decode cX4_set 26 = .ok (.iconst 1, 1) := dk_4 (dk_at dksX4_set_1 3 rfl rfl)
theorem dX4_set_27 : decode cX4_set 27 = .ok (.putfield 39, 3) := dk_181 0 39 (dk_at dksX4_set_1 4 rfl rfl)
theorem dX4_set_30 : decode cX4_set 30 = .ok (.aload_n 0, 1) := dk_42 (dk_at dksX4_set_1 7 rfl rfl)
theorem dX4_set_31 : decode cX4_set 31 = .ok (.getfield 39, 3) := dk_180 0 39 (dk_at dksX4_set_1 8 rfl rfl)
theorem dX4_set_34 : decode cX4_set 34 = .ok (.ifCond .le 5, 3) := dk_158 0 5 (dk_at dksX4_set_1 11 rfl rfl)
theorem dX4_set_37 : decode cX4_set 37 = .ok (.iconst 0, 1) := dk_3 (dk_at dksX4_set_1 14 rfl rfl)
theorem dX4_set_38 : decode cX4_set 38 = .ok (.ireturn, 1) := dk_172 (dk_at dksX4_set_1 15 rfl rfl)
theorem dX4_set_39 : decode cX4_set 39 = .ok (.aload_n 0, 1) := dk_42 (dk_at dksX4_set_1 16 rfl rfl)
theorem dX4_set_40 : decode cX4_set 40 = .ok (.aload_n 0, 1) := dk_42 (dk_at dksX4_set_1 17 rfl rfl)
theorem dX4_set_41 : decode cX4_set 41 = .ok (.getfield 7, 3) := dk_180 0 7 (dk_at dksX4_set_1 18 rfl rfl)
theorem dX4_set_44 : decode cX4_set 44 = .ok (.invokevirtual 65, 3) := dk_182 0 65 (dk_at dksX4_set_1 21 rfl rfl)
theorem dX4_set_47 : decode cX4_set 47 = .ok (.aload_n 0, 1) := dk_42 (dk_at dksX4_set_2 0 rfl rfl)
theorem dX4_set_48 : decode cX4_set 48 = .ok (.getfield 7, 3) := dk_180 0 7 (dk_at dksX4_set_2 1 rfl rfl)
theorem dX4_set_51 : decode cX4_set 51 = .ok (.iconst 1, 1) := dk_4 (dk_at dksX4_set_2 4 rfl rfl)
theorem dX4_set_52 : decode cX4_set 52 = .ok (.iload_n 1, 1) := dk_27 (dk_at dksX4_set_2 5 rfl rfl)
theorem dX4_set_53 : decode cX4_set 53 = .ok (.iadd, 1) := dk_96 (dk_at dksX4_set_2 6 rfl rfl)
theorem dX4_set_54 : decode cX4_set 54 = .ok (.iaload, 1) := dk_46 (dk_at dksX4_set_2 7 rfl rfl)
theorem dX4_set_55 : decode cX4_set 55 = .ok (.istore_n 3, 1) := dk_62 (dk_at dksX4_set_2 8 rfl rfl)
theorem dX4_set_56 : decode cX4_set 56 = .ok (.aload_n 0, 1) := dk_42 (dk_at dksX4_set_2 9 rfl rfl)
theorem dX4_set_57 : decode cX4_set 57 = .ok (.getfield 7, 3) := dk_180 0 7 (dk_at dksX4_set_2 10 rfl rfl)
theorem dX4_set_60 : decode cX4_set 60 = .ok (.iconst 1, 1) := dk_4 (dk_at dksX4_set_2 13 rfl rfl)
theorem dX4_set_61 : decode cX4_set 61 = .ok (.iload_n 1, 1) := dk_27 (dk_at dksX4_set_2 14 rfl rfl)
theorem dX4_set_62 : decode cX4_set 62 = .ok (.iadd, 1) := dk_96 (dk_at dksX4_set_2 15 rfl rfl)
theorem dX4_set_63 : decode cX4_set 63 = .ok (.iload_n 2, 1) := dk_28 (dk_at dksX4_set_2 16 rfl rfl)
theorem dX4_set_64 : decode cX4_set 64 = .ok (.iastore, 1) := dk_79 (dk_at dksX4_set_2 17 rfl rfl)
theorem dX4_set_65 : decode cX4_set 65 = .ok (.iload_n 3, 1) := dk_29 (dk_at dksX4_set_2 18 rfl rfl)
theorem dX4_set_66 : decode cX4_set 66 = .ok (.ireturn, 1) := dk_172 (dk_at dksX4_set_2 19 rfl rfl)
abbrev cX4_maySet : ByteArray := prog_15_method_16_code
def yX4_maySet : MethodName := ⟨RX4, "maySet", "(II)Z"⟩
def dkwX4_maySet_4 : List UInt8 := [184, 0, 42, 172]
abbrev dktX4_maySet_4 : List UInt8 := dkwX4_maySet_4 ++ []
def dkwX4_maySet_3 : List UInt8 := [172, 27, 3, 17, 3, 231, 184, 0, 42, 172, 27, 4, 16, 6, 184, 0, 42, 172, 27, 3, 16, 99]
abbrev dktX4_maySet_3 : List UInt8 := dkwX4_maySet_3 ++ dktX4_maySet_4
def dkwX4_maySet_2 : List UInt8 := [27, 16, 20, 16, 99, 184, 0, 42, 172, 27, 3, 16, 19, 184, 0, 42, 172, 27, 4, 16, 9, 184, 0, 42]
abbrev dktX4_maySet_2 : List UInt8 := dkwX4_maySet_2 ++ dktX4_maySet_3
def dkwX4_maySet_1 : List UInt8 := [170, 0, 0, 0, 0, 0, 77, 0, 0, 0, 0, 0, 0, 0, 4, 0, 0, 0, 35, 0, 0, 0, 44, 0, 0, 0, 52, 0, 0, 0, 60, 0, 0, 0, 69]
abbrev dktX4_maySet_1 : List UInt8 := dkwX4_maySet_1 ++ dktX4_maySet_2
def dkwX4_maySet_0 : List UInt8 := [26]
abbrev dktX4_maySet_0 : List UInt8 := dkwX4_maySet_0 ++ dktX4_maySet_1
theorem dksX4_maySet_0 : cX4_maySet.data.toList.drop 0 = dktX4_maySet_0 := by decide +kernel
theorem dksX4_maySet_1 : cX4_maySet.data.toList.drop 1 = dktX4_maySet_1 := dk_seg dksX4_maySet_0 1 rfl rfl
theorem dksX4_maySet_2 : cX4_maySet.data.toList.drop 36 = dktX4_maySet_2 := dk_seg dksX4_maySet_1 35 rfl rfl
theorem dksX4_maySet_3 : cX4_maySet.data.toList.drop 60 = dktX4_maySet_3 := dk_seg dksX4_maySet_2 24 rfl rfl
theorem dksX4_maySet_4 : cX4_maySet.data.toList.drop 82 = dktX4_maySet_4 := dk_seg dksX4_maySet_3 22 rfl rfl
theorem dX4_maySet_0 : decode cX4_maySet 0 = .ok (.iload_n 0, 1) := dk_26 (dk_at dksX4_maySet_0 0 rfl rfl)
theorem dX4_maySet_1 : decode cX4_maySet 1 = .ok (.tableswitch 77 0 4 #[35, 44, 52, 60, 69], 35) := by decide +kernel
theorem dX4_maySet_36 : decode cX4_maySet 36 = .ok (.iload_n 1, 1) := dk_27 (dk_at dksX4_maySet_2 0 rfl rfl)
theorem dX4_maySet_37 : decode cX4_maySet 37 = .ok (.bipush 20, 2) := dk_16 20 (dk_at dksX4_maySet_2 1 rfl rfl)
theorem dX4_maySet_39 : decode cX4_maySet 39 = .ok (.bipush 99, 2) := dk_16 99 (dk_at dksX4_maySet_2 3 rfl rfl)
theorem dX4_maySet_41 : decode cX4_maySet 41 = .ok (.invokestatic 42, 3) := dk_184 0 42 (dk_at dksX4_maySet_2 5 rfl rfl)
theorem dX4_maySet_44 : decode cX4_maySet 44 = .ok (.ireturn, 1) := dk_172 (dk_at dksX4_maySet_2 8 rfl rfl)
theorem dX4_maySet_45 : decode cX4_maySet 45 = .ok (.iload_n 1, 1) := dk_27 (dk_at dksX4_maySet_2 9 rfl rfl)
theorem dX4_maySet_46 : decode cX4_maySet 46 = .ok (.iconst 0, 1) := dk_3 (dk_at dksX4_maySet_2 10 rfl rfl)
theorem dX4_maySet_47 : decode cX4_maySet 47 = .ok (.bipush 19, 2) := dk_16 19 (dk_at dksX4_maySet_2 11 rfl rfl)
theorem dX4_maySet_49 : decode cX4_maySet 49 = .ok (.invokestatic 42, 3) := dk_184 0 42 (dk_at dksX4_maySet_2 13 rfl rfl)
theorem dX4_maySet_52 : decode cX4_maySet 52 = .ok (.ireturn, 1) := dk_172 (dk_at dksX4_maySet_2 16 rfl rfl)
theorem dX4_maySet_53 : decode cX4_maySet 53 = .ok (.iload_n 1, 1) := dk_27 (dk_at dksX4_maySet_2 17 rfl rfl)
theorem dX4_maySet_54 : decode cX4_maySet 54 = .ok (.iconst 1, 1) := dk_4 (dk_at dksX4_maySet_2 18 rfl rfl)
theorem dX4_maySet_55 : decode cX4_maySet 55 = .ok (.bipush 9, 2) := dk_16 9 (dk_at dksX4_maySet_2 19 rfl rfl)
theorem dX4_maySet_57 : decode cX4_maySet 57 = .ok (.invokestatic 42, 3) := dk_184 0 42 (dk_at dksX4_maySet_2 21 rfl rfl)
theorem dX4_maySet_60 : decode cX4_maySet 60 = .ok (.ireturn, 1) := dk_172 (dk_at dksX4_maySet_3 0 rfl rfl)
theorem dX4_maySet_61 : decode cX4_maySet 61 = .ok (.iload_n 1, 1) := dk_27 (dk_at dksX4_maySet_3 1 rfl rfl)
theorem dX4_maySet_62 : decode cX4_maySet 62 = .ok (.iconst 0, 1) := dk_3 (dk_at dksX4_maySet_3 2 rfl rfl)
theorem dX4_maySet_63 : decode cX4_maySet 63 = .ok (.sipush 999, 3) := dk_17 3 231 (dk_at dksX4_maySet_3 3 rfl rfl)
theorem dX4_maySet_66 : decode cX4_maySet 66 = .ok (.invokestatic 42, 3) := dk_184 0 42 (dk_at dksX4_maySet_3 6 rfl rfl)
theorem dX4_maySet_69 : decode cX4_maySet 69 = .ok (.ireturn, 1) := dk_172 (dk_at dksX4_maySet_3 9 rfl rfl)
theorem dX4_maySet_70 : decode cX4_maySet 70 = .ok (.iload_n 1, 1) := dk_27 (dk_at dksX4_maySet_3 10 rfl rfl)
theorem dX4_maySet_71 : decode cX4_maySet 71 = .ok (.iconst 1, 1) := dk_4 (dk_at dksX4_maySet_3 11 rfl rfl)
theorem dX4_maySet_72 : decode cX4_maySet 72 = .ok (.bipush 6, 2) := dk_16 6 (dk_at dksX4_maySet_3 12 rfl rfl)
theorem dX4_maySet_74 : decode cX4_maySet 74 = .ok (.invokestatic 42, 3) := dk_184 0 42 (dk_at dksX4_maySet_3 14 rfl rfl)
theorem dX4_maySet_77 : decode cX4_maySet 77 = .ok (.ireturn, 1) := dk_172 (dk_at dksX4_maySet_3 17 rfl rfl)
theorem dX4_maySet_78 : decode cX4_maySet 78 = .ok (.iload_n 1, 1) := dk_27 (dk_at dksX4_maySet_3 18 rfl rfl)
theorem dX4_maySet_79 : decode cX4_maySet 79 = .ok (.iconst 0, 1) := dk_3 (dk_at dksX4_maySet_3 19 rfl rfl)
theorem dX4_maySet_80 : decode cX4_maySet 80 = .ok (.bipush 99, 2) := dk_16 99 (dk_at dksX4_maySet_3 20 rfl rfl)
theorem dX4_maySet_82 : decode cX4_maySet 82 = .ok (.invokestatic 42, 3) := dk_184 0 42 (dk_at dksX4_maySet_4 0 rfl rfl)
theorem dX4_maySet_85 : decode cX4_maySet 85 = .ok (.ireturn, 1) := dk_172 (dk_at dksX4_maySet_4 3 rfl rfl)
abbrev cX4_setting : ByteArray := prog_15_method_18_code
def yX4_setting : MethodName := ⟨RX4, "setting", "(I)I"⟩
def dkwX4_setting_1 : List UInt8 := [158, 0, 7, 3, 167, 0, 11, 42, 180, 0, 7, 4, 27, 96, 46, 172]
abbrev dktX4_setting_1 : List UInt8 := dkwX4_setting_1 ++ []
def dkwX4_setting_0 : List UInt8 := [42, 27, 3, 8, 184, 0, 42, 153, 0, 7, 3, 167, 0, 4, 4, 181, 0, 39, 42, 180, 0, 39]
abbrev dktX4_setting_0 : List UInt8 := dkwX4_setting_0 ++ dktX4_setting_1
theorem dksX4_setting_0 : cX4_setting.data.toList.drop 0 = dktX4_setting_0 := by decide +kernel
theorem dksX4_setting_1 : cX4_setting.data.toList.drop 22 = dktX4_setting_1 := dk_seg dksX4_setting_0 22 rfl rfl
theorem dX4_setting_0 : decode cX4_setting 0 = .ok (.aload_n 0, 1) := dk_42 (dk_at dksX4_setting_0 0 rfl rfl)
theorem dX4_setting_1 : decode cX4_setting 1 = .ok (.iload_n 1, 1) := dk_27 (dk_at dksX4_setting_0 1 rfl rfl)
theorem dX4_setting_2 : decode cX4_setting 2 = .ok (.iconst 0, 1) := dk_3 (dk_at dksX4_setting_0 2 rfl rfl)
theorem dX4_setting_3 : decode cX4_setting 3 = .ok (.iconst 5, 1) := dk_8 (dk_at dksX4_setting_0 3 rfl rfl)
theorem dX4_setting_4 : decode cX4_setting 4 = .ok (.invokestatic 42, 3) := dk_184 0 42 (dk_at dksX4_setting_0 4 rfl rfl)
theorem dX4_setting_7 : decode cX4_setting 7 = .ok (.ifCond .eq 7, 3) := dk_153 0 7 (dk_at dksX4_setting_0 7 rfl rfl)
theorem dX4_setting_10 : decode cX4_setting 10 = .ok (.iconst 0, 1) := dk_3 (dk_at dksX4_setting_0 10 rfl rfl)
theorem dX4_setting_11 : decode cX4_setting 11 = .ok (.goto 4, 3) := dk_167 0 4 (dk_at dksX4_setting_0 11 rfl rfl)
theorem dX4_setting_14 : decode cX4_setting 14 = .ok (.iconst 1, 1) := dk_4 (dk_at dksX4_setting_0 14 rfl rfl)
theorem dX4_setting_15 : decode cX4_setting 15 = .ok (.putfield 39, 3) := dk_181 0 39 (dk_at dksX4_setting_0 15 rfl rfl)
theorem dX4_setting_18 : decode cX4_setting 18 = .ok (.aload_n 0, 1) := dk_42 (dk_at dksX4_setting_0 18 rfl rfl)
theorem dX4_setting_19 : decode cX4_setting 19 = .ok (.getfield 39, 3) := dk_180 0 39 (dk_at dksX4_setting_0 19 rfl rfl)
theorem dX4_setting_22 : decode cX4_setting 22 = .ok (.ifCond .le 7, 3) := dk_158 0 7 (dk_at dksX4_setting_1 0 rfl rfl)
theorem dX4_setting_25 : decode cX4_setting 25 = .ok (.iconst 0, 1) := dk_3 (dk_at dksX4_setting_1 3 rfl rfl)
theorem dX4_setting_26 : decode cX4_setting 26 = .ok (.goto 11, 3) := dk_167 0 11 (dk_at dksX4_setting_1 4 rfl rfl)
theorem dX4_setting_29 : decode cX4_setting 29 = .ok (.aload_n 0, 1) := dk_42 (dk_at dksX4_setting_1 7 rfl rfl)
theorem dX4_setting_30 : decode cX4_setting 30 = .ok (.getfield 7, 3) := dk_180 0 7 (dk_at dksX4_setting_1 8 rfl rfl)
theorem dX4_setting_33 : decode cX4_setting 33 = .ok (.iconst 1, 1) := dk_4 (dk_at dksX4_setting_1 11 rfl rfl)
theorem dX4_setting_34 : decode cX4_setting 34 = .ok (.iload_n 1, 1) := dk_27 (dk_at dksX4_setting_1 12 rfl rfl)
theorem dX4_setting_35 : decode cX4_setting 35 = .ok (.iadd, 1) := dk_96 (dk_at dksX4_setting_1 13 rfl rfl)
theorem dX4_setting_36 : decode cX4_setting 36 = .ok (.iaload, 1) := dk_46 (dk_at dksX4_setting_1 14 rfl rfl)
theorem dX4_setting_37 : decode cX4_setting 37 = .ok (.ireturn, 1) := dk_172 (dk_at dksX4_setting_1 15 rfl rfl)
abbrev cX4_hold : ByteArray := prog_15_method_26_code
def yX4_hold : MethodName := ⟨RX4, "hold", "(II)I"⟩
def dkwX4_hold_0 : List UInt8 := [42, 3, 27, 28, 182, 0, 109, 172]
abbrev dktX4_hold_0 : List UInt8 := dkwX4_hold_0 ++ []
theorem dksX4_hold_0 : cX4_hold.data.toList.drop 0 = dktX4_hold_0 := by decide +kernel
theorem dX4_hold_0 : decode cX4_hold 0 = .ok (.aload_n 0, 1) := dk_42 (dk_at dksX4_hold_0 0 rfl rfl)
theorem dX4_hold_1 : decode cX4_hold 1 = .ok (.iconst 0, 1) := dk_3 (dk_at dksX4_hold_0 1 rfl rfl)
theorem dX4_hold_2 : decode cX4_hold 2 = .ok (.iload_n 1, 1) := dk_27 (dk_at dksX4_hold_0 2 rfl rfl)
theorem dX4_hold_3 : decode cX4_hold 3 = .ok (.iload_n 2, 1) := dk_28 (dk_at dksX4_hold_0 3 rfl rfl)
theorem dX4_hold_4 : decode cX4_hold 4 = .ok (.invokevirtual 109, 3) := dk_182 0 109 (dk_at dksX4_hold_0 4 rfl rfl)
theorem dX4_hold_7 : decode cX4_hold 7 = .ok (.ireturn, 1) := dk_172 (dk_at dksX4_hold_0 7 rfl rfl)
abbrev cX4_orders : ByteArray := prog_15_method_25_code
def yX4_orders : MethodName := ⟨RX4, "orders", "(III)I"⟩
def dkwX4_orders_3 : List UInt8 := [172]
abbrev dktX4_orders_3 : List UInt8 := dkwX4_orders_3 ++ []
def dkwX4_orders_2 : List UInt8 := [182, 0, 103, 172, 42, 3, 181, 0, 39, 42, 42, 180, 0, 7, 182, 0, 65, 42, 27, 28, 29, 182, 0, 106]
abbrev dktX4_orders_2 : List UInt8 := dkwX4_orders_2 ++ dktX4_orders_3
def dkwX4_orders_1 : List UInt8 := [182, 0, 103, 172, 27, 4, 160, 0, 20, 29, 3, 17, 3, 231, 184, 0, 42, 154, 0, 9, 42, 5]
abbrev dktX4_orders_1 : List UInt8 := dkwX4_orders_1 ++ dktX4_orders_2
def dkwX4_orders_0 : List UInt8 := [42, 27, 28, 29, 182, 0, 96, 54, 4, 21, 4, 158, 0, 15, 42, 21, 4, 181, 0, 100, 42, 4]
abbrev dktX4_orders_0 : List UInt8 := dkwX4_orders_0 ++ dktX4_orders_1
theorem dksX4_orders_0 : cX4_orders.data.toList.drop 0 = dktX4_orders_0 := by decide +kernel
theorem dksX4_orders_1 : cX4_orders.data.toList.drop 22 = dktX4_orders_1 := dk_seg dksX4_orders_0 22 rfl rfl
theorem dksX4_orders_2 : cX4_orders.data.toList.drop 44 = dktX4_orders_2 := dk_seg dksX4_orders_1 22 rfl rfl
theorem dksX4_orders_3 : cX4_orders.data.toList.drop 68 = dktX4_orders_3 := dk_seg dksX4_orders_2 24 rfl rfl
theorem dX4_orders_0 : decode cX4_orders 0 = .ok (.aload_n 0, 1) := dk_42 (dk_at dksX4_orders_0 0 rfl rfl)
theorem dX4_orders_1 : decode cX4_orders 1 = .ok (.iload_n 1, 1) := dk_27 (dk_at dksX4_orders_0 1 rfl rfl)
theorem dX4_orders_2 : decode cX4_orders 2 = .ok (.iload_n 2, 1) := dk_28 (dk_at dksX4_orders_0 2 rfl rfl)
theorem dX4_orders_3 : decode cX4_orders 3 = .ok (.iload_n 3, 1) := dk_29 (dk_at dksX4_orders_0 3 rfl rfl)
theorem dX4_orders_4 : decode cX4_orders 4 = .ok (.invokevirtual 96, 3) := dk_182 0 96 (dk_at dksX4_orders_0 4 rfl rfl)
theorem dX4_orders_7 : decode cX4_orders 7 = .ok (.istore 4, 2) := dk_54 4 (dk_at dksX4_orders_0 7 rfl rfl)
theorem dX4_orders_9 : decode cX4_orders 9 = .ok (.iload 4, 2) := dk_21 4 (dk_at dksX4_orders_0 9 rfl rfl)
theorem dX4_orders_11 : decode cX4_orders 11 = .ok (.ifCond .le 15, 3) := dk_158 0 15 (dk_at dksX4_orders_0 11 rfl rfl)
theorem dX4_orders_14 : decode cX4_orders 14 = .ok (.aload_n 0, 1) := dk_42 (dk_at dksX4_orders_0 14 rfl rfl)
theorem dX4_orders_15 : decode cX4_orders 15 = .ok (.iload 4, 2) := dk_21 4 (dk_at dksX4_orders_0 15 rfl rfl)
theorem dX4_orders_17 : decode cX4_orders 17 = .ok (.putfield 100, 3) := dk_181 0 100 (dk_at dksX4_orders_0 17 rfl rfl)
theorem dX4_orders_20 : decode cX4_orders 20 = .ok (.aload_n 0, 1) := dk_42 (dk_at dksX4_orders_0 20 rfl rfl)
theorem dX4_orders_21 : decode cX4_orders 21 = .ok (.iconst 1, 1) := dk_4 (dk_at dksX4_orders_0 21 rfl rfl)
theorem dX4_orders_22 : decode cX4_orders 22 = .ok (.invokevirtual 103, 3) := dk_182 0 103 (dk_at dksX4_orders_1 0 rfl rfl)
theorem dX4_orders_25 : decode cX4_orders 25 = .ok (.ireturn, 1) := dk_172 (dk_at dksX4_orders_1 3 rfl rfl)
theorem dX4_orders_26 : decode cX4_orders 26 = .ok (.iload_n 1, 1) := dk_27 (dk_at dksX4_orders_1 4 rfl rfl)
theorem dX4_orders_27 : decode cX4_orders 27 = .ok (.iconst 1, 1) := dk_4 (dk_at dksX4_orders_1 5 rfl rfl)
theorem dX4_orders_28 : decode cX4_orders 28 = .ok (.if_icmp .ne 20, 3) := dk_160 0 20 (dk_at dksX4_orders_1 6 rfl rfl)
theorem dX4_orders_31 : decode cX4_orders 31 = .ok (.iload_n 3, 1) := dk_29 (dk_at dksX4_orders_1 9 rfl rfl)
theorem dX4_orders_32 : decode cX4_orders 32 = .ok (.iconst 0, 1) := dk_3 (dk_at dksX4_orders_1 10 rfl rfl)
theorem dX4_orders_33 : decode cX4_orders 33 = .ok (.sipush 999, 3) := dk_17 3 231 (dk_at dksX4_orders_1 11 rfl rfl)
theorem dX4_orders_36 : decode cX4_orders 36 = .ok (.invokestatic 42, 3) := dk_184 0 42 (dk_at dksX4_orders_1 14 rfl rfl)
theorem dX4_orders_39 : decode cX4_orders 39 = .ok (.ifCond .ne 9, 3) := dk_154 0 9 (dk_at dksX4_orders_1 17 rfl rfl)
theorem dX4_orders_42 : decode cX4_orders 42 = .ok (.aload_n 0, 1) := dk_42 (dk_at dksX4_orders_1 20 rfl rfl)
theorem dX4_orders_43 : decode cX4_orders 43 = .ok (.iconst 2, 1) := dk_5 (dk_at dksX4_orders_1 21 rfl rfl)
theorem dX4_orders_44 : decode cX4_orders 44 = .ok (.invokevirtual 103, 3) := dk_182 0 103 (dk_at dksX4_orders_2 0 rfl rfl)
theorem dX4_orders_47 : decode cX4_orders 47 = .ok (.ireturn, 1) := dk_172 (dk_at dksX4_orders_2 3 rfl rfl)
theorem dX4_orders_48 : decode cX4_orders 48 = .ok (.aload_n 0, 1) := dk_42 (dk_at dksX4_orders_2 4 rfl rfl)
theorem dX4_orders_49 : decode cX4_orders 49 = .ok (.iconst 0, 1) := dk_3 (dk_at dksX4_orders_2 5 rfl rfl)
theorem dX4_orders_50 : decode cX4_orders 50 = .ok (.putfield 39, 3) := dk_181 0 39 (dk_at dksX4_orders_2 6 rfl rfl)
theorem dX4_orders_53 : decode cX4_orders 53 = .ok (.aload_n 0, 1) := dk_42 (dk_at dksX4_orders_2 9 rfl rfl)
theorem dX4_orders_54 : decode cX4_orders 54 = .ok (.aload_n 0, 1) := dk_42 (dk_at dksX4_orders_2 10 rfl rfl)
theorem dX4_orders_55 : decode cX4_orders 55 = .ok (.getfield 7, 3) := dk_180 0 7 (dk_at dksX4_orders_2 11 rfl rfl)
theorem dX4_orders_58 : decode cX4_orders 58 = .ok (.invokevirtual 65, 3) := dk_182 0 65 (dk_at dksX4_orders_2 14 rfl rfl)
theorem dX4_orders_61 : decode cX4_orders 61 = .ok (.aload_n 0, 1) := dk_42 (dk_at dksX4_orders_2 17 rfl rfl)
theorem dX4_orders_62 : decode cX4_orders 62 = .ok (.iload_n 1, 1) := dk_27 (dk_at dksX4_orders_2 18 rfl rfl)
theorem dX4_orders_63 : decode cX4_orders 63 = .ok (.iload_n 2, 1) := dk_28 (dk_at dksX4_orders_2 19 rfl rfl)
theorem dX4_orders_64 : decode cX4_orders 64 = .ok (.iload_n 3, 1) := dk_29 (dk_at dksX4_orders_2 20 rfl rfl)
theorem dX4_orders_65 : decode cX4_orders 65 = .ok (.invokevirtual 106, 3) := dk_182 0 106 (dk_at dksX4_orders_2 21 rfl rfl)
theorem dX4_orders_68 : decode cX4_orders 68 = .ok (.ireturn, 1) := dk_172 (dk_at dksX4_orders_3 0 rfl rfl)
abbrev cX4_against : ByteArray := prog_15_method_21_code
def yX4_against : MethodName := ⟨RX4, "against", "(III)I"⟩
def dkwX4_against_6 : List UInt8 := [42, 28, 182, 0, 83, 153, 0, 7, 3, 167, 0, 4, 7, 172, 3, 172]
abbrev dktX4_against_6 : List UInt8 := dkwX4_against_6 ++ []
def dkwX4_against_5 : List UInt8 := [42, 28, 182, 0, 83, 153, 0, 17, 42, 28, 182, 0, 86, 16, 20, 162, 0, 7, 6, 167, 0, 4, 3, 172]
abbrev dktX4_against_5 : List UInt8 := dkwX4_against_5 ++ dktX4_against_6
def dkwX4_against_4 : List UInt8 := [29, 4, 16, 30, 184, 0, 42, 153, 0, 7, 3, 167, 0, 4, 5, 172, 42, 28, 182, 0, 80, 154, 0, 21]
abbrev dktX4_against_4 : List UInt8 := dkwX4_against_4 ++ dktX4_against_5
def dkwX4_against_3 : List UInt8 := [170, 0, 0, 0, 0, 92, 0, 0, 0, 0, 0, 0, 0, 3, 0, 0, 0, 30, 0, 0, 0, 92, 0, 0, 0, 46, 0, 0, 0, 78]
abbrev dktX4_against_3 : List UInt8 := dkwX4_against_3 ++ dktX4_against_4
def dkwX4_against_2 : List UInt8 := [167, 0, 4, 3, 172, 42, 28, 182, 0, 77, 154, 0, 5, 4, 172, 27]
abbrev dktX4_against_2 : List UInt8 := dkwX4_against_2 ++ dktX4_against_3
def dkwX4_against_1 : List UInt8 := [153, 0, 22, 42, 180, 0, 7, 16, 10, 46, 7, 160, 0, 15, 42, 28, 182, 0, 73, 156, 0, 7, 8]
abbrev dktX4_against_1 : List UInt8 := dkwX4_against_1 ++ dktX4_against_2
def dkwX4_against_0 : List UInt8 := [27, 8, 160, 0, 49, 28, 3, 17, 3, 231, 184, 0, 42, 153, 0, 32, 29, 3, 16, 20, 184, 0, 42]
abbrev dktX4_against_0 : List UInt8 := dkwX4_against_0 ++ dktX4_against_1
theorem dksX4_against_0 : cX4_against.data.toList.drop 0 = dktX4_against_0 := by decide +kernel
theorem dksX4_against_1 : cX4_against.data.toList.drop 23 = dktX4_against_1 := dk_seg dksX4_against_0 23 rfl rfl
theorem dksX4_against_2 : cX4_against.data.toList.drop 46 = dktX4_against_2 := dk_seg dksX4_against_1 23 rfl rfl
theorem dksX4_against_3 : cX4_against.data.toList.drop 62 = dktX4_against_3 := dk_seg dksX4_against_2 16 rfl rfl
theorem dksX4_against_4 : cX4_against.data.toList.drop 92 = dktX4_against_4 := dk_seg dksX4_against_3 30 rfl rfl
theorem dksX4_against_5 : cX4_against.data.toList.drop 116 = dktX4_against_5 := dk_seg dksX4_against_4 24 rfl rfl
theorem dksX4_against_6 : cX4_against.data.toList.drop 140 = dktX4_against_6 := dk_seg dksX4_against_5 24 rfl rfl
theorem dX4_against_0 : decode cX4_against 0 = .ok (.iload_n 1, 1) := dk_27 (dk_at dksX4_against_0 0 rfl rfl)
theorem dX4_against_1 : decode cX4_against 1 = .ok (.iconst 5, 1) := dk_8 (dk_at dksX4_against_0 1 rfl rfl)
theorem dX4_against_2 : decode cX4_against 2 = .ok (.if_icmp .ne 49, 3) := dk_160 0 49 (dk_at dksX4_against_0 2 rfl rfl)
theorem dX4_against_5 : decode cX4_against 5 = .ok (.iload_n 2, 1) := dk_28 (dk_at dksX4_against_0 5 rfl rfl)
theorem dX4_against_6 : decode cX4_against 6 = .ok (.iconst 0, 1) := dk_3 (dk_at dksX4_against_0 6 rfl rfl)
theorem dX4_against_7 : decode cX4_against 7 = .ok (.sipush 999, 3) := dk_17 3 231 (dk_at dksX4_against_0 7 rfl rfl)
theorem dX4_against_10 : decode cX4_against 10 = .ok (.invokestatic 42, 3) := dk_184 0 42 (dk_at dksX4_against_0 10 rfl rfl)
theorem dX4_against_13 : decode cX4_against 13 = .ok (.ifCond .eq 32, 3) := dk_153 0 32 (dk_at dksX4_against_0 13 rfl rfl)
theorem dX4_against_16 : decode cX4_against 16 = .ok (.iload_n 3, 1) := dk_29 (dk_at dksX4_against_0 16 rfl rfl)
theorem dX4_against_17 : decode cX4_against 17 = .ok (.iconst 0, 1) := dk_3 (dk_at dksX4_against_0 17 rfl rfl)
theorem dX4_against_18 : decode cX4_against 18 = .ok (.bipush 20, 2) := dk_16 20 (dk_at dksX4_against_0 18 rfl rfl)
theorem dX4_against_20 : decode cX4_against 20 = .ok (.invokestatic 42, 3) := dk_184 0 42 (dk_at dksX4_against_0 20 rfl rfl)
theorem dX4_against_23 : decode cX4_against 23 = .ok (.ifCond .eq 22, 3) := dk_153 0 22 (dk_at dksX4_against_1 0 rfl rfl)
theorem dX4_against_26 : decode cX4_against 26 = .ok (.aload_n 0, 1) := dk_42 (dk_at dksX4_against_1 3 rfl rfl)
theorem dX4_against_27 : decode cX4_against 27 = .ok (.getfield 7, 3) := dk_180 0 7 (dk_at dksX4_against_1 4 rfl rfl)
theorem dX4_against_30 : decode cX4_against 30 = .ok (.bipush 10, 2) := dk_16 10 (dk_at dksX4_against_1 7 rfl rfl)
theorem dX4_against_32 : decode cX4_against 32 = .ok (.iaload, 1) := dk_46 (dk_at dksX4_against_1 9 rfl rfl)
theorem dX4_against_33 : decode cX4_against 33 = .ok (.iconst 4, 1) := dk_7 (dk_at dksX4_against_1 10 rfl rfl)
theorem dX4_against_34 : decode cX4_against 34 = .ok (.if_icmp .ne 15, 3) := dk_160 0 15 (dk_at dksX4_against_1 11 rfl rfl)
theorem dX4_against_37 : decode cX4_against 37 = .ok (.aload_n 0, 1) := dk_42 (dk_at dksX4_against_1 14 rfl rfl)
theorem dX4_against_38 : decode cX4_against 38 = .ok (.iload_n 2, 1) := dk_28 (dk_at dksX4_against_1 15 rfl rfl)
theorem dX4_against_39 : decode cX4_against 39 = .ok (.invokevirtual 73, 3) := dk_182 0 73 (dk_at dksX4_against_1 16 rfl rfl)
theorem dX4_against_42 : decode cX4_against 42 = .ok (.ifCond .ge 7, 3) := dk_156 0 7 (dk_at dksX4_against_1 19 rfl rfl)
theorem dX4_against_45 : decode cX4_against 45 = .ok (.iconst 5, 1) := dk_8 (dk_at dksX4_against_1 22 rfl rfl)
theorem dX4_against_46 : decode cX4_against 46 = .ok (.goto 4, 3) := dk_167 0 4 (dk_at dksX4_against_2 0 rfl rfl)
theorem dX4_against_49 : decode cX4_against 49 = .ok (.iconst 0, 1) := dk_3 (dk_at dksX4_against_2 3 rfl rfl)
theorem dX4_against_50 : decode cX4_against 50 = .ok (.ireturn, 1) := dk_172 (dk_at dksX4_against_2 4 rfl rfl)
theorem dX4_against_51 : decode cX4_against 51 = .ok (.aload_n 0, 1) := dk_42 (dk_at dksX4_against_2 5 rfl rfl)
theorem dX4_against_52 : decode cX4_against 52 = .ok (.iload_n 2, 1) := dk_28 (dk_at dksX4_against_2 6 rfl rfl)
theorem dX4_against_53 : decode cX4_against 53 = .ok (.invokevirtual 77, 3) := dk_182 0 77 (dk_at dksX4_against_2 7 rfl rfl)
theorem dX4_against_56 : decode cX4_against 56 = .ok (.ifCond .ne 5, 3) := dk_154 0 5 (dk_at dksX4_against_2 10 rfl rfl)
theorem dX4_against_59 : decode cX4_against 59 = .ok (.iconst 1, 1) := dk_4 (dk_at dksX4_against_2 13 rfl rfl)
theorem dX4_against_60 : decode cX4_against 60 = .ok (.ireturn, 1) := dk_172 (dk_at dksX4_against_2 14 rfl rfl)
theorem dX4_against_61 : decode cX4_against 61 = .ok (.iload_n 1, 1) := dk_27 (dk_at dksX4_against_2 15 rfl rfl)
theorem dX4_against_62 : decode cX4_against 62 = .ok (.tableswitch 92 0 3 #[30, 92, 46, 78], 30) := by decide +kernel
theorem dX4_against_92 : decode cX4_against 92 = .ok (.iload_n 3, 1) := dk_29 (dk_at dksX4_against_4 0 rfl rfl)
theorem dX4_against_93 : decode cX4_against 93 = .ok (.iconst 1, 1) := dk_4 (dk_at dksX4_against_4 1 rfl rfl)
theorem dX4_against_94 : decode cX4_against 94 = .ok (.bipush 30, 2) := dk_16 30 (dk_at dksX4_against_4 2 rfl rfl)
theorem dX4_against_96 : decode cX4_against 96 = .ok (.invokestatic 42, 3) := dk_184 0 42 (dk_at dksX4_against_4 4 rfl rfl)
theorem dX4_against_99 : decode cX4_against 99 = .ok (.ifCond .eq 7, 3) := dk_153 0 7 (dk_at dksX4_against_4 7 rfl rfl)
theorem dX4_against_102 : decode cX4_against 102 = .ok (.iconst 0, 1) := dk_3 (dk_at dksX4_against_4 10 rfl rfl)
theorem dX4_against_103 : decode cX4_against 103 = .ok (.goto 4, 3) := dk_167 0 4 (dk_at dksX4_against_4 11 rfl rfl)
theorem dX4_against_106 : decode cX4_against 106 = .ok (.iconst 2, 1) := dk_5 (dk_at dksX4_against_4 14 rfl rfl)
theorem dX4_against_107 : decode cX4_against 107 = .ok (.ireturn, 1) := dk_172 (dk_at dksX4_against_4 15 rfl rfl)
theorem dX4_against_108 : decode cX4_against 108 = .ok (.aload_n 0, 1) := dk_42 (dk_at dksX4_against_4 16 rfl rfl)
theorem dX4_against_109 : decode cX4_against 109 = .ok (.iload_n 2, 1) := dk_28 (dk_at dksX4_against_4 17 rfl rfl)
theorem dX4_against_110 : decode cX4_against 110 = .ok (.invokevirtual 80, 3) := dk_182 0 80 (dk_at dksX4_against_4 18 rfl rfl)
theorem dX4_against_113 : decode cX4_against 113 = .ok (.ifCond .ne 21, 3) := dk_154 0 21 (dk_at dksX4_against_4 21 rfl rfl)
theorem dX4_against_116 : decode cX4_against 116 = .ok (.aload_n 0, 1) := dk_42 (dk_at dksX4_against_5 0 rfl rfl)
theorem dX4_against_117 : decode cX4_against 117 = .ok (.iload_n 2, 1) := dk_28 (dk_at dksX4_against_5 1 rfl rfl)
theorem dX4_against_118 : decode cX4_against 118 = .ok (.invokevirtual 83, 3) := dk_182 0 83 (dk_at dksX4_against_5 2 rfl rfl)
theorem dX4_against_121 : decode cX4_against 121 = .ok (.ifCond .eq 17, 3) := dk_153 0 17 (dk_at dksX4_against_5 5 rfl rfl)
theorem dX4_against_124 : decode cX4_against 124 = .ok (.aload_n 0, 1) := dk_42 (dk_at dksX4_against_5 8 rfl rfl)
theorem dX4_against_125 : decode cX4_against 125 = .ok (.iload_n 2, 1) := dk_28 (dk_at dksX4_against_5 9 rfl rfl)
theorem dX4_against_126 : decode cX4_against 126 = .ok (.invokevirtual 86, 3) := dk_182 0 86 (dk_at dksX4_against_5 10 rfl rfl)
theorem dX4_against_129 : decode cX4_against 129 = .ok (.bipush 20, 2) := dk_16 20 (dk_at dksX4_against_5 13 rfl rfl)
theorem dX4_against_131 : decode cX4_against 131 = .ok (.if_icmp .ge 7, 3) := dk_162 0 7 (dk_at dksX4_against_5 15 rfl rfl)
theorem dX4_against_134 : decode cX4_against 134 = .ok (.iconst 3, 1) := dk_6 (dk_at dksX4_against_5 18 rfl rfl)
theorem dX4_against_135 : decode cX4_against 135 = .ok (.goto 4, 3) := dk_167 0 4 (dk_at dksX4_against_5 19 rfl rfl)
theorem dX4_against_138 : decode cX4_against 138 = .ok (.iconst 0, 1) := dk_3 (dk_at dksX4_against_5 22 rfl rfl)
theorem dX4_against_139 : decode cX4_against 139 = .ok (.ireturn, 1) := dk_172 (dk_at dksX4_against_5 23 rfl rfl)
theorem dX4_against_140 : decode cX4_against 140 = .ok (.aload_n 0, 1) := dk_42 (dk_at dksX4_against_6 0 rfl rfl)
theorem dX4_against_141 : decode cX4_against 141 = .ok (.iload_n 2, 1) := dk_28 (dk_at dksX4_against_6 1 rfl rfl)
theorem dX4_against_142 : decode cX4_against 142 = .ok (.invokevirtual 83, 3) := dk_182 0 83 (dk_at dksX4_against_6 2 rfl rfl)
theorem dX4_against_145 : decode cX4_against 145 = .ok (.ifCond .eq 7, 3) := dk_153 0 7 (dk_at dksX4_against_6 5 rfl rfl)
theorem dX4_against_148 : decode cX4_against 148 = .ok (.iconst 0, 1) := dk_3 (dk_at dksX4_against_6 8 rfl rfl)
theorem dX4_against_149 : decode cX4_against 149 = .ok (.goto 4, 3) := dk_167 0 4 (dk_at dksX4_against_6 9 rfl rfl)
theorem dX4_against_152 : decode cX4_against 152 = .ok (.iconst 4, 1) := dk_7 (dk_at dksX4_against_6 12 rfl rfl)
theorem dX4_against_153 : decode cX4_against 153 = .ok (.ireturn, 1) := dk_172 (dk_at dksX4_against_6 13 rfl rfl)
theorem dX4_against_154 : decode cX4_against 154 = .ok (.iconst 0, 1) := dk_3 (dk_at dksX4_against_6 14 rfl rfl)
theorem dX4_against_155 : decode cX4_against 155 = .ok (.ireturn, 1) := dk_172 (dk_at dksX4_against_6 15 rfl rfl)
abbrev cX4_rowOf : ByteArray := prog_15_method_20_code
def yX4_rowOf : MethodName := ⟨RX4, "rowOf", "(I)I"⟩
def dkwX4_rowOf_1 : List UInt8 := [27, 160, 0, 5, 28, 172, 132, 2, 1, 167, 255, 225, 2, 172]
abbrev dktX4_rowOf_1 : List UInt8 := dkwX4_rowOf_1 ++ []
def dkwX4_rowOf_0 : List UInt8 := [3, 61, 28, 42, 180, 0, 7, 16, 10, 46, 162, 0, 26, 42, 180, 0, 7, 16, 95, 5, 28, 104, 96, 46]
abbrev dktX4_rowOf_0 : List UInt8 := dkwX4_rowOf_0 ++ dktX4_rowOf_1
theorem dksX4_rowOf_0 : cX4_rowOf.data.toList.drop 0 = dktX4_rowOf_0 := by decide +kernel
theorem dksX4_rowOf_1 : cX4_rowOf.data.toList.drop 24 = dktX4_rowOf_1 := dk_seg dksX4_rowOf_0 24 rfl rfl
theorem dX4_rowOf_0 : decode cX4_rowOf 0 = .ok (.iconst 0, 1) := dk_3 (dk_at dksX4_rowOf_0 0 rfl rfl)
theorem dX4_rowOf_1 : decode cX4_rowOf 1 = .ok (.istore_n 2, 1) := dk_61 (dk_at dksX4_rowOf_0 1 rfl rfl)
theorem dX4_rowOf_2 : decode cX4_rowOf 2 = .ok (.iload_n 2, 1) := dk_28 (dk_at dksX4_rowOf_0 2 rfl rfl)
theorem dX4_rowOf_3 : decode cX4_rowOf 3 = .ok (.aload_n 0, 1) := dk_42 (dk_at dksX4_rowOf_0 3 rfl rfl)
theorem dX4_rowOf_4 : decode cX4_rowOf 4 = .ok (.getfield 7, 3) := dk_180 0 7 (dk_at dksX4_rowOf_0 4 rfl rfl)
theorem dX4_rowOf_7 : decode cX4_rowOf 7 = .ok (.bipush 10, 2) := dk_16 10 (dk_at dksX4_rowOf_0 7 rfl rfl)
theorem dX4_rowOf_9 : decode cX4_rowOf 9 = .ok (.iaload, 1) := dk_46 (dk_at dksX4_rowOf_0 9 rfl rfl)
theorem dX4_rowOf_10 : decode cX4_rowOf 10 = .ok (.if_icmp .ge 26, 3) := dk_162 0 26 (dk_at dksX4_rowOf_0 10 rfl rfl)
theorem dX4_rowOf_13 : decode cX4_rowOf 13 = .ok (.aload_n 0, 1) := dk_42 (dk_at dksX4_rowOf_0 13 rfl rfl)
theorem dX4_rowOf_14 : decode cX4_rowOf 14 = .ok (.getfield 7, 3) := dk_180 0 7 (dk_at dksX4_rowOf_0 14 rfl rfl)
theorem dX4_rowOf_17 : decode cX4_rowOf 17 = .ok (.bipush 95, 2) := dk_16 95 (dk_at dksX4_rowOf_0 17 rfl rfl)
theorem dX4_rowOf_19 : decode cX4_rowOf 19 = .ok (.iconst 2, 1) := dk_5 (dk_at dksX4_rowOf_0 19 rfl rfl)
theorem dX4_rowOf_20 : decode cX4_rowOf 20 = .ok (.iload_n 2, 1) := dk_28 (dk_at dksX4_rowOf_0 20 rfl rfl)
theorem dX4_rowOf_21 : decode cX4_rowOf 21 = .ok (.imul, 1) := dk_104 (dk_at dksX4_rowOf_0 21 rfl rfl)
theorem dX4_rowOf_22 : decode cX4_rowOf 22 = .ok (.iadd, 1) := dk_96 (dk_at dksX4_rowOf_0 22 rfl rfl)
theorem dX4_rowOf_23 : decode cX4_rowOf 23 = .ok (.iaload, 1) := dk_46 (dk_at dksX4_rowOf_0 23 rfl rfl)
theorem dX4_rowOf_24 : decode cX4_rowOf 24 = .ok (.iload_n 1, 1) := dk_27 (dk_at dksX4_rowOf_1 0 rfl rfl)
theorem dX4_rowOf_25 : decode cX4_rowOf 25 = .ok (.if_icmp .ne 5, 3) := dk_160 0 5 (dk_at dksX4_rowOf_1 1 rfl rfl)
theorem dX4_rowOf_28 : decode cX4_rowOf 28 = .ok (.iload_n 2, 1) := dk_28 (dk_at dksX4_rowOf_1 4 rfl rfl)
theorem dX4_rowOf_29 : decode cX4_rowOf 29 = .ok (.ireturn, 1) := dk_172 (dk_at dksX4_rowOf_1 5 rfl rfl)
theorem dX4_rowOf_30 : decode cX4_rowOf 30 = .ok (.iinc 2 1, 3) := dk_132 2 1 (dk_at dksX4_rowOf_1 6 rfl rfl)
theorem dX4_rowOf_33 : decode cX4_rowOf 33 = .ok (.goto (-31), 3) := dk_167 255 225 (dk_at dksX4_rowOf_1 9 rfl rfl)
theorem dX4_rowOf_36 : decode cX4_rowOf 36 = .ok (.iconst (-1), 1) := dk_2 (dk_at dksX4_rowOf_1 12 rfl rfl)
theorem dX4_rowOf_37 : decode cX4_rowOf 37 = .ok (.ireturn, 1) := dk_172 (dk_at dksX4_rowOf_1 13 rfl rfl)
abbrev cX4_isKept : ByteArray := prog_15_method_7_code
def yX4_isKept : MethodName := ⟨RX4, "isKept", "(I)Z"⟩
def dkwX4_isKept_1 : List UInt8 := [167, 0, 4, 3, 172]
abbrev dktX4_isKept_1 : List UInt8 := dkwX4_isKept_1 ++ []
def dkwX4_isKept_0 : List UInt8 := [42, 27, 182, 0, 46, 153, 0, 21, 42, 180, 0, 7, 27, 7, 184, 0, 50, 46, 5, 162, 0, 7, 4]
abbrev dktX4_isKept_0 : List UInt8 := dkwX4_isKept_0 ++ dktX4_isKept_1
theorem dksX4_isKept_0 : cX4_isKept.data.toList.drop 0 = dktX4_isKept_0 := by decide +kernel
theorem dksX4_isKept_1 : cX4_isKept.data.toList.drop 23 = dktX4_isKept_1 := dk_seg dksX4_isKept_0 23 rfl rfl
theorem dX4_isKept_0 : decode cX4_isKept 0 = .ok (.aload_n 0, 1) := dk_42 (dk_at dksX4_isKept_0 0 rfl rfl)
theorem dX4_isKept_1 : decode cX4_isKept 1 = .ok (.iload_n 1, 1) := dk_27 (dk_at dksX4_isKept_0 1 rfl rfl)
theorem dX4_isKept_2 : decode cX4_isKept 2 = .ok (.invokevirtual 46, 3) := dk_182 0 46 (dk_at dksX4_isKept_0 2 rfl rfl)
theorem dX4_isKept_5 : decode cX4_isKept 5 = .ok (.ifCond .eq 21, 3) := dk_153 0 21 (dk_at dksX4_isKept_0 5 rfl rfl)
theorem dX4_isKept_8 : decode cX4_isKept 8 = .ok (.aload_n 0, 1) := dk_42 (dk_at dksX4_isKept_0 8 rfl rfl)
theorem dX4_isKept_9 : decode cX4_isKept 9 = .ok (.getfield 7, 3) := dk_180 0 7 (dk_at dksX4_isKept_0 9 rfl rfl)
theorem dX4_isKept_12 : decode cX4_isKept 12 = .ok (.iload_n 1, 1) := dk_27 (dk_at dksX4_isKept_0 12 rfl rfl)
theorem dX4_isKept_13 : decode cX4_isKept 13 = .ok (.iconst 4, 1) := dk_7 (dk_at dksX4_isKept_0 13 rfl rfl)
theorem dX4_isKept_14 : decode cX4_isKept 14 = .ok (.invokestatic 50, 3) := dk_184 0 50 (dk_at dksX4_isKept_0 14 rfl rfl)
theorem dX4_isKept_17 : decode cX4_isKept 17 = .ok (.iaload, 1) := dk_46 (dk_at dksX4_isKept_0 17 rfl rfl)
theorem dX4_isKept_18 : decode cX4_isKept 18 = .ok (.iconst 2, 1) := dk_5 (dk_at dksX4_isKept_0 18 rfl rfl)
theorem dX4_isKept_19 : decode cX4_isKept 19 = .ok (.if_icmp .ge 7, 3) := dk_162 0 7 (dk_at dksX4_isKept_0 19 rfl rfl)
theorem dX4_isKept_22 : decode cX4_isKept 22 = .ok (.iconst 1, 1) := dk_4 (dk_at dksX4_isKept_0 22 rfl rfl)
theorem dX4_isKept_23 : decode cX4_isKept 23 = .ok (.goto 4, 3) := dk_167 0 4 (dk_at dksX4_isKept_1 0 rfl rfl)
theorem dX4_isKept_26 : decode cX4_isKept 26 = .ok (.iconst 0, 1) := dk_3 (dk_at dksX4_isKept_1 3 rfl rfl)
theorem dX4_isKept_27 : decode cX4_isKept 27 = .ok (.ireturn, 1) := dk_172 (dk_at dksX4_isKept_1 4 rfl rfl)
abbrev cX4_isCow : ByteArray := prog_15_method_6_code
def yX4_isCow : MethodName := ⟨RX4, "isCow", "(I)Z"⟩
def dkwX4_isCow_0 : List UInt8 := [27, 3, 42, 180, 0, 7, 16, 7, 46, 4, 100, 184, 0, 42, 172]
abbrev dktX4_isCow_0 : List UInt8 := dkwX4_isCow_0 ++ []
theorem dksX4_isCow_0 : cX4_isCow.data.toList.drop 0 = dktX4_isCow_0 := by decide +kernel
theorem dX4_isCow_0 : decode cX4_isCow 0 = .ok (.iload_n 1, 1) := dk_27 (dk_at dksX4_isCow_0 0 rfl rfl)
theorem dX4_isCow_1 : decode cX4_isCow 1 = .ok (.iconst 0, 1) := dk_3 (dk_at dksX4_isCow_0 1 rfl rfl)
theorem dX4_isCow_2 : decode cX4_isCow 2 = .ok (.aload_n 0, 1) := dk_42 (dk_at dksX4_isCow_0 2 rfl rfl)
theorem dX4_isCow_3 : decode cX4_isCow 3 = .ok (.getfield 7, 3) := dk_180 0 7 (dk_at dksX4_isCow_0 3 rfl rfl)
theorem dX4_isCow_6 : decode cX4_isCow 6 = .ok (.bipush 7, 2) := dk_16 7 (dk_at dksX4_isCow_0 6 rfl rfl)
theorem dX4_isCow_8 : decode cX4_isCow 8 = .ok (.iaload, 1) := dk_46 (dk_at dksX4_isCow_0 8 rfl rfl)
theorem dX4_isCow_9 : decode cX4_isCow 9 = .ok (.iconst 1, 1) := dk_4 (dk_at dksX4_isCow_0 9 rfl rfl)
theorem dX4_isCow_10 : decode cX4_isCow 10 = .ok (.isub, 1) := dk_100 (dk_at dksX4_isCow_0 10 rfl rfl)
theorem dX4_isCow_11 : decode cX4_isCow 11 = .ok (.invokestatic 42, 3) := dk_184 0 42 (dk_at dksX4_isCow_0 11 rfl rfl)
theorem dX4_isCow_14 : decode cX4_isCow 14 = .ok (.ireturn, 1) := dk_172 (dk_at dksX4_isCow_0 14 rfl rfl)
abbrev cX4_isCarrying : ByteArray := prog_15_method_9_code
def yX4_isCarrying : MethodName := ⟨RX4, "isCarrying", "(I)Z"⟩
def dkwX4_isCarrying_1 : List UInt8 := [46, 155, 0, 7, 4, 167, 0, 4, 3, 172]
abbrev dktX4_isCarrying_1 : List UInt8 := dkwX4_isCarrying_1 ++ []
def dkwX4_isCarrying_0 : List UInt8 := [42, 180, 0, 7, 27, 7, 184, 0, 50, 46, 5, 162, 0, 21, 42, 180, 0, 7, 27, 16, 6, 184, 0, 50]
abbrev dktX4_isCarrying_0 : List UInt8 := dkwX4_isCarrying_0 ++ dktX4_isCarrying_1
theorem dksX4_isCarrying_0 : cX4_isCarrying.data.toList.drop 0 = dktX4_isCarrying_0 := by decide +kernel
theorem dksX4_isCarrying_1 : cX4_isCarrying.data.toList.drop 24 = dktX4_isCarrying_1 := dk_seg dksX4_isCarrying_0 24 rfl rfl
theorem dX4_isCarrying_0 : decode cX4_isCarrying 0 = .ok (.aload_n 0, 1) := dk_42 (dk_at dksX4_isCarrying_0 0 rfl rfl)
theorem dX4_isCarrying_1 : decode cX4_isCarrying 1 = .ok (.getfield 7, 3) := dk_180 0 7 (dk_at dksX4_isCarrying_0 1 rfl rfl)
theorem dX4_isCarrying_4 : decode cX4_isCarrying 4 = .ok (.iload_n 1, 1) := dk_27 (dk_at dksX4_isCarrying_0 4 rfl rfl)
theorem dX4_isCarrying_5 : decode cX4_isCarrying 5 = .ok (.iconst 4, 1) := dk_7 (dk_at dksX4_isCarrying_0 5 rfl rfl)
theorem dX4_isCarrying_6 : decode cX4_isCarrying 6 = .ok (.invokestatic 50, 3) := dk_184 0 50 (dk_at dksX4_isCarrying_0 6 rfl rfl)
theorem dX4_isCarrying_9 : decode cX4_isCarrying 9 = .ok (.iaload, 1) := dk_46 (dk_at dksX4_isCarrying_0 9 rfl rfl)
theorem dX4_isCarrying_10 : decode cX4_isCarrying 10 = .ok (.iconst 2, 1) := dk_5 (dk_at dksX4_isCarrying_0 10 rfl rfl)
theorem dX4_isCarrying_11 : decode cX4_isCarrying 11 = .ok (.if_icmp .ge 21, 3) := dk_162 0 21 (dk_at dksX4_isCarrying_0 11 rfl rfl)
theorem dX4_isCarrying_14 : decode cX4_isCarrying 14 = .ok (.aload_n 0, 1) := dk_42 (dk_at dksX4_isCarrying_0 14 rfl rfl)
theorem dX4_isCarrying_15 : decode cX4_isCarrying 15 = .ok (.getfield 7, 3) := dk_180 0 7 (dk_at dksX4_isCarrying_0 15 rfl rfl)
theorem dX4_isCarrying_18 : decode cX4_isCarrying 18 = .ok (.iload_n 1, 1) := dk_27 (dk_at dksX4_isCarrying_0 18 rfl rfl)
theorem dX4_isCarrying_19 : decode cX4_isCarrying 19 = .ok (.bipush 6, 2) := dk_16 6 (dk_at dksX4_isCarrying_0 19 rfl rfl)
theorem dX4_isCarrying_21 : decode cX4_isCarrying 21 = .ok (.invokestatic 50, 3) := dk_184 0 50 (dk_at dksX4_isCarrying_0 21 rfl rfl)
theorem dX4_isCarrying_24 : decode cX4_isCarrying 24 = .ok (.iaload, 1) := dk_46 (dk_at dksX4_isCarrying_1 0 rfl rfl)
theorem dX4_isCarrying_25 : decode cX4_isCarrying 25 = .ok (.ifCond .lt 7, 3) := dk_155 0 7 (dk_at dksX4_isCarrying_1 1 rfl rfl)
theorem dX4_isCarrying_28 : decode cX4_isCarrying 28 = .ok (.iconst 1, 1) := dk_4 (dk_at dksX4_isCarrying_1 4 rfl rfl)
theorem dX4_isCarrying_29 : decode cX4_isCarrying 29 = .ok (.goto 4, 3) := dk_167 0 4 (dk_at dksX4_isCarrying_1 5 rfl rfl)
theorem dX4_isCarrying_32 : decode cX4_isCarrying 32 = .ok (.iconst 0, 1) := dk_3 (dk_at dksX4_isCarrying_1 8 rfl rfl)
theorem dX4_isCarrying_33 : decode cX4_isCarrying 33 = .ok (.ireturn, 1) := dk_172 (dk_at dksX4_isCarrying_1 9 rfl rfl)
abbrev cX4_isMilked : ByteArray := prog_15_method_8_code
def yX4_isMilked : MethodName := ⟨RX4, "isMilked", "(I)Z"⟩
def dkwX4_isMilked_0 : List UInt8 := [42, 180, 0, 7, 27, 7, 184, 0, 50, 46, 4, 160, 0, 7, 4, 167, 0, 4, 3, 172]
abbrev dktX4_isMilked_0 : List UInt8 := dkwX4_isMilked_0 ++ []
theorem dksX4_isMilked_0 : cX4_isMilked.data.toList.drop 0 = dktX4_isMilked_0 := by decide +kernel
theorem dX4_isMilked_0 : decode cX4_isMilked 0 = .ok (.aload_n 0, 1) := dk_42 (dk_at dksX4_isMilked_0 0 rfl rfl)
theorem dX4_isMilked_1 : decode cX4_isMilked 1 = .ok (.getfield 7, 3) := dk_180 0 7 (dk_at dksX4_isMilked_0 1 rfl rfl)
theorem dX4_isMilked_4 : decode cX4_isMilked 4 = .ok (.iload_n 1, 1) := dk_27 (dk_at dksX4_isMilked_0 4 rfl rfl)
theorem dX4_isMilked_5 : decode cX4_isMilked 5 = .ok (.iconst 4, 1) := dk_7 (dk_at dksX4_isMilked_0 5 rfl rfl)
theorem dX4_isMilked_6 : decode cX4_isMilked 6 = .ok (.invokestatic 50, 3) := dk_184 0 50 (dk_at dksX4_isMilked_0 6 rfl rfl)
theorem dX4_isMilked_9 : decode cX4_isMilked 9 = .ok (.iaload, 1) := dk_46 (dk_at dksX4_isMilked_0 9 rfl rfl)
theorem dX4_isMilked_10 : decode cX4_isMilked 10 = .ok (.iconst 1, 1) := dk_4 (dk_at dksX4_isMilked_0 10 rfl rfl)
theorem dX4_isMilked_11 : decode cX4_isMilked 11 = .ok (.if_icmp .ne 7, 3) := dk_160 0 7 (dk_at dksX4_isMilked_0 11 rfl rfl)
theorem dX4_isMilked_14 : decode cX4_isMilked 14 = .ok (.iconst 1, 1) := dk_4 (dk_at dksX4_isMilked_0 14 rfl rfl)
theorem dX4_isMilked_15 : decode cX4_isMilked 15 = .ok (.goto 4, 3) := dk_167 0 4 (dk_at dksX4_isMilked_0 15 rfl rfl)
theorem dX4_isMilked_18 : decode cX4_isMilked 18 = .ok (.iconst 0, 1) := dk_3 (dk_at dksX4_isMilked_0 18 rfl rfl)
theorem dX4_isMilked_19 : decode cX4_isMilked 19 = .ok (.ireturn, 1) := dk_172 (dk_at dksX4_isMilked_0 19 rfl rfl)
abbrev cX4_inMilk : ByteArray := prog_15_method_19_code
def yX4_inMilk : MethodName := ⟨RX4, "inMilk", "(I)I"⟩
def dkwX4_inMilk_0 : List UInt8 := [42, 180, 0, 7, 3, 46, 42, 180, 0, 7, 27, 8, 184, 0, 50, 46, 100, 172]
abbrev dktX4_inMilk_0 : List UInt8 := dkwX4_inMilk_0 ++ []
theorem dksX4_inMilk_0 : cX4_inMilk.data.toList.drop 0 = dktX4_inMilk_0 := by decide +kernel
theorem dX4_inMilk_0 : decode cX4_inMilk 0 = .ok (.aload_n 0, 1) := dk_42 (dk_at dksX4_inMilk_0 0 rfl rfl)
theorem dX4_inMilk_1 : decode cX4_inMilk 1 = .ok (.getfield 7, 3) := dk_180 0 7 (dk_at dksX4_inMilk_0 1 rfl rfl)
theorem dX4_inMilk_4 : decode cX4_inMilk 4 = .ok (.iconst 0, 1) := dk_3 (dk_at dksX4_inMilk_0 4 rfl rfl)
theorem dX4_inMilk_5 : decode cX4_inMilk 5 = .ok (.iaload, 1) := dk_46 (dk_at dksX4_inMilk_0 5 rfl rfl)
theorem dX4_inMilk_6 : decode cX4_inMilk 6 = .ok (.aload_n 0, 1) := dk_42 (dk_at dksX4_inMilk_0 6 rfl rfl)
theorem dX4_inMilk_7 : decode cX4_inMilk 7 = .ok (.getfield 7, 3) := dk_180 0 7 (dk_at dksX4_inMilk_0 7 rfl rfl)
theorem dX4_inMilk_10 : decode cX4_inMilk 10 = .ok (.iload_n 1, 1) := dk_27 (dk_at dksX4_inMilk_0 10 rfl rfl)
theorem dX4_inMilk_11 : decode cX4_inMilk 11 = .ok (.iconst 5, 1) := dk_8 (dk_at dksX4_inMilk_0 11 rfl rfl)
theorem dX4_inMilk_12 : decode cX4_inMilk 12 = .ok (.invokestatic 50, 3) := dk_184 0 50 (dk_at dksX4_inMilk_0 12 rfl rfl)
theorem dX4_inMilk_15 : decode cX4_inMilk 15 = .ok (.iaload, 1) := dk_46 (dk_at dksX4_inMilk_0 15 rfl rfl)
theorem dX4_inMilk_16 : decode cX4_inMilk 16 = .ok (.isub, 1) := dk_100 (dk_at dksX4_inMilk_0 16 rfl rfl)
theorem dX4_inMilk_17 : decode cX4_inMilk 17 = .ok (.ireturn, 1) := dk_172 (dk_at dksX4_inMilk_0 17 rfl rfl)
abbrev cX4_fails : ByteArray := prog_15_method_3_code
def yX4_fails : MethodName := ⟨RX4, "fails", "(I)I"⟩
def dkwX4_fails_0 : List UInt8 := [42, 27, 181, 0, 39, 3, 172]
abbrev dktX4_fails_0 : List UInt8 := dkwX4_fails_0 ++ []
theorem dksX4_fails_0 : cX4_fails.data.toList.drop 0 = dktX4_fails_0 := by decide +kernel
theorem dX4_fails_0 : decode cX4_fails 0 = .ok (.aload_n 0, 1) := dk_42 (dk_at dksX4_fails_0 0 rfl rfl)
theorem dX4_fails_1 : decode cX4_fails 1 = .ok (.iload_n 1, 1) := dk_27 (dk_at dksX4_fails_0 1 rfl rfl)
theorem dX4_fails_2 : decode cX4_fails 2 = .ok (.putfield 39, 3) := dk_181 0 39 (dk_at dksX4_fails_0 2 rfl rfl)
theorem dX4_fails_5 : decode cX4_fails 5 = .ok (.iconst 0, 1) := dk_3 (dk_at dksX4_fails_0 5 rfl rfl)
theorem dX4_fails_6 : decode cX4_fails 6 = .ok (.ireturn, 1) := dk_172 (dk_at dksX4_fails_0 6 rfl rfl)
abbrev cX4_does : ByteArray := prog_15_method_24_code
def yX4_does : MethodName := ⟨RX4, "does", "(III)I"⟩
def dkwX4_does_9 : List UInt8 := [182, 0, 89, 172, 42, 28, 29, 182, 0, 93, 172]
abbrev dktX4_does_9 : List UInt8 := dkwX4_does_9 ++ []
def dkwX4_does_8 : List UInt8 := [28, 7, 184, 0, 50, 3, 79, 21, 4, 172, 42, 180, 0, 7, 28, 7, 184, 0, 50, 5, 79, 42]
abbrev dktX4_does_8 : List UInt8 := dkwX4_does_8 ++ dktX4_does_9
def dkwX4_does_7 : List UInt8 := [79, 42, 180, 0, 7, 28, 16, 6, 184, 0, 50, 46, 172, 42, 28, 182, 0, 86, 54, 4, 42, 180, 0, 7]
abbrev dktX4_does_7 : List UInt8 := dkwX4_does_7 ++ dktX4_does_8
def dkwX4_does_6 : List UInt8 := [172, 42, 180, 0, 7, 28, 16, 6, 184, 0, 50, 42, 180, 0, 7, 3, 46, 42, 180, 0, 7, 4, 46, 96]
abbrev dktX4_does_6 : List UInt8 := dkwX4_does_6 ++ dktX4_does_7
def dkwX4_does_5 : List UInt8 := [180, 0, 7, 28, 5, 184, 0, 50, 46, 54, 4, 42, 180, 0, 7, 28, 5, 184, 0, 50, 29, 79, 21, 4]
abbrev dktX4_does_5 : List UInt8 := dkwX4_does_5 ++ dktX4_does_6
def dkwX4_does_4 : List UInt8 := [42, 180, 0, 7, 3, 46, 29, 96, 79, 42, 180, 0, 7, 28, 16, 7, 184, 0, 50, 46, 172, 42]
abbrev dktX4_does_4 : List UInt8 := dkwX4_does_4 ++ dktX4_does_5
def dkwX4_does_3 : List UInt8 := [180, 0, 7, 3, 46, 29, 96, 164, 0, 17, 42, 180, 0, 7, 28, 16, 7, 184, 0, 50, 46, 167, 0, 11]
abbrev dktX4_does_3 : List UInt8 := dkwX4_does_3 ++ dktX4_does_4
def dkwX4_does_2 : List UInt8 := [42, 180, 0, 7, 28, 16, 7, 184, 0, 50, 42, 180, 0, 7, 28, 16, 7, 184, 0, 50, 46, 42]
abbrev dktX4_does_2 : List UInt8 := dkwX4_does_2 ++ dktX4_does_3
def dkwX4_does_1 : List UInt8 := [170, 0, 0, 0, 0, 0, 201, 0, 0, 0, 0, 0, 0, 0, 4, 0, 0, 0, 35, 0, 0, 0, 102, 0, 0, 0, 128, 0, 0, 0, 164, 0, 0, 0, 185]
abbrev dktX4_does_1 : List UInt8 := dkwX4_does_1 ++ dktX4_does_2
def dkwX4_does_0 : List UInt8 := [27]
abbrev dktX4_does_0 : List UInt8 := dkwX4_does_0 ++ dktX4_does_1
theorem dksX4_does_0 : cX4_does.data.toList.drop 0 = dktX4_does_0 := by decide +kernel
theorem dksX4_does_1 : cX4_does.data.toList.drop 1 = dktX4_does_1 := dk_seg dksX4_does_0 1 rfl rfl
theorem dksX4_does_2 : cX4_does.data.toList.drop 36 = dktX4_does_2 := dk_seg dksX4_does_1 35 rfl rfl
theorem dksX4_does_3 : cX4_does.data.toList.drop 58 = dktX4_does_3 := dk_seg dksX4_does_2 22 rfl rfl
theorem dksX4_does_4 : cX4_does.data.toList.drop 82 = dktX4_does_4 := dk_seg dksX4_does_3 24 rfl rfl
theorem dksX4_does_5 : cX4_does.data.toList.drop 104 = dktX4_does_5 := dk_seg dksX4_does_4 22 rfl rfl
theorem dksX4_does_6 : cX4_does.data.toList.drop 128 = dktX4_does_6 := dk_seg dksX4_does_5 24 rfl rfl
theorem dksX4_does_7 : cX4_does.data.toList.drop 152 = dktX4_does_7 := dk_seg dksX4_does_6 24 rfl rfl
theorem dksX4_does_8 : cX4_does.data.toList.drop 176 = dktX4_does_8 := dk_seg dksX4_does_7 24 rfl rfl
theorem dksX4_does_9 : cX4_does.data.toList.drop 198 = dktX4_does_9 := dk_seg dksX4_does_8 22 rfl rfl
theorem dX4_does_0 : decode cX4_does 0 = .ok (.iload_n 1, 1) := dk_27 (dk_at dksX4_does_0 0 rfl rfl)
theorem dX4_does_1 : decode cX4_does 1 = .ok (.tableswitch 201 0 4 #[35, 102, 128, 164, 185], 35) := by decide +kernel
theorem dX4_does_36 : decode cX4_does 36 = .ok (.aload_n 0, 1) := dk_42 (dk_at dksX4_does_2 0 rfl rfl)
theorem dX4_does_37 : decode cX4_does 37 = .ok (.getfield 7, 3) := dk_180 0 7 (dk_at dksX4_does_2 1 rfl rfl)
theorem dX4_does_40 : decode cX4_does 40 = .ok (.iload_n 2, 1) := dk_28 (dk_at dksX4_does_2 4 rfl rfl)
theorem dX4_does_41 : decode cX4_does 41 = .ok (.bipush 7, 2) := dk_16 7 (dk_at dksX4_does_2 5 rfl rfl)
theorem dX4_does_43 : decode cX4_does 43 = .ok (.invokestatic 50, 3) := dk_184 0 50 (dk_at dksX4_does_2 7 rfl rfl)
theorem dX4_does_46 : decode cX4_does 46 = .ok (.aload_n 0, 1) := dk_42 (dk_at dksX4_does_2 10 rfl rfl)
theorem dX4_does_47 : decode cX4_does 47 = .ok (.getfield 7, 3) := dk_180 0 7 (dk_at dksX4_does_2 11 rfl rfl)
theorem dX4_does_50 : decode cX4_does 50 = .ok (.iload_n 2, 1) := dk_28 (dk_at dksX4_does_2 14 rfl rfl)
theorem dX4_does_51 : decode cX4_does 51 = .ok (.bipush 7, 2) := dk_16 7 (dk_at dksX4_does_2 15 rfl rfl)
theorem dX4_does_53 : decode cX4_does 53 = .ok (.invokestatic 50, 3) := dk_184 0 50 (dk_at dksX4_does_2 17 rfl rfl)
theorem dX4_does_56 : decode cX4_does 56 = .ok (.iaload, 1) := dk_46 (dk_at dksX4_does_2 20 rfl rfl)
theorem dX4_does_57 : decode cX4_does 57 = .ok (.aload_n 0, 1) := dk_42 (dk_at dksX4_does_2 21 rfl rfl)
theorem dX4_does_58 : decode cX4_does 58 = .ok (.getfield 7, 3) := dk_180 0 7 (dk_at dksX4_does_3 0 rfl rfl)
theorem dX4_does_61 : decode cX4_does 61 = .ok (.iconst 0, 1) := dk_3 (dk_at dksX4_does_3 3 rfl rfl)
theorem dX4_does_62 : decode cX4_does 62 = .ok (.iaload, 1) := dk_46 (dk_at dksX4_does_3 4 rfl rfl)
theorem dX4_does_63 : decode cX4_does 63 = .ok (.iload_n 3, 1) := dk_29 (dk_at dksX4_does_3 5 rfl rfl)
theorem dX4_does_64 : decode cX4_does 64 = .ok (.iadd, 1) := dk_96 (dk_at dksX4_does_3 6 rfl rfl)
theorem dX4_does_65 : decode cX4_does 65 = .ok (.if_icmp .le 17, 3) := dk_164 0 17 (dk_at dksX4_does_3 7 rfl rfl)
theorem dX4_does_68 : decode cX4_does 68 = .ok (.aload_n 0, 1) := dk_42 (dk_at dksX4_does_3 10 rfl rfl)
theorem dX4_does_69 : decode cX4_does 69 = .ok (.getfield 7, 3) := dk_180 0 7 (dk_at dksX4_does_3 11 rfl rfl)
theorem dX4_does_72 : decode cX4_does 72 = .ok (.iload_n 2, 1) := dk_28 (dk_at dksX4_does_3 14 rfl rfl)
theorem dX4_does_73 : decode cX4_does 73 = .ok (.bipush 7, 2) := dk_16 7 (dk_at dksX4_does_3 15 rfl rfl)
theorem dX4_does_75 : decode cX4_does 75 = .ok (.invokestatic 50, 3) := dk_184 0 50 (dk_at dksX4_does_3 17 rfl rfl)
theorem dX4_does_78 : decode cX4_does 78 = .ok (.iaload, 1) := dk_46 (dk_at dksX4_does_3 20 rfl rfl)
theorem dX4_does_79 : decode cX4_does 79 = .ok (.goto 11, 3) := dk_167 0 11 (dk_at dksX4_does_3 21 rfl rfl)
theorem dX4_does_82 : decode cX4_does 82 = .ok (.aload_n 0, 1) := dk_42 (dk_at dksX4_does_4 0 rfl rfl)
theorem dX4_does_83 : decode cX4_does 83 = .ok (.getfield 7, 3) := dk_180 0 7 (dk_at dksX4_does_4 1 rfl rfl)
theorem dX4_does_86 : decode cX4_does 86 = .ok (.iconst 0, 1) := dk_3 (dk_at dksX4_does_4 4 rfl rfl)
theorem dX4_does_87 : decode cX4_does 87 = .ok (.iaload, 1) := dk_46 (dk_at dksX4_does_4 5 rfl rfl)
theorem dX4_does_88 : decode cX4_does 88 = .ok (.iload_n 3, 1) := dk_29 (dk_at dksX4_does_4 6 rfl rfl)
theorem dX4_does_89 : decode cX4_does 89 = .ok (.iadd, 1) := dk_96 (dk_at dksX4_does_4 7 rfl rfl)
theorem dX4_does_90 : decode cX4_does 90 = .ok (.iastore, 1) := dk_79 (dk_at dksX4_does_4 8 rfl rfl)
theorem dX4_does_91 : decode cX4_does 91 = .ok (.aload_n 0, 1) := dk_42 (dk_at dksX4_does_4 9 rfl rfl)
theorem dX4_does_92 : decode cX4_does 92 = .ok (.getfield 7, 3) := dk_180 0 7 (dk_at dksX4_does_4 10 rfl rfl)
theorem dX4_does_95 : decode cX4_does 95 = .ok (.iload_n 2, 1) := dk_28 (dk_at dksX4_does_4 13 rfl rfl)
theorem dX4_does_96 : decode cX4_does 96 = .ok (.bipush 7, 2) := dk_16 7 (dk_at dksX4_does_4 14 rfl rfl)
theorem dX4_does_98 : decode cX4_does 98 = .ok (.invokestatic 50, 3) := dk_184 0 50 (dk_at dksX4_does_4 16 rfl rfl)
theorem dX4_does_101 : decode cX4_does 101 = .ok (.iaload, 1) := dk_46 (dk_at dksX4_does_4 19 rfl rfl)
theorem dX4_does_102 : decode cX4_does 102 = .ok (.ireturn, 1) := dk_172 (dk_at dksX4_does_4 20 rfl rfl)
theorem dX4_does_103 : decode cX4_does 103 = .ok (.aload_n 0, 1) := dk_42 (dk_at dksX4_does_4 21 rfl rfl)
theorem dX4_does_104 : decode cX4_does 104 = .ok (.getfield 7, 3) := dk_180 0 7 (dk_at dksX4_does_5 0 rfl rfl)
theorem dX4_does_107 : decode cX4_does 107 = .ok (.iload_n 2, 1) := dk_28 (dk_at dksX4_does_5 3 rfl rfl)
theorem dX4_does_108 : decode cX4_does 108 = .ok (.iconst 2, 1) := dk_5 (dk_at dksX4_does_5 4 rfl rfl)
theorem dX4_does_109 : decode cX4_does 109 = .ok (.invokestatic 50, 3) := dk_184 0 50 (dk_at dksX4_does_5 5 rfl rfl)
theorem dX4_does_112 : decode cX4_does 112 = .ok (.iaload, 1) := dk_46 (dk_at dksX4_does_5 8 rfl rfl)
theorem dX4_does_113 : decode cX4_does 113 = .ok (.istore 4, 2) := dk_54 4 (dk_at dksX4_does_5 9 rfl rfl)
theorem dX4_does_115 : decode cX4_does 115 = .ok (.aload_n 0, 1) := dk_42 (dk_at dksX4_does_5 11 rfl rfl)
theorem dX4_does_116 : decode cX4_does 116 = .ok (.getfield 7, 3) := dk_180 0 7 (dk_at dksX4_does_5 12 rfl rfl)
theorem dX4_does_119 : decode cX4_does 119 = .ok (.iload_n 2, 1) := dk_28 (dk_at dksX4_does_5 15 rfl rfl)
theorem dX4_does_120 : decode cX4_does 120 = .ok (.iconst 2, 1) := dk_5 (dk_at dksX4_does_5 16 rfl rfl)
theorem dX4_does_121 : decode cX4_does 121 = .ok (.invokestatic 50, 3) := dk_184 0 50 (dk_at dksX4_does_5 17 rfl rfl)
theorem dX4_does_124 : decode cX4_does 124 = .ok (.iload_n 3, 1) := dk_29 (dk_at dksX4_does_5 20 rfl rfl)
theorem dX4_does_125 : decode cX4_does 125 = .ok (.iastore, 1) := dk_79 (dk_at dksX4_does_5 21 rfl rfl)
theorem dX4_does_126 : decode cX4_does 126 = .ok (.iload 4, 2) := dk_21 4 (dk_at dksX4_does_5 22 rfl rfl)
theorem dX4_does_128 : decode cX4_does 128 = .ok (.ireturn, 1) := dk_172 (dk_at dksX4_does_6 0 rfl rfl)
theorem dX4_does_129 : decode cX4_does 129 = .ok (.aload_n 0, 1) := dk_42 (dk_at dksX4_does_6 1 rfl rfl)
theorem dX4_does_130 : decode cX4_does 130 = .ok (.getfield 7, 3) := dk_180 0 7 (dk_at dksX4_does_6 2 rfl rfl)
theorem dX4_does_133 : decode cX4_does 133 = .ok (.iload_n 2, 1) := dk_28 (dk_at dksX4_does_6 5 rfl rfl)
theorem dX4_does_134 : decode cX4_does 134 = .ok (.bipush 6, 2) := dk_16 6 (dk_at dksX4_does_6 6 rfl rfl)
theorem dX4_does_136 : decode cX4_does 136 = .ok (.invokestatic 50, 3) := dk_184 0 50 (dk_at dksX4_does_6 8 rfl rfl)
theorem dX4_does_139 : decode cX4_does 139 = .ok (.aload_n 0, 1) := dk_42 (dk_at dksX4_does_6 11 rfl rfl)
theorem dX4_does_140 : decode cX4_does 140 = .ok (.getfield 7, 3) := dk_180 0 7 (dk_at dksX4_does_6 12 rfl rfl)
theorem dX4_does_143 : decode cX4_does 143 = .ok (.iconst 0, 1) := dk_3 (dk_at dksX4_does_6 15 rfl rfl)
theorem dX4_does_144 : decode cX4_does 144 = .ok (.iaload, 1) := dk_46 (dk_at dksX4_does_6 16 rfl rfl)
theorem dX4_does_145 : decode cX4_does 145 = .ok (.aload_n 0, 1) := dk_42 (dk_at dksX4_does_6 17 rfl rfl)
theorem dX4_does_146 : decode cX4_does 146 = .ok (.getfield 7, 3) := dk_180 0 7 (dk_at dksX4_does_6 18 rfl rfl)
theorem dX4_does_149 : decode cX4_does 149 = .ok (.iconst 1, 1) := dk_4 (dk_at dksX4_does_6 21 rfl rfl)
theorem dX4_does_150 : decode cX4_does 150 = .ok (.iaload, 1) := dk_46 (dk_at dksX4_does_6 22 rfl rfl)
theorem dX4_does_151 : decode cX4_does 151 = .ok (.iadd, 1) := dk_96 (dk_at dksX4_does_6 23 rfl rfl)
theorem dX4_does_152 : decode cX4_does 152 = .ok (.iastore, 1) := dk_79 (dk_at dksX4_does_7 0 rfl rfl)
theorem dX4_does_153 : decode cX4_does 153 = .ok (.aload_n 0, 1) := dk_42 (dk_at dksX4_does_7 1 rfl rfl)
theorem dX4_does_154 : decode cX4_does 154 = .ok (.getfield 7, 3) := dk_180 0 7 (dk_at dksX4_does_7 2 rfl rfl)
theorem dX4_does_157 : decode cX4_does 157 = .ok (.iload_n 2, 1) := dk_28 (dk_at dksX4_does_7 5 rfl rfl)
theorem dX4_does_158 : decode cX4_does 158 = .ok (.bipush 6, 2) := dk_16 6 (dk_at dksX4_does_7 6 rfl rfl)
theorem dX4_does_160 : decode cX4_does 160 = .ok (.invokestatic 50, 3) := dk_184 0 50 (dk_at dksX4_does_7 8 rfl rfl)
theorem dX4_does_163 : decode cX4_does 163 = .ok (.iaload, 1) := dk_46 (dk_at dksX4_does_7 11 rfl rfl)
theorem dX4_does_164 : decode cX4_does 164 = .ok (.ireturn, 1) := dk_172 (dk_at dksX4_does_7 12 rfl rfl)
theorem dX4_does_165 : decode cX4_does 165 = .ok (.aload_n 0, 1) := dk_42 (dk_at dksX4_does_7 13 rfl rfl)
theorem dX4_does_166 : decode cX4_does 166 = .ok (.iload_n 2, 1) := dk_28 (dk_at dksX4_does_7 14 rfl rfl)
theorem dX4_does_167 : decode cX4_does 167 = .ok (.invokevirtual 86, 3) := dk_182 0 86 (dk_at dksX4_does_7 15 rfl rfl)
theorem dX4_does_170 : decode cX4_does 170 = .ok (.istore 4, 2) := dk_54 4 (dk_at dksX4_does_7 18 rfl rfl)
theorem dX4_does_172 : decode cX4_does 172 = .ok (.aload_n 0, 1) := dk_42 (dk_at dksX4_does_7 20 rfl rfl)
theorem dX4_does_173 : decode cX4_does 173 = .ok (.getfield 7, 3) := dk_180 0 7 (dk_at dksX4_does_7 21 rfl rfl)
theorem dX4_does_176 : decode cX4_does 176 = .ok (.iload_n 2, 1) := dk_28 (dk_at dksX4_does_8 0 rfl rfl)
theorem dX4_does_177 : decode cX4_does 177 = .ok (.iconst 4, 1) := dk_7 (dk_at dksX4_does_8 1 rfl rfl)
theorem dX4_does_178 : decode cX4_does 178 = .ok (.invokestatic 50, 3) := dk_184 0 50 (dk_at dksX4_does_8 2 rfl rfl)
theorem dX4_does_181 : decode cX4_does 181 = .ok (.iconst 0, 1) := dk_3 (dk_at dksX4_does_8 5 rfl rfl)
theorem dX4_does_182 : decode cX4_does 182 = .ok (.iastore, 1) := dk_79 (dk_at dksX4_does_8 6 rfl rfl)
theorem dX4_does_183 : decode cX4_does 183 = .ok (.iload 4, 2) := dk_21 4 (dk_at dksX4_does_8 7 rfl rfl)
theorem dX4_does_185 : decode cX4_does 185 = .ok (.ireturn, 1) := dk_172 (dk_at dksX4_does_8 9 rfl rfl)
theorem dX4_does_186 : decode cX4_does 186 = .ok (.aload_n 0, 1) := dk_42 (dk_at dksX4_does_8 10 rfl rfl)
theorem dX4_does_187 : decode cX4_does 187 = .ok (.getfield 7, 3) := dk_180 0 7 (dk_at dksX4_does_8 11 rfl rfl)
theorem dX4_does_190 : decode cX4_does 190 = .ok (.iload_n 2, 1) := dk_28 (dk_at dksX4_does_8 14 rfl rfl)
theorem dX4_does_191 : decode cX4_does 191 = .ok (.iconst 4, 1) := dk_7 (dk_at dksX4_does_8 15 rfl rfl)
theorem dX4_does_192 : decode cX4_does 192 = .ok (.invokestatic 50, 3) := dk_184 0 50 (dk_at dksX4_does_8 16 rfl rfl)
theorem dX4_does_195 : decode cX4_does 195 = .ok (.iconst 2, 1) := dk_5 (dk_at dksX4_does_8 19 rfl rfl)
theorem dX4_does_196 : decode cX4_does 196 = .ok (.iastore, 1) := dk_79 (dk_at dksX4_does_8 20 rfl rfl)
theorem dX4_does_197 : decode cX4_does 197 = .ok (.aload_n 0, 1) := dk_42 (dk_at dksX4_does_8 21 rfl rfl)
theorem dX4_does_198 : decode cX4_does 198 = .ok (.invokevirtual 89, 3) := dk_182 0 89 (dk_at dksX4_does_9 0 rfl rfl)
theorem dX4_does_201 : decode cX4_does 201 = .ok (.ireturn, 1) := dk_172 (dk_at dksX4_does_9 3 rfl rfl)
theorem dX4_does_202 : decode cX4_does 202 = .ok (.aload_n 0, 1) := dk_42 (dk_at dksX4_does_9 4 rfl rfl)
theorem dX4_does_203 : decode cX4_does 203 = .ok (.iload_n 2, 1) := dk_28 (dk_at dksX4_does_9 5 rfl rfl)
theorem dX4_does_204 : decode cX4_does 204 = .ok (.iload_n 3, 1) := dk_29 (dk_at dksX4_does_9 6 rfl rfl)
theorem dX4_does_205 : decode cX4_does 205 = .ok (.invokevirtual 93, 3) := dk_182 0 93 (dk_at dksX4_does_9 7 rfl rfl)
theorem dX4_does_208 : decode cX4_does 208 = .ok (.ireturn, 1) := dk_172 (dk_at dksX4_does_9 10 rfl rfl)
abbrev cX4_herd : ByteArray := prog_15_method_22_code
def yX4_herd : MethodName := ⟨RX4, "herd", "()I"⟩
def dkwX4_herd_1 : List UInt8 := [4, 167, 0, 4, 3, 96, 60, 132, 2, 1, 167, 255, 226, 27, 172]
abbrev dktX4_herd_1 : List UInt8 := dkwX4_herd_1 ++ []
def dkwX4_herd_0 : List UInt8 := [3, 60, 3, 61, 28, 42, 180, 0, 7, 16, 7, 46, 162, 0, 25, 27, 42, 28, 182, 0, 77, 153, 0, 7]
abbrev dktX4_herd_0 : List UInt8 := dkwX4_herd_0 ++ dktX4_herd_1
theorem dksX4_herd_0 : cX4_herd.data.toList.drop 0 = dktX4_herd_0 := by decide +kernel
theorem dksX4_herd_1 : cX4_herd.data.toList.drop 24 = dktX4_herd_1 := dk_seg dksX4_herd_0 24 rfl rfl
theorem dX4_herd_0 : decode cX4_herd 0 = .ok (.iconst 0, 1) := dk_3 (dk_at dksX4_herd_0 0 rfl rfl)
theorem dX4_herd_1 : decode cX4_herd 1 = .ok (.istore_n 1, 1) := dk_60 (dk_at dksX4_herd_0 1 rfl rfl)
theorem dX4_herd_2 : decode cX4_herd 2 = .ok (.iconst 0, 1) := dk_3 (dk_at dksX4_herd_0 2 rfl rfl)
theorem dX4_herd_3 : decode cX4_herd 3 = .ok (.istore_n 2, 1) := dk_61 (dk_at dksX4_herd_0 3 rfl rfl)
theorem dX4_herd_4 : decode cX4_herd 4 = .ok (.iload_n 2, 1) := dk_28 (dk_at dksX4_herd_0 4 rfl rfl)
theorem dX4_herd_5 : decode cX4_herd 5 = .ok (.aload_n 0, 1) := dk_42 (dk_at dksX4_herd_0 5 rfl rfl)
theorem dX4_herd_6 : decode cX4_herd 6 = .ok (.getfield 7, 3) := dk_180 0 7 (dk_at dksX4_herd_0 6 rfl rfl)
theorem dX4_herd_9 : decode cX4_herd 9 = .ok (.bipush 7, 2) := dk_16 7 (dk_at dksX4_herd_0 9 rfl rfl)
theorem dX4_herd_11 : decode cX4_herd 11 = .ok (.iaload, 1) := dk_46 (dk_at dksX4_herd_0 11 rfl rfl)
theorem dX4_herd_12 : decode cX4_herd 12 = .ok (.if_icmp .ge 25, 3) := dk_162 0 25 (dk_at dksX4_herd_0 12 rfl rfl)
theorem dX4_herd_15 : decode cX4_herd 15 = .ok (.iload_n 1, 1) := dk_27 (dk_at dksX4_herd_0 15 rfl rfl)
theorem dX4_herd_16 : decode cX4_herd 16 = .ok (.aload_n 0, 1) := dk_42 (dk_at dksX4_herd_0 16 rfl rfl)
theorem dX4_herd_17 : decode cX4_herd 17 = .ok (.iload_n 2, 1) := dk_28 (dk_at dksX4_herd_0 17 rfl rfl)
theorem dX4_herd_18 : decode cX4_herd 18 = .ok (.invokevirtual 77, 3) := dk_182 0 77 (dk_at dksX4_herd_0 18 rfl rfl)
theorem dX4_herd_21 : decode cX4_herd 21 = .ok (.ifCond .eq 7, 3) := dk_153 0 7 (dk_at dksX4_herd_0 21 rfl rfl)
theorem dX4_herd_24 : decode cX4_herd 24 = .ok (.iconst 1, 1) := dk_4 (dk_at dksX4_herd_1 0 rfl rfl)
theorem dX4_herd_25 : decode cX4_herd 25 = .ok (.goto 4, 3) := dk_167 0 4 (dk_at dksX4_herd_1 1 rfl rfl)
theorem dX4_herd_28 : decode cX4_herd 28 = .ok (.iconst 0, 1) := dk_3 (dk_at dksX4_herd_1 4 rfl rfl)
theorem dX4_herd_29 : decode cX4_herd 29 = .ok (.iadd, 1) := dk_96 (dk_at dksX4_herd_1 5 rfl rfl)
theorem dX4_herd_30 : decode cX4_herd 30 = .ok (.istore_n 1, 1) := dk_60 (dk_at dksX4_herd_1 6 rfl rfl)
theorem dX4_herd_31 : decode cX4_herd 31 = .ok (.iinc 2 1, 3) := dk_132 2 1 (dk_at dksX4_herd_1 7 rfl rfl)
theorem dX4_herd_34 : decode cX4_herd 34 = .ok (.goto (-30), 3) := dk_167 255 226 (dk_at dksX4_herd_1 10 rfl rfl)
theorem dX4_herd_37 : decode cX4_herd 37 = .ok (.iload_n 1, 1) := dk_27 (dk_at dksX4_herd_1 13 rfl rfl)
theorem dX4_herd_38 : decode cX4_herd 38 = .ok (.ireturn, 1) := dk_172 (dk_at dksX4_herd_1 14 rfl rfl)
abbrev cX4_rows : ByteArray := prog_15_method_23_code
def yX4_rows : MethodName := ⟨RX4, "rows", "(II)I"⟩
def dkwX4_rows_5 : List UInt8 := [180, 0, 7, 16, 95, 5, 29, 104, 96, 4, 96, 28, 79, 42, 180, 0, 7, 16, 10, 46, 172]
abbrev dktX4_rows_5 : List UInt8 := dkwX4_rows_5 ++ []
def dkwX4_rows_4 : List UInt8 := [42, 180, 0, 7, 16, 10, 92, 46, 4, 96, 79, 42, 180, 0, 7, 16, 95, 5, 29, 104, 96, 27, 79, 42]
abbrev dktX4_rows_4 : List UInt8 := dkwX4_rows_4 ++ dktX4_rows_5
def dkwX4_rows_3 : List UInt8 := [104, 96, 4, 96, 42, 180, 0, 7, 16, 95, 5, 29, 104, 96, 4, 100, 46, 79, 132, 3, 255, 167, 255, 182]
abbrev dktX4_rows_3 : List UInt8 := dkwX4_rows_3 ++ dktX4_rows_4
def dkwX4_rows_2 : List UInt8 := [104, 96, 42, 180, 0, 7, 16, 95, 5, 29, 104, 96, 5, 100, 46, 79, 42, 180, 0, 7, 16, 95, 5, 29]
abbrev dktX4_rows_2 : List UInt8 := dkwX4_rows_2 ++ dktX4_rows_3
def dkwX4_rows_1 : List UInt8 := [180, 0, 7, 16, 95, 5, 29, 104, 96, 5, 100, 46, 27, 164, 0, 59, 42, 180, 0, 7, 16, 95, 5, 29]
abbrev dktX4_rows_1 : List UInt8 := dkwX4_rows_1 ++ dktX4_rows_2
def dkwX4_rows_0 : List UInt8 := [42, 27, 182, 0, 73, 62, 29, 156, 0, 99, 42, 180, 0, 7, 16, 10, 46, 62, 29, 158, 0, 76, 42]
abbrev dktX4_rows_0 : List UInt8 := dkwX4_rows_0 ++ dktX4_rows_1
theorem dksX4_rows_0 : cX4_rows.data.toList.drop 0 = dktX4_rows_0 := by decide +kernel
theorem dksX4_rows_1 : cX4_rows.data.toList.drop 23 = dktX4_rows_1 := dk_seg dksX4_rows_0 23 rfl rfl
theorem dksX4_rows_2 : cX4_rows.data.toList.drop 47 = dktX4_rows_2 := dk_seg dksX4_rows_1 24 rfl rfl
theorem dksX4_rows_3 : cX4_rows.data.toList.drop 71 = dktX4_rows_3 := dk_seg dksX4_rows_2 24 rfl rfl
theorem dksX4_rows_4 : cX4_rows.data.toList.drop 95 = dktX4_rows_4 := dk_seg dksX4_rows_3 24 rfl rfl
theorem dksX4_rows_5 : cX4_rows.data.toList.drop 119 = dktX4_rows_5 := dk_seg dksX4_rows_4 24 rfl rfl
theorem dX4_rows_0 : decode cX4_rows 0 = .ok (.aload_n 0, 1) := dk_42 (dk_at dksX4_rows_0 0 rfl rfl)
theorem dX4_rows_1 : decode cX4_rows 1 = .ok (.iload_n 1, 1) := dk_27 (dk_at dksX4_rows_0 1 rfl rfl)
theorem dX4_rows_2 : decode cX4_rows 2 = .ok (.invokevirtual 73, 3) := dk_182 0 73 (dk_at dksX4_rows_0 2 rfl rfl)
theorem dX4_rows_5 : decode cX4_rows 5 = .ok (.istore_n 3, 1) := dk_62 (dk_at dksX4_rows_0 5 rfl rfl)
theorem dX4_rows_6 : decode cX4_rows 6 = .ok (.iload_n 3, 1) := dk_29 (dk_at dksX4_rows_0 6 rfl rfl)
theorem dX4_rows_7 : decode cX4_rows 7 = .ok (.ifCond .ge 99, 3) := dk_156 0 99 (dk_at dksX4_rows_0 7 rfl rfl)
theorem dX4_rows_10 : decode cX4_rows 10 = .ok (.aload_n 0, 1) := dk_42 (dk_at dksX4_rows_0 10 rfl rfl)
theorem dX4_rows_11 : decode cX4_rows 11 = .ok (.getfield 7, 3) := dk_180 0 7 (dk_at dksX4_rows_0 11 rfl rfl)
theorem dX4_rows_14 : decode cX4_rows 14 = .ok (.bipush 10, 2) := dk_16 10 (dk_at dksX4_rows_0 14 rfl rfl)
theorem dX4_rows_16 : decode cX4_rows 16 = .ok (.iaload, 1) := dk_46 (dk_at dksX4_rows_0 16 rfl rfl)
theorem dX4_rows_17 : decode cX4_rows 17 = .ok (.istore_n 3, 1) := dk_62 (dk_at dksX4_rows_0 17 rfl rfl)
theorem dX4_rows_18 : decode cX4_rows 18 = .ok (.iload_n 3, 1) := dk_29 (dk_at dksX4_rows_0 18 rfl rfl)
theorem dX4_rows_19 : decode cX4_rows 19 = .ok (.ifCond .le 76, 3) := dk_158 0 76 (dk_at dksX4_rows_0 19 rfl rfl)
theorem dX4_rows_22 : decode cX4_rows 22 = .ok (.aload_n 0, 1) := dk_42 (dk_at dksX4_rows_0 22 rfl rfl)
theorem dX4_rows_23 : decode cX4_rows 23 = .ok (.getfield 7, 3) := dk_180 0 7 (dk_at dksX4_rows_1 0 rfl rfl)
theorem dX4_rows_26 : decode cX4_rows 26 = .ok (.bipush 95, 2) := dk_16 95 (dk_at dksX4_rows_1 3 rfl rfl)
theorem dX4_rows_28 : decode cX4_rows 28 = .ok (.iconst 2, 1) := dk_5 (dk_at dksX4_rows_1 5 rfl rfl)
theorem dX4_rows_29 : decode cX4_rows 29 = .ok (.iload_n 3, 1) := dk_29 (dk_at dksX4_rows_1 6 rfl rfl)
theorem dX4_rows_30 : decode cX4_rows 30 = .ok (.imul, 1) := dk_104 (dk_at dksX4_rows_1 7 rfl rfl)
theorem dX4_rows_31 : decode cX4_rows 31 = .ok (.iadd, 1) := dk_96 (dk_at dksX4_rows_1 8 rfl rfl)
theorem dX4_rows_32 : decode cX4_rows 32 = .ok (.iconst 2, 1) := dk_5 (dk_at dksX4_rows_1 9 rfl rfl)
theorem dX4_rows_33 : decode cX4_rows 33 = .ok (.isub, 1) := dk_100 (dk_at dksX4_rows_1 10 rfl rfl)
theorem dX4_rows_34 : decode cX4_rows 34 = .ok (.iaload, 1) := dk_46 (dk_at dksX4_rows_1 11 rfl rfl)
theorem dX4_rows_35 : decode cX4_rows 35 = .ok (.iload_n 1, 1) := dk_27 (dk_at dksX4_rows_1 12 rfl rfl)
theorem dX4_rows_36 : decode cX4_rows 36 = .ok (.if_icmp .le 59, 3) := dk_164 0 59 (dk_at dksX4_rows_1 13 rfl rfl)
theorem dX4_rows_39 : decode cX4_rows 39 = .ok (.aload_n 0, 1) := dk_42 (dk_at dksX4_rows_1 16 rfl rfl)
theorem dX4_rows_40 : decode cX4_rows 40 = .ok (.getfield 7, 3) := dk_180 0 7 (dk_at dksX4_rows_1 17 rfl rfl)
theorem dX4_rows_43 : decode cX4_rows 43 = .ok (.bipush 95, 2) := dk_16 95 (dk_at dksX4_rows_1 20 rfl rfl)
theorem dX4_rows_45 : decode cX4_rows 45 = .ok (.iconst 2, 1) := dk_5 (dk_at dksX4_rows_1 22 rfl rfl)
theorem dX4_rows_46 : decode cX4_rows 46 = .ok (.iload_n 3, 1) := dk_29 (dk_at dksX4_rows_1 23 rfl rfl)
theorem dX4_rows_47 : decode cX4_rows 47 = .ok (.imul, 1) := dk_104 (dk_at dksX4_rows_2 0 rfl rfl)
theorem dX4_rows_48 : decode cX4_rows 48 = .ok (.iadd, 1) := dk_96 (dk_at dksX4_rows_2 1 rfl rfl)
theorem dX4_rows_49 : decode cX4_rows 49 = .ok (.aload_n 0, 1) := dk_42 (dk_at dksX4_rows_2 2 rfl rfl)
theorem dX4_rows_50 : decode cX4_rows 50 = .ok (.getfield 7, 3) := dk_180 0 7 (dk_at dksX4_rows_2 3 rfl rfl)
theorem dX4_rows_53 : decode cX4_rows 53 = .ok (.bipush 95, 2) := dk_16 95 (dk_at dksX4_rows_2 6 rfl rfl)
theorem dX4_rows_55 : decode cX4_rows 55 = .ok (.iconst 2, 1) := dk_5 (dk_at dksX4_rows_2 8 rfl rfl)
theorem dX4_rows_56 : decode cX4_rows 56 = .ok (.iload_n 3, 1) := dk_29 (dk_at dksX4_rows_2 9 rfl rfl)
theorem dX4_rows_57 : decode cX4_rows 57 = .ok (.imul, 1) := dk_104 (dk_at dksX4_rows_2 10 rfl rfl)
theorem dX4_rows_58 : decode cX4_rows 58 = .ok (.iadd, 1) := dk_96 (dk_at dksX4_rows_2 11 rfl rfl)
theorem dX4_rows_59 : decode cX4_rows 59 = .ok (.iconst 2, 1) := dk_5 (dk_at dksX4_rows_2 12 rfl rfl)
theorem dX4_rows_60 : decode cX4_rows 60 = .ok (.isub, 1) := dk_100 (dk_at dksX4_rows_2 13 rfl rfl)
theorem dX4_rows_61 : decode cX4_rows 61 = .ok (.iaload, 1) := dk_46 (dk_at dksX4_rows_2 14 rfl rfl)
theorem dX4_rows_62 : decode cX4_rows 62 = .ok (.iastore, 1) := dk_79 (dk_at dksX4_rows_2 15 rfl rfl)
theorem dX4_rows_63 : decode cX4_rows 63 = .ok (.aload_n 0, 1) := dk_42 (dk_at dksX4_rows_2 16 rfl rfl)
theorem dX4_rows_64 : decode cX4_rows 64 = .ok (.getfield 7, 3) := dk_180 0 7 (dk_at dksX4_rows_2 17 rfl rfl)
theorem dX4_rows_67 : decode cX4_rows 67 = .ok (.bipush 95, 2) := dk_16 95 (dk_at dksX4_rows_2 20 rfl rfl)
theorem dX4_rows_69 : decode cX4_rows 69 = .ok (.iconst 2, 1) := dk_5 (dk_at dksX4_rows_2 22 rfl rfl)
theorem dX4_rows_70 : decode cX4_rows 70 = .ok (.iload_n 3, 1) := dk_29 (dk_at dksX4_rows_2 23 rfl rfl)
theorem dX4_rows_71 : decode cX4_rows 71 = .ok (.imul, 1) := dk_104 (dk_at dksX4_rows_3 0 rfl rfl)
theorem dX4_rows_72 : decode cX4_rows 72 = .ok (.iadd, 1) := dk_96 (dk_at dksX4_rows_3 1 rfl rfl)
theorem dX4_rows_73 : decode cX4_rows 73 = .ok (.iconst 1, 1) := dk_4 (dk_at dksX4_rows_3 2 rfl rfl)
theorem dX4_rows_74 : decode cX4_rows 74 = .ok (.iadd, 1) := dk_96 (dk_at dksX4_rows_3 3 rfl rfl)
theorem dX4_rows_75 : decode cX4_rows 75 = .ok (.aload_n 0, 1) := dk_42 (dk_at dksX4_rows_3 4 rfl rfl)
theorem dX4_rows_76 : decode cX4_rows 76 = .ok (.getfield 7, 3) := dk_180 0 7 (dk_at dksX4_rows_3 5 rfl rfl)
theorem dX4_rows_79 : decode cX4_rows 79 = .ok (.bipush 95, 2) := dk_16 95 (dk_at dksX4_rows_3 8 rfl rfl)
theorem dX4_rows_81 : decode cX4_rows 81 = .ok (.iconst 2, 1) := dk_5 (dk_at dksX4_rows_3 10 rfl rfl)
theorem dX4_rows_82 : decode cX4_rows 82 = .ok (.iload_n 3, 1) := dk_29 (dk_at dksX4_rows_3 11 rfl rfl)
theorem dX4_rows_83 : decode cX4_rows 83 = .ok (.imul, 1) := dk_104 (dk_at dksX4_rows_3 12 rfl rfl)
theorem dX4_rows_84 : decode cX4_rows 84 = .ok (.iadd, 1) := dk_96 (dk_at dksX4_rows_3 13 rfl rfl)
theorem dX4_rows_85 : decode cX4_rows 85 = .ok (.iconst 1, 1) := dk_4 (dk_at dksX4_rows_3 14 rfl rfl)
theorem dX4_rows_86 : decode cX4_rows 86 = .ok (.isub, 1) := dk_100 (dk_at dksX4_rows_3 15 rfl rfl)
theorem dX4_rows_87 : decode cX4_rows 87 = .ok (.iaload, 1) := dk_46 (dk_at dksX4_rows_3 16 rfl rfl)
theorem dX4_rows_88 : decode cX4_rows 88 = .ok (.iastore, 1) := dk_79 (dk_at dksX4_rows_3 17 rfl rfl)
theorem dX4_rows_89 : decode cX4_rows 89 = .ok (.iinc 3 (-1), 3) := dk_132 3 255 (dk_at dksX4_rows_3 18 rfl rfl)
theorem dX4_rows_92 : decode cX4_rows 92 = .ok (.goto (-74), 3) := dk_167 255 182 (dk_at dksX4_rows_3 21 rfl rfl)
theorem dX4_rows_95 : decode cX4_rows 95 = .ok (.aload_n 0, 1) := dk_42 (dk_at dksX4_rows_4 0 rfl rfl)
theorem dX4_rows_96 : decode cX4_rows 96 = .ok (.getfield 7, 3) := dk_180 0 7 (dk_at dksX4_rows_4 1 rfl rfl)
theorem dX4_rows_99 : decode cX4_rows 99 = .ok (.bipush 10, 2) := dk_16 10 (dk_at dksX4_rows_4 4 rfl rfl)
theorem dX4_rows_101 : decode cX4_rows 101 = .ok (.dup2, 1) := dk_92 (dk_at dksX4_rows_4 6 rfl rfl)
theorem dX4_rows_102 : decode cX4_rows 102 = .ok (.iaload, 1) := dk_46 (dk_at dksX4_rows_4 7 rfl rfl)
theorem dX4_rows_103 : decode cX4_rows 103 = .ok (.iconst 1, 1) := dk_4 (dk_at dksX4_rows_4 8 rfl rfl)
theorem dX4_rows_104 : decode cX4_rows 104 = .ok (.iadd, 1) := dk_96 (dk_at dksX4_rows_4 9 rfl rfl)
theorem dX4_rows_105 : decode cX4_rows 105 = .ok (.iastore, 1) := dk_79 (dk_at dksX4_rows_4 10 rfl rfl)
theorem dX4_rows_106 : decode cX4_rows 106 = .ok (.aload_n 0, 1) := dk_42 (dk_at dksX4_rows_4 11 rfl rfl)
theorem dX4_rows_107 : decode cX4_rows 107 = .ok (.getfield 7, 3) := dk_180 0 7 (dk_at dksX4_rows_4 12 rfl rfl)
theorem dX4_rows_110 : decode cX4_rows 110 = .ok (.bipush 95, 2) := dk_16 95 (dk_at dksX4_rows_4 15 rfl rfl)
theorem dX4_rows_112 : decode cX4_rows 112 = .ok (.iconst 2, 1) := dk_5 (dk_at dksX4_rows_4 17 rfl rfl)
theorem dX4_rows_113 : decode cX4_rows 113 = .ok (.iload_n 3, 1) := dk_29 (dk_at dksX4_rows_4 18 rfl rfl)
theorem dX4_rows_114 : decode cX4_rows 114 = .ok (.imul, 1) := dk_104 (dk_at dksX4_rows_4 19 rfl rfl)
theorem dX4_rows_115 : decode cX4_rows 115 = .ok (.iadd, 1) := dk_96 (dk_at dksX4_rows_4 20 rfl rfl)
theorem dX4_rows_116 : decode cX4_rows 116 = .ok (.iload_n 1, 1) := dk_27 (dk_at dksX4_rows_4 21 rfl rfl)
theorem dX4_rows_117 : decode cX4_rows 117 = .ok (.iastore, 1) := dk_79 (dk_at dksX4_rows_4 22 rfl rfl)
theorem dX4_rows_118 : decode cX4_rows 118 = .ok (.aload_n 0, 1) := dk_42 (dk_at dksX4_rows_4 23 rfl rfl)
theorem dX4_rows_119 : decode cX4_rows 119 = .ok (.getfield 7, 3) := dk_180 0 7 (dk_at dksX4_rows_5 0 rfl rfl)
theorem dX4_rows_122 : decode cX4_rows 122 = .ok (.bipush 95, 2) := dk_16 95 (dk_at dksX4_rows_5 3 rfl rfl)
theorem dX4_rows_124 : decode cX4_rows 124 = .ok (.iconst 2, 1) := dk_5 (dk_at dksX4_rows_5 5 rfl rfl)
theorem dX4_rows_125 : decode cX4_rows 125 = .ok (.iload_n 3, 1) := dk_29 (dk_at dksX4_rows_5 6 rfl rfl)
theorem dX4_rows_126 : decode cX4_rows 126 = .ok (.imul, 1) := dk_104 (dk_at dksX4_rows_5 7 rfl rfl)
theorem dX4_rows_127 : decode cX4_rows 127 = .ok (.iadd, 1) := dk_96 (dk_at dksX4_rows_5 8 rfl rfl)
theorem dX4_rows_128 : decode cX4_rows 128 = .ok (.iconst 1, 1) := dk_4 (dk_at dksX4_rows_5 9 rfl rfl)
theorem dX4_rows_129 : decode cX4_rows 129 = .ok (.iadd, 1) := dk_96 (dk_at dksX4_rows_5 10 rfl rfl)
theorem dX4_rows_130 : decode cX4_rows 130 = .ok (.iload_n 2, 1) := dk_28 (dk_at dksX4_rows_5 11 rfl rfl)
theorem dX4_rows_131 : decode cX4_rows 131 = .ok (.iastore, 1) := dk_79 (dk_at dksX4_rows_5 12 rfl rfl)
theorem dX4_rows_132 : decode cX4_rows 132 = .ok (.aload_n 0, 1) := dk_42 (dk_at dksX4_rows_5 13 rfl rfl)
theorem dX4_rows_133 : decode cX4_rows 133 = .ok (.getfield 7, 3) := dk_180 0 7 (dk_at dksX4_rows_5 14 rfl rfl)
theorem dX4_rows_136 : decode cX4_rows 136 = .ok (.bipush 10, 2) := dk_16 10 (dk_at dksX4_rows_5 17 rfl rfl)
theorem dX4_rows_138 : decode cX4_rows 138 = .ok (.iaload, 1) := dk_46 (dk_at dksX4_rows_5 19 rfl rfl)
theorem dX4_rows_139 : decode cX4_rows 139 = .ok (.ireturn, 1) := dk_172 (dk_at dksX4_rows_5 20 rfl rfl)
abbrev cX4_setCells : ByteArray := prog_15_method_27_code
def yX4_setCells : MethodName := ⟨RX4, "setCells", "(II)I"⟩
def dkwX4_setCells_0 : List UInt8 := [42, 4, 27, 28, 182, 0, 109, 172]
abbrev dktX4_setCells_0 : List UInt8 := dkwX4_setCells_0 ++ []
theorem dksX4_setCells_0 : cX4_setCells.data.toList.drop 0 = dktX4_setCells_0 := by decide +kernel
theorem dX4_setCells_0 : decode cX4_setCells 0 = .ok (.aload_n 0, 1) := dk_42 (dk_at dksX4_setCells_0 0 rfl rfl)
theorem dX4_setCells_1 : decode cX4_setCells 1 = .ok (.iconst 1, 1) := dk_4 (dk_at dksX4_setCells_0 1 rfl rfl)
theorem dX4_setCells_2 : decode cX4_setCells 2 = .ok (.iload_n 1, 1) := dk_27 (dk_at dksX4_setCells_0 2 rfl rfl)
theorem dX4_setCells_3 : decode cX4_setCells 3 = .ok (.iload_n 2, 1) := dk_28 (dk_at dksX4_setCells_0 3 rfl rfl)
theorem dX4_setCells_4 : decode cX4_setCells 4 = .ok (.invokevirtual 109, 3) := dk_182 0 109 (dk_at dksX4_setCells_0 4 rfl rfl)
theorem dX4_setCells_7 : decode cX4_setCells 7 = .ok (.ireturn, 1) := dk_172 (dk_at dksX4_setCells_0 7 rfl rfl)
abbrev cX4_serve : ByteArray := prog_15_method_28_code
def yX4_serve : MethodName := ⟨RX4, "serve", "(I)I"⟩
def dkwX4_serve_0 : List UInt8 := [42, 5, 27, 3, 182, 0, 109, 172]
abbrev dktX4_serve_0 : List UInt8 := dkwX4_serve_0 ++ []
theorem dksX4_serve_0 : cX4_serve.data.toList.drop 0 = dktX4_serve_0 := by decide +kernel
theorem dX4_serve_0 : decode cX4_serve 0 = .ok (.aload_n 0, 1) := dk_42 (dk_at dksX4_serve_0 0 rfl rfl)
theorem dX4_serve_1 : decode cX4_serve 1 = .ok (.iconst 2, 1) := dk_5 (dk_at dksX4_serve_0 1 rfl rfl)
theorem dX4_serve_2 : decode cX4_serve 2 = .ok (.iload_n 1, 1) := dk_27 (dk_at dksX4_serve_0 2 rfl rfl)
theorem dX4_serve_3 : decode cX4_serve 3 = .ok (.iconst 0, 1) := dk_3 (dk_at dksX4_serve_0 3 rfl rfl)
theorem dX4_serve_4 : decode cX4_serve 4 = .ok (.invokevirtual 109, 3) := dk_182 0 109 (dk_at dksX4_serve_0 4 rfl rfl)
theorem dX4_serve_7 : decode cX4_serve 7 = .ok (.ireturn, 1) := dk_172 (dk_at dksX4_serve_0 7 rfl rfl)
abbrev cX4_dry : ByteArray := prog_15_method_29_code
def yX4_dry : MethodName := ⟨RX4, "dry", "(I)I"⟩
def dkwX4_dry_0 : List UInt8 := [42, 6, 27, 3, 182, 0, 109, 172]
abbrev dktX4_dry_0 : List UInt8 := dkwX4_dry_0 ++ []
theorem dksX4_dry_0 : cX4_dry.data.toList.drop 0 = dktX4_dry_0 := by decide +kernel
theorem dX4_dry_0 : decode cX4_dry 0 = .ok (.aload_n 0, 1) := dk_42 (dk_at dksX4_dry_0 0 rfl rfl)
theorem dX4_dry_1 : decode cX4_dry 1 = .ok (.iconst 3, 1) := dk_6 (dk_at dksX4_dry_0 1 rfl rfl)
theorem dX4_dry_2 : decode cX4_dry 2 = .ok (.iload_n 1, 1) := dk_27 (dk_at dksX4_dry_0 2 rfl rfl)
theorem dX4_dry_3 : decode cX4_dry 3 = .ok (.iconst 0, 1) := dk_3 (dk_at dksX4_dry_0 3 rfl rfl)
theorem dX4_dry_4 : decode cX4_dry 4 = .ok (.invokevirtual 109, 3) := dk_182 0 109 (dk_at dksX4_dry_0 4 rfl rfl)
theorem dX4_dry_7 : decode cX4_dry 7 = .ok (.ireturn, 1) := dk_172 (dk_at dksX4_dry_0 7 rfl rfl)
abbrev cX4_sell : ByteArray := prog_15_method_30_code
def yX4_sell : MethodName := ⟨RX4, "sell", "(I)I"⟩
def dkwX4_sell_0 : List UInt8 := [42, 7, 27, 3, 182, 0, 109, 172]
abbrev dktX4_sell_0 : List UInt8 := dkwX4_sell_0 ++ []
theorem dksX4_sell_0 : cX4_sell.data.toList.drop 0 = dktX4_sell_0 := by decide +kernel
theorem dX4_sell_0 : decode cX4_sell 0 = .ok (.aload_n 0, 1) := dk_42 (dk_at dksX4_sell_0 0 rfl rfl)
theorem dX4_sell_1 : decode cX4_sell 1 = .ok (.iconst 4, 1) := dk_7 (dk_at dksX4_sell_0 1 rfl rfl)
theorem dX4_sell_2 : decode cX4_sell 2 = .ok (.iload_n 1, 1) := dk_27 (dk_at dksX4_sell_0 2 rfl rfl)
theorem dX4_sell_3 : decode cX4_sell 3 = .ok (.iconst 0, 1) := dk_3 (dk_at dksX4_sell_0 3 rfl rfl)
theorem dX4_sell_4 : decode cX4_sell 4 = .ok (.invokevirtual 109, 3) := dk_182 0 109 (dk_at dksX4_sell_0 4 rfl rfl)
theorem dX4_sell_7 : decode cX4_sell 7 = .ok (.ireturn, 1) := dk_172 (dk_at dksX4_sell_0 7 rfl rfl)
abbrev cX4_setBonus : ByteArray := prog_15_method_31_code
def yX4_setBonus : MethodName := ⟨RX4, "setBonus", "(II)I"⟩
def dkwX4_setBonus_0 : List UInt8 := [42, 8, 27, 28, 182, 0, 109, 172]
abbrev dktX4_setBonus_0 : List UInt8 := dkwX4_setBonus_0 ++ []
theorem dksX4_setBonus_0 : cX4_setBonus.data.toList.drop 0 = dktX4_setBonus_0 := by decide +kernel
theorem dX4_setBonus_0 : decode cX4_setBonus 0 = .ok (.aload_n 0, 1) := dk_42 (dk_at dksX4_setBonus_0 0 rfl rfl)
theorem dX4_setBonus_1 : decode cX4_setBonus 1 = .ok (.iconst 5, 1) := dk_8 (dk_at dksX4_setBonus_0 1 rfl rfl)
theorem dX4_setBonus_2 : decode cX4_setBonus 2 = .ok (.iload_n 1, 1) := dk_27 (dk_at dksX4_setBonus_0 2 rfl rfl)
theorem dX4_setBonus_3 : decode cX4_setBonus 3 = .ok (.iload_n 2, 1) := dk_28 (dk_at dksX4_setBonus_0 3 rfl rfl)
theorem dX4_setBonus_4 : decode cX4_setBonus 4 = .ok (.invokevirtual 109, 3) := dk_182 0 109 (dk_at dksX4_setBonus_0 4 rfl rfl)
theorem dX4_setBonus_7 : decode cX4_setBonus 7 = .ok (.ireturn, 1) := dk_172 (dk_at dksX4_setBonus_0 7 rfl rfl)
abbrev cX4_bonus : ByteArray := prog_15_method_32_code
def yX4_bonus : MethodName := ⟨RX4, "bonus", "(IZ)I"⟩
def dkwX4_bonus_2 : List UInt8 := [28, 153, 0, 7, 4, 167, 0, 4, 3, 96, 46, 172]
abbrev dktX4_bonus_2 : List UInt8 := dkwX4_bonus_2 ++ []
def dkwX4_bonus_1 : List UInt8 := [181, 0, 39, 42, 180, 0, 39, 158, 0, 7, 3, 167, 0, 24, 42, 180, 0, 7, 16, 95, 5, 27, 104, 96]
abbrev dktX4_bonus_1 : List UInt8 := dkwX4_bonus_1 ++ dktX4_bonus_2
def dkwX4_bonus_0 : List UInt8 := [42, 27, 3, 42, 180, 0, 7, 16, 10, 46, 4, 100, 184, 0, 42, 153, 0, 7, 3, 167, 0, 4, 4]
abbrev dktX4_bonus_0 : List UInt8 := dkwX4_bonus_0 ++ dktX4_bonus_1
theorem dksX4_bonus_0 : cX4_bonus.data.toList.drop 0 = dktX4_bonus_0 := by decide +kernel
theorem dksX4_bonus_1 : cX4_bonus.data.toList.drop 23 = dktX4_bonus_1 := dk_seg dksX4_bonus_0 23 rfl rfl
theorem dksX4_bonus_2 : cX4_bonus.data.toList.drop 47 = dktX4_bonus_2 := dk_seg dksX4_bonus_1 24 rfl rfl
theorem dX4_bonus_0 : decode cX4_bonus 0 = .ok (.aload_n 0, 1) := dk_42 (dk_at dksX4_bonus_0 0 rfl rfl)
theorem dX4_bonus_1 : decode cX4_bonus 1 = .ok (.iload_n 1, 1) := dk_27 (dk_at dksX4_bonus_0 1 rfl rfl)
theorem dX4_bonus_2 : decode cX4_bonus 2 = .ok (.iconst 0, 1) := dk_3 (dk_at dksX4_bonus_0 2 rfl rfl)
theorem dX4_bonus_3 : decode cX4_bonus 3 = .ok (.aload_n 0, 1) := dk_42 (dk_at dksX4_bonus_0 3 rfl rfl)
theorem dX4_bonus_4 : decode cX4_bonus 4 = .ok (.getfield 7, 3) := dk_180 0 7 (dk_at dksX4_bonus_0 4 rfl rfl)
theorem dX4_bonus_7 : decode cX4_bonus 7 = .ok (.bipush 10, 2) := dk_16 10 (dk_at dksX4_bonus_0 7 rfl rfl)
theorem dX4_bonus_9 : decode cX4_bonus 9 = .ok (.iaload, 1) := dk_46 (dk_at dksX4_bonus_0 9 rfl rfl)
theorem dX4_bonus_10 : decode cX4_bonus 10 = .ok (.iconst 1, 1) := dk_4 (dk_at dksX4_bonus_0 10 rfl rfl)
theorem dX4_bonus_11 : decode cX4_bonus 11 = .ok (.isub, 1) := dk_100 (dk_at dksX4_bonus_0 11 rfl rfl)
theorem dX4_bonus_12 : decode cX4_bonus 12 = .ok (.invokestatic 42, 3) := dk_184 0 42 (dk_at dksX4_bonus_0 12 rfl rfl)
theorem dX4_bonus_15 : decode cX4_bonus 15 = .ok (.ifCond .eq 7, 3) := dk_153 0 7 (dk_at dksX4_bonus_0 15 rfl rfl)
theorem dX4_bonus_18 : decode cX4_bonus 18 = .ok (.iconst 0, 1) := dk_3 (dk_at dksX4_bonus_0 18 rfl rfl)
theorem dX4_bonus_19 : decode cX4_bonus 19 = .ok (.goto 4, 3) := dk_167 0 4 (dk_at dksX4_bonus_0 19 rfl rfl)
theorem dX4_bonus_22 : decode cX4_bonus 22 = .ok (.iconst 1, 1) := dk_4 (dk_at dksX4_bonus_0 22 rfl rfl)
theorem dX4_bonus_23 : decode cX4_bonus 23 = .ok (.putfield 39, 3) := dk_181 0 39 (dk_at dksX4_bonus_1 0 rfl rfl)
theorem dX4_bonus_26 : decode cX4_bonus 26 = .ok (.aload_n 0, 1) := dk_42 (dk_at dksX4_bonus_1 3 rfl rfl)
theorem dX4_bonus_27 : decode cX4_bonus 27 = .ok (.getfield 39, 3) := dk_180 0 39 (dk_at dksX4_bonus_1 4 rfl rfl)
theorem dX4_bonus_30 : decode cX4_bonus 30 = .ok (.ifCond .le 7, 3) := dk_158 0 7 (dk_at dksX4_bonus_1 7 rfl rfl)
theorem dX4_bonus_33 : decode cX4_bonus 33 = .ok (.iconst 0, 1) := dk_3 (dk_at dksX4_bonus_1 10 rfl rfl)
theorem dX4_bonus_34 : decode cX4_bonus 34 = .ok (.goto 24, 3) := dk_167 0 24 (dk_at dksX4_bonus_1 11 rfl rfl)
theorem dX4_bonus_37 : decode cX4_bonus 37 = .ok (.aload_n 0, 1) := dk_42 (dk_at dksX4_bonus_1 14 rfl rfl)
theorem dX4_bonus_38 : decode cX4_bonus 38 = .ok (.getfield 7, 3) := dk_180 0 7 (dk_at dksX4_bonus_1 15 rfl rfl)
theorem dX4_bonus_41 : decode cX4_bonus 41 = .ok (.bipush 95, 2) := dk_16 95 (dk_at dksX4_bonus_1 18 rfl rfl)
theorem dX4_bonus_43 : decode cX4_bonus 43 = .ok (.iconst 2, 1) := dk_5 (dk_at dksX4_bonus_1 20 rfl rfl)
theorem dX4_bonus_44 : decode cX4_bonus 44 = .ok (.iload_n 1, 1) := dk_27 (dk_at dksX4_bonus_1 21 rfl rfl)
theorem dX4_bonus_45 : decode cX4_bonus 45 = .ok (.imul, 1) := dk_104 (dk_at dksX4_bonus_1 22 rfl rfl)
theorem dX4_bonus_46 : decode cX4_bonus 46 = .ok (.iadd, 1) := dk_96 (dk_at dksX4_bonus_1 23 rfl rfl)
theorem dX4_bonus_47 : decode cX4_bonus 47 = .ok (.iload_n 2, 1) := dk_28 (dk_at dksX4_bonus_2 0 rfl rfl)
theorem dX4_bonus_48 : decode cX4_bonus 48 = .ok (.ifCond .eq 7, 3) := dk_153 0 7 (dk_at dksX4_bonus_2 1 rfl rfl)
theorem dX4_bonus_51 : decode cX4_bonus 51 = .ok (.iconst 1, 1) := dk_4 (dk_at dksX4_bonus_2 4 rfl rfl)
theorem dX4_bonus_52 : decode cX4_bonus 52 = .ok (.goto 4, 3) := dk_167 0 4 (dk_at dksX4_bonus_2 5 rfl rfl)
theorem dX4_bonus_55 : decode cX4_bonus 55 = .ok (.iconst 0, 1) := dk_3 (dk_at dksX4_bonus_2 8 rfl rfl)
theorem dX4_bonus_56 : decode cX4_bonus 56 = .ok (.iadd, 1) := dk_96 (dk_at dksX4_bonus_2 9 rfl rfl)
theorem dX4_bonus_57 : decode cX4_bonus 57 = .ok (.iaload, 1) := dk_46 (dk_at dksX4_bonus_2 10 rfl rfl)
theorem dX4_bonus_58 : decode cX4_bonus 58 = .ok (.ireturn, 1) := dk_172 (dk_at dksX4_bonus_2 11 rfl rfl)
abbrev cX4_refusal : ByteArray := prog_15_method_33_code
def yX4_refusal : MethodName := ⟨RX4, "refusal", "()I"⟩
def dkwX4_refusal_0 : List UInt8 := [42, 42, 180, 0, 100, 154, 0, 7, 4, 167, 0, 4, 3, 181, 0, 39, 42, 180, 0, 100, 172]
abbrev dktX4_refusal_0 : List UInt8 := dkwX4_refusal_0 ++ []
theorem dksX4_refusal_0 : cX4_refusal.data.toList.drop 0 = dktX4_refusal_0 := by decide +kernel
theorem dX4_refusal_0 : decode cX4_refusal 0 = .ok (.aload_n 0, 1) := dk_42 (dk_at dksX4_refusal_0 0 rfl rfl)
theorem dX4_refusal_1 : decode cX4_refusal 1 = .ok (.aload_n 0, 1) := dk_42 (dk_at dksX4_refusal_0 1 rfl rfl)
theorem dX4_refusal_2 : decode cX4_refusal 2 = .ok (.getfield 100, 3) := dk_180 0 100 (dk_at dksX4_refusal_0 2 rfl rfl)
theorem dX4_refusal_5 : decode cX4_refusal 5 = .ok (.ifCond .ne 7, 3) := dk_154 0 7 (dk_at dksX4_refusal_0 5 rfl rfl)
theorem dX4_refusal_8 : decode cX4_refusal 8 = .ok (.iconst 1, 1) := dk_4 (dk_at dksX4_refusal_0 8 rfl rfl)
theorem dX4_refusal_9 : decode cX4_refusal 9 = .ok (.goto 4, 3) := dk_167 0 4 (dk_at dksX4_refusal_0 9 rfl rfl)
theorem dX4_refusal_12 : decode cX4_refusal 12 = .ok (.iconst 0, 1) := dk_3 (dk_at dksX4_refusal_0 12 rfl rfl)
theorem dX4_refusal_13 : decode cX4_refusal 13 = .ok (.putfield 39, 3) := dk_181 0 39 (dk_at dksX4_refusal_0 13 rfl rfl)
theorem dX4_refusal_16 : decode cX4_refusal 16 = .ok (.aload_n 0, 1) := dk_42 (dk_at dksX4_refusal_0 16 rfl rfl)
theorem dX4_refusal_17 : decode cX4_refusal 17 = .ok (.getfield 100, 3) := dk_180 0 100 (dk_at dksX4_refusal_0 17 rfl rfl)
theorem dX4_refusal_20 : decode cX4_refusal 20 = .ok (.ireturn, 1) := dk_172 (dk_at dksX4_refusal_0 20 rfl rfl)
abbrev cX4_pass : ByteArray := prog_15_method_41_code
def yX4_pass : MethodName := ⟨RX4, "pass", "(I)I"⟩
def dkwX4_pass_2 : List UInt8 := [180, 0, 7, 182, 0, 65, 42, 27, 182, 0, 131, 172]
abbrev dktX4_pass_2 : List UInt8 := dkwX4_pass_2 ++ []
def dkwX4_pass_1 : List UInt8 := [163, 0, 7, 3, 167, 0, 4, 4, 181, 0, 39, 42, 180, 0, 39, 158, 0, 5, 3, 172, 42, 42]
abbrev dktX4_pass_1 : List UInt8 := dkwX4_pass_1 ++ dktX4_pass_2
def dkwX4_pass_0 : List UInt8 := [42, 27, 4, 16, 30, 184, 0, 42, 153, 0, 21, 42, 180, 0, 7, 3, 46, 27, 96, 17, 1, 144]
abbrev dktX4_pass_0 : List UInt8 := dkwX4_pass_0 ++ dktX4_pass_1
theorem dksX4_pass_0 : cX4_pass.data.toList.drop 0 = dktX4_pass_0 := by decide +kernel
theorem dksX4_pass_1 : cX4_pass.data.toList.drop 22 = dktX4_pass_1 := dk_seg dksX4_pass_0 22 rfl rfl
theorem dksX4_pass_2 : cX4_pass.data.toList.drop 44 = dktX4_pass_2 := dk_seg dksX4_pass_1 22 rfl rfl
theorem dX4_pass_0 : decode cX4_pass 0 = .ok (.aload_n 0, 1) := dk_42 (dk_at dksX4_pass_0 0 rfl rfl)
theorem dX4_pass_1 : decode cX4_pass 1 = .ok (.iload_n 1, 1) := dk_27 (dk_at dksX4_pass_0 1 rfl rfl)
theorem dX4_pass_2 : decode cX4_pass 2 = .ok (.iconst 1, 1) := dk_4 (dk_at dksX4_pass_0 2 rfl rfl)
theorem dX4_pass_3 : decode cX4_pass 3 = .ok (.bipush 30, 2) := dk_16 30 (dk_at dksX4_pass_0 3 rfl rfl)
theorem dX4_pass_5 : decode cX4_pass 5 = .ok (.invokestatic 42, 3) := dk_184 0 42 (dk_at dksX4_pass_0 5 rfl rfl)
theorem dX4_pass_8 : decode cX4_pass 8 = .ok (.ifCond .eq 21, 3) := dk_153 0 21 (dk_at dksX4_pass_0 8 rfl rfl)
theorem dX4_pass_11 : decode cX4_pass 11 = .ok (.aload_n 0, 1) := dk_42 (dk_at dksX4_pass_0 11 rfl rfl)
theorem dX4_pass_12 : decode cX4_pass 12 = .ok (.getfield 7, 3) := dk_180 0 7 (dk_at dksX4_pass_0 12 rfl rfl)
theorem dX4_pass_15 : decode cX4_pass 15 = .ok (.iconst 0, 1) := dk_3 (dk_at dksX4_pass_0 15 rfl rfl)
theorem dX4_pass_16 : decode cX4_pass 16 = .ok (.iaload, 1) := dk_46 (dk_at dksX4_pass_0 16 rfl rfl)
theorem dX4_pass_17 : decode cX4_pass 17 = .ok (.iload_n 1, 1) := dk_27 (dk_at dksX4_pass_0 17 rfl rfl)
theorem dX4_pass_18 : decode cX4_pass 18 = .ok (.iadd, 1) := dk_96 (dk_at dksX4_pass_0 18 rfl rfl)
theorem dX4_pass_19 : decode cX4_pass 19 = .ok (.sipush 400, 3) := dk_17 1 144 (dk_at dksX4_pass_0 19 rfl rfl)
theorem dX4_pass_22 : decode cX4_pass 22 = .ok (.if_icmp .gt 7, 3) := dk_163 0 7 (dk_at dksX4_pass_1 0 rfl rfl)
theorem dX4_pass_25 : decode cX4_pass 25 = .ok (.iconst 0, 1) := dk_3 (dk_at dksX4_pass_1 3 rfl rfl)
theorem dX4_pass_26 : decode cX4_pass 26 = .ok (.goto 4, 3) := dk_167 0 4 (dk_at dksX4_pass_1 4 rfl rfl)
theorem dX4_pass_29 : decode cX4_pass 29 = .ok (.iconst 1, 1) := dk_4 (dk_at dksX4_pass_1 7 rfl rfl)
theorem dX4_pass_30 : decode cX4_pass 30 = .ok (.putfield 39, 3) := dk_181 0 39 (dk_at dksX4_pass_1 8 rfl rfl)
theorem dX4_pass_33 : decode cX4_pass 33 = .ok (.aload_n 0, 1) := dk_42 (dk_at dksX4_pass_1 11 rfl rfl)
theorem dX4_pass_34 : decode cX4_pass 34 = .ok (.getfield 39, 3) := dk_180 0 39 (dk_at dksX4_pass_1 12 rfl rfl)
theorem dX4_pass_37 : decode cX4_pass 37 = .ok (.ifCond .le 5, 3) := dk_158 0 5 (dk_at dksX4_pass_1 15 rfl rfl)
theorem dX4_pass_40 : decode cX4_pass 40 = .ok (.iconst 0, 1) := dk_3 (dk_at dksX4_pass_1 18 rfl rfl)
theorem dX4_pass_41 : decode cX4_pass 41 = .ok (.ireturn, 1) := dk_172 (dk_at dksX4_pass_1 19 rfl rfl)
theorem dX4_pass_42 : decode cX4_pass 42 = .ok (.aload_n 0, 1) := dk_42 (dk_at dksX4_pass_1 20 rfl rfl)
theorem dX4_pass_43 : decode cX4_pass 43 = .ok (.aload_n 0, 1) := dk_42 (dk_at dksX4_pass_1 21 rfl rfl)
theorem dX4_pass_44 : decode cX4_pass 44 = .ok (.getfield 7, 3) := dk_180 0 7 (dk_at dksX4_pass_2 0 rfl rfl)
theorem dX4_pass_47 : decode cX4_pass 47 = .ok (.invokevirtual 65, 3) := dk_182 0 65 (dk_at dksX4_pass_2 3 rfl rfl)
theorem dX4_pass_50 : decode cX4_pass 50 = .ok (.aload_n 0, 1) := dk_42 (dk_at dksX4_pass_2 6 rfl rfl)
theorem dX4_pass_51 : decode cX4_pass 51 = .ok (.iload_n 1, 1) := dk_27 (dk_at dksX4_pass_2 7 rfl rfl)
theorem dX4_pass_52 : decode cX4_pass 52 = .ok (.invokevirtual 131, 3) := dk_182 0 131 (dk_at dksX4_pass_2 8 rfl rfl)
theorem dX4_pass_55 : decode cX4_pass 55 = .ok (.ireturn, 1) := dk_172 (dk_at dksX4_pass_2 11 rfl rfl)
abbrev cX4_passes : ByteArray := prog_15_method_40_code
def yX4_passes : MethodName := ⟨RX4, "passes", "(I)I"⟩
def dkwX4_passes_1 : List UInt8 := [167, 255, 244, 42, 180, 0, 7, 16, 12, 46, 28, 100, 172]
abbrev dktX4_passes_1 : List UInt8 := dkwX4_passes_1 ++ []
def dkwX4_passes_0 : List UInt8 := [42, 180, 0, 7, 16, 12, 46, 61, 3, 62, 29, 27, 162, 0, 13, 42, 182, 0, 128, 132, 3, 1]
abbrev dktX4_passes_0 : List UInt8 := dkwX4_passes_0 ++ dktX4_passes_1
theorem dksX4_passes_0 : cX4_passes.data.toList.drop 0 = dktX4_passes_0 := by decide +kernel
theorem dksX4_passes_1 : cX4_passes.data.toList.drop 22 = dktX4_passes_1 := dk_seg dksX4_passes_0 22 rfl rfl
theorem dX4_passes_0 : decode cX4_passes 0 = .ok (.aload_n 0, 1) := dk_42 (dk_at dksX4_passes_0 0 rfl rfl)
theorem dX4_passes_1 : decode cX4_passes 1 = .ok (.getfield 7, 3) := dk_180 0 7 (dk_at dksX4_passes_0 1 rfl rfl)
theorem dX4_passes_4 : decode cX4_passes 4 = .ok (.bipush 12, 2) := dk_16 12 (dk_at dksX4_passes_0 4 rfl rfl)
theorem dX4_passes_6 : decode cX4_passes 6 = .ok (.iaload, 1) := dk_46 (dk_at dksX4_passes_0 6 rfl rfl)
theorem dX4_passes_7 : decode cX4_passes 7 = .ok (.istore_n 2, 1) := dk_61 (dk_at dksX4_passes_0 7 rfl rfl)
theorem dX4_passes_8 : decode cX4_passes 8 = .ok (.iconst 0, 1) := dk_3 (dk_at dksX4_passes_0 8 rfl rfl)
theorem dX4_passes_9 : decode cX4_passes 9 = .ok (.istore_n 3, 1) := dk_62 (dk_at dksX4_passes_0 9 rfl rfl)
theorem dX4_passes_10 : decode cX4_passes 10 = .ok (.iload_n 3, 1) := dk_29 (dk_at dksX4_passes_0 10 rfl rfl)
theorem dX4_passes_11 : decode cX4_passes 11 = .ok (.iload_n 1, 1) := dk_27 (dk_at dksX4_passes_0 11 rfl rfl)
theorem dX4_passes_12 : decode cX4_passes 12 = .ok (.if_icmp .ge 13, 3) := dk_162 0 13 (dk_at dksX4_passes_0 12 rfl rfl)
theorem dX4_passes_15 : decode cX4_passes 15 = .ok (.aload_n 0, 1) := dk_42 (dk_at dksX4_passes_0 15 rfl rfl)
theorem dX4_passes_16 : decode cX4_passes 16 = .ok (.invokevirtual 128, 3) := dk_182 0 128 (dk_at dksX4_passes_0 16 rfl rfl)
theorem dX4_passes_19 : decode cX4_passes 19 = .ok (.iinc 3 1, 3) := dk_132 3 1 (dk_at dksX4_passes_0 19 rfl rfl)
theorem dX4_passes_22 : decode cX4_passes 22 = .ok (.goto (-12), 3) := dk_167 255 244 (dk_at dksX4_passes_1 0 rfl rfl)
theorem dX4_passes_25 : decode cX4_passes 25 = .ok (.aload_n 0, 1) := dk_42 (dk_at dksX4_passes_1 3 rfl rfl)
theorem dX4_passes_26 : decode cX4_passes 26 = .ok (.getfield 7, 3) := dk_180 0 7 (dk_at dksX4_passes_1 4 rfl rfl)
theorem dX4_passes_29 : decode cX4_passes 29 = .ok (.bipush 12, 2) := dk_16 12 (dk_at dksX4_passes_1 7 rfl rfl)
theorem dX4_passes_31 : decode cX4_passes 31 = .ok (.iaload, 1) := dk_46 (dk_at dksX4_passes_1 9 rfl rfl)
theorem dX4_passes_32 : decode cX4_passes 32 = .ok (.iload_n 2, 1) := dk_28 (dk_at dksX4_passes_1 10 rfl rfl)
theorem dX4_passes_33 : decode cX4_passes 33 = .ok (.isub, 1) := dk_100 (dk_at dksX4_passes_1 11 rfl rfl)
theorem dX4_passes_34 : decode cX4_passes 34 = .ok (.ireturn, 1) := dk_172 (dk_at dksX4_passes_1 12 rfl rfl)
abbrev cX4_goes : ByteArray := prog_15_method_39_code
def yX4_goes : MethodName := ⟨RX4, "goes", "()V"⟩
def dkwX4_goes_10 : List UInt8 := [182, 0, 125, 42, 180, 0, 7, 3, 92, 46, 4, 96, 79, 177]
abbrev dktX4_goes_10 : List UInt8 := dkwX4_goes_10 ++ []
def dkwX4_goes_9 : List UInt8 := [46, 4, 96, 42, 180, 0, 7, 6, 46, 112, 154, 0, 17, 42, 180, 0, 7, 16, 8, 46, 158, 0, 7, 42]
abbrev dktX4_goes_9 : List UInt8 := dkwX4_goes_9 ++ dktX4_goes_10
def dkwX4_goes_8 : List UInt8 := [42, 27, 182, 0, 83, 153, 0, 8, 42, 27, 182, 0, 121, 132, 1, 1, 167, 255, 229, 42, 180, 0, 7, 3]
abbrev dktX4_goes_8 : List UInt8 := dkwX4_goes_8 ++ dktX4_goes_9
def dkwX4_goes_7 : List UInt8 := [184, 0, 50, 3, 79, 132, 1, 1, 167, 255, 188, 3, 60, 27, 42, 180, 0, 7, 16, 7, 46, 162, 0, 22]
abbrev dktX4_goes_7 : List UInt8 := dkwX4_goes_7 ++ dktX4_goes_8
def dkwX4_goes_6 : List UInt8 := [46, 42, 180, 0, 7, 3, 46, 42, 180, 0, 7, 5, 46, 96, 163, 0, 14, 42, 180, 0, 7, 27, 7]
abbrev dktX4_goes_6 : List UInt8 := dkwX4_goes_6 ++ dktX4_goes_7
def dkwX4_goes_5 : List UInt8 := [182, 0, 80, 153, 0, 49, 42, 27, 182, 0, 83, 153, 0, 41, 42, 180, 0, 7, 27, 16, 6, 184, 0, 50]
abbrev dktX4_goes_5 : List UInt8 := dkwX4_goes_5 ++ dktX4_goes_6
def dkwX4_goes_4 : List UInt8 := [79, 132, 1, 1, 167, 255, 161, 3, 60, 27, 42, 180, 0, 7, 16, 7, 46, 162, 0, 63, 42, 27]
abbrev dktX4_goes_4 : List UInt8 := dkwX4_goes_4 ++ dktX4_goes_5
def dkwX4_goes_3 : List UInt8 := [180, 0, 7, 27, 6, 184, 0, 50, 92, 46, 4, 96, 79, 42, 180, 0, 7, 27, 16, 6, 184, 0, 50, 2]
abbrev dktX4_goes_3 : List UInt8 := dkwX4_goes_3 ++ dktX4_goes_4
def dkwX4_goes_2 : List UInt8 := [7, 184, 0, 50, 4, 79, 42, 180, 0, 7, 27, 8, 184, 0, 50, 42, 180, 0, 7, 3, 46, 79, 42]
abbrev dktX4_goes_2 : List UInt8 := dkwX4_goes_2 ++ dktX4_goes_3
def dkwX4_goes_1 : List UInt8 := [180, 0, 7, 27, 16, 6, 184, 0, 50, 46, 42, 180, 0, 7, 3, 46, 160, 0, 56, 42, 180, 0, 7, 27]
abbrev dktX4_goes_1 : List UInt8 := dkwX4_goes_1 ++ dktX4_goes_2
def dkwX4_goes_0 : List UInt8 := [3, 60, 27, 42, 180, 0, 7, 16, 7, 46, 162, 0, 90, 42, 27, 182, 0, 80, 153, 0, 76, 42]
abbrev dktX4_goes_0 : List UInt8 := dkwX4_goes_0 ++ dktX4_goes_1
theorem dksX4_goes_0 : cX4_goes.data.toList.drop 0 = dktX4_goes_0 := by decide +kernel
theorem dksX4_goes_1 : cX4_goes.data.toList.drop 22 = dktX4_goes_1 := dk_seg dksX4_goes_0 22 rfl rfl
theorem dksX4_goes_2 : cX4_goes.data.toList.drop 46 = dktX4_goes_2 := dk_seg dksX4_goes_1 24 rfl rfl
theorem dksX4_goes_3 : cX4_goes.data.toList.drop 69 = dktX4_goes_3 := dk_seg dksX4_goes_2 23 rfl rfl
theorem dksX4_goes_4 : cX4_goes.data.toList.drop 93 = dktX4_goes_4 := dk_seg dksX4_goes_3 24 rfl rfl
theorem dksX4_goes_5 : cX4_goes.data.toList.drop 115 = dktX4_goes_5 := dk_seg dksX4_goes_4 22 rfl rfl
theorem dksX4_goes_6 : cX4_goes.data.toList.drop 139 = dktX4_goes_6 := dk_seg dksX4_goes_5 24 rfl rfl
theorem dksX4_goes_7 : cX4_goes.data.toList.drop 162 = dktX4_goes_7 := dk_seg dksX4_goes_6 23 rfl rfl
theorem dksX4_goes_8 : cX4_goes.data.toList.drop 186 = dktX4_goes_8 := dk_seg dksX4_goes_7 24 rfl rfl
theorem dksX4_goes_9 : cX4_goes.data.toList.drop 210 = dktX4_goes_9 := dk_seg dksX4_goes_8 24 rfl rfl
theorem dksX4_goes_10 : cX4_goes.data.toList.drop 234 = dktX4_goes_10 := dk_seg dksX4_goes_9 24 rfl rfl
theorem dX4_goes_0 : decode cX4_goes 0 = .ok (.iconst 0, 1) := dk_3 (dk_at dksX4_goes_0 0 rfl rfl)
theorem dX4_goes_1 : decode cX4_goes 1 = .ok (.istore_n 1, 1) := dk_60 (dk_at dksX4_goes_0 1 rfl rfl)
theorem dX4_goes_2 : decode cX4_goes 2 = .ok (.iload_n 1, 1) := dk_27 (dk_at dksX4_goes_0 2 rfl rfl)
theorem dX4_goes_3 : decode cX4_goes 3 = .ok (.aload_n 0, 1) := dk_42 (dk_at dksX4_goes_0 3 rfl rfl)
theorem dX4_goes_4 : decode cX4_goes 4 = .ok (.getfield 7, 3) := dk_180 0 7 (dk_at dksX4_goes_0 4 rfl rfl)
theorem dX4_goes_7 : decode cX4_goes 7 = .ok (.bipush 7, 2) := dk_16 7 (dk_at dksX4_goes_0 7 rfl rfl)
theorem dX4_goes_9 : decode cX4_goes 9 = .ok (.iaload, 1) := dk_46 (dk_at dksX4_goes_0 9 rfl rfl)
theorem dX4_goes_10 : decode cX4_goes 10 = .ok (.if_icmp .ge 90, 3) := dk_162 0 90 (dk_at dksX4_goes_0 10 rfl rfl)
theorem dX4_goes_13 : decode cX4_goes 13 = .ok (.aload_n 0, 1) := dk_42 (dk_at dksX4_goes_0 13 rfl rfl)
theorem dX4_goes_14 : decode cX4_goes 14 = .ok (.iload_n 1, 1) := dk_27 (dk_at dksX4_goes_0 14 rfl rfl)
theorem dX4_goes_15 : decode cX4_goes 15 = .ok (.invokevirtual 80, 3) := dk_182 0 80 (dk_at dksX4_goes_0 15 rfl rfl)
theorem dX4_goes_18 : decode cX4_goes 18 = .ok (.ifCond .eq 76, 3) := dk_153 0 76 (dk_at dksX4_goes_0 18 rfl rfl)
theorem dX4_goes_21 : decode cX4_goes 21 = .ok (.aload_n 0, 1) := dk_42 (dk_at dksX4_goes_0 21 rfl rfl)
theorem dX4_goes_22 : decode cX4_goes 22 = .ok (.getfield 7, 3) := dk_180 0 7 (dk_at dksX4_goes_1 0 rfl rfl)
theorem dX4_goes_25 : decode cX4_goes 25 = .ok (.iload_n 1, 1) := dk_27 (dk_at dksX4_goes_1 3 rfl rfl)
theorem dX4_goes_26 : decode cX4_goes 26 = .ok (.bipush 6, 2) := dk_16 6 (dk_at dksX4_goes_1 4 rfl rfl)
theorem dX4_goes_28 : decode cX4_goes 28 = .ok (.invokestatic 50, 3) := dk_184 0 50 (dk_at dksX4_goes_1 6 rfl rfl)
theorem dX4_goes_31 : decode cX4_goes 31 = .ok (.iaload, 1) := dk_46 (dk_at dksX4_goes_1 9 rfl rfl)
theorem dX4_goes_32 : decode cX4_goes 32 = .ok (.aload_n 0, 1) := dk_42 (dk_at dksX4_goes_1 10 rfl rfl)
theorem dX4_goes_33 : decode cX4_goes 33 = .ok (.getfield 7, 3) := dk_180 0 7 (dk_at dksX4_goes_1 11 rfl rfl)
theorem dX4_goes_36 : decode cX4_goes 36 = .ok (.iconst 0, 1) := dk_3 (dk_at dksX4_goes_1 14 rfl rfl)
theorem dX4_goes_37 : decode cX4_goes 37 = .ok (.iaload, 1) := dk_46 (dk_at dksX4_goes_1 15 rfl rfl)
theorem dX4_goes_38 : decode cX4_goes 38 = .ok (.if_icmp .ne 56, 3) := dk_160 0 56 (dk_at dksX4_goes_1 16 rfl rfl)
theorem dX4_goes_41 : decode cX4_goes 41 = .ok (.aload_n 0, 1) := dk_42 (dk_at dksX4_goes_1 19 rfl rfl)
theorem dX4_goes_42 : decode cX4_goes 42 = .ok (.getfield 7, 3) := dk_180 0 7 (dk_at dksX4_goes_1 20 rfl rfl)
theorem dX4_goes_45 : decode cX4_goes 45 = .ok (.iload_n 1, 1) := dk_27 (dk_at dksX4_goes_1 23 rfl rfl)
theorem dX4_goes_46 : decode cX4_goes 46 = .ok (.iconst 4, 1) := dk_7 (dk_at dksX4_goes_2 0 rfl rfl)
theorem dX4_goes_47 : decode cX4_goes 47 = .ok (.invokestatic 50, 3) := dk_184 0 50 (dk_at dksX4_goes_2 1 rfl rfl)
theorem dX4_goes_50 : decode cX4_goes 50 = .ok (.iconst 1, 1) := dk_4 (dk_at dksX4_goes_2 4 rfl rfl)
theorem dX4_goes_51 : decode cX4_goes 51 = .ok (.iastore, 1) := dk_79 (dk_at dksX4_goes_2 5 rfl rfl)
theorem dX4_goes_52 : decode cX4_goes 52 = .ok (.aload_n 0, 1) := dk_42 (dk_at dksX4_goes_2 6 rfl rfl)
theorem dX4_goes_53 : decode cX4_goes 53 = .ok (.getfield 7, 3) := dk_180 0 7 (dk_at dksX4_goes_2 7 rfl rfl)
theorem dX4_goes_56 : decode cX4_goes 56 = .ok (.iload_n 1, 1) := dk_27 (dk_at dksX4_goes_2 10 rfl rfl)
theorem dX4_goes_57 : decode cX4_goes 57 = .ok (.iconst 5, 1) := dk_8 (dk_at dksX4_goes_2 11 rfl rfl)
theorem dX4_goes_58 : decode cX4_goes 58 = .ok (.invokestatic 50, 3) := dk_184 0 50 (dk_at dksX4_goes_2 12 rfl rfl)
theorem dX4_goes_61 : decode cX4_goes 61 = .ok (.aload_n 0, 1) := dk_42 (dk_at dksX4_goes_2 15 rfl rfl)
theorem dX4_goes_62 : decode cX4_goes 62 = .ok (.getfield 7, 3) := dk_180 0 7 (dk_at dksX4_goes_2 16 rfl rfl)
theorem dX4_goes_65 : decode cX4_goes 65 = .ok (.iconst 0, 1) := dk_3 (dk_at dksX4_goes_2 19 rfl rfl)
theorem dX4_goes_66 : decode cX4_goes 66 = .ok (.iaload, 1) := dk_46 (dk_at dksX4_goes_2 20 rfl rfl)
theorem dX4_goes_67 : decode cX4_goes 67 = .ok (.iastore, 1) := dk_79 (dk_at dksX4_goes_2 21 rfl rfl)
theorem dX4_goes_68 : decode cX4_goes 68 = .ok (.aload_n 0, 1) := dk_42 (dk_at dksX4_goes_2 22 rfl rfl)
theorem dX4_goes_69 : decode cX4_goes 69 = .ok (.getfield 7, 3) := dk_180 0 7 (dk_at dksX4_goes_3 0 rfl rfl)
theorem dX4_goes_72 : decode cX4_goes 72 = .ok (.iload_n 1, 1) := dk_27 (dk_at dksX4_goes_3 3 rfl rfl)
theorem dX4_goes_73 : decode cX4_goes 73 = .ok (.iconst 3, 1) := dk_6 (dk_at dksX4_goes_3 4 rfl rfl)
theorem dX4_goes_74 : decode cX4_goes 74 = .ok (.invokestatic 50, 3) := dk_184 0 50 (dk_at dksX4_goes_3 5 rfl rfl)
theorem dX4_goes_77 : decode cX4_goes 77 = .ok (.dup2, 1) := dk_92 (dk_at dksX4_goes_3 8 rfl rfl)
theorem dX4_goes_78 : decode cX4_goes 78 = .ok (.iaload, 1) := dk_46 (dk_at dksX4_goes_3 9 rfl rfl)
theorem dX4_goes_79 : decode cX4_goes 79 = .ok (.iconst 1, 1) := dk_4 (dk_at dksX4_goes_3 10 rfl rfl)
theorem dX4_goes_80 : decode cX4_goes 80 = .ok (.iadd, 1) := dk_96 (dk_at dksX4_goes_3 11 rfl rfl)
theorem dX4_goes_81 : decode cX4_goes 81 = .ok (.iastore, 1) := dk_79 (dk_at dksX4_goes_3 12 rfl rfl)
theorem dX4_goes_82 : decode cX4_goes 82 = .ok (.aload_n 0, 1) := dk_42 (dk_at dksX4_goes_3 13 rfl rfl)
theorem dX4_goes_83 : decode cX4_goes 83 = .ok (.getfield 7, 3) := dk_180 0 7 (dk_at dksX4_goes_3 14 rfl rfl)
theorem dX4_goes_86 : decode cX4_goes 86 = .ok (.iload_n 1, 1) := dk_27 (dk_at dksX4_goes_3 17 rfl rfl)
theorem dX4_goes_87 : decode cX4_goes 87 = .ok (.bipush 6, 2) := dk_16 6 (dk_at dksX4_goes_3 18 rfl rfl)
theorem dX4_goes_89 : decode cX4_goes 89 = .ok (.invokestatic 50, 3) := dk_184 0 50 (dk_at dksX4_goes_3 20 rfl rfl)
theorem dX4_goes_92 : decode cX4_goes 92 = .ok (.iconst (-1), 1) := dk_2 (dk_at dksX4_goes_3 23 rfl rfl)
theorem dX4_goes_93 : decode cX4_goes 93 = .ok (.iastore, 1) := dk_79 (dk_at dksX4_goes_4 0 rfl rfl)
theorem dX4_goes_94 : decode cX4_goes 94 = .ok (.iinc 1 1, 3) := dk_132 1 1 (dk_at dksX4_goes_4 1 rfl rfl)
theorem dX4_goes_97 : decode cX4_goes 97 = .ok (.goto (-95), 3) := dk_167 255 161 (dk_at dksX4_goes_4 4 rfl rfl)
theorem dX4_goes_100 : decode cX4_goes 100 = .ok (.iconst 0, 1) := dk_3 (dk_at dksX4_goes_4 7 rfl rfl)
theorem dX4_goes_101 : decode cX4_goes 101 = .ok (.istore_n 1, 1) := dk_60 (dk_at dksX4_goes_4 8 rfl rfl)
theorem dX4_goes_102 : decode cX4_goes 102 = .ok (.iload_n 1, 1) := dk_27 (dk_at dksX4_goes_4 9 rfl rfl)
theorem dX4_goes_103 : decode cX4_goes 103 = .ok (.aload_n 0, 1) := dk_42 (dk_at dksX4_goes_4 10 rfl rfl)
theorem dX4_goes_104 : decode cX4_goes 104 = .ok (.getfield 7, 3) := dk_180 0 7 (dk_at dksX4_goes_4 11 rfl rfl)
theorem dX4_goes_107 : decode cX4_goes 107 = .ok (.bipush 7, 2) := dk_16 7 (dk_at dksX4_goes_4 14 rfl rfl)
theorem dX4_goes_109 : decode cX4_goes 109 = .ok (.iaload, 1) := dk_46 (dk_at dksX4_goes_4 16 rfl rfl)
theorem dX4_goes_110 : decode cX4_goes 110 = .ok (.if_icmp .ge 63, 3) := dk_162 0 63 (dk_at dksX4_goes_4 17 rfl rfl)
theorem dX4_goes_113 : decode cX4_goes 113 = .ok (.aload_n 0, 1) := dk_42 (dk_at dksX4_goes_4 20 rfl rfl)
theorem dX4_goes_114 : decode cX4_goes 114 = .ok (.iload_n 1, 1) := dk_27 (dk_at dksX4_goes_4 21 rfl rfl)
theorem dX4_goes_115 : decode cX4_goes 115 = .ok (.invokevirtual 80, 3) := dk_182 0 80 (dk_at dksX4_goes_5 0 rfl rfl)
theorem dX4_goes_118 : decode cX4_goes 118 = .ok (.ifCond .eq 49, 3) := dk_153 0 49 (dk_at dksX4_goes_5 3 rfl rfl)
theorem dX4_goes_121 : decode cX4_goes 121 = .ok (.aload_n 0, 1) := dk_42 (dk_at dksX4_goes_5 6 rfl rfl)
theorem dX4_goes_122 : decode cX4_goes 122 = .ok (.iload_n 1, 1) := dk_27 (dk_at dksX4_goes_5 7 rfl rfl)
theorem dX4_goes_123 : decode cX4_goes 123 = .ok (.invokevirtual 83, 3) := dk_182 0 83 (dk_at dksX4_goes_5 8 rfl rfl)
theorem dX4_goes_126 : decode cX4_goes 126 = .ok (.ifCond .eq 41, 3) := dk_153 0 41 (dk_at dksX4_goes_5 11 rfl rfl)
theorem dX4_goes_129 : decode cX4_goes 129 = .ok (.aload_n 0, 1) := dk_42 (dk_at dksX4_goes_5 14 rfl rfl)
theorem dX4_goes_130 : decode cX4_goes 130 = .ok (.getfield 7, 3) := dk_180 0 7 (dk_at dksX4_goes_5 15 rfl rfl)
theorem dX4_goes_133 : decode cX4_goes 133 = .ok (.iload_n 1, 1) := dk_27 (dk_at dksX4_goes_5 18 rfl rfl)
theorem dX4_goes_134 : decode cX4_goes 134 = .ok (.bipush 6, 2) := dk_16 6 (dk_at dksX4_goes_5 19 rfl rfl)
theorem dX4_goes_136 : decode cX4_goes 136 = .ok (.invokestatic 50, 3) := dk_184 0 50 (dk_at dksX4_goes_5 21 rfl rfl)
theorem dX4_goes_139 : decode cX4_goes 139 = .ok (.iaload, 1) := dk_46 (dk_at dksX4_goes_6 0 rfl rfl)
theorem dX4_goes_140 : decode cX4_goes 140 = .ok (.aload_n 0, 1) := dk_42 (dk_at dksX4_goes_6 1 rfl rfl)
theorem dX4_goes_141 : decode cX4_goes 141 = .ok (.getfield 7, 3) := dk_180 0 7 (dk_at dksX4_goes_6 2 rfl rfl)
theorem dX4_goes_144 : decode cX4_goes 144 = .ok (.iconst 0, 1) := dk_3 (dk_at dksX4_goes_6 5 rfl rfl)
theorem dX4_goes_145 : decode cX4_goes 145 = .ok (.iaload, 1) := dk_46 (dk_at dksX4_goes_6 6 rfl rfl)
theorem dX4_goes_146 : decode cX4_goes 146 = .ok (.aload_n 0, 1) := dk_42 (dk_at dksX4_goes_6 7 rfl rfl)
theorem dX4_goes_147 : decode cX4_goes 147 = .ok (.getfield 7, 3) := dk_180 0 7 (dk_at dksX4_goes_6 8 rfl rfl)
theorem dX4_goes_150 : decode cX4_goes 150 = .ok (.iconst 2, 1) := dk_5 (dk_at dksX4_goes_6 11 rfl rfl)
theorem dX4_goes_151 : decode cX4_goes 151 = .ok (.iaload, 1) := dk_46 (dk_at dksX4_goes_6 12 rfl rfl)
theorem dX4_goes_152 : decode cX4_goes 152 = .ok (.iadd, 1) := dk_96 (dk_at dksX4_goes_6 13 rfl rfl)
theorem dX4_goes_153 : decode cX4_goes 153 = .ok (.if_icmp .gt 14, 3) := dk_163 0 14 (dk_at dksX4_goes_6 14 rfl rfl)
theorem dX4_goes_156 : decode cX4_goes 156 = .ok (.aload_n 0, 1) := dk_42 (dk_at dksX4_goes_6 17 rfl rfl)
theorem dX4_goes_157 : decode cX4_goes 157 = .ok (.getfield 7, 3) := dk_180 0 7 (dk_at dksX4_goes_6 18 rfl rfl)
theorem dX4_goes_160 : decode cX4_goes 160 = .ok (.iload_n 1, 1) := dk_27 (dk_at dksX4_goes_6 21 rfl rfl)
theorem dX4_goes_161 : decode cX4_goes 161 = .ok (.iconst 4, 1) := dk_7 (dk_at dksX4_goes_6 22 rfl rfl)
theorem dX4_goes_162 : decode cX4_goes 162 = .ok (.invokestatic 50, 3) := dk_184 0 50 (dk_at dksX4_goes_7 0 rfl rfl)
theorem dX4_goes_165 : decode cX4_goes 165 = .ok (.iconst 0, 1) := dk_3 (dk_at dksX4_goes_7 3 rfl rfl)
theorem dX4_goes_166 : decode cX4_goes 166 = .ok (.iastore, 1) := dk_79 (dk_at dksX4_goes_7 4 rfl rfl)
theorem dX4_goes_167 : decode cX4_goes 167 = .ok (.iinc 1 1, 3) := dk_132 1 1 (dk_at dksX4_goes_7 5 rfl rfl)
theorem dX4_goes_170 : decode cX4_goes 170 = .ok (.goto (-68), 3) := dk_167 255 188 (dk_at dksX4_goes_7 8 rfl rfl)
theorem dX4_goes_173 : decode cX4_goes 173 = .ok (.iconst 0, 1) := dk_3 (dk_at dksX4_goes_7 11 rfl rfl)
theorem dX4_goes_174 : decode cX4_goes 174 = .ok (.istore_n 1, 1) := dk_60 (dk_at dksX4_goes_7 12 rfl rfl)
theorem dX4_goes_175 : decode cX4_goes 175 = .ok (.iload_n 1, 1) := dk_27 (dk_at dksX4_goes_7 13 rfl rfl)
theorem dX4_goes_176 : decode cX4_goes 176 = .ok (.aload_n 0, 1) := dk_42 (dk_at dksX4_goes_7 14 rfl rfl)
theorem dX4_goes_177 : decode cX4_goes 177 = .ok (.getfield 7, 3) := dk_180 0 7 (dk_at dksX4_goes_7 15 rfl rfl)
theorem dX4_goes_180 : decode cX4_goes 180 = .ok (.bipush 7, 2) := dk_16 7 (dk_at dksX4_goes_7 18 rfl rfl)
theorem dX4_goes_182 : decode cX4_goes 182 = .ok (.iaload, 1) := dk_46 (dk_at dksX4_goes_7 20 rfl rfl)
theorem dX4_goes_183 : decode cX4_goes 183 = .ok (.if_icmp .ge 22, 3) := dk_162 0 22 (dk_at dksX4_goes_7 21 rfl rfl)
theorem dX4_goes_186 : decode cX4_goes 186 = .ok (.aload_n 0, 1) := dk_42 (dk_at dksX4_goes_8 0 rfl rfl)
theorem dX4_goes_187 : decode cX4_goes 187 = .ok (.iload_n 1, 1) := dk_27 (dk_at dksX4_goes_8 1 rfl rfl)
theorem dX4_goes_188 : decode cX4_goes 188 = .ok (.invokevirtual 83, 3) := dk_182 0 83 (dk_at dksX4_goes_8 2 rfl rfl)
theorem dX4_goes_191 : decode cX4_goes 191 = .ok (.ifCond .eq 8, 3) := dk_153 0 8 (dk_at dksX4_goes_8 5 rfl rfl)
theorem dX4_goes_194 : decode cX4_goes 194 = .ok (.aload_n 0, 1) := dk_42 (dk_at dksX4_goes_8 8 rfl rfl)
theorem dX4_goes_195 : decode cX4_goes 195 = .ok (.iload_n 1, 1) := dk_27 (dk_at dksX4_goes_8 9 rfl rfl)
theorem dX4_goes_196 : decode cX4_goes 196 = .ok (.invokevirtual 121, 3) := dk_182 0 121 (dk_at dksX4_goes_8 10 rfl rfl)
theorem dX4_goes_199 : decode cX4_goes 199 = .ok (.iinc 1 1, 3) := dk_132 1 1 (dk_at dksX4_goes_8 13 rfl rfl)
theorem dX4_goes_202 : decode cX4_goes 202 = .ok (.goto (-27), 3) := dk_167 255 229 (dk_at dksX4_goes_8 16 rfl rfl)
theorem dX4_goes_205 : decode cX4_goes 205 = .ok (.aload_n 0, 1) := dk_42 (dk_at dksX4_goes_8 19 rfl rfl)
theorem dX4_goes_206 : decode cX4_goes 206 = .ok (.getfield 7, 3) := dk_180 0 7 (dk_at dksX4_goes_8 20 rfl rfl)
theorem dX4_goes_209 : decode cX4_goes 209 = .ok (.iconst 0, 1) := dk_3 (dk_at dksX4_goes_8 23 rfl rfl)
theorem dX4_goes_210 : decode cX4_goes 210 = .ok (.iaload, 1) := dk_46 (dk_at dksX4_goes_9 0 rfl rfl)
theorem dX4_goes_211 : decode cX4_goes 211 = .ok (.iconst 1, 1) := dk_4 (dk_at dksX4_goes_9 1 rfl rfl)
theorem dX4_goes_212 : decode cX4_goes 212 = .ok (.iadd, 1) := dk_96 (dk_at dksX4_goes_9 2 rfl rfl)
theorem dX4_goes_213 : decode cX4_goes 213 = .ok (.aload_n 0, 1) := dk_42 (dk_at dksX4_goes_9 3 rfl rfl)
theorem dX4_goes_214 : decode cX4_goes 214 = .ok (.getfield 7, 3) := dk_180 0 7 (dk_at dksX4_goes_9 4 rfl rfl)
theorem dX4_goes_217 : decode cX4_goes 217 = .ok (.iconst 3, 1) := dk_6 (dk_at dksX4_goes_9 7 rfl rfl)
theorem dX4_goes_218 : decode cX4_goes 218 = .ok (.iaload, 1) := dk_46 (dk_at dksX4_goes_9 8 rfl rfl)
theorem dX4_goes_219 : decode cX4_goes 219 = .ok (.irem, 1) := dk_112 (dk_at dksX4_goes_9 9 rfl rfl)
theorem dX4_goes_220 : decode cX4_goes 220 = .ok (.ifCond .ne 17, 3) := dk_154 0 17 (dk_at dksX4_goes_9 10 rfl rfl)
theorem dX4_goes_223 : decode cX4_goes 223 = .ok (.aload_n 0, 1) := dk_42 (dk_at dksX4_goes_9 13 rfl rfl)
theorem dX4_goes_224 : decode cX4_goes 224 = .ok (.getfield 7, 3) := dk_180 0 7 (dk_at dksX4_goes_9 14 rfl rfl)
theorem dX4_goes_227 : decode cX4_goes 227 = .ok (.bipush 8, 2) := dk_16 8 (dk_at dksX4_goes_9 17 rfl rfl)
theorem dX4_goes_229 : decode cX4_goes 229 = .ok (.iaload, 1) := dk_46 (dk_at dksX4_goes_9 19 rfl rfl)
theorem dX4_goes_230 : decode cX4_goes 230 = .ok (.ifCond .le 7, 3) := dk_158 0 7 (dk_at dksX4_goes_9 20 rfl rfl)
theorem dX4_goes_233 : decode cX4_goes 233 = .ok (.aload_n 0, 1) := dk_42 (dk_at dksX4_goes_9 23 rfl rfl)
theorem dX4_goes_234 : decode cX4_goes 234 = .ok (.invokevirtual 125, 3) := dk_182 0 125 (dk_at dksX4_goes_10 0 rfl rfl)
theorem dX4_goes_237 : decode cX4_goes 237 = .ok (.aload_n 0, 1) := dk_42 (dk_at dksX4_goes_10 3 rfl rfl)
theorem dX4_goes_238 : decode cX4_goes 238 = .ok (.getfield 7, 3) := dk_180 0 7 (dk_at dksX4_goes_10 4 rfl rfl)
theorem dX4_goes_241 : decode cX4_goes 241 = .ok (.iconst 0, 1) := dk_3 (dk_at dksX4_goes_10 7 rfl rfl)
theorem dX4_goes_242 : decode cX4_goes 242 = .ok (.dup2, 1) := dk_92 (dk_at dksX4_goes_10 8 rfl rfl)
theorem dX4_goes_243 : decode cX4_goes 243 = .ok (.iaload, 1) := dk_46 (dk_at dksX4_goes_10 9 rfl rfl)
theorem dX4_goes_244 : decode cX4_goes 244 = .ok (.iconst 1, 1) := dk_4 (dk_at dksX4_goes_10 10 rfl rfl)
theorem dX4_goes_245 : decode cX4_goes 245 = .ok (.iadd, 1) := dk_96 (dk_at dksX4_goes_10 11 rfl rfl)
theorem dX4_goes_246 : decode cX4_goes 246 = .ok (.iastore, 1) := dk_79 (dk_at dksX4_goes_10 12 rfl rfl)
theorem dX4_goes_247 : decode cX4_goes 247 = .ok (.return_, 1) := dk_177 (dk_at dksX4_goes_10 13 rfl rfl)
abbrev cX4_milks : ByteArray := prog_15_method_36_code
def yX4_milks : MethodName := ⟨RX4, "milks", "(I)V"⟩
def dkwX4_milks_6 : List UInt8 := [180, 0, 7, 16, 14, 92, 46, 28, 21, 4, 100, 96, 79, 177]
abbrev dktX4_milks_6 : List UInt8 := dkwX4_milks_6 ++ []
def dkwX4_milks_5 : List UInt8 := [180, 0, 7, 16, 9, 92, 46, 21, 4, 42, 180, 0, 7, 27, 5, 184, 0, 50, 46, 104, 96, 79, 42]
abbrev dktX4_milks_5 : List UInt8 := dkwX4_milks_5 ++ dktX4_milks_6
def dkwX4_milks_4 : List UInt8 := [184, 0, 50, 92, 46, 21, 4, 96, 79, 42, 180, 0, 7, 16, 8, 92, 46, 21, 4, 96, 79, 42]
abbrev dktX4_milks_4 : List UInt8 := dkwX4_milks_4 ++ dktX4_milks_5
def dkwX4_milks_3 : List UInt8 := [54, 4, 42, 180, 0, 7, 27, 16, 8, 184, 0, 50, 92, 46, 28, 96, 79, 42, 180, 0, 7, 27, 16, 9]
abbrev dktX4_milks_3 : List UInt8 := dkwX4_milks_3 ++ dktX4_milks_4
def dkwX4_milks_2 : List UInt8 := [153, 0, 7, 3, 167, 0, 19, 28, 42, 182, 0, 115, 162, 0, 7, 28, 167, 0, 7, 42, 182, 0, 115]
abbrev dktX4_milks_2 : List UInt8 := dkwX4_milks_2 ++ dktX4_milks_3
def dkwX4_milks_1 : List UInt8 := [27, 16, 7, 184, 0, 50, 46, 42, 180, 0, 7, 3, 46, 164, 0, 7, 4, 167, 0, 4, 3, 62, 29]
abbrev dktX4_milks_1 : List UInt8 := dkwX4_milks_1 ++ dktX4_milks_2
def dkwX4_milks_0 : List UInt8 := [42, 27, 42, 27, 182, 0, 86, 182, 0, 112, 61, 42, 27, 182, 0, 86, 7, 161, 0, 23, 42, 180, 0, 7]
abbrev dktX4_milks_0 : List UInt8 := dkwX4_milks_0 ++ dktX4_milks_1
theorem dksX4_milks_0 : cX4_milks.data.toList.drop 0 = dktX4_milks_0 := by decide +kernel
theorem dksX4_milks_1 : cX4_milks.data.toList.drop 24 = dktX4_milks_1 := dk_seg dksX4_milks_0 24 rfl rfl
theorem dksX4_milks_2 : cX4_milks.data.toList.drop 47 = dktX4_milks_2 := dk_seg dksX4_milks_1 23 rfl rfl
theorem dksX4_milks_3 : cX4_milks.data.toList.drop 70 = dktX4_milks_3 := dk_seg dksX4_milks_2 23 rfl rfl
theorem dksX4_milks_4 : cX4_milks.data.toList.drop 94 = dktX4_milks_4 := dk_seg dksX4_milks_3 24 rfl rfl
theorem dksX4_milks_5 : cX4_milks.data.toList.drop 116 = dktX4_milks_5 := dk_seg dksX4_milks_4 22 rfl rfl
theorem dksX4_milks_6 : cX4_milks.data.toList.drop 139 = dktX4_milks_6 := dk_seg dksX4_milks_5 23 rfl rfl
theorem dX4_milks_0 : decode cX4_milks 0 = .ok (.aload_n 0, 1) := dk_42 (dk_at dksX4_milks_0 0 rfl rfl)
theorem dX4_milks_1 : decode cX4_milks 1 = .ok (.iload_n 1, 1) := dk_27 (dk_at dksX4_milks_0 1 rfl rfl)
theorem dX4_milks_2 : decode cX4_milks 2 = .ok (.aload_n 0, 1) := dk_42 (dk_at dksX4_milks_0 2 rfl rfl)
theorem dX4_milks_3 : decode cX4_milks 3 = .ok (.iload_n 1, 1) := dk_27 (dk_at dksX4_milks_0 3 rfl rfl)
theorem dX4_milks_4 : decode cX4_milks 4 = .ok (.invokevirtual 86, 3) := dk_182 0 86 (dk_at dksX4_milks_0 4 rfl rfl)
theorem dX4_milks_7 : decode cX4_milks 7 = .ok (.invokevirtual 112, 3) := dk_182 0 112 (dk_at dksX4_milks_0 7 rfl rfl)
theorem dX4_milks_10 : decode cX4_milks 10 = .ok (.istore_n 2, 1) := dk_61 (dk_at dksX4_milks_0 10 rfl rfl)
theorem dX4_milks_11 : decode cX4_milks 11 = .ok (.aload_n 0, 1) := dk_42 (dk_at dksX4_milks_0 11 rfl rfl)
theorem dX4_milks_12 : decode cX4_milks 12 = .ok (.iload_n 1, 1) := dk_27 (dk_at dksX4_milks_0 12 rfl rfl)
theorem dX4_milks_13 : decode cX4_milks 13 = .ok (.invokevirtual 86, 3) := dk_182 0 86 (dk_at dksX4_milks_0 13 rfl rfl)
theorem dX4_milks_16 : decode cX4_milks 16 = .ok (.iconst 4, 1) := dk_7 (dk_at dksX4_milks_0 16 rfl rfl)
theorem dX4_milks_17 : decode cX4_milks 17 = .ok (.if_icmp .lt 23, 3) := dk_161 0 23 (dk_at dksX4_milks_0 17 rfl rfl)
theorem dX4_milks_20 : decode cX4_milks 20 = .ok (.aload_n 0, 1) := dk_42 (dk_at dksX4_milks_0 20 rfl rfl)
theorem dX4_milks_21 : decode cX4_milks 21 = .ok (.getfield 7, 3) := dk_180 0 7 (dk_at dksX4_milks_0 21 rfl rfl)
theorem dX4_milks_24 : decode cX4_milks 24 = .ok (.iload_n 1, 1) := dk_27 (dk_at dksX4_milks_1 0 rfl rfl)
theorem dX4_milks_25 : decode cX4_milks 25 = .ok (.bipush 7, 2) := dk_16 7 (dk_at dksX4_milks_1 1 rfl rfl)
theorem dX4_milks_27 : decode cX4_milks 27 = .ok (.invokestatic 50, 3) := dk_184 0 50 (dk_at dksX4_milks_1 3 rfl rfl)
theorem dX4_milks_30 : decode cX4_milks 30 = .ok (.iaload, 1) := dk_46 (dk_at dksX4_milks_1 6 rfl rfl)
theorem dX4_milks_31 : decode cX4_milks 31 = .ok (.aload_n 0, 1) := dk_42 (dk_at dksX4_milks_1 7 rfl rfl)
theorem dX4_milks_32 : decode cX4_milks 32 = .ok (.getfield 7, 3) := dk_180 0 7 (dk_at dksX4_milks_1 8 rfl rfl)
theorem dX4_milks_35 : decode cX4_milks 35 = .ok (.iconst 0, 1) := dk_3 (dk_at dksX4_milks_1 11 rfl rfl)
theorem dX4_milks_36 : decode cX4_milks 36 = .ok (.iaload, 1) := dk_46 (dk_at dksX4_milks_1 12 rfl rfl)
theorem dX4_milks_37 : decode cX4_milks 37 = .ok (.if_icmp .le 7, 3) := dk_164 0 7 (dk_at dksX4_milks_1 13 rfl rfl)
theorem dX4_milks_40 : decode cX4_milks 40 = .ok (.iconst 1, 1) := dk_4 (dk_at dksX4_milks_1 16 rfl rfl)
theorem dX4_milks_41 : decode cX4_milks 41 = .ok (.goto 4, 3) := dk_167 0 4 (dk_at dksX4_milks_1 17 rfl rfl)
theorem dX4_milks_44 : decode cX4_milks 44 = .ok (.iconst 0, 1) := dk_3 (dk_at dksX4_milks_1 20 rfl rfl)
theorem dX4_milks_45 : decode cX4_milks 45 = .ok (.istore_n 3, 1) := dk_62 (dk_at dksX4_milks_1 21 rfl rfl)
theorem dX4_milks_46 : decode cX4_milks 46 = .ok (.iload_n 3, 1) := dk_29 (dk_at dksX4_milks_1 22 rfl rfl)
theorem dX4_milks_47 : decode cX4_milks 47 = .ok (.ifCond .eq 7, 3) := dk_153 0 7 (dk_at dksX4_milks_2 0 rfl rfl)
theorem dX4_milks_50 : decode cX4_milks 50 = .ok (.iconst 0, 1) := dk_3 (dk_at dksX4_milks_2 3 rfl rfl)
theorem dX4_milks_51 : decode cX4_milks 51 = .ok (.goto 19, 3) := dk_167 0 19 (dk_at dksX4_milks_2 4 rfl rfl)
theorem dX4_milks_54 : decode cX4_milks 54 = .ok (.iload_n 2, 1) := dk_28 (dk_at dksX4_milks_2 7 rfl rfl)
theorem dX4_milks_55 : decode cX4_milks 55 = .ok (.aload_n 0, 1) := dk_42 (dk_at dksX4_milks_2 8 rfl rfl)
theorem dX4_milks_56 : decode cX4_milks 56 = .ok (.invokevirtual 115, 3) := dk_182 0 115 (dk_at dksX4_milks_2 9 rfl rfl)
theorem dX4_milks_59 : decode cX4_milks 59 = .ok (.if_icmp .ge 7, 3) := dk_162 0 7 (dk_at dksX4_milks_2 12 rfl rfl)
theorem dX4_milks_62 : decode cX4_milks 62 = .ok (.iload_n 2, 1) := dk_28 (dk_at dksX4_milks_2 15 rfl rfl)
theorem dX4_milks_63 : decode cX4_milks 63 = .ok (.goto 7, 3) := dk_167 0 7 (dk_at dksX4_milks_2 16 rfl rfl)
theorem dX4_milks_66 : decode cX4_milks 66 = .ok (.aload_n 0, 1) := dk_42 (dk_at dksX4_milks_2 19 rfl rfl)
theorem dX4_milks_67 : decode cX4_milks 67 = .ok (.invokevirtual 115, 3) := dk_182 0 115 (dk_at dksX4_milks_2 20 rfl rfl)
theorem dX4_milks_70 : decode cX4_milks 70 = .ok (.istore 4, 2) := dk_54 4 (dk_at dksX4_milks_3 0 rfl rfl)
theorem dX4_milks_72 : decode cX4_milks 72 = .ok (.aload_n 0, 1) := dk_42 (dk_at dksX4_milks_3 2 rfl rfl)
theorem dX4_milks_73 : decode cX4_milks 73 = .ok (.getfield 7, 3) := dk_180 0 7 (dk_at dksX4_milks_3 3 rfl rfl)
theorem dX4_milks_76 : decode cX4_milks 76 = .ok (.iload_n 1, 1) := dk_27 (dk_at dksX4_milks_3 6 rfl rfl)
theorem dX4_milks_77 : decode cX4_milks 77 = .ok (.bipush 8, 2) := dk_16 8 (dk_at dksX4_milks_3 7 rfl rfl)
theorem dX4_milks_79 : decode cX4_milks 79 = .ok (.invokestatic 50, 3) := dk_184 0 50 (dk_at dksX4_milks_3 9 rfl rfl)
theorem dX4_milks_82 : decode cX4_milks 82 = .ok (.dup2, 1) := dk_92 (dk_at dksX4_milks_3 12 rfl rfl)
theorem dX4_milks_83 : decode cX4_milks 83 = .ok (.iaload, 1) := dk_46 (dk_at dksX4_milks_3 13 rfl rfl)
theorem dX4_milks_84 : decode cX4_milks 84 = .ok (.iload_n 2, 1) := dk_28 (dk_at dksX4_milks_3 14 rfl rfl)
theorem dX4_milks_85 : decode cX4_milks 85 = .ok (.iadd, 1) := dk_96 (dk_at dksX4_milks_3 15 rfl rfl)
theorem dX4_milks_86 : decode cX4_milks 86 = .ok (.iastore, 1) := dk_79 (dk_at dksX4_milks_3 16 rfl rfl)
theorem dX4_milks_87 : decode cX4_milks 87 = .ok (.aload_n 0, 1) := dk_42 (dk_at dksX4_milks_3 17 rfl rfl)
theorem dX4_milks_88 : decode cX4_milks 88 = .ok (.getfield 7, 3) := dk_180 0 7 (dk_at dksX4_milks_3 18 rfl rfl)
theorem dX4_milks_91 : decode cX4_milks 91 = .ok (.iload_n 1, 1) := dk_27 (dk_at dksX4_milks_3 21 rfl rfl)
theorem dX4_milks_92 : decode cX4_milks 92 = .ok (.bipush 9, 2) := dk_16 9 (dk_at dksX4_milks_3 22 rfl rfl)
theorem dX4_milks_94 : decode cX4_milks 94 = .ok (.invokestatic 50, 3) := dk_184 0 50 (dk_at dksX4_milks_4 0 rfl rfl)
theorem dX4_milks_97 : decode cX4_milks 97 = .ok (.dup2, 1) := dk_92 (dk_at dksX4_milks_4 3 rfl rfl)
theorem dX4_milks_98 : decode cX4_milks 98 = .ok (.iaload, 1) := dk_46 (dk_at dksX4_milks_4 4 rfl rfl)
theorem dX4_milks_99 : decode cX4_milks 99 = .ok (.iload 4, 2) := dk_21 4 (dk_at dksX4_milks_4 5 rfl rfl)
theorem dX4_milks_101 : decode cX4_milks 101 = .ok (.iadd, 1) := dk_96 (dk_at dksX4_milks_4 7 rfl rfl)
theorem dX4_milks_102 : decode cX4_milks 102 = .ok (.iastore, 1) := dk_79 (dk_at dksX4_milks_4 8 rfl rfl)
theorem dX4_milks_103 : decode cX4_milks 103 = .ok (.aload_n 0, 1) := dk_42 (dk_at dksX4_milks_4 9 rfl rfl)
theorem dX4_milks_104 : decode cX4_milks 104 = .ok (.getfield 7, 3) := dk_180 0 7 (dk_at dksX4_milks_4 10 rfl rfl)
theorem dX4_milks_107 : decode cX4_milks 107 = .ok (.bipush 8, 2) := dk_16 8 (dk_at dksX4_milks_4 13 rfl rfl)
theorem dX4_milks_109 : decode cX4_milks 109 = .ok (.dup2, 1) := dk_92 (dk_at dksX4_milks_4 15 rfl rfl)
theorem dX4_milks_110 : decode cX4_milks 110 = .ok (.iaload, 1) := dk_46 (dk_at dksX4_milks_4 16 rfl rfl)
theorem dX4_milks_111 : decode cX4_milks 111 = .ok (.iload 4, 2) := dk_21 4 (dk_at dksX4_milks_4 17 rfl rfl)
theorem dX4_milks_113 : decode cX4_milks 113 = .ok (.iadd, 1) := dk_96 (dk_at dksX4_milks_4 19 rfl rfl)
theorem dX4_milks_114 : decode cX4_milks 114 = .ok (.iastore, 1) := dk_79 (dk_at dksX4_milks_4 20 rfl rfl)
theorem dX4_milks_115 : decode cX4_milks 115 = .ok (.aload_n 0, 1) := dk_42 (dk_at dksX4_milks_4 21 rfl rfl)
theorem dX4_milks_116 : decode cX4_milks 116 = .ok (.getfield 7, 3) := dk_180 0 7 (dk_at dksX4_milks_5 0 rfl rfl)
theorem dX4_milks_119 : decode cX4_milks 119 = .ok (.bipush 9, 2) := dk_16 9 (dk_at dksX4_milks_5 3 rfl rfl)
theorem dX4_milks_121 : decode cX4_milks 121 = .ok (.dup2, 1) := dk_92 (dk_at dksX4_milks_5 5 rfl rfl)
theorem dX4_milks_122 : decode cX4_milks 122 = .ok (.iaload, 1) := dk_46 (dk_at dksX4_milks_5 6 rfl rfl)
theorem dX4_milks_123 : decode cX4_milks 123 = .ok (.iload 4, 2) := dk_21 4 (dk_at dksX4_milks_5 7 rfl rfl)
theorem dX4_milks_125 : decode cX4_milks 125 = .ok (.aload_n 0, 1) := dk_42 (dk_at dksX4_milks_5 9 rfl rfl)
theorem dX4_milks_126 : decode cX4_milks 126 = .ok (.getfield 7, 3) := dk_180 0 7 (dk_at dksX4_milks_5 10 rfl rfl)
theorem dX4_milks_129 : decode cX4_milks 129 = .ok (.iload_n 1, 1) := dk_27 (dk_at dksX4_milks_5 13 rfl rfl)
theorem dX4_milks_130 : decode cX4_milks 130 = .ok (.iconst 2, 1) := dk_5 (dk_at dksX4_milks_5 14 rfl rfl)
theorem dX4_milks_131 : decode cX4_milks 131 = .ok (.invokestatic 50, 3) := dk_184 0 50 (dk_at dksX4_milks_5 15 rfl rfl)
theorem dX4_milks_134 : decode cX4_milks 134 = .ok (.iaload, 1) := dk_46 (dk_at dksX4_milks_5 18 rfl rfl)
theorem dX4_milks_135 : decode cX4_milks 135 = .ok (.imul, 1) := dk_104 (dk_at dksX4_milks_5 19 rfl rfl)
theorem dX4_milks_136 : decode cX4_milks 136 = .ok (.iadd, 1) := dk_96 (dk_at dksX4_milks_5 20 rfl rfl)
theorem dX4_milks_137 : decode cX4_milks 137 = .ok (.iastore, 1) := dk_79 (dk_at dksX4_milks_5 21 rfl rfl)
theorem dX4_milks_138 : decode cX4_milks 138 = .ok (.aload_n 0, 1) := dk_42 (dk_at dksX4_milks_5 22 rfl rfl)
theorem dX4_milks_139 : decode cX4_milks 139 = .ok (.getfield 7, 3) := dk_180 0 7 (dk_at dksX4_milks_6 0 rfl rfl)
theorem dX4_milks_142 : decode cX4_milks 142 = .ok (.bipush 14, 2) := dk_16 14 (dk_at dksX4_milks_6 3 rfl rfl)
theorem dX4_milks_144 : decode cX4_milks 144 = .ok (.dup2, 1) := dk_92 (dk_at dksX4_milks_6 5 rfl rfl)
theorem dX4_milks_145 : decode cX4_milks 145 = .ok (.iaload, 1) := dk_46 (dk_at dksX4_milks_6 6 rfl rfl)
theorem dX4_milks_146 : decode cX4_milks 146 = .ok (.iload_n 2, 1) := dk_28 (dk_at dksX4_milks_6 7 rfl rfl)
theorem dX4_milks_147 : decode cX4_milks 147 = .ok (.iload 4, 2) := dk_21 4 (dk_at dksX4_milks_6 8 rfl rfl)
theorem dX4_milks_149 : decode cX4_milks 149 = .ok (.isub, 1) := dk_100 (dk_at dksX4_milks_6 10 rfl rfl)
theorem dX4_milks_150 : decode cX4_milks 150 = .ok (.iadd, 1) := dk_96 (dk_at dksX4_milks_6 11 rfl rfl)
theorem dX4_milks_151 : decode cX4_milks 151 = .ok (.iastore, 1) := dk_79 (dk_at dksX4_milks_6 12 rfl rfl)
theorem dX4_milks_152 : decode cX4_milks 152 = .ok (.return_, 1) := dk_177 (dk_at dksX4_milks_6 13 rfl rfl)
abbrev cX4_litres : ByteArray := prog_15_method_34_code
def yX4_litres : MethodName := ⟨RX4, "litres", "(II)I"⟩
def dkwX4_litres_3 : List UInt8 := [21, 5, 158, 0, 8, 21, 5, 167, 0, 4, 3, 172]
abbrev dktX4_litres_3 : List UInt8 := dkwX4_litres_3 ++ []
def dkwX4_litres_2 : List UInt8 := [46, 28, 104, 16, 20, 108, 100, 54, 4, 29, 21, 4, 162, 0, 7, 29, 167, 0, 5, 21, 4, 54, 5]
abbrev dktX4_litres_2 : List UInt8 := dkwX4_litres_2 ++ dktX4_litres_3
def dkwX4_litres_1 : List UInt8 := [16, 40, 108, 96, 62, 42, 180, 0, 7, 27, 3, 184, 0, 50, 46, 42, 180, 0, 7, 27, 4, 184, 0, 50]
abbrev dktX4_litres_1 : List UInt8 := dkwX4_litres_1 ++ dktX4_litres_2
def dkwX4_litres_0 : List UInt8 := [42, 180, 0, 7, 27, 3, 184, 0, 50, 46, 5, 108, 42, 180, 0, 7, 27, 3, 184, 0, 50, 46, 28, 104]
abbrev dktX4_litres_0 : List UInt8 := dkwX4_litres_0 ++ dktX4_litres_1
theorem dksX4_litres_0 : cX4_litres.data.toList.drop 0 = dktX4_litres_0 := by decide +kernel
theorem dksX4_litres_1 : cX4_litres.data.toList.drop 24 = dktX4_litres_1 := dk_seg dksX4_litres_0 24 rfl rfl
theorem dksX4_litres_2 : cX4_litres.data.toList.drop 48 = dktX4_litres_2 := dk_seg dksX4_litres_1 24 rfl rfl
theorem dksX4_litres_3 : cX4_litres.data.toList.drop 71 = dktX4_litres_3 := dk_seg dksX4_litres_2 23 rfl rfl
theorem dX4_litres_0 : decode cX4_litres 0 = .ok (.aload_n 0, 1) := dk_42 (dk_at dksX4_litres_0 0 rfl rfl)
theorem dX4_litres_1 : decode cX4_litres 1 = .ok (.getfield 7, 3) := dk_180 0 7 (dk_at dksX4_litres_0 1 rfl rfl)
theorem dX4_litres_4 : decode cX4_litres 4 = .ok (.iload_n 1, 1) := dk_27 (dk_at dksX4_litres_0 4 rfl rfl)
theorem dX4_litres_5 : decode cX4_litres 5 = .ok (.iconst 0, 1) := dk_3 (dk_at dksX4_litres_0 5 rfl rfl)
theorem dX4_litres_6 : decode cX4_litres 6 = .ok (.invokestatic 50, 3) := dk_184 0 50 (dk_at dksX4_litres_0 6 rfl rfl)
theorem dX4_litres_9 : decode cX4_litres 9 = .ok (.iaload, 1) := dk_46 (dk_at dksX4_litres_0 9 rfl rfl)
theorem dX4_litres_10 : decode cX4_litres 10 = .ok (.iconst 2, 1) := dk_5 (dk_at dksX4_litres_0 10 rfl rfl)
theorem dX4_litres_11 : decode cX4_litres 11 = .ok (.idiv, 1) := dk_108 (dk_at dksX4_litres_0 11 rfl rfl)
theorem dX4_litres_12 : decode cX4_litres 12 = .ok (.aload_n 0, 1) := dk_42 (dk_at dksX4_litres_0 12 rfl rfl)
theorem dX4_litres_13 : decode cX4_litres 13 = .ok (.getfield 7, 3) := dk_180 0 7 (dk_at dksX4_litres_0 13 rfl rfl)
theorem dX4_litres_16 : decode cX4_litres 16 = .ok (.iload_n 1, 1) := dk_27 (dk_at dksX4_litres_0 16 rfl rfl)
theorem dX4_litres_17 : decode cX4_litres 17 = .ok (.iconst 0, 1) := dk_3 (dk_at dksX4_litres_0 17 rfl rfl)
theorem dX4_litres_18 : decode cX4_litres 18 = .ok (.invokestatic 50, 3) := dk_184 0 50 (dk_at dksX4_litres_0 18 rfl rfl)
theorem dX4_litres_21 : decode cX4_litres 21 = .ok (.iaload, 1) := dk_46 (dk_at dksX4_litres_0 21 rfl rfl)
theorem dX4_litres_22 : decode cX4_litres 22 = .ok (.iload_n 2, 1) := dk_28 (dk_at dksX4_litres_0 22 rfl rfl)
theorem dX4_litres_23 : decode cX4_litres 23 = .ok (.imul, 1) := dk_104 (dk_at dksX4_litres_0 23 rfl rfl)
theorem dX4_litres_24 : decode cX4_litres 24 = .ok (.bipush 40, 2) := dk_16 40 (dk_at dksX4_litres_1 0 rfl rfl)
theorem dX4_litres_26 : decode cX4_litres 26 = .ok (.idiv, 1) := dk_108 (dk_at dksX4_litres_1 2 rfl rfl)
theorem dX4_litres_27 : decode cX4_litres 27 = .ok (.iadd, 1) := dk_96 (dk_at dksX4_litres_1 3 rfl rfl)
theorem dX4_litres_28 : decode cX4_litres 28 = .ok (.istore_n 3, 1) := dk_62 (dk_at dksX4_litres_1 4 rfl rfl)
theorem dX4_litres_29 : decode cX4_litres 29 = .ok (.aload_n 0, 1) := dk_42 (dk_at dksX4_litres_1 5 rfl rfl)
theorem dX4_litres_30 : decode cX4_litres 30 = .ok (.getfield 7, 3) := dk_180 0 7 (dk_at dksX4_litres_1 6 rfl rfl)
theorem dX4_litres_33 : decode cX4_litres 33 = .ok (.iload_n 1, 1) := dk_27 (dk_at dksX4_litres_1 9 rfl rfl)
theorem dX4_litres_34 : decode cX4_litres 34 = .ok (.iconst 0, 1) := dk_3 (dk_at dksX4_litres_1 10 rfl rfl)
theorem dX4_litres_35 : decode cX4_litres 35 = .ok (.invokestatic 50, 3) := dk_184 0 50 (dk_at dksX4_litres_1 11 rfl rfl)
theorem dX4_litres_38 : decode cX4_litres 38 = .ok (.iaload, 1) := dk_46 (dk_at dksX4_litres_1 14 rfl rfl)
theorem dX4_litres_39 : decode cX4_litres 39 = .ok (.aload_n 0, 1) := dk_42 (dk_at dksX4_litres_1 15 rfl rfl)
theorem dX4_litres_40 : decode cX4_litres 40 = .ok (.getfield 7, 3) := dk_180 0 7 (dk_at dksX4_litres_1 16 rfl rfl)
theorem dX4_litres_43 : decode cX4_litres 43 = .ok (.iload_n 1, 1) := dk_27 (dk_at dksX4_litres_1 19 rfl rfl)
theorem dX4_litres_44 : decode cX4_litres 44 = .ok (.iconst 1, 1) := dk_4 (dk_at dksX4_litres_1 20 rfl rfl)
theorem dX4_litres_45 : decode cX4_litres 45 = .ok (.invokestatic 50, 3) := dk_184 0 50 (dk_at dksX4_litres_1 21 rfl rfl)
theorem dX4_litres_48 : decode cX4_litres 48 = .ok (.iaload, 1) := dk_46 (dk_at dksX4_litres_2 0 rfl rfl)
theorem dX4_litres_49 : decode cX4_litres 49 = .ok (.iload_n 2, 1) := dk_28 (dk_at dksX4_litres_2 1 rfl rfl)
theorem dX4_litres_50 : decode cX4_litres 50 = .ok (.imul, 1) := dk_104 (dk_at dksX4_litres_2 2 rfl rfl)
theorem dX4_litres_51 : decode cX4_litres 51 = .ok (.bipush 20, 2) := dk_16 20 (dk_at dksX4_litres_2 3 rfl rfl)
theorem dX4_litres_53 : decode cX4_litres 53 = .ok (.idiv, 1) := dk_108 (dk_at dksX4_litres_2 5 rfl rfl)
theorem dX4_litres_54 : decode cX4_litres 54 = .ok (.isub, 1) := dk_100 (dk_at dksX4_litres_2 6 rfl rfl)
theorem dX4_litres_55 : decode cX4_litres 55 = .ok (.istore 4, 2) := dk_54 4 (dk_at dksX4_litres_2 7 rfl rfl)
theorem dX4_litres_57 : decode cX4_litres 57 = .ok (.iload_n 3, 1) := dk_29 (dk_at dksX4_litres_2 9 rfl rfl)
theorem dX4_litres_58 : decode cX4_litres 58 = .ok (.iload 4, 2) := dk_21 4 (dk_at dksX4_litres_2 10 rfl rfl)
theorem dX4_litres_60 : decode cX4_litres 60 = .ok (.if_icmp .ge 7, 3) := dk_162 0 7 (dk_at dksX4_litres_2 12 rfl rfl)
theorem dX4_litres_63 : decode cX4_litres 63 = .ok (.iload_n 3, 1) := dk_29 (dk_at dksX4_litres_2 15 rfl rfl)
theorem dX4_litres_64 : decode cX4_litres 64 = .ok (.goto 5, 3) := dk_167 0 5 (dk_at dksX4_litres_2 16 rfl rfl)
theorem dX4_litres_67 : decode cX4_litres 67 = .ok (.iload 4, 2) := dk_21 4 (dk_at dksX4_litres_2 19 rfl rfl)
theorem dX4_litres_69 : decode cX4_litres 69 = .ok (.istore 5, 2) := dk_54 5 (dk_at dksX4_litres_2 21 rfl rfl)
theorem dX4_litres_71 : decode cX4_litres 71 = .ok (.iload 5, 2) := dk_21 5 (dk_at dksX4_litres_3 0 rfl rfl)
theorem dX4_litres_73 : decode cX4_litres 73 = .ok (.ifCond .le 8, 3) := dk_158 0 8 (dk_at dksX4_litres_3 2 rfl rfl)
theorem dX4_litres_76 : decode cX4_litres 76 = .ok (.iload 5, 2) := dk_21 5 (dk_at dksX4_litres_3 5 rfl rfl)
theorem dX4_litres_78 : decode cX4_litres 78 = .ok (.goto 4, 3) := dk_167 0 4 (dk_at dksX4_litres_3 7 rfl rfl)
theorem dX4_litres_81 : decode cX4_litres 81 = .ok (.iconst 0, 1) := dk_3 (dk_at dksX4_litres_3 10 rfl rfl)
theorem dX4_litres_82 : decode cX4_litres 82 = .ok (.ireturn, 1) := dk_172 (dk_at dksX4_litres_3 11 rfl rfl)
abbrev cX4_free : ByteArray := prog_15_method_35_code
def yX4_free : MethodName := ⟨RX4, "free", "()I"⟩
def dkwX4_free_1 : List UInt8 := [180, 0, 7, 16, 8, 46, 100, 167, 0, 4, 3, 172]
abbrev dktX4_free_1 : List UInt8 := dkwX4_free_1 ++ []
def dkwX4_free_0 : List UInt8 := [42, 180, 0, 7, 7, 46, 42, 180, 0, 7, 16, 8, 46, 164, 0, 20, 42, 180, 0, 7, 7, 46, 42]
abbrev dktX4_free_0 : List UInt8 := dkwX4_free_0 ++ dktX4_free_1
theorem dksX4_free_0 : cX4_free.data.toList.drop 0 = dktX4_free_0 := by decide +kernel
theorem dksX4_free_1 : cX4_free.data.toList.drop 23 = dktX4_free_1 := dk_seg dksX4_free_0 23 rfl rfl
theorem dX4_free_0 : decode cX4_free 0 = .ok (.aload_n 0, 1) := dk_42 (dk_at dksX4_free_0 0 rfl rfl)
theorem dX4_free_1 : decode cX4_free 1 = .ok (.getfield 7, 3) := dk_180 0 7 (dk_at dksX4_free_0 1 rfl rfl)
theorem dX4_free_4 : decode cX4_free 4 = .ok (.iconst 4, 1) := dk_7 (dk_at dksX4_free_0 4 rfl rfl)
theorem dX4_free_5 : decode cX4_free 5 = .ok (.iaload, 1) := dk_46 (dk_at dksX4_free_0 5 rfl rfl)
theorem dX4_free_6 : decode cX4_free 6 = .ok (.aload_n 0, 1) := dk_42 (dk_at dksX4_free_0 6 rfl rfl)
theorem dX4_free_7 : decode cX4_free 7 = .ok (.getfield 7, 3) := dk_180 0 7 (dk_at dksX4_free_0 7 rfl rfl)
theorem dX4_free_10 : decode cX4_free 10 = .ok (.bipush 8, 2) := dk_16 8 (dk_at dksX4_free_0 10 rfl rfl)
theorem dX4_free_12 : decode cX4_free 12 = .ok (.iaload, 1) := dk_46 (dk_at dksX4_free_0 12 rfl rfl)
theorem dX4_free_13 : decode cX4_free 13 = .ok (.if_icmp .le 20, 3) := dk_164 0 20 (dk_at dksX4_free_0 13 rfl rfl)
theorem dX4_free_16 : decode cX4_free 16 = .ok (.aload_n 0, 1) := dk_42 (dk_at dksX4_free_0 16 rfl rfl)
theorem dX4_free_17 : decode cX4_free 17 = .ok (.getfield 7, 3) := dk_180 0 7 (dk_at dksX4_free_0 17 rfl rfl)
theorem dX4_free_20 : decode cX4_free 20 = .ok (.iconst 4, 1) := dk_7 (dk_at dksX4_free_0 20 rfl rfl)
theorem dX4_free_21 : decode cX4_free 21 = .ok (.iaload, 1) := dk_46 (dk_at dksX4_free_0 21 rfl rfl)
theorem dX4_free_22 : decode cX4_free 22 = .ok (.aload_n 0, 1) := dk_42 (dk_at dksX4_free_0 22 rfl rfl)
theorem dX4_free_23 : decode cX4_free 23 = .ok (.getfield 7, 3) := dk_180 0 7 (dk_at dksX4_free_1 0 rfl rfl)
theorem dX4_free_26 : decode cX4_free 26 = .ok (.bipush 8, 2) := dk_16 8 (dk_at dksX4_free_1 3 rfl rfl)
theorem dX4_free_28 : decode cX4_free 28 = .ok (.iaload, 1) := dk_46 (dk_at dksX4_free_1 5 rfl rfl)
theorem dX4_free_29 : decode cX4_free 29 = .ok (.isub, 1) := dk_100 (dk_at dksX4_free_1 6 rfl rfl)
theorem dX4_free_30 : decode cX4_free 30 = .ok (.goto 4, 3) := dk_167 0 4 (dk_at dksX4_free_1 7 rfl rfl)
theorem dX4_free_33 : decode cX4_free 33 = .ok (.iconst 0, 1) := dk_3 (dk_at dksX4_free_1 10 rfl rfl)
theorem dX4_free_34 : decode cX4_free 34 = .ok (.ireturn, 1) := dk_172 (dk_at dksX4_free_1 11 rfl rfl)
abbrev cX4_picksUp : ByteArray := prog_15_method_38_code
def yX4_picksUp : MethodName := ⟨RX4, "picksUp", "()V"⟩
def dkwX4_picksUp_14 : List UInt8 := [46, 96, 79, 42, 180, 0, 7, 16, 8, 3, 79, 42, 180, 0, 7, 16, 9, 3, 79, 177]
abbrev dktX4_picksUp_14 : List UInt8 := dkwX4_picksUp_14 ++ []
def dkwX4_picksUp_13 : List UInt8 := [180, 0, 7, 16, 8, 46, 96, 79, 42, 180, 0, 7, 16, 13, 92, 46, 42, 180, 0, 7, 27, 16, 6, 96]
abbrev dktX4_picksUp_13 : List UInt8 := dkwX4_picksUp_13 ++ dktX4_picksUp_14
def dkwX4_picksUp_12 : List UInt8 := [8, 96, 46, 96, 42, 180, 0, 7, 16, 8, 46, 104, 79, 42, 180, 0, 7, 16, 12, 92, 46, 42]
abbrev dktX4_picksUp_12 : List UInt8 := dkwX4_picksUp_12 ++ dktX4_picksUp_13
def dkwX4_picksUp_11 : List UInt8 := [182, 0, 118, 79, 42, 180, 0, 7, 27, 16, 6, 96, 42, 180, 0, 7, 16, 6, 46, 42, 180, 0, 7, 27]
abbrev dktX4_picksUp_11 : List UInt8 := dkwX4_picksUp_11 ++ dktX4_picksUp_12
def dkwX4_picksUp_10 : List UInt8 := [7, 96, 28, 29, 108, 79, 42, 180, 0, 7, 27, 8, 96, 42, 42, 180, 0, 7, 27, 7, 96, 46]
abbrev dktX4_picksUp_10 : List UInt8 := dkwX4_picksUp_10 ++ dktX4_picksUp_11
def dkwX4_picksUp_9 : List UInt8 := [16, 103, 16, 7, 21, 4, 104, 96, 5, 96, 46, 96, 61, 132, 4, 255, 167, 255, 193, 42, 180, 0, 7, 27]
abbrev dktX4_picksUp_9 : List UInt8 := dkwX4_picksUp_9 ++ dktX4_picksUp_10
def dkwX4_picksUp_8 : List UInt8 := [29, 42, 180, 0, 7, 16, 103, 16, 7, 21, 4, 104, 96, 4, 96, 46, 96, 62, 28, 42, 180, 0, 7]
abbrev dktX4_picksUp_8 : List UInt8 := dkwX4_picksUp_8 ++ dktX4_picksUp_9
def dkwX4_picksUp_7 : List UInt8 := [21, 4, 155, 0, 64, 21, 4, 42, 180, 0, 7, 16, 11, 46, 42, 180, 0, 7, 8, 46, 100, 161, 0, 45]
abbrev dktX4_picksUp_7 : List UInt8 := dkwX4_picksUp_7 ++ dktX4_picksUp_8
def dkwX4_picksUp_6 : List UInt8 := [180, 0, 7, 16, 8, 46, 108, 79, 3, 61, 3, 62, 42, 180, 0, 7, 16, 11, 46, 4, 100, 54, 4]
abbrev dktX4_picksUp_6 : List UInt8 := dkwX4_picksUp_6 ++ dktX4_picksUp_7
def dkwX4_picksUp_5 : List UInt8 := [180, 0, 7, 16, 9, 46, 79, 42, 180, 0, 7, 27, 6, 96, 42, 180, 0, 7, 16, 9, 46, 42]
abbrev dktX4_picksUp_5 : List UInt8 := dkwX4_picksUp_5 ++ dktX4_picksUp_6
def dkwX4_picksUp_4 : List UInt8 := [180, 0, 7, 27, 4, 96, 42, 180, 0, 7, 16, 8, 46, 79, 42, 180, 0, 7, 27, 5, 96, 42]
abbrev dktX4_picksUp_4 : List UInt8 := dkwX4_picksUp_4 ++ dktX4_picksUp_5
def dkwX4_picksUp_3 : List UInt8 := [180, 0, 7, 16, 11, 92, 46, 4, 96, 79, 42, 180, 0, 7, 27, 42, 180, 0, 7, 3, 46, 79, 42]
abbrev dktX4_picksUp_3 : List UInt8 := dkwX4_picksUp_3 ++ dktX4_picksUp_4
def dkwX4_picksUp_2 : List UInt8 := [16, 11, 92, 46, 4, 100, 79, 16, 103, 16, 7, 42, 180, 0, 7, 16, 11, 46, 104, 96, 60, 42]
abbrev dktX4_picksUp_2 : List UInt8 := dkwX4_picksUp_2 ++ dktX4_picksUp_3
def dkwX4_picksUp_1 : List UInt8 := [180, 0, 7, 27, 42, 180, 0, 7, 27, 16, 7, 96, 46, 79, 132, 1, 1, 167, 255, 231, 42, 180, 0, 7]
abbrev dktX4_picksUp_1 : List UInt8 := dkwX4_picksUp_1 ++ dktX4_picksUp_2
def dkwX4_picksUp_0 : List UInt8 := [42, 180, 0, 7, 16, 11, 46, 16, 60, 160, 0, 45, 16, 103, 60, 27, 17, 2, 4, 162, 0, 24, 42]
abbrev dktX4_picksUp_0 : List UInt8 := dkwX4_picksUp_0 ++ dktX4_picksUp_1
theorem dksX4_picksUp_0 : cX4_picksUp.data.toList.drop 0 = dktX4_picksUp_0 := by decide +kernel
theorem dksX4_picksUp_1 : cX4_picksUp.data.toList.drop 23 = dktX4_picksUp_1 := dk_seg dksX4_picksUp_0 23 rfl rfl
theorem dksX4_picksUp_2 : cX4_picksUp.data.toList.drop 47 = dktX4_picksUp_2 := dk_seg dksX4_picksUp_1 24 rfl rfl
theorem dksX4_picksUp_3 : cX4_picksUp.data.toList.drop 69 = dktX4_picksUp_3 := dk_seg dksX4_picksUp_2 22 rfl rfl
theorem dksX4_picksUp_4 : cX4_picksUp.data.toList.drop 92 = dktX4_picksUp_4 := dk_seg dksX4_picksUp_3 23 rfl rfl
theorem dksX4_picksUp_5 : cX4_picksUp.data.toList.drop 114 = dktX4_picksUp_5 := dk_seg dksX4_picksUp_4 22 rfl rfl
theorem dksX4_picksUp_6 : cX4_picksUp.data.toList.drop 136 = dktX4_picksUp_6 := dk_seg dksX4_picksUp_5 22 rfl rfl
theorem dksX4_picksUp_7 : cX4_picksUp.data.toList.drop 159 = dktX4_picksUp_7 := dk_seg dksX4_picksUp_6 23 rfl rfl
theorem dksX4_picksUp_8 : cX4_picksUp.data.toList.drop 183 = dktX4_picksUp_8 := dk_seg dksX4_picksUp_7 24 rfl rfl
theorem dksX4_picksUp_9 : cX4_picksUp.data.toList.drop 206 = dktX4_picksUp_9 := dk_seg dksX4_picksUp_8 23 rfl rfl
theorem dksX4_picksUp_10 : cX4_picksUp.data.toList.drop 230 = dktX4_picksUp_10 := dk_seg dksX4_picksUp_9 24 rfl rfl
theorem dksX4_picksUp_11 : cX4_picksUp.data.toList.drop 252 = dktX4_picksUp_11 := dk_seg dksX4_picksUp_10 22 rfl rfl
theorem dksX4_picksUp_12 : cX4_picksUp.data.toList.drop 276 = dktX4_picksUp_12 := dk_seg dksX4_picksUp_11 24 rfl rfl
theorem dksX4_picksUp_13 : cX4_picksUp.data.toList.drop 298 = dktX4_picksUp_13 := dk_seg dksX4_picksUp_12 22 rfl rfl
theorem dksX4_picksUp_14 : cX4_picksUp.data.toList.drop 322 = dktX4_picksUp_14 := dk_seg dksX4_picksUp_13 24 rfl rfl
theorem dX4_picksUp_0 : decode cX4_picksUp 0 = .ok (.aload_n 0, 1) := dk_42 (dk_at dksX4_picksUp_0 0 rfl rfl)
theorem dX4_picksUp_1 : decode cX4_picksUp 1 = .ok (.getfield 7, 3) := dk_180 0 7 (dk_at dksX4_picksUp_0 1 rfl rfl)
theorem dX4_picksUp_4 : decode cX4_picksUp 4 = .ok (.bipush 11, 2) := dk_16 11 (dk_at dksX4_picksUp_0 4 rfl rfl)
theorem dX4_picksUp_6 : decode cX4_picksUp 6 = .ok (.iaload, 1) := dk_46 (dk_at dksX4_picksUp_0 6 rfl rfl)
theorem dX4_picksUp_7 : decode cX4_picksUp 7 = .ok (.bipush 60, 2) := dk_16 60 (dk_at dksX4_picksUp_0 7 rfl rfl)
theorem dX4_picksUp_9 : decode cX4_picksUp 9 = .ok (.if_icmp .ne 45, 3) := dk_160 0 45 (dk_at dksX4_picksUp_0 9 rfl rfl)
theorem dX4_picksUp_12 : decode cX4_picksUp 12 = .ok (.bipush 103, 2) := dk_16 103 (dk_at dksX4_picksUp_0 12 rfl rfl)
theorem dX4_picksUp_14 : decode cX4_picksUp 14 = .ok (.istore_n 1, 1) := dk_60 (dk_at dksX4_picksUp_0 14 rfl rfl)
theorem dX4_picksUp_15 : decode cX4_picksUp 15 = .ok (.iload_n 1, 1) := dk_27 (dk_at dksX4_picksUp_0 15 rfl rfl)
theorem dX4_picksUp_16 : decode cX4_picksUp 16 = .ok (.sipush 516, 3) := dk_17 2 4 (dk_at dksX4_picksUp_0 16 rfl rfl)
theorem dX4_picksUp_19 : decode cX4_picksUp 19 = .ok (.if_icmp .ge 24, 3) := dk_162 0 24 (dk_at dksX4_picksUp_0 19 rfl rfl)
theorem dX4_picksUp_22 : decode cX4_picksUp 22 = .ok (.aload_n 0, 1) := dk_42 (dk_at dksX4_picksUp_0 22 rfl rfl)
theorem dX4_picksUp_23 : decode cX4_picksUp 23 = .ok (.getfield 7, 3) := dk_180 0 7 (dk_at dksX4_picksUp_1 0 rfl rfl)
theorem dX4_picksUp_26 : decode cX4_picksUp 26 = .ok (.iload_n 1, 1) := dk_27 (dk_at dksX4_picksUp_1 3 rfl rfl)
theorem dX4_picksUp_27 : decode cX4_picksUp 27 = .ok (.aload_n 0, 1) := dk_42 (dk_at dksX4_picksUp_1 4 rfl rfl)
theorem dX4_picksUp_28 : decode cX4_picksUp 28 = .ok (.getfield 7, 3) := dk_180 0 7 (dk_at dksX4_picksUp_1 5 rfl rfl)
theorem dX4_picksUp_31 : decode cX4_picksUp 31 = .ok (.iload_n 1, 1) := dk_27 (dk_at dksX4_picksUp_1 8 rfl rfl)
theorem dX4_picksUp_32 : decode cX4_picksUp 32 = .ok (.bipush 7, 2) := dk_16 7 (dk_at dksX4_picksUp_1 9 rfl rfl)
theorem dX4_picksUp_34 : decode cX4_picksUp 34 = .ok (.iadd, 1) := dk_96 (dk_at dksX4_picksUp_1 11 rfl rfl)
theorem dX4_picksUp_35 : decode cX4_picksUp 35 = .ok (.iaload, 1) := dk_46 (dk_at dksX4_picksUp_1 12 rfl rfl)
theorem dX4_picksUp_36 : decode cX4_picksUp 36 = .ok (.iastore, 1) := dk_79 (dk_at dksX4_picksUp_1 13 rfl rfl)
theorem dX4_picksUp_37 : decode cX4_picksUp 37 = .ok (.iinc 1 1, 3) := dk_132 1 1 (dk_at dksX4_picksUp_1 14 rfl rfl)
theorem dX4_picksUp_40 : decode cX4_picksUp 40 = .ok (.goto (-25), 3) := dk_167 255 231 (dk_at dksX4_picksUp_1 17 rfl rfl)
theorem dX4_picksUp_43 : decode cX4_picksUp 43 = .ok (.aload_n 0, 1) := dk_42 (dk_at dksX4_picksUp_1 20 rfl rfl)
theorem dX4_picksUp_44 : decode cX4_picksUp 44 = .ok (.getfield 7, 3) := dk_180 0 7 (dk_at dksX4_picksUp_1 21 rfl rfl)
theorem dX4_picksUp_47 : decode cX4_picksUp 47 = .ok (.bipush 11, 2) := dk_16 11 (dk_at dksX4_picksUp_2 0 rfl rfl)
theorem dX4_picksUp_49 : decode cX4_picksUp 49 = .ok (.dup2, 1) := dk_92 (dk_at dksX4_picksUp_2 2 rfl rfl)
theorem dX4_picksUp_50 : decode cX4_picksUp 50 = .ok (.iaload, 1) := dk_46 (dk_at dksX4_picksUp_2 3 rfl rfl)
theorem dX4_picksUp_51 : decode cX4_picksUp 51 = .ok (.iconst 1, 1) := dk_4 (dk_at dksX4_picksUp_2 4 rfl rfl)
theorem dX4_picksUp_52 : decode cX4_picksUp 52 = .ok (.isub, 1) := dk_100 (dk_at dksX4_picksUp_2 5 rfl rfl)
theorem dX4_picksUp_53 : decode cX4_picksUp 53 = .ok (.iastore, 1) := dk_79 (dk_at dksX4_picksUp_2 6 rfl rfl)
theorem dX4_picksUp_54 : decode cX4_picksUp 54 = .ok (.bipush 103, 2) := dk_16 103 (dk_at dksX4_picksUp_2 7 rfl rfl)
theorem dX4_picksUp_56 : decode cX4_picksUp 56 = .ok (.bipush 7, 2) := dk_16 7 (dk_at dksX4_picksUp_2 9 rfl rfl)
theorem dX4_picksUp_58 : decode cX4_picksUp 58 = .ok (.aload_n 0, 1) := dk_42 (dk_at dksX4_picksUp_2 11 rfl rfl)
theorem dX4_picksUp_59 : decode cX4_picksUp 59 = .ok (.getfield 7, 3) := dk_180 0 7 (dk_at dksX4_picksUp_2 12 rfl rfl)
theorem dX4_picksUp_62 : decode cX4_picksUp 62 = .ok (.bipush 11, 2) := dk_16 11 (dk_at dksX4_picksUp_2 15 rfl rfl)
theorem dX4_picksUp_64 : decode cX4_picksUp 64 = .ok (.iaload, 1) := dk_46 (dk_at dksX4_picksUp_2 17 rfl rfl)
theorem dX4_picksUp_65 : decode cX4_picksUp 65 = .ok (.imul, 1) := dk_104 (dk_at dksX4_picksUp_2 18 rfl rfl)
theorem dX4_picksUp_66 : decode cX4_picksUp 66 = .ok (.iadd, 1) := dk_96 (dk_at dksX4_picksUp_2 19 rfl rfl)
theorem dX4_picksUp_67 : decode cX4_picksUp 67 = .ok (.istore_n 1, 1) := dk_60 (dk_at dksX4_picksUp_2 20 rfl rfl)
theorem dX4_picksUp_68 : decode cX4_picksUp 68 = .ok (.aload_n 0, 1) := dk_42 (dk_at dksX4_picksUp_2 21 rfl rfl)
theorem dX4_picksUp_69 : decode cX4_picksUp 69 = .ok (.getfield 7, 3) := dk_180 0 7 (dk_at dksX4_picksUp_3 0 rfl rfl)
theorem dX4_picksUp_72 : decode cX4_picksUp 72 = .ok (.bipush 11, 2) := dk_16 11 (dk_at dksX4_picksUp_3 3 rfl rfl)
theorem dX4_picksUp_74 : decode cX4_picksUp 74 = .ok (.dup2, 1) := dk_92 (dk_at dksX4_picksUp_3 5 rfl rfl)
theorem dX4_picksUp_75 : decode cX4_picksUp 75 = .ok (.iaload, 1) := dk_46 (dk_at dksX4_picksUp_3 6 rfl rfl)
theorem dX4_picksUp_76 : decode cX4_picksUp 76 = .ok (.iconst 1, 1) := dk_4 (dk_at dksX4_picksUp_3 7 rfl rfl)
theorem dX4_picksUp_77 : decode cX4_picksUp 77 = .ok (.iadd, 1) := dk_96 (dk_at dksX4_picksUp_3 8 rfl rfl)
theorem dX4_picksUp_78 : decode cX4_picksUp 78 = .ok (.iastore, 1) := dk_79 (dk_at dksX4_picksUp_3 9 rfl rfl)
theorem dX4_picksUp_79 : decode cX4_picksUp 79 = .ok (.aload_n 0, 1) := dk_42 (dk_at dksX4_picksUp_3 10 rfl rfl)
theorem dX4_picksUp_80 : decode cX4_picksUp 80 = .ok (.getfield 7, 3) := dk_180 0 7 (dk_at dksX4_picksUp_3 11 rfl rfl)
theorem dX4_picksUp_83 : decode cX4_picksUp 83 = .ok (.iload_n 1, 1) := dk_27 (dk_at dksX4_picksUp_3 14 rfl rfl)
theorem dX4_picksUp_84 : decode cX4_picksUp 84 = .ok (.aload_n 0, 1) := dk_42 (dk_at dksX4_picksUp_3 15 rfl rfl)
theorem dX4_picksUp_85 : decode cX4_picksUp 85 = .ok (.getfield 7, 3) := dk_180 0 7 (dk_at dksX4_picksUp_3 16 rfl rfl)
theorem dX4_picksUp_88 : decode cX4_picksUp 88 = .ok (.iconst 0, 1) := dk_3 (dk_at dksX4_picksUp_3 19 rfl rfl)
theorem dX4_picksUp_89 : decode cX4_picksUp 89 = .ok (.iaload, 1) := dk_46 (dk_at dksX4_picksUp_3 20 rfl rfl)
theorem dX4_picksUp_90 : decode cX4_picksUp 90 = .ok (.iastore, 1) := dk_79 (dk_at dksX4_picksUp_3 21 rfl rfl)
theorem dX4_picksUp_91 : decode cX4_picksUp 91 = .ok (.aload_n 0, 1) := dk_42 (dk_at dksX4_picksUp_3 22 rfl rfl)
theorem dX4_picksUp_92 : decode cX4_picksUp 92 = .ok (.getfield 7, 3) := dk_180 0 7 (dk_at dksX4_picksUp_4 0 rfl rfl)
theorem dX4_picksUp_95 : decode cX4_picksUp 95 = .ok (.iload_n 1, 1) := dk_27 (dk_at dksX4_picksUp_4 3 rfl rfl)
theorem dX4_picksUp_96 : decode cX4_picksUp 96 = .ok (.iconst 1, 1) := dk_4 (dk_at dksX4_picksUp_4 4 rfl rfl)
theorem dX4_picksUp_97 : decode cX4_picksUp 97 = .ok (.iadd, 1) := dk_96 (dk_at dksX4_picksUp_4 5 rfl rfl)
theorem dX4_picksUp_98 : decode cX4_picksUp 98 = .ok (.aload_n 0, 1) := dk_42 (dk_at dksX4_picksUp_4 6 rfl rfl)
theorem dX4_picksUp_99 : decode cX4_picksUp 99 = .ok (.getfield 7, 3) := dk_180 0 7 (dk_at dksX4_picksUp_4 7 rfl rfl)
theorem dX4_picksUp_102 : decode cX4_picksUp 102 = .ok (.bipush 8, 2) := dk_16 8 (dk_at dksX4_picksUp_4 10 rfl rfl)
theorem dX4_picksUp_104 : decode cX4_picksUp 104 = .ok (.iaload, 1) := dk_46 (dk_at dksX4_picksUp_4 12 rfl rfl)
theorem dX4_picksUp_105 : decode cX4_picksUp 105 = .ok (.iastore, 1) := dk_79 (dk_at dksX4_picksUp_4 13 rfl rfl)
theorem dX4_picksUp_106 : decode cX4_picksUp 106 = .ok (.aload_n 0, 1) := dk_42 (dk_at dksX4_picksUp_4 14 rfl rfl)
theorem dX4_picksUp_107 : decode cX4_picksUp 107 = .ok (.getfield 7, 3) := dk_180 0 7 (dk_at dksX4_picksUp_4 15 rfl rfl)
theorem dX4_picksUp_110 : decode cX4_picksUp 110 = .ok (.iload_n 1, 1) := dk_27 (dk_at dksX4_picksUp_4 18 rfl rfl)
theorem dX4_picksUp_111 : decode cX4_picksUp 111 = .ok (.iconst 2, 1) := dk_5 (dk_at dksX4_picksUp_4 19 rfl rfl)
theorem dX4_picksUp_112 : decode cX4_picksUp 112 = .ok (.iadd, 1) := dk_96 (dk_at dksX4_picksUp_4 20 rfl rfl)
theorem dX4_picksUp_113 : decode cX4_picksUp 113 = .ok (.aload_n 0, 1) := dk_42 (dk_at dksX4_picksUp_4 21 rfl rfl)
theorem dX4_picksUp_114 : decode cX4_picksUp 114 = .ok (.getfield 7, 3) := dk_180 0 7 (dk_at dksX4_picksUp_5 0 rfl rfl)
theorem dX4_picksUp_117 : decode cX4_picksUp 117 = .ok (.bipush 9, 2) := dk_16 9 (dk_at dksX4_picksUp_5 3 rfl rfl)
theorem dX4_picksUp_119 : decode cX4_picksUp 119 = .ok (.iaload, 1) := dk_46 (dk_at dksX4_picksUp_5 5 rfl rfl)
theorem dX4_picksUp_120 : decode cX4_picksUp 120 = .ok (.iastore, 1) := dk_79 (dk_at dksX4_picksUp_5 6 rfl rfl)
theorem dX4_picksUp_121 : decode cX4_picksUp 121 = .ok (.aload_n 0, 1) := dk_42 (dk_at dksX4_picksUp_5 7 rfl rfl)
theorem dX4_picksUp_122 : decode cX4_picksUp 122 = .ok (.getfield 7, 3) := dk_180 0 7 (dk_at dksX4_picksUp_5 8 rfl rfl)
theorem dX4_picksUp_125 : decode cX4_picksUp 125 = .ok (.iload_n 1, 1) := dk_27 (dk_at dksX4_picksUp_5 11 rfl rfl)
theorem dX4_picksUp_126 : decode cX4_picksUp 126 = .ok (.iconst 3, 1) := dk_6 (dk_at dksX4_picksUp_5 12 rfl rfl)
theorem dX4_picksUp_127 : decode cX4_picksUp 127 = .ok (.iadd, 1) := dk_96 (dk_at dksX4_picksUp_5 13 rfl rfl)
theorem dX4_picksUp_128 : decode cX4_picksUp 128 = .ok (.aload_n 0, 1) := dk_42 (dk_at dksX4_picksUp_5 14 rfl rfl)
theorem dX4_picksUp_129 : decode cX4_picksUp 129 = .ok (.getfield 7, 3) := dk_180 0 7 (dk_at dksX4_picksUp_5 15 rfl rfl)
theorem dX4_picksUp_132 : decode cX4_picksUp 132 = .ok (.bipush 9, 2) := dk_16 9 (dk_at dksX4_picksUp_5 18 rfl rfl)
theorem dX4_picksUp_134 : decode cX4_picksUp 134 = .ok (.iaload, 1) := dk_46 (dk_at dksX4_picksUp_5 20 rfl rfl)
theorem dX4_picksUp_135 : decode cX4_picksUp 135 = .ok (.aload_n 0, 1) := dk_42 (dk_at dksX4_picksUp_5 21 rfl rfl)
theorem dX4_picksUp_136 : decode cX4_picksUp 136 = .ok (.getfield 7, 3) := dk_180 0 7 (dk_at dksX4_picksUp_6 0 rfl rfl)
theorem dX4_picksUp_139 : decode cX4_picksUp 139 = .ok (.bipush 8, 2) := dk_16 8 (dk_at dksX4_picksUp_6 3 rfl rfl)
theorem dX4_picksUp_141 : decode cX4_picksUp 141 = .ok (.iaload, 1) := dk_46 (dk_at dksX4_picksUp_6 5 rfl rfl)
theorem dX4_picksUp_142 : decode cX4_picksUp 142 = .ok (.idiv, 1) := dk_108 (dk_at dksX4_picksUp_6 6 rfl rfl)
theorem dX4_picksUp_143 : decode cX4_picksUp 143 = .ok (.iastore, 1) := dk_79 (dk_at dksX4_picksUp_6 7 rfl rfl)
theorem dX4_picksUp_144 : decode cX4_picksUp 144 = .ok (.iconst 0, 1) := dk_3 (dk_at dksX4_picksUp_6 8 rfl rfl)
theorem dX4_picksUp_145 : decode cX4_picksUp 145 = .ok (.istore_n 2, 1) := dk_61 (dk_at dksX4_picksUp_6 9 rfl rfl)
theorem dX4_picksUp_146 : decode cX4_picksUp 146 = .ok (.iconst 0, 1) := dk_3 (dk_at dksX4_picksUp_6 10 rfl rfl)
theorem dX4_picksUp_147 : decode cX4_picksUp 147 = .ok (.istore_n 3, 1) := dk_62 (dk_at dksX4_picksUp_6 11 rfl rfl)
theorem dX4_picksUp_148 : decode cX4_picksUp 148 = .ok (.aload_n 0, 1) := dk_42 (dk_at dksX4_picksUp_6 12 rfl rfl)
theorem dX4_picksUp_149 : decode cX4_picksUp 149 = .ok (.getfield 7, 3) := dk_180 0 7 (dk_at dksX4_picksUp_6 13 rfl rfl)
theorem dX4_picksUp_152 : decode cX4_picksUp 152 = .ok (.bipush 11, 2) := dk_16 11 (dk_at dksX4_picksUp_6 16 rfl rfl)
theorem dX4_picksUp_154 : decode cX4_picksUp 154 = .ok (.iaload, 1) := dk_46 (dk_at dksX4_picksUp_6 18 rfl rfl)
theorem dX4_picksUp_155 : decode cX4_picksUp 155 = .ok (.iconst 1, 1) := dk_4 (dk_at dksX4_picksUp_6 19 rfl rfl)
theorem dX4_picksUp_156 : decode cX4_picksUp 156 = .ok (.isub, 1) := dk_100 (dk_at dksX4_picksUp_6 20 rfl rfl)
theorem dX4_picksUp_157 : decode cX4_picksUp 157 = .ok (.istore 4, 2) := dk_54 4 (dk_at dksX4_picksUp_6 21 rfl rfl)
theorem dX4_picksUp_159 : decode cX4_picksUp 159 = .ok (.iload 4, 2) := dk_21 4 (dk_at dksX4_picksUp_7 0 rfl rfl)
theorem dX4_picksUp_161 : decode cX4_picksUp 161 = .ok (.ifCond .lt 64, 3) := dk_155 0 64 (dk_at dksX4_picksUp_7 2 rfl rfl)
theorem dX4_picksUp_164 : decode cX4_picksUp 164 = .ok (.iload 4, 2) := dk_21 4 (dk_at dksX4_picksUp_7 5 rfl rfl)
theorem dX4_picksUp_166 : decode cX4_picksUp 166 = .ok (.aload_n 0, 1) := dk_42 (dk_at dksX4_picksUp_7 7 rfl rfl)
theorem dX4_picksUp_167 : decode cX4_picksUp 167 = .ok (.getfield 7, 3) := dk_180 0 7 (dk_at dksX4_picksUp_7 8 rfl rfl)
theorem dX4_picksUp_170 : decode cX4_picksUp 170 = .ok (.bipush 11, 2) := dk_16 11 (dk_at dksX4_picksUp_7 11 rfl rfl)
theorem dX4_picksUp_172 : decode cX4_picksUp 172 = .ok (.iaload, 1) := dk_46 (dk_at dksX4_picksUp_7 13 rfl rfl)
theorem dX4_picksUp_173 : decode cX4_picksUp 173 = .ok (.aload_n 0, 1) := dk_42 (dk_at dksX4_picksUp_7 14 rfl rfl)
theorem dX4_picksUp_174 : decode cX4_picksUp 174 = .ok (.getfield 7, 3) := dk_180 0 7 (dk_at dksX4_picksUp_7 15 rfl rfl)
theorem dX4_picksUp_177 : decode cX4_picksUp 177 = .ok (.iconst 5, 1) := dk_8 (dk_at dksX4_picksUp_7 18 rfl rfl)
theorem dX4_picksUp_178 : decode cX4_picksUp 178 = .ok (.iaload, 1) := dk_46 (dk_at dksX4_picksUp_7 19 rfl rfl)
theorem dX4_picksUp_179 : decode cX4_picksUp 179 = .ok (.isub, 1) := dk_100 (dk_at dksX4_picksUp_7 20 rfl rfl)
theorem dX4_picksUp_180 : decode cX4_picksUp 180 = .ok (.if_icmp .lt 45, 3) := dk_161 0 45 (dk_at dksX4_picksUp_7 21 rfl rfl)
theorem dX4_picksUp_183 : decode cX4_picksUp 183 = .ok (.iload_n 3, 1) := dk_29 (dk_at dksX4_picksUp_8 0 rfl rfl)
theorem dX4_picksUp_184 : decode cX4_picksUp 184 = .ok (.aload_n 0, 1) := dk_42 (dk_at dksX4_picksUp_8 1 rfl rfl)
theorem dX4_picksUp_185 : decode cX4_picksUp 185 = .ok (.getfield 7, 3) := dk_180 0 7 (dk_at dksX4_picksUp_8 2 rfl rfl)
theorem dX4_picksUp_188 : decode cX4_picksUp 188 = .ok (.bipush 103, 2) := dk_16 103 (dk_at dksX4_picksUp_8 5 rfl rfl)
theorem dX4_picksUp_190 : decode cX4_picksUp 190 = .ok (.bipush 7, 2) := dk_16 7 (dk_at dksX4_picksUp_8 7 rfl rfl)
theorem dX4_picksUp_192 : decode cX4_picksUp 192 = .ok (.iload 4, 2) := dk_21 4 (dk_at dksX4_picksUp_8 9 rfl rfl)
theorem dX4_picksUp_194 : decode cX4_picksUp 194 = .ok (.imul, 1) := dk_104 (dk_at dksX4_picksUp_8 11 rfl rfl)
theorem dX4_picksUp_195 : decode cX4_picksUp 195 = .ok (.iadd, 1) := dk_96 (dk_at dksX4_picksUp_8 12 rfl rfl)
theorem dX4_picksUp_196 : decode cX4_picksUp 196 = .ok (.iconst 1, 1) := dk_4 (dk_at dksX4_picksUp_8 13 rfl rfl)
theorem dX4_picksUp_197 : decode cX4_picksUp 197 = .ok (.iadd, 1) := dk_96 (dk_at dksX4_picksUp_8 14 rfl rfl)
theorem dX4_picksUp_198 : decode cX4_picksUp 198 = .ok (.iaload, 1) := dk_46 (dk_at dksX4_picksUp_8 15 rfl rfl)
theorem dX4_picksUp_199 : decode cX4_picksUp 199 = .ok (.iadd, 1) := dk_96 (dk_at dksX4_picksUp_8 16 rfl rfl)
theorem dX4_picksUp_200 : decode cX4_picksUp 200 = .ok (.istore_n 3, 1) := dk_62 (dk_at dksX4_picksUp_8 17 rfl rfl)
theorem dX4_picksUp_201 : decode cX4_picksUp 201 = .ok (.iload_n 2, 1) := dk_28 (dk_at dksX4_picksUp_8 18 rfl rfl)
theorem dX4_picksUp_202 : decode cX4_picksUp 202 = .ok (.aload_n 0, 1) := dk_42 (dk_at dksX4_picksUp_8 19 rfl rfl)
theorem dX4_picksUp_203 : decode cX4_picksUp 203 = .ok (.getfield 7, 3) := dk_180 0 7 (dk_at dksX4_picksUp_8 20 rfl rfl)
theorem dX4_picksUp_206 : decode cX4_picksUp 206 = .ok (.bipush 103, 2) := dk_16 103 (dk_at dksX4_picksUp_9 0 rfl rfl)
theorem dX4_picksUp_208 : decode cX4_picksUp 208 = .ok (.bipush 7, 2) := dk_16 7 (dk_at dksX4_picksUp_9 2 rfl rfl)
theorem dX4_picksUp_210 : decode cX4_picksUp 210 = .ok (.iload 4, 2) := dk_21 4 (dk_at dksX4_picksUp_9 4 rfl rfl)
theorem dX4_picksUp_212 : decode cX4_picksUp 212 = .ok (.imul, 1) := dk_104 (dk_at dksX4_picksUp_9 6 rfl rfl)
theorem dX4_picksUp_213 : decode cX4_picksUp 213 = .ok (.iadd, 1) := dk_96 (dk_at dksX4_picksUp_9 7 rfl rfl)
theorem dX4_picksUp_214 : decode cX4_picksUp 214 = .ok (.iconst 2, 1) := dk_5 (dk_at dksX4_picksUp_9 8 rfl rfl)
theorem dX4_picksUp_215 : decode cX4_picksUp 215 = .ok (.iadd, 1) := dk_96 (dk_at dksX4_picksUp_9 9 rfl rfl)
theorem dX4_picksUp_216 : decode cX4_picksUp 216 = .ok (.iaload, 1) := dk_46 (dk_at dksX4_picksUp_9 10 rfl rfl)
theorem dX4_picksUp_217 : decode cX4_picksUp 217 = .ok (.iadd, 1) := dk_96 (dk_at dksX4_picksUp_9 11 rfl rfl)
theorem dX4_picksUp_218 : decode cX4_picksUp 218 = .ok (.istore_n 2, 1) := dk_61 (dk_at dksX4_picksUp_9 12 rfl rfl)
theorem dX4_picksUp_219 : decode cX4_picksUp 219 = .ok (.iinc 4 (-1), 3) := dk_132 4 255 (dk_at dksX4_picksUp_9 13 rfl rfl)
theorem dX4_picksUp_222 : decode cX4_picksUp 222 = .ok (.goto (-63), 3) := dk_167 255 193 (dk_at dksX4_picksUp_9 16 rfl rfl)
theorem dX4_picksUp_225 : decode cX4_picksUp 225 = .ok (.aload_n 0, 1) := dk_42 (dk_at dksX4_picksUp_9 19 rfl rfl)
theorem dX4_picksUp_226 : decode cX4_picksUp 226 = .ok (.getfield 7, 3) := dk_180 0 7 (dk_at dksX4_picksUp_9 20 rfl rfl)
theorem dX4_picksUp_229 : decode cX4_picksUp 229 = .ok (.iload_n 1, 1) := dk_27 (dk_at dksX4_picksUp_9 23 rfl rfl)
theorem dX4_picksUp_230 : decode cX4_picksUp 230 = .ok (.iconst 4, 1) := dk_7 (dk_at dksX4_picksUp_10 0 rfl rfl)
theorem dX4_picksUp_231 : decode cX4_picksUp 231 = .ok (.iadd, 1) := dk_96 (dk_at dksX4_picksUp_10 1 rfl rfl)
theorem dX4_picksUp_232 : decode cX4_picksUp 232 = .ok (.iload_n 2, 1) := dk_28 (dk_at dksX4_picksUp_10 2 rfl rfl)
theorem dX4_picksUp_233 : decode cX4_picksUp 233 = .ok (.iload_n 3, 1) := dk_29 (dk_at dksX4_picksUp_10 3 rfl rfl)
theorem dX4_picksUp_234 : decode cX4_picksUp 234 = .ok (.idiv, 1) := dk_108 (dk_at dksX4_picksUp_10 4 rfl rfl)
theorem dX4_picksUp_235 : decode cX4_picksUp 235 = .ok (.iastore, 1) := dk_79 (dk_at dksX4_picksUp_10 5 rfl rfl)
theorem dX4_picksUp_236 : decode cX4_picksUp 236 = .ok (.aload_n 0, 1) := dk_42 (dk_at dksX4_picksUp_10 6 rfl rfl)
theorem dX4_picksUp_237 : decode cX4_picksUp 237 = .ok (.getfield 7, 3) := dk_180 0 7 (dk_at dksX4_picksUp_10 7 rfl rfl)
theorem dX4_picksUp_240 : decode cX4_picksUp 240 = .ok (.iload_n 1, 1) := dk_27 (dk_at dksX4_picksUp_10 10 rfl rfl)
theorem dX4_picksUp_241 : decode cX4_picksUp 241 = .ok (.iconst 5, 1) := dk_8 (dk_at dksX4_picksUp_10 11 rfl rfl)
theorem dX4_picksUp_242 : decode cX4_picksUp 242 = .ok (.iadd, 1) := dk_96 (dk_at dksX4_picksUp_10 12 rfl rfl)
theorem dX4_picksUp_243 : decode cX4_picksUp 243 = .ok (.aload_n 0, 1) := dk_42 (dk_at dksX4_picksUp_10 13 rfl rfl)
theorem dX4_picksUp_244 : decode cX4_picksUp 244 = .ok (.aload_n 0, 1) := dk_42 (dk_at dksX4_picksUp_10 14 rfl rfl)
theorem dX4_picksUp_245 : decode cX4_picksUp 245 = .ok (.getfield 7, 3) := dk_180 0 7 (dk_at dksX4_picksUp_10 15 rfl rfl)
theorem dX4_picksUp_248 : decode cX4_picksUp 248 = .ok (.iload_n 1, 1) := dk_27 (dk_at dksX4_picksUp_10 18 rfl rfl)
theorem dX4_picksUp_249 : decode cX4_picksUp 249 = .ok (.iconst 4, 1) := dk_7 (dk_at dksX4_picksUp_10 19 rfl rfl)
theorem dX4_picksUp_250 : decode cX4_picksUp 250 = .ok (.iadd, 1) := dk_96 (dk_at dksX4_picksUp_10 20 rfl rfl)
theorem dX4_picksUp_251 : decode cX4_picksUp 251 = .ok (.iaload, 1) := dk_46 (dk_at dksX4_picksUp_10 21 rfl rfl)
theorem dX4_picksUp_252 : decode cX4_picksUp 252 = .ok (.invokevirtual 118, 3) := dk_182 0 118 (dk_at dksX4_picksUp_11 0 rfl rfl)
theorem dX4_picksUp_255 : decode cX4_picksUp 255 = .ok (.iastore, 1) := dk_79 (dk_at dksX4_picksUp_11 3 rfl rfl)
theorem dX4_picksUp_256 : decode cX4_picksUp 256 = .ok (.aload_n 0, 1) := dk_42 (dk_at dksX4_picksUp_11 4 rfl rfl)
theorem dX4_picksUp_257 : decode cX4_picksUp 257 = .ok (.getfield 7, 3) := dk_180 0 7 (dk_at dksX4_picksUp_11 5 rfl rfl)
theorem dX4_picksUp_260 : decode cX4_picksUp 260 = .ok (.iload_n 1, 1) := dk_27 (dk_at dksX4_picksUp_11 8 rfl rfl)
theorem dX4_picksUp_261 : decode cX4_picksUp 261 = .ok (.bipush 6, 2) := dk_16 6 (dk_at dksX4_picksUp_11 9 rfl rfl)
theorem dX4_picksUp_263 : decode cX4_picksUp 263 = .ok (.iadd, 1) := dk_96 (dk_at dksX4_picksUp_11 11 rfl rfl)
theorem dX4_picksUp_264 : decode cX4_picksUp 264 = .ok (.aload_n 0, 1) := dk_42 (dk_at dksX4_picksUp_11 12 rfl rfl)
theorem dX4_picksUp_265 : decode cX4_picksUp 265 = .ok (.getfield 7, 3) := dk_180 0 7 (dk_at dksX4_picksUp_11 13 rfl rfl)
theorem dX4_picksUp_268 : decode cX4_picksUp 268 = .ok (.bipush 6, 2) := dk_16 6 (dk_at dksX4_picksUp_11 16 rfl rfl)
theorem dX4_picksUp_270 : decode cX4_picksUp 270 = .ok (.iaload, 1) := dk_46 (dk_at dksX4_picksUp_11 18 rfl rfl)
theorem dX4_picksUp_271 : decode cX4_picksUp 271 = .ok (.aload_n 0, 1) := dk_42 (dk_at dksX4_picksUp_11 19 rfl rfl)
theorem dX4_picksUp_272 : decode cX4_picksUp 272 = .ok (.getfield 7, 3) := dk_180 0 7 (dk_at dksX4_picksUp_11 20 rfl rfl)
theorem dX4_picksUp_275 : decode cX4_picksUp 275 = .ok (.iload_n 1, 1) := dk_27 (dk_at dksX4_picksUp_11 23 rfl rfl)
theorem dX4_picksUp_276 : decode cX4_picksUp 276 = .ok (.iconst 5, 1) := dk_8 (dk_at dksX4_picksUp_12 0 rfl rfl)
theorem dX4_picksUp_277 : decode cX4_picksUp 277 = .ok (.iadd, 1) := dk_96 (dk_at dksX4_picksUp_12 1 rfl rfl)
theorem dX4_picksUp_278 : decode cX4_picksUp 278 = .ok (.iaload, 1) := dk_46 (dk_at dksX4_picksUp_12 2 rfl rfl)
theorem dX4_picksUp_279 : decode cX4_picksUp 279 = .ok (.iadd, 1) := dk_96 (dk_at dksX4_picksUp_12 3 rfl rfl)
theorem dX4_picksUp_280 : decode cX4_picksUp 280 = .ok (.aload_n 0, 1) := dk_42 (dk_at dksX4_picksUp_12 4 rfl rfl)
theorem dX4_picksUp_281 : decode cX4_picksUp 281 = .ok (.getfield 7, 3) := dk_180 0 7 (dk_at dksX4_picksUp_12 5 rfl rfl)
theorem dX4_picksUp_284 : decode cX4_picksUp 284 = .ok (.bipush 8, 2) := dk_16 8 (dk_at dksX4_picksUp_12 8 rfl rfl)
theorem dX4_picksUp_286 : decode cX4_picksUp 286 = .ok (.iaload, 1) := dk_46 (dk_at dksX4_picksUp_12 10 rfl rfl)
theorem dX4_picksUp_287 : decode cX4_picksUp 287 = .ok (.imul, 1) := dk_104 (dk_at dksX4_picksUp_12 11 rfl rfl)
theorem dX4_picksUp_288 : decode cX4_picksUp 288 = .ok (.iastore, 1) := dk_79 (dk_at dksX4_picksUp_12 12 rfl rfl)
theorem dX4_picksUp_289 : decode cX4_picksUp 289 = .ok (.aload_n 0, 1) := dk_42 (dk_at dksX4_picksUp_12 13 rfl rfl)
theorem dX4_picksUp_290 : decode cX4_picksUp 290 = .ok (.getfield 7, 3) := dk_180 0 7 (dk_at dksX4_picksUp_12 14 rfl rfl)
theorem dX4_picksUp_293 : decode cX4_picksUp 293 = .ok (.bipush 12, 2) := dk_16 12 (dk_at dksX4_picksUp_12 17 rfl rfl)
theorem dX4_picksUp_295 : decode cX4_picksUp 295 = .ok (.dup2, 1) := dk_92 (dk_at dksX4_picksUp_12 19 rfl rfl)
theorem dX4_picksUp_296 : decode cX4_picksUp 296 = .ok (.iaload, 1) := dk_46 (dk_at dksX4_picksUp_12 20 rfl rfl)
theorem dX4_picksUp_297 : decode cX4_picksUp 297 = .ok (.aload_n 0, 1) := dk_42 (dk_at dksX4_picksUp_12 21 rfl rfl)
theorem dX4_picksUp_298 : decode cX4_picksUp 298 = .ok (.getfield 7, 3) := dk_180 0 7 (dk_at dksX4_picksUp_13 0 rfl rfl)
theorem dX4_picksUp_301 : decode cX4_picksUp 301 = .ok (.bipush 8, 2) := dk_16 8 (dk_at dksX4_picksUp_13 3 rfl rfl)
theorem dX4_picksUp_303 : decode cX4_picksUp 303 = .ok (.iaload, 1) := dk_46 (dk_at dksX4_picksUp_13 5 rfl rfl)
theorem dX4_picksUp_304 : decode cX4_picksUp 304 = .ok (.iadd, 1) := dk_96 (dk_at dksX4_picksUp_13 6 rfl rfl)
theorem dX4_picksUp_305 : decode cX4_picksUp 305 = .ok (.iastore, 1) := dk_79 (dk_at dksX4_picksUp_13 7 rfl rfl)
theorem dX4_picksUp_306 : decode cX4_picksUp 306 = .ok (.aload_n 0, 1) := dk_42 (dk_at dksX4_picksUp_13 8 rfl rfl)
theorem dX4_picksUp_307 : decode cX4_picksUp 307 = .ok (.getfield 7, 3) := dk_180 0 7 (dk_at dksX4_picksUp_13 9 rfl rfl)
theorem dX4_picksUp_310 : decode cX4_picksUp 310 = .ok (.bipush 13, 2) := dk_16 13 (dk_at dksX4_picksUp_13 12 rfl rfl)
theorem dX4_picksUp_312 : decode cX4_picksUp 312 = .ok (.dup2, 1) := dk_92 (dk_at dksX4_picksUp_13 14 rfl rfl)
theorem dX4_picksUp_313 : decode cX4_picksUp 313 = .ok (.iaload, 1) := dk_46 (dk_at dksX4_picksUp_13 15 rfl rfl)
theorem dX4_picksUp_314 : decode cX4_picksUp 314 = .ok (.aload_n 0, 1) := dk_42 (dk_at dksX4_picksUp_13 16 rfl rfl)
theorem dX4_picksUp_315 : decode cX4_picksUp 315 = .ok (.getfield 7, 3) := dk_180 0 7 (dk_at dksX4_picksUp_13 17 rfl rfl)
theorem dX4_picksUp_318 : decode cX4_picksUp 318 = .ok (.iload_n 1, 1) := dk_27 (dk_at dksX4_picksUp_13 20 rfl rfl)
theorem dX4_picksUp_319 : decode cX4_picksUp 319 = .ok (.bipush 6, 2) := dk_16 6 (dk_at dksX4_picksUp_13 21 rfl rfl)
theorem dX4_picksUp_321 : decode cX4_picksUp 321 = .ok (.iadd, 1) := dk_96 (dk_at dksX4_picksUp_13 23 rfl rfl)
theorem dX4_picksUp_322 : decode cX4_picksUp 322 = .ok (.iaload, 1) := dk_46 (dk_at dksX4_picksUp_14 0 rfl rfl)
theorem dX4_picksUp_323 : decode cX4_picksUp 323 = .ok (.iadd, 1) := dk_96 (dk_at dksX4_picksUp_14 1 rfl rfl)
theorem dX4_picksUp_324 : decode cX4_picksUp 324 = .ok (.iastore, 1) := dk_79 (dk_at dksX4_picksUp_14 2 rfl rfl)
theorem dX4_picksUp_325 : decode cX4_picksUp 325 = .ok (.aload_n 0, 1) := dk_42 (dk_at dksX4_picksUp_14 3 rfl rfl)
theorem dX4_picksUp_326 : decode cX4_picksUp 326 = .ok (.getfield 7, 3) := dk_180 0 7 (dk_at dksX4_picksUp_14 4 rfl rfl)
theorem dX4_picksUp_329 : decode cX4_picksUp 329 = .ok (.bipush 8, 2) := dk_16 8 (dk_at dksX4_picksUp_14 7 rfl rfl)
theorem dX4_picksUp_331 : decode cX4_picksUp 331 = .ok (.iconst 0, 1) := dk_3 (dk_at dksX4_picksUp_14 9 rfl rfl)
theorem dX4_picksUp_332 : decode cX4_picksUp 332 = .ok (.iastore, 1) := dk_79 (dk_at dksX4_picksUp_14 10 rfl rfl)
theorem dX4_picksUp_333 : decode cX4_picksUp 333 = .ok (.aload_n 0, 1) := dk_42 (dk_at dksX4_picksUp_14 11 rfl rfl)
theorem dX4_picksUp_334 : decode cX4_picksUp 334 = .ok (.getfield 7, 3) := dk_180 0 7 (dk_at dksX4_picksUp_14 12 rfl rfl)
theorem dX4_picksUp_337 : decode cX4_picksUp 337 = .ok (.bipush 9, 2) := dk_16 9 (dk_at dksX4_picksUp_14 15 rfl rfl)
theorem dX4_picksUp_339 : decode cX4_picksUp 339 = .ok (.iconst 0, 1) := dk_3 (dk_at dksX4_picksUp_14 17 rfl rfl)
theorem dX4_picksUp_340 : decode cX4_picksUp 340 = .ok (.iastore, 1) := dk_79 (dk_at dksX4_picksUp_14 18 rfl rfl)
theorem dX4_picksUp_341 : decode cX4_picksUp 341 = .ok (.return_, 1) := dk_177 (dk_at dksX4_picksUp_14 19 rfl rfl)
abbrev cX4_bonusFor : ByteArray := prog_15_method_37_code
def yX4_bonusFor : MethodName := ⟨RX4, "bonusFor", "(I)I"⟩
def dkwX4_bonusFor_2 : List UInt8 := [3, 172]
abbrev dktX4_bonusFor_2 : List UInt8 := dkwX4_bonusFor_2 ++ []
def dkwX4_bonusFor_1 : List UInt8 := [27, 161, 0, 17, 42, 180, 0, 7, 16, 95, 5, 28, 104, 96, 4, 96, 46, 172, 132, 2, 1, 167, 255, 213]
abbrev dktX4_bonusFor_1 : List UInt8 := dkwX4_bonusFor_1 ++ dktX4_bonusFor_2
def dkwX4_bonusFor_0 : List UInt8 := [3, 61, 28, 42, 180, 0, 7, 16, 10, 46, 162, 0, 38, 42, 180, 0, 7, 16, 95, 5, 28, 104, 96, 46]
abbrev dktX4_bonusFor_0 : List UInt8 := dkwX4_bonusFor_0 ++ dktX4_bonusFor_1
theorem dksX4_bonusFor_0 : cX4_bonusFor.data.toList.drop 0 = dktX4_bonusFor_0 := by decide +kernel
theorem dksX4_bonusFor_1 : cX4_bonusFor.data.toList.drop 24 = dktX4_bonusFor_1 := dk_seg dksX4_bonusFor_0 24 rfl rfl
theorem dksX4_bonusFor_2 : cX4_bonusFor.data.toList.drop 48 = dktX4_bonusFor_2 := dk_seg dksX4_bonusFor_1 24 rfl rfl
theorem dX4_bonusFor_0 : decode cX4_bonusFor 0 = .ok (.iconst 0, 1) := dk_3 (dk_at dksX4_bonusFor_0 0 rfl rfl)
theorem dX4_bonusFor_1 : decode cX4_bonusFor 1 = .ok (.istore_n 2, 1) := dk_61 (dk_at dksX4_bonusFor_0 1 rfl rfl)
theorem dX4_bonusFor_2 : decode cX4_bonusFor 2 = .ok (.iload_n 2, 1) := dk_28 (dk_at dksX4_bonusFor_0 2 rfl rfl)
theorem dX4_bonusFor_3 : decode cX4_bonusFor 3 = .ok (.aload_n 0, 1) := dk_42 (dk_at dksX4_bonusFor_0 3 rfl rfl)
theorem dX4_bonusFor_4 : decode cX4_bonusFor 4 = .ok (.getfield 7, 3) := dk_180 0 7 (dk_at dksX4_bonusFor_0 4 rfl rfl)
theorem dX4_bonusFor_7 : decode cX4_bonusFor 7 = .ok (.bipush 10, 2) := dk_16 10 (dk_at dksX4_bonusFor_0 7 rfl rfl)
theorem dX4_bonusFor_9 : decode cX4_bonusFor 9 = .ok (.iaload, 1) := dk_46 (dk_at dksX4_bonusFor_0 9 rfl rfl)
theorem dX4_bonusFor_10 : decode cX4_bonusFor 10 = .ok (.if_icmp .ge 38, 3) := dk_162 0 38 (dk_at dksX4_bonusFor_0 10 rfl rfl)
theorem dX4_bonusFor_13 : decode cX4_bonusFor 13 = .ok (.aload_n 0, 1) := dk_42 (dk_at dksX4_bonusFor_0 13 rfl rfl)
theorem dX4_bonusFor_14 : decode cX4_bonusFor 14 = .ok (.getfield 7, 3) := dk_180 0 7 (dk_at dksX4_bonusFor_0 14 rfl rfl)
theorem dX4_bonusFor_17 : decode cX4_bonusFor 17 = .ok (.bipush 95, 2) := dk_16 95 (dk_at dksX4_bonusFor_0 17 rfl rfl)
theorem dX4_bonusFor_19 : decode cX4_bonusFor 19 = .ok (.iconst 2, 1) := dk_5 (dk_at dksX4_bonusFor_0 19 rfl rfl)
theorem dX4_bonusFor_20 : decode cX4_bonusFor 20 = .ok (.iload_n 2, 1) := dk_28 (dk_at dksX4_bonusFor_0 20 rfl rfl)
theorem dX4_bonusFor_21 : decode cX4_bonusFor 21 = .ok (.imul, 1) := dk_104 (dk_at dksX4_bonusFor_0 21 rfl rfl)
theorem dX4_bonusFor_22 : decode cX4_bonusFor 22 = .ok (.iadd, 1) := dk_96 (dk_at dksX4_bonusFor_0 22 rfl rfl)
theorem dX4_bonusFor_23 : decode cX4_bonusFor 23 = .ok (.iaload, 1) := dk_46 (dk_at dksX4_bonusFor_0 23 rfl rfl)
theorem dX4_bonusFor_24 : decode cX4_bonusFor 24 = .ok (.iload_n 1, 1) := dk_27 (dk_at dksX4_bonusFor_1 0 rfl rfl)
theorem dX4_bonusFor_25 : decode cX4_bonusFor 25 = .ok (.if_icmp .lt 17, 3) := dk_161 0 17 (dk_at dksX4_bonusFor_1 1 rfl rfl)
theorem dX4_bonusFor_28 : decode cX4_bonusFor 28 = .ok (.aload_n 0, 1) := dk_42 (dk_at dksX4_bonusFor_1 4 rfl rfl)
theorem dX4_bonusFor_29 : decode cX4_bonusFor 29 = .ok (.getfield 7, 3) := dk_180 0 7 (dk_at dksX4_bonusFor_1 5 rfl rfl)
theorem dX4_bonusFor_32 : decode cX4_bonusFor 32 = .ok (.bipush 95, 2) := dk_16 95 (dk_at dksX4_bonusFor_1 8 rfl rfl)
theorem dX4_bonusFor_34 : decode cX4_bonusFor 34 = .ok (.iconst 2, 1) := dk_5 (dk_at dksX4_bonusFor_1 10 rfl rfl)
theorem dX4_bonusFor_35 : decode cX4_bonusFor 35 = .ok (.iload_n 2, 1) := dk_28 (dk_at dksX4_bonusFor_1 11 rfl rfl)
theorem dX4_bonusFor_36 : decode cX4_bonusFor 36 = .ok (.imul, 1) := dk_104 (dk_at dksX4_bonusFor_1 12 rfl rfl)
theorem dX4_bonusFor_37 : decode cX4_bonusFor 37 = .ok (.iadd, 1) := dk_96 (dk_at dksX4_bonusFor_1 13 rfl rfl)
theorem dX4_bonusFor_38 : decode cX4_bonusFor 38 = .ok (.iconst 1, 1) := dk_4 (dk_at dksX4_bonusFor_1 14 rfl rfl)
theorem dX4_bonusFor_39 : decode cX4_bonusFor 39 = .ok (.iadd, 1) := dk_96 (dk_at dksX4_bonusFor_1 15 rfl rfl)
theorem dX4_bonusFor_40 : decode cX4_bonusFor 40 = .ok (.iaload, 1) := dk_46 (dk_at dksX4_bonusFor_1 16 rfl rfl)
theorem dX4_bonusFor_41 : decode cX4_bonusFor 41 = .ok (.ireturn, 1) := dk_172 (dk_at dksX4_bonusFor_1 17 rfl rfl)
theorem dX4_bonusFor_42 : decode cX4_bonusFor 42 = .ok (.iinc 2 1, 3) := dk_132 2 1 (dk_at dksX4_bonusFor_1 18 rfl rfl)
theorem dX4_bonusFor_45 : decode cX4_bonusFor 45 = .ok (.goto (-43), 3) := dk_167 255 213 (dk_at dksX4_bonusFor_1 21 rfl rfl)
theorem dX4_bonusFor_48 : decode cX4_bonusFor 48 = .ok (.iconst 0, 1) := dk_3 (dk_at dksX4_bonusFor_2 0 rfl rfl)
theorem dX4_bonusFor_49 : decode cX4_bonusFor 49 = .ok (.ireturn, 1) := dk_172 (dk_at dksX4_bonusFor_2 1 rfl rfl)
abbrev cX4_forecast : ByteArray := prog_15_method_42_code
def yX4_forecast : MethodName := ⟨RX4, "forecast", "(I)I"⟩
def dkwX4_forecast_3 : List UInt8 := [3, 184, 0, 57, 28, 172]
abbrev dktX4_forecast_3 : List UInt8 := dkwX4_forecast_3 ++ []
def dkwX4_forecast_2 : List UInt8 := [3, 42, 180, 0, 16, 3, 184, 0, 57, 42, 27, 182, 0, 131, 61, 42, 180, 0, 16, 3, 42, 180, 0, 7]
abbrev dktX4_forecast_2 : List UInt8 := dkwX4_forecast_2 ++ dktX4_forecast_3
def dkwX4_forecast_1 : List UInt8 := [163, 0, 7, 3, 167, 0, 4, 4, 181, 0, 39, 42, 180, 0, 39, 158, 0, 5, 3, 172, 42, 180, 0, 7]
abbrev dktX4_forecast_1 : List UInt8 := dkwX4_forecast_1 ++ dktX4_forecast_2
def dkwX4_forecast_0 : List UInt8 := [42, 27, 3, 16, 30, 184, 0, 42, 153, 0, 21, 42, 180, 0, 7, 3, 46, 27, 96, 17, 1, 144]
abbrev dktX4_forecast_0 : List UInt8 := dkwX4_forecast_0 ++ dktX4_forecast_1
theorem dksX4_forecast_0 : cX4_forecast.data.toList.drop 0 = dktX4_forecast_0 := by decide +kernel
theorem dksX4_forecast_1 : cX4_forecast.data.toList.drop 22 = dktX4_forecast_1 := dk_seg dksX4_forecast_0 22 rfl rfl
theorem dksX4_forecast_2 : cX4_forecast.data.toList.drop 46 = dktX4_forecast_2 := dk_seg dksX4_forecast_1 24 rfl rfl
theorem dksX4_forecast_3 : cX4_forecast.data.toList.drop 70 = dktX4_forecast_3 := dk_seg dksX4_forecast_2 24 rfl rfl
theorem dX4_forecast_0 : decode cX4_forecast 0 = .ok (.aload_n 0, 1) := dk_42 (dk_at dksX4_forecast_0 0 rfl rfl)
theorem dX4_forecast_1 : decode cX4_forecast 1 = .ok (.iload_n 1, 1) := dk_27 (dk_at dksX4_forecast_0 1 rfl rfl)
theorem dX4_forecast_2 : decode cX4_forecast 2 = .ok (.iconst 0, 1) := dk_3 (dk_at dksX4_forecast_0 2 rfl rfl)
theorem dX4_forecast_3 : decode cX4_forecast 3 = .ok (.bipush 30, 2) := dk_16 30 (dk_at dksX4_forecast_0 3 rfl rfl)
theorem dX4_forecast_5 : decode cX4_forecast 5 = .ok (.invokestatic 42, 3) := dk_184 0 42 (dk_at dksX4_forecast_0 5 rfl rfl)
theorem dX4_forecast_8 : decode cX4_forecast 8 = .ok (.ifCond .eq 21, 3) := dk_153 0 21 (dk_at dksX4_forecast_0 8 rfl rfl)
theorem dX4_forecast_11 : decode cX4_forecast 11 = .ok (.aload_n 0, 1) := dk_42 (dk_at dksX4_forecast_0 11 rfl rfl)
theorem dX4_forecast_12 : decode cX4_forecast 12 = .ok (.getfield 7, 3) := dk_180 0 7 (dk_at dksX4_forecast_0 12 rfl rfl)
theorem dX4_forecast_15 : decode cX4_forecast 15 = .ok (.iconst 0, 1) := dk_3 (dk_at dksX4_forecast_0 15 rfl rfl)
theorem dX4_forecast_16 : decode cX4_forecast 16 = .ok (.iaload, 1) := dk_46 (dk_at dksX4_forecast_0 16 rfl rfl)
theorem dX4_forecast_17 : decode cX4_forecast 17 = .ok (.iload_n 1, 1) := dk_27 (dk_at dksX4_forecast_0 17 rfl rfl)
theorem dX4_forecast_18 : decode cX4_forecast 18 = .ok (.iadd, 1) := dk_96 (dk_at dksX4_forecast_0 18 rfl rfl)
theorem dX4_forecast_19 : decode cX4_forecast 19 = .ok (.sipush 400, 3) := dk_17 1 144 (dk_at dksX4_forecast_0 19 rfl rfl)
theorem dX4_forecast_22 : decode cX4_forecast 22 = .ok (.if_icmp .gt 7, 3) := dk_163 0 7 (dk_at dksX4_forecast_1 0 rfl rfl)
theorem dX4_forecast_25 : decode cX4_forecast 25 = .ok (.iconst 0, 1) := dk_3 (dk_at dksX4_forecast_1 3 rfl rfl)
theorem dX4_forecast_26 : decode cX4_forecast 26 = .ok (.goto 4, 3) := dk_167 0 4 (dk_at dksX4_forecast_1 4 rfl rfl)
theorem dX4_forecast_29 : decode cX4_forecast 29 = .ok (.iconst 1, 1) := dk_4 (dk_at dksX4_forecast_1 7 rfl rfl)
theorem dX4_forecast_30 : decode cX4_forecast 30 = .ok (.putfield 39, 3) := dk_181 0 39 (dk_at dksX4_forecast_1 8 rfl rfl)
theorem dX4_forecast_33 : decode cX4_forecast 33 = .ok (.aload_n 0, 1) := dk_42 (dk_at dksX4_forecast_1 11 rfl rfl)
theorem dX4_forecast_34 : decode cX4_forecast 34 = .ok (.getfield 39, 3) := dk_180 0 39 (dk_at dksX4_forecast_1 12 rfl rfl)
theorem dX4_forecast_37 : decode cX4_forecast 37 = .ok (.ifCond .le 5, 3) := dk_158 0 5 (dk_at dksX4_forecast_1 15 rfl rfl)
theorem dX4_forecast_40 : decode cX4_forecast 40 = .ok (.iconst 0, 1) := dk_3 (dk_at dksX4_forecast_1 18 rfl rfl)
theorem dX4_forecast_41 : decode cX4_forecast 41 = .ok (.ireturn, 1) := dk_172 (dk_at dksX4_forecast_1 19 rfl rfl)
theorem dX4_forecast_42 : decode cX4_forecast 42 = .ok (.aload_n 0, 1) := dk_42 (dk_at dksX4_forecast_1 20 rfl rfl)
theorem dX4_forecast_43 : decode cX4_forecast 43 = .ok (.getfield 7, 3) := dk_180 0 7 (dk_at dksX4_forecast_1 21 rfl rfl)
theorem dX4_forecast_46 : decode cX4_forecast 46 = .ok (.iconst 0, 1) := dk_3 (dk_at dksX4_forecast_2 0 rfl rfl)
theorem dX4_forecast_47 : decode cX4_forecast 47 = .ok (.aload_n 0, 1) := dk_42 (dk_at dksX4_forecast_2 1 rfl rfl)
theorem dX4_forecast_48 : decode cX4_forecast 48 = .ok (.getfield 16, 3) := dk_180 0 16 (dk_at dksX4_forecast_2 2 rfl rfl)
theorem dX4_forecast_51 : decode cX4_forecast 51 = .ok (.iconst 0, 1) := dk_3 (dk_at dksX4_forecast_2 5 rfl rfl)
theorem dX4_forecast_52 : decode cX4_forecast 52 = .ok (.invokestatic 57, 3) := dk_184 0 57 (dk_at dksX4_forecast_2 6 rfl rfl)
theorem dX4_forecast_55 : decode cX4_forecast 55 = .ok (.aload_n 0, 1) := dk_42 (dk_at dksX4_forecast_2 9 rfl rfl)
theorem dX4_forecast_56 : decode cX4_forecast 56 = .ok (.iload_n 1, 1) := dk_27 (dk_at dksX4_forecast_2 10 rfl rfl)
theorem dX4_forecast_57 : decode cX4_forecast 57 = .ok (.invokevirtual 131, 3) := dk_182 0 131 (dk_at dksX4_forecast_2 11 rfl rfl)
theorem dX4_forecast_60 : decode cX4_forecast 60 = .ok (.istore_n 2, 1) := dk_61 (dk_at dksX4_forecast_2 14 rfl rfl)
theorem dX4_forecast_61 : decode cX4_forecast 61 = .ok (.aload_n 0, 1) := dk_42 (dk_at dksX4_forecast_2 15 rfl rfl)
theorem dX4_forecast_62 : decode cX4_forecast 62 = .ok (.getfield 16, 3) := dk_180 0 16 (dk_at dksX4_forecast_2 16 rfl rfl)
theorem dX4_forecast_65 : decode cX4_forecast 65 = .ok (.iconst 0, 1) := dk_3 (dk_at dksX4_forecast_2 19 rfl rfl)
theorem dX4_forecast_66 : decode cX4_forecast 66 = .ok (.aload_n 0, 1) := dk_42 (dk_at dksX4_forecast_2 20 rfl rfl)
theorem dX4_forecast_67 : decode cX4_forecast 67 = .ok (.getfield 7, 3) := dk_180 0 7 (dk_at dksX4_forecast_2 21 rfl rfl)
theorem dX4_forecast_70 : decode cX4_forecast 70 = .ok (.iconst 0, 1) := dk_3 (dk_at dksX4_forecast_3 0 rfl rfl)
theorem dX4_forecast_71 : decode cX4_forecast 71 = .ok (.invokestatic 57, 3) := dk_184 0 57 (dk_at dksX4_forecast_3 1 rfl rfl)
theorem dX4_forecast_74 : decode cX4_forecast 74 = .ok (.iload_n 2, 1) := dk_28 (dk_at dksX4_forecast_3 4 rfl rfl)
theorem dX4_forecast_75 : decode cX4_forecast 75 = .ok (.ireturn, 1) := dk_172 (dk_at dksX4_forecast_3 5 rfl rfl)
abbrev cX4_today : ByteArray := prog_15_method_43_code
def yX4_today : MethodName := ⟨RX4, "today", "()I"⟩
def dkwX4_today_0 : List UInt8 := [42, 3, 181, 0, 39, 42, 180, 0, 7, 3, 46, 172]
abbrev dktX4_today_0 : List UInt8 := dkwX4_today_0 ++ []
theorem dksX4_today_0 : cX4_today.data.toList.drop 0 = dktX4_today_0 := by decide +kernel
theorem dX4_today_0 : decode cX4_today 0 = .ok (.aload_n 0, 1) := dk_42 (dk_at dksX4_today_0 0 rfl rfl)
theorem dX4_today_1 : decode cX4_today 1 = .ok (.iconst 0, 1) := dk_3 (dk_at dksX4_today_0 1 rfl rfl)
theorem dX4_today_2 : decode cX4_today 2 = .ok (.putfield 39, 3) := dk_181 0 39 (dk_at dksX4_today_0 2 rfl rfl)
theorem dX4_today_5 : decode cX4_today 5 = .ok (.aload_n 0, 1) := dk_42 (dk_at dksX4_today_0 5 rfl rfl)
theorem dX4_today_6 : decode cX4_today 6 = .ok (.getfield 7, 3) := dk_180 0 7 (dk_at dksX4_today_0 6 rfl rfl)
theorem dX4_today_9 : decode cX4_today 9 = .ok (.iconst 0, 1) := dk_3 (dk_at dksX4_today_0 9 rfl rfl)
theorem dX4_today_10 : decode cX4_today 10 = .ok (.iaload, 1) := dk_46 (dk_at dksX4_today_0 10 rfl rfl)
theorem dX4_today_11 : decode cX4_today 11 = .ok (.ireturn, 1) := dk_172 (dk_at dksX4_today_0 11 rfl rfl)
abbrev cX4_cow : ByteArray := prog_15_method_44_code
def yX4_cow : MethodName := ⟨RX4, "cow", "(II)I"⟩
def dkwX4_cow_8 : List UInt8 := [153, 0, 16, 42, 27, 42, 27, 182, 0, 86, 182, 0, 112, 167, 0, 4, 3, 172]
abbrev dktX4_cow_8 : List UInt8 := dkwX4_cow_8 ++ []
def dkwX4_cow_7 : List UInt8 := [184, 0, 50, 46, 172, 42, 180, 0, 7, 27, 16, 9, 184, 0, 50, 46, 172, 42, 27, 182, 0, 83]
abbrev dktX4_cow_7 : List UInt8 := dkwX4_cow_7 ++ dktX4_cow_8
def dkwX4_cow_6 : List UInt8 := [184, 0, 50, 46, 172, 42, 180, 0, 7, 27, 16, 7, 184, 0, 50, 46, 172, 42, 180, 0, 7, 27, 16, 8]
abbrev dktX4_cow_6 : List UInt8 := dkwX4_cow_6 ++ dktX4_cow_7
def dkwX4_cow_5 : List UInt8 := [42, 180, 0, 7, 27, 16, 6, 184, 0, 50, 46, 167, 0, 4, 2, 172, 42, 180, 0, 7, 27, 5]
abbrev dktX4_cow_5 : List UInt8 := dkwX4_cow_5 ++ dktX4_cow_6
def dkwX4_cow_4 : List UInt8 := [182, 0, 83, 153, 0, 11, 42, 27, 182, 0, 86, 167, 0, 4, 2, 172, 42, 27, 182, 0, 80, 153, 0, 17]
abbrev dktX4_cow_4 : List UInt8 := dkwX4_cow_4 ++ dktX4_cow_5
def dkwX4_cow_3 : List UInt8 := [42, 180, 0, 7, 27, 7, 184, 0, 50, 46, 172, 42, 180, 0, 7, 27, 6, 184, 0, 50, 46, 172, 42, 27]
abbrev dktX4_cow_3 : List UInt8 := dkwX4_cow_3 ++ dktX4_cow_4
def dkwX4_cow_2 : List UInt8 := [170, 0, 0, 0, 0, 0, 158, 0, 0, 0, 0, 0, 0, 0, 7, 0, 0, 0, 47, 0, 0, 0, 58, 0, 0, 0, 69, 0, 0, 0, 87, 0, 0, 0, 111, 0, 0, 0, 122, 0, 0, 0, 134, 0, 0, 0, 146]
abbrev dktX4_cow_2 : List UInt8 := dkwX4_cow_2 ++ dktX4_cow_3
def dkwX4_cow_1 : List UInt8 := [167, 0, 4, 4, 181, 0, 39, 42, 180, 0, 39, 158, 0, 5, 3, 172, 28]
abbrev dktX4_cow_1 : List UInt8 := dkwX4_cow_1 ++ dktX4_cow_2
def dkwX4_cow_0 : List UInt8 := [42, 42, 27, 182, 0, 46, 153, 0, 21, 28, 3, 16, 8, 184, 0, 42, 153, 0, 7, 3, 167, 0, 8, 5]
abbrev dktX4_cow_0 : List UInt8 := dkwX4_cow_0 ++ dktX4_cow_1
theorem dksX4_cow_0 : cX4_cow.data.toList.drop 0 = dktX4_cow_0 := by decide +kernel
theorem dksX4_cow_1 : cX4_cow.data.toList.drop 24 = dktX4_cow_1 := dk_seg dksX4_cow_0 24 rfl rfl
theorem dksX4_cow_2 : cX4_cow.data.toList.drop 41 = dktX4_cow_2 := dk_seg dksX4_cow_1 17 rfl rfl
theorem dksX4_cow_3 : cX4_cow.data.toList.drop 88 = dktX4_cow_3 := dk_seg dksX4_cow_2 47 rfl rfl
theorem dksX4_cow_4 : cX4_cow.data.toList.drop 112 = dktX4_cow_4 := dk_seg dksX4_cow_3 24 rfl rfl
theorem dksX4_cow_5 : cX4_cow.data.toList.drop 136 = dktX4_cow_5 := dk_seg dksX4_cow_4 24 rfl rfl
theorem dksX4_cow_6 : cX4_cow.data.toList.drop 158 = dktX4_cow_6 := dk_seg dksX4_cow_5 22 rfl rfl
theorem dksX4_cow_7 : cX4_cow.data.toList.drop 182 = dktX4_cow_7 := dk_seg dksX4_cow_6 24 rfl rfl
theorem dksX4_cow_8 : cX4_cow.data.toList.drop 204 = dktX4_cow_8 := dk_seg dksX4_cow_7 22 rfl rfl
theorem dX4_cow_0 : decode cX4_cow 0 = .ok (.aload_n 0, 1) := dk_42 (dk_at dksX4_cow_0 0 rfl rfl)
theorem dX4_cow_1 : decode cX4_cow 1 = .ok (.aload_n 0, 1) := dk_42 (dk_at dksX4_cow_0 1 rfl rfl)
theorem dX4_cow_2 : decode cX4_cow 2 = .ok (.iload_n 1, 1) := dk_27 (dk_at dksX4_cow_0 2 rfl rfl)
theorem dX4_cow_3 : decode cX4_cow 3 = .ok (.invokevirtual 46, 3) := dk_182 0 46 (dk_at dksX4_cow_0 3 rfl rfl)
theorem dX4_cow_6 : decode cX4_cow 6 = .ok (.ifCond .eq 21, 3) := dk_153 0 21 (dk_at dksX4_cow_0 6 rfl rfl)
theorem dX4_cow_9 : decode cX4_cow 9 = .ok (.iload_n 2, 1) := dk_28 (dk_at dksX4_cow_0 9 rfl rfl)
theorem dX4_cow_10 : decode cX4_cow 10 = .ok (.iconst 0, 1) := dk_3 (dk_at dksX4_cow_0 10 rfl rfl)
theorem dX4_cow_11 : decode cX4_cow 11 = .ok (.bipush 8, 2) := dk_16 8 (dk_at dksX4_cow_0 11 rfl rfl)
theorem dX4_cow_13 : decode cX4_cow 13 = .ok (.invokestatic 42, 3) := dk_184 0 42 (dk_at dksX4_cow_0 13 rfl rfl)
theorem dX4_cow_16 : decode cX4_cow 16 = .ok (.ifCond .eq 7, 3) := dk_153 0 7 (dk_at dksX4_cow_0 16 rfl rfl)
theorem dX4_cow_19 : decode cX4_cow 19 = .ok (.iconst 0, 1) := dk_3 (dk_at dksX4_cow_0 19 rfl rfl)
theorem dX4_cow_20 : decode cX4_cow 20 = .ok (.goto 8, 3) := dk_167 0 8 (dk_at dksX4_cow_0 20 rfl rfl)
theorem dX4_cow_23 : decode cX4_cow 23 = .ok (.iconst 2, 1) := dk_5 (dk_at dksX4_cow_0 23 rfl rfl)
theorem dX4_cow_24 : decode cX4_cow 24 = .ok (.goto 4, 3) := dk_167 0 4 (dk_at dksX4_cow_1 0 rfl rfl)
theorem dX4_cow_27 : decode cX4_cow 27 = .ok (.iconst 1, 1) := dk_4 (dk_at dksX4_cow_1 3 rfl rfl)
theorem dX4_cow_28 : decode cX4_cow 28 = .ok (.putfield 39, 3) := dk_181 0 39 (dk_at dksX4_cow_1 4 rfl rfl)
theorem dX4_cow_31 : decode cX4_cow 31 = .ok (.aload_n 0, 1) := dk_42 (dk_at dksX4_cow_1 7 rfl rfl)
theorem dX4_cow_32 : decode cX4_cow 32 = .ok (.getfield 39, 3) := dk_180 0 39 (dk_at dksX4_cow_1 8 rfl rfl)
theorem dX4_cow_35 : decode cX4_cow 35 = .ok (.ifCond .le 5, 3) := dk_158 0 5 (dk_at dksX4_cow_1 11 rfl rfl)
theorem dX4_cow_38 : decode cX4_cow 38 = .ok (.iconst 0, 1) := dk_3 (dk_at dksX4_cow_1 14 rfl rfl)
theorem dX4_cow_39 : decode cX4_cow 39 = .ok (.ireturn, 1) := dk_172 (dk_at dksX4_cow_1 15 rfl rfl)
theorem dX4_cow_40 : decode cX4_cow 40 = .ok (.iload_n 2, 1) := dk_28 (dk_at dksX4_cow_1 16 rfl rfl)
theorem dX4_cow_41 : decode cX4_cow 41 = .ok (.tableswitch 158 0 7 #[47, 58, 69, 87, 111, 122, 134, 146], 47) := by decide +kernel
theorem dX4_cow_88 : decode cX4_cow 88 = .ok (.aload_n 0, 1) := dk_42 (dk_at dksX4_cow_3 0 rfl rfl)
theorem dX4_cow_89 : decode cX4_cow 89 = .ok (.getfield 7, 3) := dk_180 0 7 (dk_at dksX4_cow_3 1 rfl rfl)
theorem dX4_cow_92 : decode cX4_cow 92 = .ok (.iload_n 1, 1) := dk_27 (dk_at dksX4_cow_3 4 rfl rfl)
theorem dX4_cow_93 : decode cX4_cow 93 = .ok (.iconst 4, 1) := dk_7 (dk_at dksX4_cow_3 5 rfl rfl)
theorem dX4_cow_94 : decode cX4_cow 94 = .ok (.invokestatic 50, 3) := dk_184 0 50 (dk_at dksX4_cow_3 6 rfl rfl)
theorem dX4_cow_97 : decode cX4_cow 97 = .ok (.iaload, 1) := dk_46 (dk_at dksX4_cow_3 9 rfl rfl)
theorem dX4_cow_98 : decode cX4_cow 98 = .ok (.ireturn, 1) := dk_172 (dk_at dksX4_cow_3 10 rfl rfl)
theorem dX4_cow_99 : decode cX4_cow 99 = .ok (.aload_n 0, 1) := dk_42 (dk_at dksX4_cow_3 11 rfl rfl)
theorem dX4_cow_100 : decode cX4_cow 100 = .ok (.getfield 7, 3) := dk_180 0 7 (dk_at dksX4_cow_3 12 rfl rfl)
theorem dX4_cow_103 : decode cX4_cow 103 = .ok (.iload_n 1, 1) := dk_27 (dk_at dksX4_cow_3 15 rfl rfl)
theorem dX4_cow_104 : decode cX4_cow 104 = .ok (.iconst 3, 1) := dk_6 (dk_at dksX4_cow_3 16 rfl rfl)
theorem dX4_cow_105 : decode cX4_cow 105 = .ok (.invokestatic 50, 3) := dk_184 0 50 (dk_at dksX4_cow_3 17 rfl rfl)
theorem dX4_cow_108 : decode cX4_cow 108 = .ok (.iaload, 1) := dk_46 (dk_at dksX4_cow_3 20 rfl rfl)
theorem dX4_cow_109 : decode cX4_cow 109 = .ok (.ireturn, 1) := dk_172 (dk_at dksX4_cow_3 21 rfl rfl)
theorem dX4_cow_110 : decode cX4_cow 110 = .ok (.aload_n 0, 1) := dk_42 (dk_at dksX4_cow_3 22 rfl rfl)
theorem dX4_cow_111 : decode cX4_cow 111 = .ok (.iload_n 1, 1) := dk_27 (dk_at dksX4_cow_3 23 rfl rfl)
theorem dX4_cow_112 : decode cX4_cow 112 = .ok (.invokevirtual 83, 3) := dk_182 0 83 (dk_at dksX4_cow_4 0 rfl rfl)
theorem dX4_cow_115 : decode cX4_cow 115 = .ok (.ifCond .eq 11, 3) := dk_153 0 11 (dk_at dksX4_cow_4 3 rfl rfl)
theorem dX4_cow_118 : decode cX4_cow 118 = .ok (.aload_n 0, 1) := dk_42 (dk_at dksX4_cow_4 6 rfl rfl)
theorem dX4_cow_119 : decode cX4_cow 119 = .ok (.iload_n 1, 1) := dk_27 (dk_at dksX4_cow_4 7 rfl rfl)
theorem dX4_cow_120 : decode cX4_cow 120 = .ok (.invokevirtual 86, 3) := dk_182 0 86 (dk_at dksX4_cow_4 8 rfl rfl)
theorem dX4_cow_123 : decode cX4_cow 123 = .ok (.goto 4, 3) := dk_167 0 4 (dk_at dksX4_cow_4 11 rfl rfl)
theorem dX4_cow_126 : decode cX4_cow 126 = .ok (.iconst (-1), 1) := dk_2 (dk_at dksX4_cow_4 14 rfl rfl)
theorem dX4_cow_127 : decode cX4_cow 127 = .ok (.ireturn, 1) := dk_172 (dk_at dksX4_cow_4 15 rfl rfl)
theorem dX4_cow_128 : decode cX4_cow 128 = .ok (.aload_n 0, 1) := dk_42 (dk_at dksX4_cow_4 16 rfl rfl)
theorem dX4_cow_129 : decode cX4_cow 129 = .ok (.iload_n 1, 1) := dk_27 (dk_at dksX4_cow_4 17 rfl rfl)
theorem dX4_cow_130 : decode cX4_cow 130 = .ok (.invokevirtual 80, 3) := dk_182 0 80 (dk_at dksX4_cow_4 18 rfl rfl)
theorem dX4_cow_133 : decode cX4_cow 133 = .ok (.ifCond .eq 17, 3) := dk_153 0 17 (dk_at dksX4_cow_4 21 rfl rfl)
theorem dX4_cow_136 : decode cX4_cow 136 = .ok (.aload_n 0, 1) := dk_42 (dk_at dksX4_cow_5 0 rfl rfl)
theorem dX4_cow_137 : decode cX4_cow 137 = .ok (.getfield 7, 3) := dk_180 0 7 (dk_at dksX4_cow_5 1 rfl rfl)
theorem dX4_cow_140 : decode cX4_cow 140 = .ok (.iload_n 1, 1) := dk_27 (dk_at dksX4_cow_5 4 rfl rfl)
theorem dX4_cow_141 : decode cX4_cow 141 = .ok (.bipush 6, 2) := dk_16 6 (dk_at dksX4_cow_5 5 rfl rfl)
theorem dX4_cow_143 : decode cX4_cow 143 = .ok (.invokestatic 50, 3) := dk_184 0 50 (dk_at dksX4_cow_5 7 rfl rfl)
theorem dX4_cow_146 : decode cX4_cow 146 = .ok (.iaload, 1) := dk_46 (dk_at dksX4_cow_5 10 rfl rfl)
theorem dX4_cow_147 : decode cX4_cow 147 = .ok (.goto 4, 3) := dk_167 0 4 (dk_at dksX4_cow_5 11 rfl rfl)
theorem dX4_cow_150 : decode cX4_cow 150 = .ok (.iconst (-1), 1) := dk_2 (dk_at dksX4_cow_5 14 rfl rfl)
theorem dX4_cow_151 : decode cX4_cow 151 = .ok (.ireturn, 1) := dk_172 (dk_at dksX4_cow_5 15 rfl rfl)
theorem dX4_cow_152 : decode cX4_cow 152 = .ok (.aload_n 0, 1) := dk_42 (dk_at dksX4_cow_5 16 rfl rfl)
theorem dX4_cow_153 : decode cX4_cow 153 = .ok (.getfield 7, 3) := dk_180 0 7 (dk_at dksX4_cow_5 17 rfl rfl)
theorem dX4_cow_156 : decode cX4_cow 156 = .ok (.iload_n 1, 1) := dk_27 (dk_at dksX4_cow_5 20 rfl rfl)
theorem dX4_cow_157 : decode cX4_cow 157 = .ok (.iconst 2, 1) := dk_5 (dk_at dksX4_cow_5 21 rfl rfl)
theorem dX4_cow_158 : decode cX4_cow 158 = .ok (.invokestatic 50, 3) := dk_184 0 50 (dk_at dksX4_cow_6 0 rfl rfl)
theorem dX4_cow_161 : decode cX4_cow 161 = .ok (.iaload, 1) := dk_46 (dk_at dksX4_cow_6 3 rfl rfl)
theorem dX4_cow_162 : decode cX4_cow 162 = .ok (.ireturn, 1) := dk_172 (dk_at dksX4_cow_6 4 rfl rfl)
theorem dX4_cow_163 : decode cX4_cow 163 = .ok (.aload_n 0, 1) := dk_42 (dk_at dksX4_cow_6 5 rfl rfl)
theorem dX4_cow_164 : decode cX4_cow 164 = .ok (.getfield 7, 3) := dk_180 0 7 (dk_at dksX4_cow_6 6 rfl rfl)
theorem dX4_cow_167 : decode cX4_cow 167 = .ok (.iload_n 1, 1) := dk_27 (dk_at dksX4_cow_6 9 rfl rfl)
theorem dX4_cow_168 : decode cX4_cow 168 = .ok (.bipush 7, 2) := dk_16 7 (dk_at dksX4_cow_6 10 rfl rfl)
theorem dX4_cow_170 : decode cX4_cow 170 = .ok (.invokestatic 50, 3) := dk_184 0 50 (dk_at dksX4_cow_6 12 rfl rfl)
theorem dX4_cow_173 : decode cX4_cow 173 = .ok (.iaload, 1) := dk_46 (dk_at dksX4_cow_6 15 rfl rfl)
theorem dX4_cow_174 : decode cX4_cow 174 = .ok (.ireturn, 1) := dk_172 (dk_at dksX4_cow_6 16 rfl rfl)
theorem dX4_cow_175 : decode cX4_cow 175 = .ok (.aload_n 0, 1) := dk_42 (dk_at dksX4_cow_6 17 rfl rfl)
theorem dX4_cow_176 : decode cX4_cow 176 = .ok (.getfield 7, 3) := dk_180 0 7 (dk_at dksX4_cow_6 18 rfl rfl)
theorem dX4_cow_179 : decode cX4_cow 179 = .ok (.iload_n 1, 1) := dk_27 (dk_at dksX4_cow_6 21 rfl rfl)
theorem dX4_cow_180 : decode cX4_cow 180 = .ok (.bipush 8, 2) := dk_16 8 (dk_at dksX4_cow_6 22 rfl rfl)
theorem dX4_cow_182 : decode cX4_cow 182 = .ok (.invokestatic 50, 3) := dk_184 0 50 (dk_at dksX4_cow_7 0 rfl rfl)
theorem dX4_cow_185 : decode cX4_cow 185 = .ok (.iaload, 1) := dk_46 (dk_at dksX4_cow_7 3 rfl rfl)
theorem dX4_cow_186 : decode cX4_cow 186 = .ok (.ireturn, 1) := dk_172 (dk_at dksX4_cow_7 4 rfl rfl)
theorem dX4_cow_187 : decode cX4_cow 187 = .ok (.aload_n 0, 1) := dk_42 (dk_at dksX4_cow_7 5 rfl rfl)
theorem dX4_cow_188 : decode cX4_cow 188 = .ok (.getfield 7, 3) := dk_180 0 7 (dk_at dksX4_cow_7 6 rfl rfl)
theorem dX4_cow_191 : decode cX4_cow 191 = .ok (.iload_n 1, 1) := dk_27 (dk_at dksX4_cow_7 9 rfl rfl)
theorem dX4_cow_192 : decode cX4_cow 192 = .ok (.bipush 9, 2) := dk_16 9 (dk_at dksX4_cow_7 10 rfl rfl)
theorem dX4_cow_194 : decode cX4_cow 194 = .ok (.invokestatic 50, 3) := dk_184 0 50 (dk_at dksX4_cow_7 12 rfl rfl)
theorem dX4_cow_197 : decode cX4_cow 197 = .ok (.iaload, 1) := dk_46 (dk_at dksX4_cow_7 15 rfl rfl)
theorem dX4_cow_198 : decode cX4_cow 198 = .ok (.ireturn, 1) := dk_172 (dk_at dksX4_cow_7 16 rfl rfl)
theorem dX4_cow_199 : decode cX4_cow 199 = .ok (.aload_n 0, 1) := dk_42 (dk_at dksX4_cow_7 17 rfl rfl)
theorem dX4_cow_200 : decode cX4_cow 200 = .ok (.iload_n 1, 1) := dk_27 (dk_at dksX4_cow_7 18 rfl rfl)
theorem dX4_cow_201 : decode cX4_cow 201 = .ok (.invokevirtual 83, 3) := dk_182 0 83 (dk_at dksX4_cow_7 19 rfl rfl)
theorem dX4_cow_204 : decode cX4_cow 204 = .ok (.ifCond .eq 16, 3) := dk_153 0 16 (dk_at dksX4_cow_8 0 rfl rfl)
theorem dX4_cow_207 : decode cX4_cow 207 = .ok (.aload_n 0, 1) := dk_42 (dk_at dksX4_cow_8 3 rfl rfl)
theorem dX4_cow_208 : decode cX4_cow 208 = .ok (.iload_n 1, 1) := dk_27 (dk_at dksX4_cow_8 4 rfl rfl)
theorem dX4_cow_209 : decode cX4_cow 209 = .ok (.aload_n 0, 1) := dk_42 (dk_at dksX4_cow_8 5 rfl rfl)
theorem dX4_cow_210 : decode cX4_cow 210 = .ok (.iload_n 1, 1) := dk_27 (dk_at dksX4_cow_8 6 rfl rfl)
theorem dX4_cow_211 : decode cX4_cow 211 = .ok (.invokevirtual 86, 3) := dk_182 0 86 (dk_at dksX4_cow_8 7 rfl rfl)
theorem dX4_cow_214 : decode cX4_cow 214 = .ok (.invokevirtual 112, 3) := dk_182 0 112 (dk_at dksX4_cow_8 10 rfl rfl)
theorem dX4_cow_217 : decode cX4_cow 217 = .ok (.goto 4, 3) := dk_167 0 4 (dk_at dksX4_cow_8 13 rfl rfl)
theorem dX4_cow_220 : decode cX4_cow 220 = .ok (.iconst 0, 1) := dk_3 (dk_at dksX4_cow_8 16 rfl rfl)
theorem dX4_cow_221 : decode cX4_cow 221 = .ok (.ireturn, 1) := dk_172 (dk_at dksX4_cow_8 17 rfl rfl)
abbrev cX4_curve : ByteArray := prog_15_method_45_code
def yX4_curve : MethodName := ⟨RX4, "curve", "(II)I"⟩
def dkwX4_curve_2 : List UInt8 := [182, 0, 112, 172]
abbrev dktX4_curve_2 : List UInt8 := dkwX4_curve_2 ++ []
def dkwX4_curve_1 : List UInt8 := [5, 167, 0, 4, 4, 181, 0, 39, 42, 180, 0, 39, 158, 0, 7, 3, 167, 0, 9, 42, 27, 28]
abbrev dktX4_curve_1 : List UInt8 := dkwX4_curve_1 ++ dktX4_curve_2
def dkwX4_curve_0 : List UInt8 := [42, 42, 27, 182, 0, 46, 153, 0, 22, 28, 3, 17, 1, 144, 184, 0, 42, 153, 0, 7, 3, 167, 0, 8]
abbrev dktX4_curve_0 : List UInt8 := dkwX4_curve_0 ++ dktX4_curve_1
theorem dksX4_curve_0 : cX4_curve.data.toList.drop 0 = dktX4_curve_0 := by decide +kernel
theorem dksX4_curve_1 : cX4_curve.data.toList.drop 24 = dktX4_curve_1 := dk_seg dksX4_curve_0 24 rfl rfl
theorem dksX4_curve_2 : cX4_curve.data.toList.drop 46 = dktX4_curve_2 := dk_seg dksX4_curve_1 22 rfl rfl
theorem dX4_curve_0 : decode cX4_curve 0 = .ok (.aload_n 0, 1) := dk_42 (dk_at dksX4_curve_0 0 rfl rfl)
theorem dX4_curve_1 : decode cX4_curve 1 = .ok (.aload_n 0, 1) := dk_42 (dk_at dksX4_curve_0 1 rfl rfl)
theorem dX4_curve_2 : decode cX4_curve 2 = .ok (.iload_n 1, 1) := dk_27 (dk_at dksX4_curve_0 2 rfl rfl)
theorem dX4_curve_3 : decode cX4_curve 3 = .ok (.invokevirtual 46, 3) := dk_182 0 46 (dk_at dksX4_curve_0 3 rfl rfl)
theorem dX4_curve_6 : decode cX4_curve 6 = .ok (.ifCond .eq 22, 3) := dk_153 0 22 (dk_at dksX4_curve_0 6 rfl rfl)
theorem dX4_curve_9 : decode cX4_curve 9 = .ok (.iload_n 2, 1) := dk_28 (dk_at dksX4_curve_0 9 rfl rfl)
theorem dX4_curve_10 : decode cX4_curve 10 = .ok (.iconst 0, 1) := dk_3 (dk_at dksX4_curve_0 10 rfl rfl)
theorem dX4_curve_11 : decode cX4_curve 11 = .ok (.sipush 400, 3) := dk_17 1 144 (dk_at dksX4_curve_0 11 rfl rfl)
theorem dX4_curve_14 : decode cX4_curve 14 = .ok (.invokestatic 42, 3) := dk_184 0 42 (dk_at dksX4_curve_0 14 rfl rfl)
theorem dX4_curve_17 : decode cX4_curve 17 = .ok (.ifCond .eq 7, 3) := dk_153 0 7 (dk_at dksX4_curve_0 17 rfl rfl)
theorem dX4_curve_20 : decode cX4_curve 20 = .ok (.iconst 0, 1) := dk_3 (dk_at dksX4_curve_0 20 rfl rfl)
theorem dX4_curve_21 : decode cX4_curve 21 = .ok (.goto 8, 3) := dk_167 0 8 (dk_at dksX4_curve_0 21 rfl rfl)
theorem dX4_curve_24 : decode cX4_curve 24 = .ok (.iconst 2, 1) := dk_5 (dk_at dksX4_curve_1 0 rfl rfl)
theorem dX4_curve_25 : decode cX4_curve 25 = .ok (.goto 4, 3) := dk_167 0 4 (dk_at dksX4_curve_1 1 rfl rfl)
theorem dX4_curve_28 : decode cX4_curve 28 = .ok (.iconst 1, 1) := dk_4 (dk_at dksX4_curve_1 4 rfl rfl)
theorem dX4_curve_29 : decode cX4_curve 29 = .ok (.putfield 39, 3) := dk_181 0 39 (dk_at dksX4_curve_1 5 rfl rfl)
theorem dX4_curve_32 : decode cX4_curve 32 = .ok (.aload_n 0, 1) := dk_42 (dk_at dksX4_curve_1 8 rfl rfl)
theorem dX4_curve_33 : decode cX4_curve 33 = .ok (.getfield 39, 3) := dk_180 0 39 (dk_at dksX4_curve_1 9 rfl rfl)
theorem dX4_curve_36 : decode cX4_curve 36 = .ok (.ifCond .le 7, 3) := dk_158 0 7 (dk_at dksX4_curve_1 12 rfl rfl)
theorem dX4_curve_39 : decode cX4_curve 39 = .ok (.iconst 0, 1) := dk_3 (dk_at dksX4_curve_1 15 rfl rfl)
theorem dX4_curve_40 : decode cX4_curve 40 = .ok (.goto 9, 3) := dk_167 0 9 (dk_at dksX4_curve_1 16 rfl rfl)
theorem dX4_curve_43 : decode cX4_curve 43 = .ok (.aload_n 0, 1) := dk_42 (dk_at dksX4_curve_1 19 rfl rfl)
theorem dX4_curve_44 : decode cX4_curve 44 = .ok (.iload_n 1, 1) := dk_27 (dk_at dksX4_curve_1 20 rfl rfl)
theorem dX4_curve_45 : decode cX4_curve 45 = .ok (.iload_n 2, 1) := dk_28 (dk_at dksX4_curve_1 21 rfl rfl)
theorem dX4_curve_46 : decode cX4_curve 46 = .ok (.invokevirtual 112, 3) := dk_182 0 112 (dk_at dksX4_curve_2 0 rfl rfl)
theorem dX4_curve_49 : decode cX4_curve 49 = .ok (.ireturn, 1) := dk_172 (dk_at dksX4_curve_2 3 rfl rfl)
abbrev cX4_dryDay : ByteArray := prog_15_method_46_code
def yX4_dryDay : MethodName := ⟨RX4, "dryDay", "(I)I"⟩
def dkwX4_dryDay_3 : List UInt8 := [3, 46, 164, 0, 7, 28, 167, 0, 9, 42, 180, 0, 7, 3, 46, 172]
abbrev dktX4_dryDay_3 : List UInt8 := dkwX4_dryDay_3 ++ []
def dkwX4_dryDay_2 : List UInt8 := [42, 180, 0, 7, 27, 16, 6, 184, 0, 50, 46, 42, 180, 0, 7, 5, 46, 100, 61, 28, 42, 180, 0, 7]
abbrev dktX4_dryDay_2 : List UInt8 := dkwX4_dryDay_2 ++ dktX4_dryDay_3
def dkwX4_dryDay_1 : List UInt8 := [153, 0, 7, 3, 167, 0, 8, 5, 167, 0, 4, 4, 181, 0, 39, 42, 180, 0, 39, 158, 0, 5, 3, 172]
abbrev dktX4_dryDay_1 : List UInt8 := dkwX4_dryDay_1 ++ dktX4_dryDay_2
def dkwX4_dryDay_0 : List UInt8 := [42, 42, 27, 182, 0, 46, 153, 0, 27, 42, 27, 182, 0, 83, 153, 0, 15, 42, 27, 182, 0, 80]
abbrev dktX4_dryDay_0 : List UInt8 := dkwX4_dryDay_0 ++ dktX4_dryDay_1
theorem dksX4_dryDay_0 : cX4_dryDay.data.toList.drop 0 = dktX4_dryDay_0 := by decide +kernel
theorem dksX4_dryDay_1 : cX4_dryDay.data.toList.drop 22 = dktX4_dryDay_1 := dk_seg dksX4_dryDay_0 22 rfl rfl
theorem dksX4_dryDay_2 : cX4_dryDay.data.toList.drop 46 = dktX4_dryDay_2 := dk_seg dksX4_dryDay_1 24 rfl rfl
theorem dksX4_dryDay_3 : cX4_dryDay.data.toList.drop 70 = dktX4_dryDay_3 := dk_seg dksX4_dryDay_2 24 rfl rfl
theorem dX4_dryDay_0 : decode cX4_dryDay 0 = .ok (.aload_n 0, 1) := dk_42 (dk_at dksX4_dryDay_0 0 rfl rfl)
theorem dX4_dryDay_1 : decode cX4_dryDay 1 = .ok (.aload_n 0, 1) := dk_42 (dk_at dksX4_dryDay_0 1 rfl rfl)
theorem dX4_dryDay_2 : decode cX4_dryDay 2 = .ok (.iload_n 1, 1) := dk_27 (dk_at dksX4_dryDay_0 2 rfl rfl)
theorem dX4_dryDay_3 : decode cX4_dryDay 3 = .ok (.invokevirtual 46, 3) := dk_182 0 46 (dk_at dksX4_dryDay_0 3 rfl rfl)
theorem dX4_dryDay_6 : decode cX4_dryDay 6 = .ok (.ifCond .eq 27, 3) := dk_153 0 27 (dk_at dksX4_dryDay_0 6 rfl rfl)
theorem dX4_dryDay_9 : decode cX4_dryDay 9 = .ok (.aload_n 0, 1) := dk_42 (dk_at dksX4_dryDay_0 9 rfl rfl)
theorem dX4_dryDay_10 : decode cX4_dryDay 10 = .ok (.iload_n 1, 1) := dk_27 (dk_at dksX4_dryDay_0 10 rfl rfl)
theorem dX4_dryDay_11 : decode cX4_dryDay 11 = .ok (.invokevirtual 83, 3) := dk_182 0 83 (dk_at dksX4_dryDay_0 11 rfl rfl)
theorem dX4_dryDay_14 : decode cX4_dryDay 14 = .ok (.ifCond .eq 15, 3) := dk_153 0 15 (dk_at dksX4_dryDay_0 14 rfl rfl)
theorem dX4_dryDay_17 : decode cX4_dryDay 17 = .ok (.aload_n 0, 1) := dk_42 (dk_at dksX4_dryDay_0 17 rfl rfl)
theorem dX4_dryDay_18 : decode cX4_dryDay 18 = .ok (.iload_n 1, 1) := dk_27 (dk_at dksX4_dryDay_0 18 rfl rfl)
theorem dX4_dryDay_19 : decode cX4_dryDay 19 = .ok (.invokevirtual 80, 3) := dk_182 0 80 (dk_at dksX4_dryDay_0 19 rfl rfl)
theorem dX4_dryDay_22 : decode cX4_dryDay 22 = .ok (.ifCond .eq 7, 3) := dk_153 0 7 (dk_at dksX4_dryDay_1 0 rfl rfl)
theorem dX4_dryDay_25 : decode cX4_dryDay 25 = .ok (.iconst 0, 1) := dk_3 (dk_at dksX4_dryDay_1 3 rfl rfl)
theorem dX4_dryDay_26 : decode cX4_dryDay 26 = .ok (.goto 8, 3) := dk_167 0 8 (dk_at dksX4_dryDay_1 4 rfl rfl)
theorem dX4_dryDay_29 : decode cX4_dryDay 29 = .ok (.iconst 2, 1) := dk_5 (dk_at dksX4_dryDay_1 7 rfl rfl)
theorem dX4_dryDay_30 : decode cX4_dryDay 30 = .ok (.goto 4, 3) := dk_167 0 4 (dk_at dksX4_dryDay_1 8 rfl rfl)
theorem dX4_dryDay_33 : decode cX4_dryDay 33 = .ok (.iconst 1, 1) := dk_4 (dk_at dksX4_dryDay_1 11 rfl rfl)
theorem dX4_dryDay_34 : decode cX4_dryDay 34 = .ok (.putfield 39, 3) := dk_181 0 39 (dk_at dksX4_dryDay_1 12 rfl rfl)
theorem dX4_dryDay_37 : decode cX4_dryDay 37 = .ok (.aload_n 0, 1) := dk_42 (dk_at dksX4_dryDay_1 15 rfl rfl)
theorem dX4_dryDay_38 : decode cX4_dryDay 38 = .ok (.getfield 39, 3) := dk_180 0 39 (dk_at dksX4_dryDay_1 16 rfl rfl)
theorem dX4_dryDay_41 : decode cX4_dryDay 41 = .ok (.ifCond .le 5, 3) := dk_158 0 5 (dk_at dksX4_dryDay_1 19 rfl rfl)
theorem dX4_dryDay_44 : decode cX4_dryDay 44 = .ok (.iconst 0, 1) := dk_3 (dk_at dksX4_dryDay_1 22 rfl rfl)
theorem dX4_dryDay_45 : decode cX4_dryDay 45 = .ok (.ireturn, 1) := dk_172 (dk_at dksX4_dryDay_1 23 rfl rfl)
theorem dX4_dryDay_46 : decode cX4_dryDay 46 = .ok (.aload_n 0, 1) := dk_42 (dk_at dksX4_dryDay_2 0 rfl rfl)
theorem dX4_dryDay_47 : decode cX4_dryDay 47 = .ok (.getfield 7, 3) := dk_180 0 7 (dk_at dksX4_dryDay_2 1 rfl rfl)
theorem dX4_dryDay_50 : decode cX4_dryDay 50 = .ok (.iload_n 1, 1) := dk_27 (dk_at dksX4_dryDay_2 4 rfl rfl)
theorem dX4_dryDay_51 : decode cX4_dryDay 51 = .ok (.bipush 6, 2) := dk_16 6 (dk_at dksX4_dryDay_2 5 rfl rfl)
theorem dX4_dryDay_53 : decode cX4_dryDay 53 = .ok (.invokestatic 50, 3) := dk_184 0 50 (dk_at dksX4_dryDay_2 7 rfl rfl)
theorem dX4_dryDay_56 : decode cX4_dryDay 56 = .ok (.iaload, 1) := dk_46 (dk_at dksX4_dryDay_2 10 rfl rfl)
theorem dX4_dryDay_57 : decode cX4_dryDay 57 = .ok (.aload_n 0, 1) := dk_42 (dk_at dksX4_dryDay_2 11 rfl rfl)
theorem dX4_dryDay_58 : decode cX4_dryDay 58 = .ok (.getfield 7, 3) := dk_180 0 7 (dk_at dksX4_dryDay_2 12 rfl rfl)
theorem dX4_dryDay_61 : decode cX4_dryDay 61 = .ok (.iconst 2, 1) := dk_5 (dk_at dksX4_dryDay_2 15 rfl rfl)
theorem dX4_dryDay_62 : decode cX4_dryDay 62 = .ok (.iaload, 1) := dk_46 (dk_at dksX4_dryDay_2 16 rfl rfl)
theorem dX4_dryDay_63 : decode cX4_dryDay 63 = .ok (.isub, 1) := dk_100 (dk_at dksX4_dryDay_2 17 rfl rfl)
theorem dX4_dryDay_64 : decode cX4_dryDay 64 = .ok (.istore_n 2, 1) := dk_61 (dk_at dksX4_dryDay_2 18 rfl rfl)
theorem dX4_dryDay_65 : decode cX4_dryDay 65 = .ok (.iload_n 2, 1) := dk_28 (dk_at dksX4_dryDay_2 19 rfl rfl)
theorem dX4_dryDay_66 : decode cX4_dryDay 66 = .ok (.aload_n 0, 1) := dk_42 (dk_at dksX4_dryDay_2 20 rfl rfl)
theorem dX4_dryDay_67 : decode cX4_dryDay 67 = .ok (.getfield 7, 3) := dk_180 0 7 (dk_at dksX4_dryDay_2 21 rfl rfl)
theorem dX4_dryDay_70 : decode cX4_dryDay 70 = .ok (.iconst 0, 1) := dk_3 (dk_at dksX4_dryDay_3 0 rfl rfl)
theorem dX4_dryDay_71 : decode cX4_dryDay 71 = .ok (.iaload, 1) := dk_46 (dk_at dksX4_dryDay_3 1 rfl rfl)
theorem dX4_dryDay_72 : decode cX4_dryDay 72 = .ok (.if_icmp .le 7, 3) := dk_164 0 7 (dk_at dksX4_dryDay_3 2 rfl rfl)
theorem dX4_dryDay_75 : decode cX4_dryDay 75 = .ok (.iload_n 2, 1) := dk_28 (dk_at dksX4_dryDay_3 5 rfl rfl)
theorem dX4_dryDay_76 : decode cX4_dryDay 76 = .ok (.goto 9, 3) := dk_167 0 9 (dk_at dksX4_dryDay_3 6 rfl rfl)
theorem dX4_dryDay_79 : decode cX4_dryDay 79 = .ok (.aload_n 0, 1) := dk_42 (dk_at dksX4_dryDay_3 9 rfl rfl)
theorem dX4_dryDay_80 : decode cX4_dryDay 80 = .ok (.getfield 7, 3) := dk_180 0 7 (dk_at dksX4_dryDay_3 10 rfl rfl)
theorem dX4_dryDay_83 : decode cX4_dryDay 83 = .ok (.iconst 0, 1) := dk_3 (dk_at dksX4_dryDay_3 13 rfl rfl)
theorem dX4_dryDay_84 : decode cX4_dryDay 84 = .ok (.iaload, 1) := dk_46 (dk_at dksX4_dryDay_3 14 rfl rfl)
theorem dX4_dryDay_85 : decode cX4_dryDay 85 = .ok (.ireturn, 1) := dk_172 (dk_at dksX4_dryDay_3 15 rfl rfl)
abbrev cX4_tank : ByteArray := prog_15_method_47_code
def yX4_tank : MethodName := ⟨RX4, "tank", "(I)I"⟩
def dkwX4_tank_4 : List UInt8 := [16, 8, 46, 108, 172]
abbrev dktX4_tank_4 : List UInt8 := dkwX4_tank_4 ++ []
def dkwX4_tank_3 : List UInt8 := [180, 0, 7, 16, 8, 46, 154, 0, 7, 3, 167, 0, 18, 42, 180, 0, 7, 16, 9, 46, 42, 180, 0, 7]
abbrev dktX4_tank_3 : List UInt8 := dkwX4_tank_3 ++ dktX4_tank_4
def dkwX4_tank_2 : List UInt8 := [42, 180, 0, 7, 16, 9, 46, 167, 0, 44, 27, 6, 160, 0, 10, 42, 182, 0, 115, 167, 0, 32, 42]
abbrev dktX4_tank_2 : List UInt8 := dkwX4_tank_2 ++ dktX4_tank_3
def dkwX4_tank_1 : List UInt8 := [158, 0, 5, 3, 172, 27, 154, 0, 13, 42, 180, 0, 7, 16, 8, 46, 167, 0, 59, 27, 4, 160, 0, 13]
abbrev dktX4_tank_1 : List UInt8 := dkwX4_tank_1 ++ dktX4_tank_2
def dkwX4_tank_0 : List UInt8 := [42, 27, 3, 6, 184, 0, 42, 153, 0, 7, 3, 167, 0, 4, 4, 181, 0, 39, 42, 180, 0, 39]
abbrev dktX4_tank_0 : List UInt8 := dkwX4_tank_0 ++ dktX4_tank_1
theorem dksX4_tank_0 : cX4_tank.data.toList.drop 0 = dktX4_tank_0 := by decide +kernel
theorem dksX4_tank_1 : cX4_tank.data.toList.drop 22 = dktX4_tank_1 := dk_seg dksX4_tank_0 22 rfl rfl
theorem dksX4_tank_2 : cX4_tank.data.toList.drop 46 = dktX4_tank_2 := dk_seg dksX4_tank_1 24 rfl rfl
theorem dksX4_tank_3 : cX4_tank.data.toList.drop 69 = dktX4_tank_3 := dk_seg dksX4_tank_2 23 rfl rfl
theorem dksX4_tank_4 : cX4_tank.data.toList.drop 93 = dktX4_tank_4 := dk_seg dksX4_tank_3 24 rfl rfl
theorem dX4_tank_0 : decode cX4_tank 0 = .ok (.aload_n 0, 1) := dk_42 (dk_at dksX4_tank_0 0 rfl rfl)
theorem dX4_tank_1 : decode cX4_tank 1 = .ok (.iload_n 1, 1) := dk_27 (dk_at dksX4_tank_0 1 rfl rfl)
theorem dX4_tank_2 : decode cX4_tank 2 = .ok (.iconst 0, 1) := dk_3 (dk_at dksX4_tank_0 2 rfl rfl)
theorem dX4_tank_3 : decode cX4_tank 3 = .ok (.iconst 3, 1) := dk_6 (dk_at dksX4_tank_0 3 rfl rfl)
theorem dX4_tank_4 : decode cX4_tank 4 = .ok (.invokestatic 42, 3) := dk_184 0 42 (dk_at dksX4_tank_0 4 rfl rfl)
theorem dX4_tank_7 : decode cX4_tank 7 = .ok (.ifCond .eq 7, 3) := dk_153 0 7 (dk_at dksX4_tank_0 7 rfl rfl)
theorem dX4_tank_10 : decode cX4_tank 10 = .ok (.iconst 0, 1) := dk_3 (dk_at dksX4_tank_0 10 rfl rfl)
theorem dX4_tank_11 : decode cX4_tank 11 = .ok (.goto 4, 3) := dk_167 0 4 (dk_at dksX4_tank_0 11 rfl rfl)
theorem dX4_tank_14 : decode cX4_tank 14 = .ok (.iconst 1, 1) := dk_4 (dk_at dksX4_tank_0 14 rfl rfl)
theorem dX4_tank_15 : decode cX4_tank 15 = .ok (.putfield 39, 3) := dk_181 0 39 (dk_at dksX4_tank_0 15 rfl rfl)
theorem dX4_tank_18 : decode cX4_tank 18 = .ok (.aload_n 0, 1) := dk_42 (dk_at dksX4_tank_0 18 rfl rfl)
theorem dX4_tank_19 : decode cX4_tank 19 = .ok (.getfield 39, 3) := dk_180 0 39 (dk_at dksX4_tank_0 19 rfl rfl)
theorem dX4_tank_22 : decode cX4_tank 22 = .ok (.ifCond .le 5, 3) := dk_158 0 5 (dk_at dksX4_tank_1 0 rfl rfl)
theorem dX4_tank_25 : decode cX4_tank 25 = .ok (.iconst 0, 1) := dk_3 (dk_at dksX4_tank_1 3 rfl rfl)
theorem dX4_tank_26 : decode cX4_tank 26 = .ok (.ireturn, 1) := dk_172 (dk_at dksX4_tank_1 4 rfl rfl)
theorem dX4_tank_27 : decode cX4_tank 27 = .ok (.iload_n 1, 1) := dk_27 (dk_at dksX4_tank_1 5 rfl rfl)
theorem dX4_tank_28 : decode cX4_tank 28 = .ok (.ifCond .ne 13, 3) := dk_154 0 13 (dk_at dksX4_tank_1 6 rfl rfl)
theorem dX4_tank_31 : decode cX4_tank 31 = .ok (.aload_n 0, 1) := dk_42 (dk_at dksX4_tank_1 9 rfl rfl)
theorem dX4_tank_32 : decode cX4_tank 32 = .ok (.getfield 7, 3) := dk_180 0 7 (dk_at dksX4_tank_1 10 rfl rfl)
theorem dX4_tank_35 : decode cX4_tank 35 = .ok (.bipush 8, 2) := dk_16 8 (dk_at dksX4_tank_1 13 rfl rfl)
theorem dX4_tank_37 : decode cX4_tank 37 = .ok (.iaload, 1) := dk_46 (dk_at dksX4_tank_1 15 rfl rfl)
theorem dX4_tank_38 : decode cX4_tank 38 = .ok (.goto 59, 3) := dk_167 0 59 (dk_at dksX4_tank_1 16 rfl rfl)
theorem dX4_tank_41 : decode cX4_tank 41 = .ok (.iload_n 1, 1) := dk_27 (dk_at dksX4_tank_1 19 rfl rfl)
theorem dX4_tank_42 : decode cX4_tank 42 = .ok (.iconst 1, 1) := dk_4 (dk_at dksX4_tank_1 20 rfl rfl)
theorem dX4_tank_43 : decode cX4_tank 43 = .ok (.if_icmp .ne 13, 3) := dk_160 0 13 (dk_at dksX4_tank_1 21 rfl rfl)
theorem dX4_tank_46 : decode cX4_tank 46 = .ok (.aload_n 0, 1) := dk_42 (dk_at dksX4_tank_2 0 rfl rfl)
theorem dX4_tank_47 : decode cX4_tank 47 = .ok (.getfield 7, 3) := dk_180 0 7 (dk_at dksX4_tank_2 1 rfl rfl)
theorem dX4_tank_50 : decode cX4_tank 50 = .ok (.bipush 9, 2) := dk_16 9 (dk_at dksX4_tank_2 4 rfl rfl)
theorem dX4_tank_52 : decode cX4_tank 52 = .ok (.iaload, 1) := dk_46 (dk_at dksX4_tank_2 6 rfl rfl)
theorem dX4_tank_53 : decode cX4_tank 53 = .ok (.goto 44, 3) := dk_167 0 44 (dk_at dksX4_tank_2 7 rfl rfl)
theorem dX4_tank_56 : decode cX4_tank 56 = .ok (.iload_n 1, 1) := dk_27 (dk_at dksX4_tank_2 10 rfl rfl)
theorem dX4_tank_57 : decode cX4_tank 57 = .ok (.iconst 3, 1) := dk_6 (dk_at dksX4_tank_2 11 rfl rfl)
theorem dX4_tank_58 : decode cX4_tank 58 = .ok (.if_icmp .ne 10, 3) := dk_160 0 10 (dk_at dksX4_tank_2 12 rfl rfl)
theorem dX4_tank_61 : decode cX4_tank 61 = .ok (.aload_n 0, 1) := dk_42 (dk_at dksX4_tank_2 15 rfl rfl)
theorem dX4_tank_62 : decode cX4_tank 62 = .ok (.invokevirtual 115, 3) := dk_182 0 115 (dk_at dksX4_tank_2 16 rfl rfl)
theorem dX4_tank_65 : decode cX4_tank 65 = .ok (.goto 32, 3) := dk_167 0 32 (dk_at dksX4_tank_2 19 rfl rfl)
theorem dX4_tank_68 : decode cX4_tank 68 = .ok (.aload_n 0, 1) := dk_42 (dk_at dksX4_tank_2 22 rfl rfl)
theorem dX4_tank_69 : decode cX4_tank 69 = .ok (.getfield 7, 3) := dk_180 0 7 (dk_at dksX4_tank_3 0 rfl rfl)
theorem dX4_tank_72 : decode cX4_tank 72 = .ok (.bipush 8, 2) := dk_16 8 (dk_at dksX4_tank_3 3 rfl rfl)
theorem dX4_tank_74 : decode cX4_tank 74 = .ok (.iaload, 1) := dk_46 (dk_at dksX4_tank_3 5 rfl rfl)
theorem dX4_tank_75 : decode cX4_tank 75 = .ok (.ifCond .ne 7, 3) := dk_154 0 7 (dk_at dksX4_tank_3 6 rfl rfl)
theorem dX4_tank_78 : decode cX4_tank 78 = .ok (.iconst 0, 1) := dk_3 (dk_at dksX4_tank_3 9 rfl rfl)
theorem dX4_tank_79 : decode cX4_tank 79 = .ok (.goto 18, 3) := dk_167 0 18 (dk_at dksX4_tank_3 10 rfl rfl)
theorem dX4_tank_82 : decode cX4_tank 82 = .ok (.aload_n 0, 1) := dk_42 (dk_at dksX4_tank_3 13 rfl rfl)
theorem dX4_tank_83 : decode cX4_tank 83 = .ok (.getfield 7, 3) := dk_180 0 7 (dk_at dksX4_tank_3 14 rfl rfl)
theorem dX4_tank_86 : decode cX4_tank 86 = .ok (.bipush 9, 2) := dk_16 9 (dk_at dksX4_tank_3 17 rfl rfl)
theorem dX4_tank_88 : decode cX4_tank 88 = .ok (.iaload, 1) := dk_46 (dk_at dksX4_tank_3 19 rfl rfl)
theorem dX4_tank_89 : decode cX4_tank 89 = .ok (.aload_n 0, 1) := dk_42 (dk_at dksX4_tank_3 20 rfl rfl)
theorem dX4_tank_90 : decode cX4_tank 90 = .ok (.getfield 7, 3) := dk_180 0 7 (dk_at dksX4_tank_3 21 rfl rfl)
theorem dX4_tank_93 : decode cX4_tank 93 = .ok (.bipush 8, 2) := dk_16 8 (dk_at dksX4_tank_4 0 rfl rfl)
theorem dX4_tank_95 : decode cX4_tank 95 = .ok (.iaload, 1) := dk_46 (dk_at dksX4_tank_4 2 rfl rfl)
theorem dX4_tank_96 : decode cX4_tank 96 = .ok (.idiv, 1) := dk_108 (dk_at dksX4_tank_4 3 rfl rfl)
theorem dX4_tank_97 : decode cX4_tank 97 = .ok (.ireturn, 1) := dk_172 (dk_at dksX4_tank_4 4 rfl rfl)
abbrev cX4_pickup : ByteArray := prog_15_method_49_code
def yX4_pickup : MethodName := ⟨RX4, "pickup", "(II)I"⟩
def dkwX4_pickup_2 : List UInt8 := [16, 7, 27, 104, 96, 28, 96, 46, 172]
abbrev dktX4_pickup_2 : List UInt8 := dkwX4_pickup_2 ++ []
def dkwX4_pickup_1 : List UInt8 := [167, 0, 4, 4, 181, 0, 39, 42, 180, 0, 39, 158, 0, 7, 3, 167, 0, 17, 42, 180, 0, 7, 16, 103]
abbrev dktX4_pickup_1 : List UInt8 := dkwX4_pickup_1 ++ dktX4_pickup_2
def dkwX4_pickup_0 : List UInt8 := [42, 42, 27, 182, 0, 134, 153, 0, 21, 28, 3, 16, 6, 184, 0, 42, 153, 0, 7, 3, 167, 0, 8, 5]
abbrev dktX4_pickup_0 : List UInt8 := dkwX4_pickup_0 ++ dktX4_pickup_1
theorem dksX4_pickup_0 : cX4_pickup.data.toList.drop 0 = dktX4_pickup_0 := by decide +kernel
theorem dksX4_pickup_1 : cX4_pickup.data.toList.drop 24 = dktX4_pickup_1 := dk_seg dksX4_pickup_0 24 rfl rfl
theorem dksX4_pickup_2 : cX4_pickup.data.toList.drop 48 = dktX4_pickup_2 := dk_seg dksX4_pickup_1 24 rfl rfl
theorem dX4_pickup_0 : decode cX4_pickup 0 = .ok (.aload_n 0, 1) := dk_42 (dk_at dksX4_pickup_0 0 rfl rfl)
theorem dX4_pickup_1 : decode cX4_pickup 1 = .ok (.aload_n 0, 1) := dk_42 (dk_at dksX4_pickup_0 1 rfl rfl)
theorem dX4_pickup_2 : decode cX4_pickup 2 = .ok (.iload_n 1, 1) := dk_27 (dk_at dksX4_pickup_0 2 rfl rfl)
theorem dX4_pickup_3 : decode cX4_pickup 3 = .ok (.invokevirtual 134, 3) := dk_182 0 134 (dk_at dksX4_pickup_0 3 rfl rfl)
theorem dX4_pickup_6 : decode cX4_pickup 6 = .ok (.ifCond .eq 21, 3) := dk_153 0 21 (dk_at dksX4_pickup_0 6 rfl rfl)
theorem dX4_pickup_9 : decode cX4_pickup 9 = .ok (.iload_n 2, 1) := dk_28 (dk_at dksX4_pickup_0 9 rfl rfl)
theorem dX4_pickup_10 : decode cX4_pickup 10 = .ok (.iconst 0, 1) := dk_3 (dk_at dksX4_pickup_0 10 rfl rfl)
theorem dX4_pickup_11 : decode cX4_pickup 11 = .ok (.bipush 6, 2) := dk_16 6 (dk_at dksX4_pickup_0 11 rfl rfl)
theorem dX4_pickup_13 : decode cX4_pickup 13 = .ok (.invokestatic 42, 3) := dk_184 0 42 (dk_at dksX4_pickup_0 13 rfl rfl)
theorem dX4_pickup_16 : decode cX4_pickup 16 = .ok (.ifCond .eq 7, 3) := dk_153 0 7 (dk_at dksX4_pickup_0 16 rfl rfl)
theorem dX4_pickup_19 : decode cX4_pickup 19 = .ok (.iconst 0, 1) := dk_3 (dk_at dksX4_pickup_0 19 rfl rfl)
theorem dX4_pickup_20 : decode cX4_pickup 20 = .ok (.goto 8, 3) := dk_167 0 8 (dk_at dksX4_pickup_0 20 rfl rfl)
theorem dX4_pickup_23 : decode cX4_pickup 23 = .ok (.iconst 2, 1) := dk_5 (dk_at dksX4_pickup_0 23 rfl rfl)
theorem dX4_pickup_24 : decode cX4_pickup 24 = .ok (.goto 4, 3) := dk_167 0 4 (dk_at dksX4_pickup_1 0 rfl rfl)
theorem dX4_pickup_27 : decode cX4_pickup 27 = .ok (.iconst 1, 1) := dk_4 (dk_at dksX4_pickup_1 3 rfl rfl)
theorem dX4_pickup_28 : decode cX4_pickup 28 = .ok (.putfield 39, 3) := dk_181 0 39 (dk_at dksX4_pickup_1 4 rfl rfl)
theorem dX4_pickup_31 : decode cX4_pickup 31 = .ok (.aload_n 0, 1) := dk_42 (dk_at dksX4_pickup_1 7 rfl rfl)
theorem dX4_pickup_32 : decode cX4_pickup 32 = .ok (.getfield 39, 3) := dk_180 0 39 (dk_at dksX4_pickup_1 8 rfl rfl)
theorem dX4_pickup_35 : decode cX4_pickup 35 = .ok (.ifCond .le 7, 3) := dk_158 0 7 (dk_at dksX4_pickup_1 11 rfl rfl)
theorem dX4_pickup_38 : decode cX4_pickup 38 = .ok (.iconst 0, 1) := dk_3 (dk_at dksX4_pickup_1 14 rfl rfl)
theorem dX4_pickup_39 : decode cX4_pickup 39 = .ok (.goto 17, 3) := dk_167 0 17 (dk_at dksX4_pickup_1 15 rfl rfl)
theorem dX4_pickup_42 : decode cX4_pickup 42 = .ok (.aload_n 0, 1) := dk_42 (dk_at dksX4_pickup_1 18 rfl rfl)
theorem dX4_pickup_43 : decode cX4_pickup 43 = .ok (.getfield 7, 3) := dk_180 0 7 (dk_at dksX4_pickup_1 19 rfl rfl)
theorem dX4_pickup_46 : decode cX4_pickup 46 = .ok (.bipush 103, 2) := dk_16 103 (dk_at dksX4_pickup_1 22 rfl rfl)
theorem dX4_pickup_48 : decode cX4_pickup 48 = .ok (.bipush 7, 2) := dk_16 7 (dk_at dksX4_pickup_2 0 rfl rfl)
theorem dX4_pickup_50 : decode cX4_pickup 50 = .ok (.iload_n 1, 1) := dk_27 (dk_at dksX4_pickup_2 2 rfl rfl)
theorem dX4_pickup_51 : decode cX4_pickup 51 = .ok (.imul, 1) := dk_104 (dk_at dksX4_pickup_2 3 rfl rfl)
theorem dX4_pickup_52 : decode cX4_pickup 52 = .ok (.iadd, 1) := dk_96 (dk_at dksX4_pickup_2 4 rfl rfl)
theorem dX4_pickup_53 : decode cX4_pickup 53 = .ok (.iload_n 2, 1) := dk_28 (dk_at dksX4_pickup_2 5 rfl rfl)
theorem dX4_pickup_54 : decode cX4_pickup 54 = .ok (.iadd, 1) := dk_96 (dk_at dksX4_pickup_2 6 rfl rfl)
theorem dX4_pickup_55 : decode cX4_pickup 55 = .ok (.iaload, 1) := dk_46 (dk_at dksX4_pickup_2 7 rfl rfl)
theorem dX4_pickup_56 : decode cX4_pickup 56 = .ok (.ireturn, 1) := dk_172 (dk_at dksX4_pickup_2 8 rfl rfl)
abbrev cX4_isPickup : ByteArray := prog_15_method_48_code
def yX4_isPickup : MethodName := ⟨RX4, "isPickup", "(I)Z"⟩
def dkwX4_isPickup_0 : List UInt8 := [27, 3, 42, 180, 0, 7, 16, 11, 46, 4, 100, 184, 0, 42, 172]
abbrev dktX4_isPickup_0 : List UInt8 := dkwX4_isPickup_0 ++ []
theorem dksX4_isPickup_0 : cX4_isPickup.data.toList.drop 0 = dktX4_isPickup_0 := by decide +kernel
theorem dX4_isPickup_0 : decode cX4_isPickup 0 = .ok (.iload_n 1, 1) := dk_27 (dk_at dksX4_isPickup_0 0 rfl rfl)
theorem dX4_isPickup_1 : decode cX4_isPickup 1 = .ok (.iconst 0, 1) := dk_3 (dk_at dksX4_isPickup_0 1 rfl rfl)
theorem dX4_isPickup_2 : decode cX4_isPickup 2 = .ok (.aload_n 0, 1) := dk_42 (dk_at dksX4_isPickup_0 2 rfl rfl)
theorem dX4_isPickup_3 : decode cX4_isPickup 3 = .ok (.getfield 7, 3) := dk_180 0 7 (dk_at dksX4_isPickup_0 3 rfl rfl)
theorem dX4_isPickup_6 : decode cX4_isPickup 6 = .ok (.bipush 11, 2) := dk_16 11 (dk_at dksX4_isPickup_0 6 rfl rfl)
theorem dX4_isPickup_8 : decode cX4_isPickup 8 = .ok (.iaload, 1) := dk_46 (dk_at dksX4_isPickup_0 8 rfl rfl)
theorem dX4_isPickup_9 : decode cX4_isPickup 9 = .ok (.iconst 1, 1) := dk_4 (dk_at dksX4_isPickup_0 9 rfl rfl)
theorem dX4_isPickup_10 : decode cX4_isPickup 10 = .ok (.isub, 1) := dk_100 (dk_at dksX4_isPickup_0 10 rfl rfl)
theorem dX4_isPickup_11 : decode cX4_isPickup 11 = .ok (.invokestatic 42, 3) := dk_184 0 42 (dk_at dksX4_isPickup_0 11 rfl rfl)
theorem dX4_isPickup_14 : decode cX4_isPickup 14 = .ok (.ireturn, 1) := dk_172 (dk_at dksX4_isPickup_0 14 rfl rfl)
abbrev cX4_mean : ByteArray := prog_15_method_50_code
def yX4_mean : MethodName := ⟨RX4, "mean", "(II)D"⟩
def dkwX4_mean_4 : List UInt8 := [62, 132, 5, 1, 167, 255, 209, 29, 135, 21, 4, 135, 111, 175]
abbrev dktX4_mean_4 : List UInt8 := dkwX4_mean_4 ++ []
def dkwX4_mean_3 : List UInt8 := [96, 4, 96, 46, 96, 54, 4, 29, 42, 180, 0, 7, 16, 103, 16, 7, 21, 5, 104, 96, 5, 96, 46, 96]
abbrev dktX4_mean_3 : List UInt8 := dkwX4_mean_3 ++ dktX4_mean_4
def dkwX4_mean_2 : List UInt8 := [54, 4, 27, 54, 5, 21, 5, 28, 163, 0, 47, 21, 4, 42, 180, 0, 7, 16, 103, 16, 7, 21, 5, 104]
abbrev dktX4_mean_2 : List UInt8 := dkwX4_mean_2 ++ dktX4_mean_3
def dkwX4_mean_1 : List UInt8 := [167, 0, 8, 3, 167, 0, 4, 4, 181, 0, 39, 42, 180, 0, 39, 158, 0, 5, 14, 175, 3, 62, 3]
abbrev dktX4_mean_1 : List UInt8 := dkwX4_mean_1 ++ dktX4_mean_2
def dkwX4_mean_0 : List UInt8 := [42, 42, 27, 182, 0, 134, 153, 0, 24, 42, 28, 182, 0, 134, 153, 0, 16, 27, 28, 164, 0, 7, 5]
abbrev dktX4_mean_0 : List UInt8 := dkwX4_mean_0 ++ dktX4_mean_1
theorem dksX4_mean_0 : cX4_mean.data.toList.drop 0 = dktX4_mean_0 := by decide +kernel
theorem dksX4_mean_1 : cX4_mean.data.toList.drop 23 = dktX4_mean_1 := dk_seg dksX4_mean_0 23 rfl rfl
theorem dksX4_mean_2 : cX4_mean.data.toList.drop 46 = dktX4_mean_2 := dk_seg dksX4_mean_1 23 rfl rfl
theorem dksX4_mean_3 : cX4_mean.data.toList.drop 70 = dktX4_mean_3 := dk_seg dksX4_mean_2 24 rfl rfl
theorem dksX4_mean_4 : cX4_mean.data.toList.drop 94 = dktX4_mean_4 := dk_seg dksX4_mean_3 24 rfl rfl
theorem dX4_mean_0 : decode cX4_mean 0 = .ok (.aload_n 0, 1) := dk_42 (dk_at dksX4_mean_0 0 rfl rfl)
theorem dX4_mean_1 : decode cX4_mean 1 = .ok (.aload_n 0, 1) := dk_42 (dk_at dksX4_mean_0 1 rfl rfl)
theorem dX4_mean_2 : decode cX4_mean 2 = .ok (.iload_n 1, 1) := dk_27 (dk_at dksX4_mean_0 2 rfl rfl)
theorem dX4_mean_3 : decode cX4_mean 3 = .ok (.invokevirtual 134, 3) := dk_182 0 134 (dk_at dksX4_mean_0 3 rfl rfl)
theorem dX4_mean_6 : decode cX4_mean 6 = .ok (.ifCond .eq 24, 3) := dk_153 0 24 (dk_at dksX4_mean_0 6 rfl rfl)
theorem dX4_mean_9 : decode cX4_mean 9 = .ok (.aload_n 0, 1) := dk_42 (dk_at dksX4_mean_0 9 rfl rfl)
theorem dX4_mean_10 : decode cX4_mean 10 = .ok (.iload_n 2, 1) := dk_28 (dk_at dksX4_mean_0 10 rfl rfl)
theorem dX4_mean_11 : decode cX4_mean 11 = .ok (.invokevirtual 134, 3) := dk_182 0 134 (dk_at dksX4_mean_0 11 rfl rfl)
theorem dX4_mean_14 : decode cX4_mean 14 = .ok (.ifCond .eq 16, 3) := dk_153 0 16 (dk_at dksX4_mean_0 14 rfl rfl)
theorem dX4_mean_17 : decode cX4_mean 17 = .ok (.iload_n 1, 1) := dk_27 (dk_at dksX4_mean_0 17 rfl rfl)
theorem dX4_mean_18 : decode cX4_mean 18 = .ok (.iload_n 2, 1) := dk_28 (dk_at dksX4_mean_0 18 rfl rfl)
theorem dX4_mean_19 : decode cX4_mean 19 = .ok (.if_icmp .le 7, 3) := dk_164 0 7 (dk_at dksX4_mean_0 19 rfl rfl)
theorem dX4_mean_22 : decode cX4_mean 22 = .ok (.iconst 2, 1) := dk_5 (dk_at dksX4_mean_0 22 rfl rfl)
theorem dX4_mean_23 : decode cX4_mean 23 = .ok (.goto 8, 3) := dk_167 0 8 (dk_at dksX4_mean_1 0 rfl rfl)
theorem dX4_mean_26 : decode cX4_mean 26 = .ok (.iconst 0, 1) := dk_3 (dk_at dksX4_mean_1 3 rfl rfl)
theorem dX4_mean_27 : decode cX4_mean 27 = .ok (.goto 4, 3) := dk_167 0 4 (dk_at dksX4_mean_1 4 rfl rfl)
theorem dX4_mean_30 : decode cX4_mean 30 = .ok (.iconst 1, 1) := dk_4 (dk_at dksX4_mean_1 7 rfl rfl)
theorem dX4_mean_31 : decode cX4_mean 31 = .ok (.putfield 39, 3) := dk_181 0 39 (dk_at dksX4_mean_1 8 rfl rfl)
theorem dX4_mean_34 : decode cX4_mean 34 = .ok (.aload_n 0, 1) := dk_42 (dk_at dksX4_mean_1 11 rfl rfl)
theorem dX4_mean_35 : decode cX4_mean 35 = .ok (.getfield 39, 3) := dk_180 0 39 (dk_at dksX4_mean_1 12 rfl rfl)
theorem dX4_mean_38 : decode cX4_mean 38 = .ok (.ifCond .le 5, 3) := dk_158 0 5 (dk_at dksX4_mean_1 15 rfl rfl)
theorem dX4_mean_41 : decode cX4_mean 41 = .ok (.dconst 0, 1) := dk_14 (dk_at dksX4_mean_1 18 rfl rfl)
theorem dX4_mean_42 : decode cX4_mean 42 = .ok (.dreturn, 1) := dk_175 (dk_at dksX4_mean_1 19 rfl rfl)
theorem dX4_mean_43 : decode cX4_mean 43 = .ok (.iconst 0, 1) := dk_3 (dk_at dksX4_mean_1 20 rfl rfl)
theorem dX4_mean_44 : decode cX4_mean 44 = .ok (.istore_n 3, 1) := dk_62 (dk_at dksX4_mean_1 21 rfl rfl)
theorem dX4_mean_45 : decode cX4_mean 45 = .ok (.iconst 0, 1) := dk_3 (dk_at dksX4_mean_1 22 rfl rfl)
theorem dX4_mean_46 : decode cX4_mean 46 = .ok (.istore 4, 2) := dk_54 4 (dk_at dksX4_mean_2 0 rfl rfl)
theorem dX4_mean_48 : decode cX4_mean 48 = .ok (.iload_n 1, 1) := dk_27 (dk_at dksX4_mean_2 2 rfl rfl)
theorem dX4_mean_49 : decode cX4_mean 49 = .ok (.istore 5, 2) := dk_54 5 (dk_at dksX4_mean_2 3 rfl rfl)
theorem dX4_mean_51 : decode cX4_mean 51 = .ok (.iload 5, 2) := dk_21 5 (dk_at dksX4_mean_2 5 rfl rfl)
theorem dX4_mean_53 : decode cX4_mean 53 = .ok (.iload_n 2, 1) := dk_28 (dk_at dksX4_mean_2 7 rfl rfl)
theorem dX4_mean_54 : decode cX4_mean 54 = .ok (.if_icmp .gt 47, 3) := dk_163 0 47 (dk_at dksX4_mean_2 8 rfl rfl)
theorem dX4_mean_57 : decode cX4_mean 57 = .ok (.iload 4, 2) := dk_21 4 (dk_at dksX4_mean_2 11 rfl rfl)
theorem dX4_mean_59 : decode cX4_mean 59 = .ok (.aload_n 0, 1) := dk_42 (dk_at dksX4_mean_2 13 rfl rfl)
theorem dX4_mean_60 : decode cX4_mean 60 = .ok (.getfield 7, 3) := dk_180 0 7 (dk_at dksX4_mean_2 14 rfl rfl)
theorem dX4_mean_63 : decode cX4_mean 63 = .ok (.bipush 103, 2) := dk_16 103 (dk_at dksX4_mean_2 17 rfl rfl)
theorem dX4_mean_65 : decode cX4_mean 65 = .ok (.bipush 7, 2) := dk_16 7 (dk_at dksX4_mean_2 19 rfl rfl)
theorem dX4_mean_67 : decode cX4_mean 67 = .ok (.iload 5, 2) := dk_21 5 (dk_at dksX4_mean_2 21 rfl rfl)
theorem dX4_mean_69 : decode cX4_mean 69 = .ok (.imul, 1) := dk_104 (dk_at dksX4_mean_2 23 rfl rfl)
theorem dX4_mean_70 : decode cX4_mean 70 = .ok (.iadd, 1) := dk_96 (dk_at dksX4_mean_3 0 rfl rfl)
theorem dX4_mean_71 : decode cX4_mean 71 = .ok (.iconst 1, 1) := dk_4 (dk_at dksX4_mean_3 1 rfl rfl)
theorem dX4_mean_72 : decode cX4_mean 72 = .ok (.iadd, 1) := dk_96 (dk_at dksX4_mean_3 2 rfl rfl)
theorem dX4_mean_73 : decode cX4_mean 73 = .ok (.iaload, 1) := dk_46 (dk_at dksX4_mean_3 3 rfl rfl)
theorem dX4_mean_74 : decode cX4_mean 74 = .ok (.iadd, 1) := dk_96 (dk_at dksX4_mean_3 4 rfl rfl)
theorem dX4_mean_75 : decode cX4_mean 75 = .ok (.istore 4, 2) := dk_54 4 (dk_at dksX4_mean_3 5 rfl rfl)
theorem dX4_mean_77 : decode cX4_mean 77 = .ok (.iload_n 3, 1) := dk_29 (dk_at dksX4_mean_3 7 rfl rfl)
theorem dX4_mean_78 : decode cX4_mean 78 = .ok (.aload_n 0, 1) := dk_42 (dk_at dksX4_mean_3 8 rfl rfl)
theorem dX4_mean_79 : decode cX4_mean 79 = .ok (.getfield 7, 3) := dk_180 0 7 (dk_at dksX4_mean_3 9 rfl rfl)
theorem dX4_mean_82 : decode cX4_mean 82 = .ok (.bipush 103, 2) := dk_16 103 (dk_at dksX4_mean_3 12 rfl rfl)
theorem dX4_mean_84 : decode cX4_mean 84 = .ok (.bipush 7, 2) := dk_16 7 (dk_at dksX4_mean_3 14 rfl rfl)
theorem dX4_mean_86 : decode cX4_mean 86 = .ok (.iload 5, 2) := dk_21 5 (dk_at dksX4_mean_3 16 rfl rfl)
theorem dX4_mean_88 : decode cX4_mean 88 = .ok (.imul, 1) := dk_104 (dk_at dksX4_mean_3 18 rfl rfl)
theorem dX4_mean_89 : decode cX4_mean 89 = .ok (.iadd, 1) := dk_96 (dk_at dksX4_mean_3 19 rfl rfl)
theorem dX4_mean_90 : decode cX4_mean 90 = .ok (.iconst 2, 1) := dk_5 (dk_at dksX4_mean_3 20 rfl rfl)
theorem dX4_mean_91 : decode cX4_mean 91 = .ok (.iadd, 1) := dk_96 (dk_at dksX4_mean_3 21 rfl rfl)
theorem dX4_mean_92 : decode cX4_mean 92 = .ok (.iaload, 1) := dk_46 (dk_at dksX4_mean_3 22 rfl rfl)
theorem dX4_mean_93 : decode cX4_mean 93 = .ok (.iadd, 1) := dk_96 (dk_at dksX4_mean_3 23 rfl rfl)
theorem dX4_mean_94 : decode cX4_mean 94 = .ok (.istore_n 3, 1) := dk_62 (dk_at dksX4_mean_4 0 rfl rfl)
theorem dX4_mean_95 : decode cX4_mean 95 = .ok (.iinc 5 1, 3) := dk_132 5 1 (dk_at dksX4_mean_4 1 rfl rfl)
theorem dX4_mean_98 : decode cX4_mean 98 = .ok (.goto (-47), 3) := dk_167 255 209 (dk_at dksX4_mean_4 4 rfl rfl)
theorem dX4_mean_101 : decode cX4_mean 101 = .ok (.iload_n 3, 1) := dk_29 (dk_at dksX4_mean_4 7 rfl rfl)
theorem dX4_mean_102 : decode cX4_mean 102 = .ok (.i2d, 1) := dk_135 (dk_at dksX4_mean_4 8 rfl rfl)
theorem dX4_mean_103 : decode cX4_mean 103 = .ok (.iload 4, 2) := dk_21 4 (dk_at dksX4_mean_4 9 rfl rfl)
theorem dX4_mean_105 : decode cX4_mean 105 = .ok (.i2d, 1) := dk_135 (dk_at dksX4_mean_4 11 rfl rfl)
theorem dX4_mean_106 : decode cX4_mean 106 = .ok (.ddiv, 1) := dk_111 (dk_at dksX4_mean_4 12 rfl rfl)
theorem dX4_mean_107 : decode cX4_mean 107 = .ok (.dreturn, 1) := dk_175 (dk_at dksX4_mean_4 13 rfl rfl)
abbrev cX4_greatest : ByteArray := prog_15_method_51_code
def yX4_greatest : MethodName := ⟨RX4, "greatest", "(I)I"⟩
def dkwX4_greatest_4 : List UInt8 := [132, 3, 1, 167, 255, 198, 28, 172]
abbrev dktX4_greatest_4 : List UInt8 := dkwX4_greatest_4 ++ []
def dkwX4_greatest_3 : List UInt8 := [42, 180, 0, 7, 16, 103, 16, 7, 28, 104, 96, 27, 96, 46, 164, 0, 7, 29, 167, 0, 4, 28, 61]
abbrev dktX4_greatest_3 : List UInt8 := dkwX4_greatest_3 ++ dktX4_greatest_4
def dkwX4_greatest_2 : List UInt8 := [162, 0, 53, 42, 180, 0, 39, 154, 0, 46, 42, 180, 0, 7, 16, 103, 16, 7, 29, 104, 96, 27, 96, 46]
abbrev dktX4_greatest_2 : List UInt8 := dkwX4_greatest_2 ++ dktX4_greatest_3
def dkwX4_greatest_1 : List UInt8 := [154, 0, 7, 5, 167, 0, 4, 3, 181, 0, 39, 3, 61, 4, 62, 29, 42, 180, 0, 7, 16, 11, 46]
abbrev dktX4_greatest_1 : List UInt8 := dkwX4_greatest_1 ++ dktX4_greatest_2
def dkwX4_greatest_0 : List UInt8 := [42, 27, 3, 16, 6, 184, 0, 42, 154, 0, 7, 4, 167, 0, 18, 42, 180, 0, 7, 16, 11, 46]
abbrev dktX4_greatest_0 : List UInt8 := dkwX4_greatest_0 ++ dktX4_greatest_1
theorem dksX4_greatest_0 : cX4_greatest.data.toList.drop 0 = dktX4_greatest_0 := by decide +kernel
theorem dksX4_greatest_1 : cX4_greatest.data.toList.drop 22 = dktX4_greatest_1 := dk_seg dksX4_greatest_0 22 rfl rfl
theorem dksX4_greatest_2 : cX4_greatest.data.toList.drop 45 = dktX4_greatest_2 := dk_seg dksX4_greatest_1 23 rfl rfl
theorem dksX4_greatest_3 : cX4_greatest.data.toList.drop 69 = dktX4_greatest_3 := dk_seg dksX4_greatest_2 24 rfl rfl
theorem dksX4_greatest_4 : cX4_greatest.data.toList.drop 92 = dktX4_greatest_4 := dk_seg dksX4_greatest_3 23 rfl rfl
theorem dX4_greatest_0 : decode cX4_greatest 0 = .ok (.aload_n 0, 1) := dk_42 (dk_at dksX4_greatest_0 0 rfl rfl)
theorem dX4_greatest_1 : decode cX4_greatest 1 = .ok (.iload_n 1, 1) := dk_27 (dk_at dksX4_greatest_0 1 rfl rfl)
theorem dX4_greatest_2 : decode cX4_greatest 2 = .ok (.iconst 0, 1) := dk_3 (dk_at dksX4_greatest_0 2 rfl rfl)
theorem dX4_greatest_3 : decode cX4_greatest 3 = .ok (.bipush 6, 2) := dk_16 6 (dk_at dksX4_greatest_0 3 rfl rfl)
theorem dX4_greatest_5 : decode cX4_greatest 5 = .ok (.invokestatic 42, 3) := dk_184 0 42 (dk_at dksX4_greatest_0 5 rfl rfl)
theorem dX4_greatest_8 : decode cX4_greatest 8 = .ok (.ifCond .ne 7, 3) := dk_154 0 7 (dk_at dksX4_greatest_0 8 rfl rfl)
theorem dX4_greatest_11 : decode cX4_greatest 11 = .ok (.iconst 1, 1) := dk_4 (dk_at dksX4_greatest_0 11 rfl rfl)
theorem dX4_greatest_12 : decode cX4_greatest 12 = .ok (.goto 18, 3) := dk_167 0 18 (dk_at dksX4_greatest_0 12 rfl rfl)
theorem dX4_greatest_15 : decode cX4_greatest 15 = .ok (.aload_n 0, 1) := dk_42 (dk_at dksX4_greatest_0 15 rfl rfl)
theorem dX4_greatest_16 : decode cX4_greatest 16 = .ok (.getfield 7, 3) := dk_180 0 7 (dk_at dksX4_greatest_0 16 rfl rfl)
theorem dX4_greatest_19 : decode cX4_greatest 19 = .ok (.bipush 11, 2) := dk_16 11 (dk_at dksX4_greatest_0 19 rfl rfl)
theorem dX4_greatest_21 : decode cX4_greatest 21 = .ok (.iaload, 1) := dk_46 (dk_at dksX4_greatest_0 21 rfl rfl)
theorem dX4_greatest_22 : decode cX4_greatest 22 = .ok (.ifCond .ne 7, 3) := dk_154 0 7 (dk_at dksX4_greatest_1 0 rfl rfl)
theorem dX4_greatest_25 : decode cX4_greatest 25 = .ok (.iconst 2, 1) := dk_5 (dk_at dksX4_greatest_1 3 rfl rfl)
theorem dX4_greatest_26 : decode cX4_greatest 26 = .ok (.goto 4, 3) := dk_167 0 4 (dk_at dksX4_greatest_1 4 rfl rfl)
theorem dX4_greatest_29 : decode cX4_greatest 29 = .ok (.iconst 0, 1) := dk_3 (dk_at dksX4_greatest_1 7 rfl rfl)
theorem dX4_greatest_30 : decode cX4_greatest 30 = .ok (.putfield 39, 3) := dk_181 0 39 (dk_at dksX4_greatest_1 8 rfl rfl)
theorem dX4_greatest_33 : decode cX4_greatest 33 = .ok (.iconst 0, 1) := dk_3 (dk_at dksX4_greatest_1 11 rfl rfl)
theorem dX4_greatest_34 : decode cX4_greatest 34 = .ok (.istore_n 2, 1) := dk_61 (dk_at dksX4_greatest_1 12 rfl rfl)
theorem dX4_greatest_35 : decode cX4_greatest 35 = .ok (.iconst 1, 1) := dk_4 (dk_at dksX4_greatest_1 13 rfl rfl)
theorem dX4_greatest_36 : decode cX4_greatest 36 = .ok (.istore_n 3, 1) := dk_62 (dk_at dksX4_greatest_1 14 rfl rfl)
theorem dX4_greatest_37 : decode cX4_greatest 37 = .ok (.iload_n 3, 1) := dk_29 (dk_at dksX4_greatest_1 15 rfl rfl)
theorem dX4_greatest_38 : decode cX4_greatest 38 = .ok (.aload_n 0, 1) := dk_42 (dk_at dksX4_greatest_1 16 rfl rfl)
theorem dX4_greatest_39 : decode cX4_greatest 39 = .ok (.getfield 7, 3) := dk_180 0 7 (dk_at dksX4_greatest_1 17 rfl rfl)
theorem dX4_greatest_42 : decode cX4_greatest 42 = .ok (.bipush 11, 2) := dk_16 11 (dk_at dksX4_greatest_1 20 rfl rfl)
theorem dX4_greatest_44 : decode cX4_greatest 44 = .ok (.iaload, 1) := dk_46 (dk_at dksX4_greatest_1 22 rfl rfl)
theorem dX4_greatest_45 : decode cX4_greatest 45 = .ok (.if_icmp .ge 53, 3) := dk_162 0 53 (dk_at dksX4_greatest_2 0 rfl rfl)
theorem dX4_greatest_48 : decode cX4_greatest 48 = .ok (.aload_n 0, 1) := dk_42 (dk_at dksX4_greatest_2 3 rfl rfl)
theorem dX4_greatest_49 : decode cX4_greatest 49 = .ok (.getfield 39, 3) := dk_180 0 39 (dk_at dksX4_greatest_2 4 rfl rfl)
theorem dX4_greatest_52 : decode cX4_greatest 52 = .ok (.ifCond .ne 46, 3) := dk_154 0 46 (dk_at dksX4_greatest_2 7 rfl rfl)
theorem dX4_greatest_55 : decode cX4_greatest 55 = .ok (.aload_n 0, 1) := dk_42 (dk_at dksX4_greatest_2 10 rfl rfl)
theorem dX4_greatest_56 : decode cX4_greatest 56 = .ok (.getfield 7, 3) := dk_180 0 7 (dk_at dksX4_greatest_2 11 rfl rfl)
theorem dX4_greatest_59 : decode cX4_greatest 59 = .ok (.bipush 103, 2) := dk_16 103 (dk_at dksX4_greatest_2 14 rfl rfl)
theorem dX4_greatest_61 : decode cX4_greatest 61 = .ok (.bipush 7, 2) := dk_16 7 (dk_at dksX4_greatest_2 16 rfl rfl)
theorem dX4_greatest_63 : decode cX4_greatest 63 = .ok (.iload_n 3, 1) := dk_29 (dk_at dksX4_greatest_2 18 rfl rfl)
theorem dX4_greatest_64 : decode cX4_greatest 64 = .ok (.imul, 1) := dk_104 (dk_at dksX4_greatest_2 19 rfl rfl)
theorem dX4_greatest_65 : decode cX4_greatest 65 = .ok (.iadd, 1) := dk_96 (dk_at dksX4_greatest_2 20 rfl rfl)
theorem dX4_greatest_66 : decode cX4_greatest 66 = .ok (.iload_n 1, 1) := dk_27 (dk_at dksX4_greatest_2 21 rfl rfl)
theorem dX4_greatest_67 : decode cX4_greatest 67 = .ok (.iadd, 1) := dk_96 (dk_at dksX4_greatest_2 22 rfl rfl)
theorem dX4_greatest_68 : decode cX4_greatest 68 = .ok (.iaload, 1) := dk_46 (dk_at dksX4_greatest_2 23 rfl rfl)
theorem dX4_greatest_69 : decode cX4_greatest 69 = .ok (.aload_n 0, 1) := dk_42 (dk_at dksX4_greatest_3 0 rfl rfl)
theorem dX4_greatest_70 : decode cX4_greatest 70 = .ok (.getfield 7, 3) := dk_180 0 7 (dk_at dksX4_greatest_3 1 rfl rfl)
theorem dX4_greatest_73 : decode cX4_greatest 73 = .ok (.bipush 103, 2) := dk_16 103 (dk_at dksX4_greatest_3 4 rfl rfl)
theorem dX4_greatest_75 : decode cX4_greatest 75 = .ok (.bipush 7, 2) := dk_16 7 (dk_at dksX4_greatest_3 6 rfl rfl)
theorem dX4_greatest_77 : decode cX4_greatest 77 = .ok (.iload_n 2, 1) := dk_28 (dk_at dksX4_greatest_3 8 rfl rfl)
theorem dX4_greatest_78 : decode cX4_greatest 78 = .ok (.imul, 1) := dk_104 (dk_at dksX4_greatest_3 9 rfl rfl)
theorem dX4_greatest_79 : decode cX4_greatest 79 = .ok (.iadd, 1) := dk_96 (dk_at dksX4_greatest_3 10 rfl rfl)
theorem dX4_greatest_80 : decode cX4_greatest 80 = .ok (.iload_n 1, 1) := dk_27 (dk_at dksX4_greatest_3 11 rfl rfl)
theorem dX4_greatest_81 : decode cX4_greatest 81 = .ok (.iadd, 1) := dk_96 (dk_at dksX4_greatest_3 12 rfl rfl)
theorem dX4_greatest_82 : decode cX4_greatest 82 = .ok (.iaload, 1) := dk_46 (dk_at dksX4_greatest_3 13 rfl rfl)
theorem dX4_greatest_83 : decode cX4_greatest 83 = .ok (.if_icmp .le 7, 3) := dk_164 0 7 (dk_at dksX4_greatest_3 14 rfl rfl)
theorem dX4_greatest_86 : decode cX4_greatest 86 = .ok (.iload_n 3, 1) := dk_29 (dk_at dksX4_greatest_3 17 rfl rfl)
theorem dX4_greatest_87 : decode cX4_greatest 87 = .ok (.goto 4, 3) := dk_167 0 4 (dk_at dksX4_greatest_3 18 rfl rfl)
theorem dX4_greatest_90 : decode cX4_greatest 90 = .ok (.iload_n 2, 1) := dk_28 (dk_at dksX4_greatest_3 21 rfl rfl)
theorem dX4_greatest_91 : decode cX4_greatest 91 = .ok (.istore_n 2, 1) := dk_61 (dk_at dksX4_greatest_3 22 rfl rfl)
theorem dX4_greatest_92 : decode cX4_greatest 92 = .ok (.iinc 3 1, 3) := dk_132 3 1 (dk_at dksX4_greatest_4 0 rfl rfl)
theorem dX4_greatest_95 : decode cX4_greatest 95 = .ok (.goto (-58), 3) := dk_167 255 198 (dk_at dksX4_greatest_4 3 rfl rfl)
theorem dX4_greatest_98 : decode cX4_greatest 98 = .ok (.iload_n 2, 1) := dk_28 (dk_at dksX4_greatest_4 6 rfl rfl)
theorem dX4_greatest_99 : decode cX4_greatest 99 = .ok (.ireturn, 1) := dk_172 (dk_at dksX4_greatest_4 7 rfl rfl)
abbrev cX4_writePickup : ByteArray := prog_15_method_52_code
def yX4_writePickup : MethodName := ⟨RX4, "writePickup", "(I)I"⟩
def dkwX4_writePickup_6 : List UInt8 := [42, 180, 0, 25, 182, 0, 156, 172]
abbrev dktX4_writePickup_6 : List UInt8 := dkwX4_writePickup_6 ++ []
def dkwX4_writePickup_5 : List UInt8 := [8, 96, 46, 182, 0, 144, 16, 32, 182, 0, 140, 42, 180, 0, 7, 28, 16, 6, 96, 46, 182, 0, 144, 87]
abbrev dktX4_writePickup_5 : List UInt8 := dkwX4_writePickup_5 ++ dktX4_writePickup_6
def dkwX4_writePickup_4 : List UInt8 := [182, 0, 149, 42, 180, 0, 7, 28, 7, 96, 46, 182, 0, 144, 18, 154, 182, 0, 149, 42, 180, 0, 7, 28]
abbrev dktX4_writePickup_4 : List UInt8 := dkwX4_writePickup_4 ++ dktX4_writePickup_5
def dkwX4_writePickup_3 : List UInt8 := [46, 182, 0, 144, 18, 147, 182, 0, 149, 42, 180, 0, 7, 28, 6, 96, 46, 182, 0, 144, 18, 152]
abbrev dktX4_writePickup_3 : List UInt8 := dkwX4_writePickup_3 ++ dktX4_writePickup_4
def dkwX4_writePickup_2 : List UInt8 := [182, 0, 140, 42, 180, 0, 7, 28, 46, 182, 0, 144, 16, 32, 182, 0, 140, 42, 180, 0, 7, 28, 4, 96]
abbrev dktX4_writePickup_2 : List UInt8 := dkwX4_writePickup_2 ++ dktX4_writePickup_3
def dkwX4_writePickup_1 : List UInt8 := [3, 172, 16, 103, 16, 7, 27, 104, 96, 61, 42, 180, 0, 25, 3, 182, 0, 137, 42, 180, 0, 25, 16, 100]
abbrev dktX4_writePickup_1 : List UInt8 := dkwX4_writePickup_1 ++ dktX4_writePickup_2
def dkwX4_writePickup_0 : List UInt8 := [42, 42, 27, 182, 0, 134, 153, 0, 7, 3, 167, 0, 4, 4, 181, 0, 39, 42, 180, 0, 39, 158, 0, 5]
abbrev dktX4_writePickup_0 : List UInt8 := dkwX4_writePickup_0 ++ dktX4_writePickup_1
theorem dksX4_writePickup_0 : cX4_writePickup.data.toList.drop 0 = dktX4_writePickup_0 := by decide +kernel
theorem dksX4_writePickup_1 : cX4_writePickup.data.toList.drop 24 = dktX4_writePickup_1 := dk_seg dksX4_writePickup_0 24 rfl rfl
theorem dksX4_writePickup_2 : cX4_writePickup.data.toList.drop 48 = dktX4_writePickup_2 := dk_seg dksX4_writePickup_1 24 rfl rfl
theorem dksX4_writePickup_3 : cX4_writePickup.data.toList.drop 72 = dktX4_writePickup_3 := dk_seg dksX4_writePickup_2 24 rfl rfl
theorem dksX4_writePickup_4 : cX4_writePickup.data.toList.drop 94 = dktX4_writePickup_4 := dk_seg dksX4_writePickup_3 22 rfl rfl
theorem dksX4_writePickup_5 : cX4_writePickup.data.toList.drop 118 = dktX4_writePickup_5 := dk_seg dksX4_writePickup_4 24 rfl rfl
theorem dksX4_writePickup_6 : cX4_writePickup.data.toList.drop 142 = dktX4_writePickup_6 := dk_seg dksX4_writePickup_5 24 rfl rfl
theorem dX4_writePickup_0 : decode cX4_writePickup 0 = .ok (.aload_n 0, 1) := dk_42 (dk_at dksX4_writePickup_0 0 rfl rfl)
theorem dX4_writePickup_1 : decode cX4_writePickup 1 = .ok (.aload_n 0, 1) := dk_42 (dk_at dksX4_writePickup_0 1 rfl rfl)
theorem dX4_writePickup_2 : decode cX4_writePickup 2 = .ok (.iload_n 1, 1) := dk_27 (dk_at dksX4_writePickup_0 2 rfl rfl)
theorem dX4_writePickup_3 : decode cX4_writePickup 3 = .ok (.invokevirtual 134, 3) := dk_182 0 134 (dk_at dksX4_writePickup_0 3 rfl rfl)
theorem dX4_writePickup_6 : decode cX4_writePickup 6 = .ok (.ifCond .eq 7, 3) := dk_153 0 7 (dk_at dksX4_writePickup_0 6 rfl rfl)
theorem dX4_writePickup_9 : decode cX4_writePickup 9 = .ok (.iconst 0, 1) := dk_3 (dk_at dksX4_writePickup_0 9 rfl rfl)
theorem dX4_writePickup_10 : decode cX4_writePickup 10 = .ok (.goto 4, 3) := dk_167 0 4 (dk_at dksX4_writePickup_0 10 rfl rfl)
theorem dX4_writePickup_13 : decode cX4_writePickup 13 = .ok (.iconst 1, 1) := dk_4 (dk_at dksX4_writePickup_0 13 rfl rfl)
theorem dX4_writePickup_14 : decode cX4_writePickup 14 = .ok (.putfield 39, 3) := dk_181 0 39 (dk_at dksX4_writePickup_0 14 rfl rfl)
theorem dX4_writePickup_17 : decode cX4_writePickup 17 = .ok (.aload_n 0, 1) := dk_42 (dk_at dksX4_writePickup_0 17 rfl rfl)
theorem dX4_writePickup_18 : decode cX4_writePickup 18 = .ok (.getfield 39, 3) := dk_180 0 39 (dk_at dksX4_writePickup_0 18 rfl rfl)
theorem dX4_writePickup_21 : decode cX4_writePickup 21 = .ok (.ifCond .le 5, 3) := dk_158 0 5 (dk_at dksX4_writePickup_0 21 rfl rfl)
theorem dX4_writePickup_24 : decode cX4_writePickup 24 = .ok (.iconst 0, 1) := dk_3 (dk_at dksX4_writePickup_1 0 rfl rfl)
theorem dX4_writePickup_25 : decode cX4_writePickup 25 = .ok (.ireturn, 1) := dk_172 (dk_at dksX4_writePickup_1 1 rfl rfl)
theorem dX4_writePickup_26 : decode cX4_writePickup 26 = .ok (.bipush 103, 2) := dk_16 103 (dk_at dksX4_writePickup_1 2 rfl rfl)
theorem dX4_writePickup_28 : decode cX4_writePickup 28 = .ok (.bipush 7, 2) := dk_16 7 (dk_at dksX4_writePickup_1 4 rfl rfl)
theorem dX4_writePickup_30 : decode cX4_writePickup 30 = .ok (.iload_n 1, 1) := dk_27 (dk_at dksX4_writePickup_1 6 rfl rfl)
theorem dX4_writePickup_31 : decode cX4_writePickup 31 = .ok (.imul, 1) := dk_104 (dk_at dksX4_writePickup_1 7 rfl rfl)
theorem dX4_writePickup_32 : decode cX4_writePickup 32 = .ok (.iadd, 1) := dk_96 (dk_at dksX4_writePickup_1 8 rfl rfl)
theorem dX4_writePickup_33 : decode cX4_writePickup 33 = .ok (.istore_n 2, 1) := dk_61 (dk_at dksX4_writePickup_1 9 rfl rfl)
theorem dX4_writePickup_34 : decode cX4_writePickup 34 = .ok (.aload_n 0, 1) := dk_42 (dk_at dksX4_writePickup_1 10 rfl rfl)
theorem dX4_writePickup_35 : decode cX4_writePickup 35 = .ok (.getfield 25, 3) := dk_180 0 25 (dk_at dksX4_writePickup_1 11 rfl rfl)
theorem dX4_writePickup_38 : decode cX4_writePickup 38 = .ok (.iconst 0, 1) := dk_3 (dk_at dksX4_writePickup_1 14 rfl rfl)
theorem dX4_writePickup_39 : decode cX4_writePickup 39 = .ok (.invokevirtual 137, 3) := dk_182 0 137 (dk_at dksX4_writePickup_1 15 rfl rfl)
theorem dX4_writePickup_42 : decode cX4_writePickup 42 = .ok (.aload_n 0, 1) := dk_42 (dk_at dksX4_writePickup_1 18 rfl rfl)
theorem dX4_writePickup_43 : decode cX4_writePickup 43 = .ok (.getfield 25, 3) := dk_180 0 25 (dk_at dksX4_writePickup_1 19 rfl rfl)
theorem dX4_writePickup_46 : decode cX4_writePickup 46 = .ok (.bipush 100, 2) := dk_16 100 (dk_at dksX4_writePickup_1 22 rfl rfl)
theorem dX4_writePickup_48 : decode cX4_writePickup 48 = .ok (.invokevirtual 140, 3) := dk_182 0 140 (dk_at dksX4_writePickup_2 0 rfl rfl)
theorem dX4_writePickup_51 : decode cX4_writePickup 51 = .ok (.aload_n 0, 1) := dk_42 (dk_at dksX4_writePickup_2 3 rfl rfl)
theorem dX4_writePickup_52 : decode cX4_writePickup 52 = .ok (.getfield 7, 3) := dk_180 0 7 (dk_at dksX4_writePickup_2 4 rfl rfl)
theorem dX4_writePickup_55 : decode cX4_writePickup 55 = .ok (.iload_n 2, 1) := dk_28 (dk_at dksX4_writePickup_2 7 rfl rfl)
theorem dX4_writePickup_56 : decode cX4_writePickup 56 = .ok (.iaload, 1) := dk_46 (dk_at dksX4_writePickup_2 8 rfl rfl)
theorem dX4_writePickup_57 : decode cX4_writePickup 57 = .ok (.invokevirtual 144, 3) := dk_182 0 144 (dk_at dksX4_writePickup_2 9 rfl rfl)
theorem dX4_writePickup_60 : decode cX4_writePickup 60 = .ok (.bipush 32, 2) := dk_16 32 (dk_at dksX4_writePickup_2 12 rfl rfl)
theorem dX4_writePickup_62 : decode cX4_writePickup 62 = .ok (.invokevirtual 140, 3) := dk_182 0 140 (dk_at dksX4_writePickup_2 14 rfl rfl)
theorem dX4_writePickup_65 : decode cX4_writePickup 65 = .ok (.aload_n 0, 1) := dk_42 (dk_at dksX4_writePickup_2 17 rfl rfl)
theorem dX4_writePickup_66 : decode cX4_writePickup 66 = .ok (.getfield 7, 3) := dk_180 0 7 (dk_at dksX4_writePickup_2 18 rfl rfl)
theorem dX4_writePickup_69 : decode cX4_writePickup 69 = .ok (.iload_n 2, 1) := dk_28 (dk_at dksX4_writePickup_2 21 rfl rfl)
theorem dX4_writePickup_70 : decode cX4_writePickup 70 = .ok (.iconst 1, 1) := dk_4 (dk_at dksX4_writePickup_2 22 rfl rfl)
theorem dX4_writePickup_71 : decode cX4_writePickup 71 = .ok (.iadd, 1) := dk_96 (dk_at dksX4_writePickup_2 23 rfl rfl)
theorem dX4_writePickup_72 : decode cX4_writePickup 72 = .ok (.iaload, 1) := dk_46 (dk_at dksX4_writePickup_3 0 rfl rfl)
theorem dX4_writePickup_73 : decode cX4_writePickup 73 = .ok (.invokevirtual 144, 3) := dk_182 0 144 (dk_at dksX4_writePickup_3 1 rfl rfl)
theorem dX4_writePickup_76 : decode cX4_writePickup 76 = .ok (.ldc 147, 2) := dk_18 147 (dk_at dksX4_writePickup_3 4 rfl rfl)
theorem dX4_writePickup_78 : decode cX4_writePickup 78 = .ok (.invokevirtual 149, 3) := dk_182 0 149 (dk_at dksX4_writePickup_3 6 rfl rfl)
theorem dX4_writePickup_81 : decode cX4_writePickup 81 = .ok (.aload_n 0, 1) := dk_42 (dk_at dksX4_writePickup_3 9 rfl rfl)
theorem dX4_writePickup_82 : decode cX4_writePickup 82 = .ok (.getfield 7, 3) := dk_180 0 7 (dk_at dksX4_writePickup_3 10 rfl rfl)
theorem dX4_writePickup_85 : decode cX4_writePickup 85 = .ok (.iload_n 2, 1) := dk_28 (dk_at dksX4_writePickup_3 13 rfl rfl)
theorem dX4_writePickup_86 : decode cX4_writePickup 86 = .ok (.iconst 3, 1) := dk_6 (dk_at dksX4_writePickup_3 14 rfl rfl)
theorem dX4_writePickup_87 : decode cX4_writePickup 87 = .ok (.iadd, 1) := dk_96 (dk_at dksX4_writePickup_3 15 rfl rfl)
theorem dX4_writePickup_88 : decode cX4_writePickup 88 = .ok (.iaload, 1) := dk_46 (dk_at dksX4_writePickup_3 16 rfl rfl)
theorem dX4_writePickup_89 : decode cX4_writePickup 89 = .ok (.invokevirtual 144, 3) := dk_182 0 144 (dk_at dksX4_writePickup_3 17 rfl rfl)
theorem dX4_writePickup_92 : decode cX4_writePickup 92 = .ok (.ldc 152, 2) := dk_18 152 (dk_at dksX4_writePickup_3 20 rfl rfl)
theorem dX4_writePickup_94 : decode cX4_writePickup 94 = .ok (.invokevirtual 149, 3) := dk_182 0 149 (dk_at dksX4_writePickup_4 0 rfl rfl)
theorem dX4_writePickup_97 : decode cX4_writePickup 97 = .ok (.aload_n 0, 1) := dk_42 (dk_at dksX4_writePickup_4 3 rfl rfl)
theorem dX4_writePickup_98 : decode cX4_writePickup 98 = .ok (.getfield 7, 3) := dk_180 0 7 (dk_at dksX4_writePickup_4 4 rfl rfl)
theorem dX4_writePickup_101 : decode cX4_writePickup 101 = .ok (.iload_n 2, 1) := dk_28 (dk_at dksX4_writePickup_4 7 rfl rfl)
theorem dX4_writePickup_102 : decode cX4_writePickup 102 = .ok (.iconst 4, 1) := dk_7 (dk_at dksX4_writePickup_4 8 rfl rfl)
theorem dX4_writePickup_103 : decode cX4_writePickup 103 = .ok (.iadd, 1) := dk_96 (dk_at dksX4_writePickup_4 9 rfl rfl)
theorem dX4_writePickup_104 : decode cX4_writePickup 104 = .ok (.iaload, 1) := dk_46 (dk_at dksX4_writePickup_4 10 rfl rfl)
theorem dX4_writePickup_105 : decode cX4_writePickup 105 = .ok (.invokevirtual 144, 3) := dk_182 0 144 (dk_at dksX4_writePickup_4 11 rfl rfl)
theorem dX4_writePickup_108 : decode cX4_writePickup 108 = .ok (.ldc 154, 2) := dk_18 154 (dk_at dksX4_writePickup_4 14 rfl rfl)
theorem dX4_writePickup_110 : decode cX4_writePickup 110 = .ok (.invokevirtual 149, 3) := dk_182 0 149 (dk_at dksX4_writePickup_4 16 rfl rfl)
theorem dX4_writePickup_113 : decode cX4_writePickup 113 = .ok (.aload_n 0, 1) := dk_42 (dk_at dksX4_writePickup_4 19 rfl rfl)
theorem dX4_writePickup_114 : decode cX4_writePickup 114 = .ok (.getfield 7, 3) := dk_180 0 7 (dk_at dksX4_writePickup_4 20 rfl rfl)
theorem dX4_writePickup_117 : decode cX4_writePickup 117 = .ok (.iload_n 2, 1) := dk_28 (dk_at dksX4_writePickup_4 23 rfl rfl)
theorem dX4_writePickup_118 : decode cX4_writePickup 118 = .ok (.iconst 5, 1) := dk_8 (dk_at dksX4_writePickup_5 0 rfl rfl)
theorem dX4_writePickup_119 : decode cX4_writePickup 119 = .ok (.iadd, 1) := dk_96 (dk_at dksX4_writePickup_5 1 rfl rfl)
theorem dX4_writePickup_120 : decode cX4_writePickup 120 = .ok (.iaload, 1) := dk_46 (dk_at dksX4_writePickup_5 2 rfl rfl)
theorem dX4_writePickup_121 : decode cX4_writePickup 121 = .ok (.invokevirtual 144, 3) := dk_182 0 144 (dk_at dksX4_writePickup_5 3 rfl rfl)
theorem dX4_writePickup_124 : decode cX4_writePickup 124 = .ok (.bipush 32, 2) := dk_16 32 (dk_at dksX4_writePickup_5 6 rfl rfl)
theorem dX4_writePickup_126 : decode cX4_writePickup 126 = .ok (.invokevirtual 140, 3) := dk_182 0 140 (dk_at dksX4_writePickup_5 8 rfl rfl)
theorem dX4_writePickup_129 : decode cX4_writePickup 129 = .ok (.aload_n 0, 1) := dk_42 (dk_at dksX4_writePickup_5 11 rfl rfl)
theorem dX4_writePickup_130 : decode cX4_writePickup 130 = .ok (.getfield 7, 3) := dk_180 0 7 (dk_at dksX4_writePickup_5 12 rfl rfl)
theorem dX4_writePickup_133 : decode cX4_writePickup 133 = .ok (.iload_n 2, 1) := dk_28 (dk_at dksX4_writePickup_5 15 rfl rfl)
theorem dX4_writePickup_134 : decode cX4_writePickup 134 = .ok (.bipush 6, 2) := dk_16 6 (dk_at dksX4_writePickup_5 16 rfl rfl)
theorem dX4_writePickup_136 : decode cX4_writePickup 136 = .ok (.iadd, 1) := dk_96 (dk_at dksX4_writePickup_5 18 rfl rfl)
theorem dX4_writePickup_137 : decode cX4_writePickup 137 = .ok (.iaload, 1) := dk_46 (dk_at dksX4_writePickup_5 19 rfl rfl)
theorem dX4_writePickup_138 : decode cX4_writePickup 138 = .ok (.invokevirtual 144, 3) := dk_182 0 144 (dk_at dksX4_writePickup_5 20 rfl rfl)
theorem dX4_writePickup_141 : decode cX4_writePickup 141 = .ok (.pop, 1) := dk_87 (dk_at dksX4_writePickup_5 23 rfl rfl)
theorem dX4_writePickup_142 : decode cX4_writePickup 142 = .ok (.aload_n 0, 1) := dk_42 (dk_at dksX4_writePickup_6 0 rfl rfl)
theorem dX4_writePickup_143 : decode cX4_writePickup 143 = .ok (.getfield 25, 3) := dk_180 0 25 (dk_at dksX4_writePickup_6 1 rfl rfl)
theorem dX4_writePickup_146 : decode cX4_writePickup 146 = .ok (.invokevirtual 156, 3) := dk_182 0 156 (dk_at dksX4_writePickup_6 4 rfl rfl)
theorem dX4_writePickup_149 : decode cX4_writePickup 149 = .ok (.ireturn, 1) := dk_172 (dk_at dksX4_writePickup_6 7 rfl rfl)
abbrev cX4_writeCow : ByteArray := prog_15_method_53_code
def yX4_writeCow : MethodName := ⟨RX4, "writeCow", "(I)I"⟩
def dkwX4_writeCow_10 : List UInt8 := [180, 0, 25, 182, 0, 156, 172]
abbrev dktX4_writeCow_10 : List UInt8 := dkwX4_writeCow_10 ++ []
def dkwX4_writeCow_9 : List UInt8 := [180, 0, 25, 18, 161, 182, 0, 149, 42, 180, 0, 7, 27, 16, 6, 184, 0, 50, 46, 182, 0, 144, 87, 42]
abbrev dktX4_writeCow_9 : List UInt8 := dkwX4_writeCow_9 ++ dktX4_writeCow_10
def dkwX4_writeCow_8 : List UInt8 := [42, 180, 0, 7, 27, 16, 7, 184, 0, 50, 46, 182, 0, 144, 87, 42, 27, 182, 0, 80, 153, 0, 27, 42]
abbrev dktX4_writeCow_8 : List UInt8 := dkwX4_writeCow_8 ++ dktX4_writeCow_9
def dkwX4_writeCow_7 : List UInt8 := [16, 7, 184, 0, 50, 46, 42, 180, 0, 7, 3, 46, 164, 0, 27, 42, 180, 0, 25, 18, 159, 182, 0, 149]
abbrev dktX4_writeCow_7 : List UInt8 := dkwX4_writeCow_7 ++ dktX4_writeCow_8
def dkwX4_writeCow_6 : List UInt8 := [180, 0, 7, 27, 5, 184, 0, 50, 46, 182, 0, 144, 16, 99, 182, 0, 140, 87, 42, 180, 0, 7, 27]
abbrev dktX4_writeCow_6 : List UInt8 := dkwX4_writeCow_6 ++ dktX4_writeCow_7
def dkwX4_writeCow_5 : List UInt8 := [87, 167, 0, 13, 42, 180, 0, 25, 16, 45, 182, 0, 140, 87, 42, 180, 0, 25, 16, 32, 182, 0, 140, 42]
abbrev dktX4_writeCow_5 : List UInt8 := dkwX4_writeCow_5 ++ dktX4_writeCow_6
def dkwX4_writeCow_4 : List UInt8 := [182, 0, 140, 87, 42, 27, 182, 0, 83, 153, 0, 19, 42, 180, 0, 25, 42, 27, 182, 0, 86, 182, 0, 144]
abbrev dktX4_writeCow_4 : List UInt8 := dkwX4_writeCow_4 ++ dktX4_writeCow_5
def dkwX4_writeCow_3 : List UInt8 := [182, 0, 156, 172, 42, 180, 0, 25, 42, 180, 0, 7, 27, 6, 184, 0, 50, 46, 182, 0, 144, 16, 47]
abbrev dktX4_writeCow_3 : List UInt8 := dkwX4_writeCow_3 ++ dktX4_writeCow_4
def dkwX4_writeCow_2 : List UInt8 := [42, 27, 182, 0, 77, 154, 0, 21, 42, 180, 0, 25, 16, 120, 182, 0, 140, 87, 42, 180, 0, 25]
abbrev dktX4_writeCow_2 : List UInt8 := dkwX4_writeCow_2 ++ dktX4_writeCow_3
def dkwX4_writeCow_1 : List UInt8 := [3, 172, 42, 180, 0, 25, 3, 182, 0, 137, 42, 180, 0, 25, 27, 182, 0, 144, 16, 58, 182, 0, 140, 87]
abbrev dktX4_writeCow_1 : List UInt8 := dkwX4_writeCow_1 ++ dktX4_writeCow_2
def dkwX4_writeCow_0 : List UInt8 := [42, 42, 27, 182, 0, 46, 153, 0, 7, 3, 167, 0, 4, 4, 181, 0, 39, 42, 180, 0, 39, 158, 0, 5]
abbrev dktX4_writeCow_0 : List UInt8 := dkwX4_writeCow_0 ++ dktX4_writeCow_1
theorem dksX4_writeCow_0 : cX4_writeCow.data.toList.drop 0 = dktX4_writeCow_0 := by decide +kernel
theorem dksX4_writeCow_1 : cX4_writeCow.data.toList.drop 24 = dktX4_writeCow_1 := dk_seg dksX4_writeCow_0 24 rfl rfl
theorem dksX4_writeCow_2 : cX4_writeCow.data.toList.drop 48 = dktX4_writeCow_2 := dk_seg dksX4_writeCow_1 24 rfl rfl
theorem dksX4_writeCow_3 : cX4_writeCow.data.toList.drop 70 = dktX4_writeCow_3 := dk_seg dksX4_writeCow_2 22 rfl rfl
theorem dksX4_writeCow_4 : cX4_writeCow.data.toList.drop 93 = dktX4_writeCow_4 := dk_seg dksX4_writeCow_3 23 rfl rfl
theorem dksX4_writeCow_5 : cX4_writeCow.data.toList.drop 117 = dktX4_writeCow_5 := dk_seg dksX4_writeCow_4 24 rfl rfl
theorem dksX4_writeCow_6 : cX4_writeCow.data.toList.drop 141 = dktX4_writeCow_6 := dk_seg dksX4_writeCow_5 24 rfl rfl
theorem dksX4_writeCow_7 : cX4_writeCow.data.toList.drop 164 = dktX4_writeCow_7 := dk_seg dksX4_writeCow_6 23 rfl rfl
theorem dksX4_writeCow_8 : cX4_writeCow.data.toList.drop 188 = dktX4_writeCow_8 := dk_seg dksX4_writeCow_7 24 rfl rfl
theorem dksX4_writeCow_9 : cX4_writeCow.data.toList.drop 212 = dktX4_writeCow_9 := dk_seg dksX4_writeCow_8 24 rfl rfl
theorem dksX4_writeCow_10 : cX4_writeCow.data.toList.drop 236 = dktX4_writeCow_10 := dk_seg dksX4_writeCow_9 24 rfl rfl
theorem dX4_writeCow_0 : decode cX4_writeCow 0 = .ok (.aload_n 0, 1) := dk_42 (dk_at dksX4_writeCow_0 0 rfl rfl)
theorem dX4_writeCow_1 : decode cX4_writeCow 1 = .ok (.aload_n 0, 1) := dk_42 (dk_at dksX4_writeCow_0 1 rfl rfl)
theorem dX4_writeCow_2 : decode cX4_writeCow 2 = .ok (.iload_n 1, 1) := dk_27 (dk_at dksX4_writeCow_0 2 rfl rfl)
theorem dX4_writeCow_3 : decode cX4_writeCow 3 = .ok (.invokevirtual 46, 3) := dk_182 0 46 (dk_at dksX4_writeCow_0 3 rfl rfl)
theorem dX4_writeCow_6 : decode cX4_writeCow 6 = .ok (.ifCond .eq 7, 3) := dk_153 0 7 (dk_at dksX4_writeCow_0 6 rfl rfl)
theorem dX4_writeCow_9 : decode cX4_writeCow 9 = .ok (.iconst 0, 1) := dk_3 (dk_at dksX4_writeCow_0 9 rfl rfl)
theorem dX4_writeCow_10 : decode cX4_writeCow 10 = .ok (.goto 4, 3) := dk_167 0 4 (dk_at dksX4_writeCow_0 10 rfl rfl)
theorem dX4_writeCow_13 : decode cX4_writeCow 13 = .ok (.iconst 1, 1) := dk_4 (dk_at dksX4_writeCow_0 13 rfl rfl)
theorem dX4_writeCow_14 : decode cX4_writeCow 14 = .ok (.putfield 39, 3) := dk_181 0 39 (dk_at dksX4_writeCow_0 14 rfl rfl)
theorem dX4_writeCow_17 : decode cX4_writeCow 17 = .ok (.aload_n 0, 1) := dk_42 (dk_at dksX4_writeCow_0 17 rfl rfl)
theorem dX4_writeCow_18 : decode cX4_writeCow 18 = .ok (.getfield 39, 3) := dk_180 0 39 (dk_at dksX4_writeCow_0 18 rfl rfl)
theorem dX4_writeCow_21 : decode cX4_writeCow 21 = .ok (.ifCond .le 5, 3) := dk_158 0 5 (dk_at dksX4_writeCow_0 21 rfl rfl)
theorem dX4_writeCow_24 : decode cX4_writeCow 24 = .ok (.iconst 0, 1) := dk_3 (dk_at dksX4_writeCow_1 0 rfl rfl)
theorem dX4_writeCow_25 : decode cX4_writeCow 25 = .ok (.ireturn, 1) := dk_172 (dk_at dksX4_writeCow_1 1 rfl rfl)
theorem dX4_writeCow_26 : decode cX4_writeCow 26 = .ok (.aload_n 0, 1) := dk_42 (dk_at dksX4_writeCow_1 2 rfl rfl)
theorem dX4_writeCow_27 : decode cX4_writeCow 27 = .ok (.getfield 25, 3) := dk_180 0 25 (dk_at dksX4_writeCow_1 3 rfl rfl)
theorem dX4_writeCow_30 : decode cX4_writeCow 30 = .ok (.iconst 0, 1) := dk_3 (dk_at dksX4_writeCow_1 6 rfl rfl)
theorem dX4_writeCow_31 : decode cX4_writeCow 31 = .ok (.invokevirtual 137, 3) := dk_182 0 137 (dk_at dksX4_writeCow_1 7 rfl rfl)
theorem dX4_writeCow_34 : decode cX4_writeCow 34 = .ok (.aload_n 0, 1) := dk_42 (dk_at dksX4_writeCow_1 10 rfl rfl)
theorem dX4_writeCow_35 : decode cX4_writeCow 35 = .ok (.getfield 25, 3) := dk_180 0 25 (dk_at dksX4_writeCow_1 11 rfl rfl)
theorem dX4_writeCow_38 : decode cX4_writeCow 38 = .ok (.iload_n 1, 1) := dk_27 (dk_at dksX4_writeCow_1 14 rfl rfl)
theorem dX4_writeCow_39 : decode cX4_writeCow 39 = .ok (.invokevirtual 144, 3) := dk_182 0 144 (dk_at dksX4_writeCow_1 15 rfl rfl)
theorem dX4_writeCow_42 : decode cX4_writeCow 42 = .ok (.bipush 58, 2) := dk_16 58 (dk_at dksX4_writeCow_1 18 rfl rfl)
theorem dX4_writeCow_44 : decode cX4_writeCow 44 = .ok (.invokevirtual 140, 3) := dk_182 0 140 (dk_at dksX4_writeCow_1 20 rfl rfl)
theorem dX4_writeCow_47 : decode cX4_writeCow 47 = .ok (.pop, 1) := dk_87 (dk_at dksX4_writeCow_1 23 rfl rfl)
theorem dX4_writeCow_48 : decode cX4_writeCow 48 = .ok (.aload_n 0, 1) := dk_42 (dk_at dksX4_writeCow_2 0 rfl rfl)
theorem dX4_writeCow_49 : decode cX4_writeCow 49 = .ok (.iload_n 1, 1) := dk_27 (dk_at dksX4_writeCow_2 1 rfl rfl)
theorem dX4_writeCow_50 : decode cX4_writeCow 50 = .ok (.invokevirtual 77, 3) := dk_182 0 77 (dk_at dksX4_writeCow_2 2 rfl rfl)
theorem dX4_writeCow_53 : decode cX4_writeCow 53 = .ok (.ifCond .ne 21, 3) := dk_154 0 21 (dk_at dksX4_writeCow_2 5 rfl rfl)
theorem dX4_writeCow_56 : decode cX4_writeCow 56 = .ok (.aload_n 0, 1) := dk_42 (dk_at dksX4_writeCow_2 8 rfl rfl)
theorem dX4_writeCow_57 : decode cX4_writeCow 57 = .ok (.getfield 25, 3) := dk_180 0 25 (dk_at dksX4_writeCow_2 9 rfl rfl)
theorem dX4_writeCow_60 : decode cX4_writeCow 60 = .ok (.bipush 120, 2) := dk_16 120 (dk_at dksX4_writeCow_2 12 rfl rfl)
theorem dX4_writeCow_62 : decode cX4_writeCow 62 = .ok (.invokevirtual 140, 3) := dk_182 0 140 (dk_at dksX4_writeCow_2 14 rfl rfl)
theorem dX4_writeCow_65 : decode cX4_writeCow 65 = .ok (.pop, 1) := dk_87 (dk_at dksX4_writeCow_2 17 rfl rfl)
theorem dX4_writeCow_66 : decode cX4_writeCow 66 = .ok (.aload_n 0, 1) := dk_42 (dk_at dksX4_writeCow_2 18 rfl rfl)
theorem dX4_writeCow_67 : decode cX4_writeCow 67 = .ok (.getfield 25, 3) := dk_180 0 25 (dk_at dksX4_writeCow_2 19 rfl rfl)
theorem dX4_writeCow_70 : decode cX4_writeCow 70 = .ok (.invokevirtual 156, 3) := dk_182 0 156 (dk_at dksX4_writeCow_3 0 rfl rfl)
theorem dX4_writeCow_73 : decode cX4_writeCow 73 = .ok (.ireturn, 1) := dk_172 (dk_at dksX4_writeCow_3 3 rfl rfl)
theorem dX4_writeCow_74 : decode cX4_writeCow 74 = .ok (.aload_n 0, 1) := dk_42 (dk_at dksX4_writeCow_3 4 rfl rfl)
theorem dX4_writeCow_75 : decode cX4_writeCow 75 = .ok (.getfield 25, 3) := dk_180 0 25 (dk_at dksX4_writeCow_3 5 rfl rfl)
theorem dX4_writeCow_78 : decode cX4_writeCow 78 = .ok (.aload_n 0, 1) := dk_42 (dk_at dksX4_writeCow_3 8 rfl rfl)
theorem dX4_writeCow_79 : decode cX4_writeCow 79 = .ok (.getfield 7, 3) := dk_180 0 7 (dk_at dksX4_writeCow_3 9 rfl rfl)
theorem dX4_writeCow_82 : decode cX4_writeCow 82 = .ok (.iload_n 1, 1) := dk_27 (dk_at dksX4_writeCow_3 12 rfl rfl)
theorem dX4_writeCow_83 : decode cX4_writeCow 83 = .ok (.iconst 3, 1) := dk_6 (dk_at dksX4_writeCow_3 13 rfl rfl)
theorem dX4_writeCow_84 : decode cX4_writeCow 84 = .ok (.invokestatic 50, 3) := dk_184 0 50 (dk_at dksX4_writeCow_3 14 rfl rfl)
theorem dX4_writeCow_87 : decode cX4_writeCow 87 = .ok (.iaload, 1) := dk_46 (dk_at dksX4_writeCow_3 17 rfl rfl)
theorem dX4_writeCow_88 : decode cX4_writeCow 88 = .ok (.invokevirtual 144, 3) := dk_182 0 144 (dk_at dksX4_writeCow_3 18 rfl rfl)
theorem dX4_writeCow_91 : decode cX4_writeCow 91 = .ok (.bipush 47, 2) := dk_16 47 (dk_at dksX4_writeCow_3 21 rfl rfl)
theorem dX4_writeCow_93 : decode cX4_writeCow 93 = .ok (.invokevirtual 140, 3) := dk_182 0 140 (dk_at dksX4_writeCow_4 0 rfl rfl)
theorem dX4_writeCow_96 : decode cX4_writeCow 96 = .ok (.pop, 1) := dk_87 (dk_at dksX4_writeCow_4 3 rfl rfl)
theorem dX4_writeCow_97 : decode cX4_writeCow 97 = .ok (.aload_n 0, 1) := dk_42 (dk_at dksX4_writeCow_4 4 rfl rfl)
theorem dX4_writeCow_98 : decode cX4_writeCow 98 = .ok (.iload_n 1, 1) := dk_27 (dk_at dksX4_writeCow_4 5 rfl rfl)
theorem dX4_writeCow_99 : decode cX4_writeCow 99 = .ok (.invokevirtual 83, 3) := dk_182 0 83 (dk_at dksX4_writeCow_4 6 rfl rfl)
theorem dX4_writeCow_102 : decode cX4_writeCow 102 = .ok (.ifCond .eq 19, 3) := dk_153 0 19 (dk_at dksX4_writeCow_4 9 rfl rfl)
theorem dX4_writeCow_105 : decode cX4_writeCow 105 = .ok (.aload_n 0, 1) := dk_42 (dk_at dksX4_writeCow_4 12 rfl rfl)
theorem dX4_writeCow_106 : decode cX4_writeCow 106 = .ok (.getfield 25, 3) := dk_180 0 25 (dk_at dksX4_writeCow_4 13 rfl rfl)
theorem dX4_writeCow_109 : decode cX4_writeCow 109 = .ok (.aload_n 0, 1) := dk_42 (dk_at dksX4_writeCow_4 16 rfl rfl)
theorem dX4_writeCow_110 : decode cX4_writeCow 110 = .ok (.iload_n 1, 1) := dk_27 (dk_at dksX4_writeCow_4 17 rfl rfl)
theorem dX4_writeCow_111 : decode cX4_writeCow 111 = .ok (.invokevirtual 86, 3) := dk_182 0 86 (dk_at dksX4_writeCow_4 18 rfl rfl)
theorem dX4_writeCow_114 : decode cX4_writeCow 114 = .ok (.invokevirtual 144, 3) := dk_182 0 144 (dk_at dksX4_writeCow_4 21 rfl rfl)
theorem dX4_writeCow_117 : decode cX4_writeCow 117 = .ok (.pop, 1) := dk_87 (dk_at dksX4_writeCow_5 0 rfl rfl)
theorem dX4_writeCow_118 : decode cX4_writeCow 118 = .ok (.goto 13, 3) := dk_167 0 13 (dk_at dksX4_writeCow_5 1 rfl rfl)
theorem dX4_writeCow_121 : decode cX4_writeCow 121 = .ok (.aload_n 0, 1) := dk_42 (dk_at dksX4_writeCow_5 4 rfl rfl)
theorem dX4_writeCow_122 : decode cX4_writeCow 122 = .ok (.getfield 25, 3) := dk_180 0 25 (dk_at dksX4_writeCow_5 5 rfl rfl)
theorem dX4_writeCow_125 : decode cX4_writeCow 125 = .ok (.bipush 45, 2) := dk_16 45 (dk_at dksX4_writeCow_5 8 rfl rfl)
theorem dX4_writeCow_127 : decode cX4_writeCow 127 = .ok (.invokevirtual 140, 3) := dk_182 0 140 (dk_at dksX4_writeCow_5 10 rfl rfl)
theorem dX4_writeCow_130 : decode cX4_writeCow 130 = .ok (.pop, 1) := dk_87 (dk_at dksX4_writeCow_5 13 rfl rfl)
theorem dX4_writeCow_131 : decode cX4_writeCow 131 = .ok (.aload_n 0, 1) := dk_42 (dk_at dksX4_writeCow_5 14 rfl rfl)
theorem dX4_writeCow_132 : decode cX4_writeCow 132 = .ok (.getfield 25, 3) := dk_180 0 25 (dk_at dksX4_writeCow_5 15 rfl rfl)
theorem dX4_writeCow_135 : decode cX4_writeCow 135 = .ok (.bipush 32, 2) := dk_16 32 (dk_at dksX4_writeCow_5 18 rfl rfl)
theorem dX4_writeCow_137 : decode cX4_writeCow 137 = .ok (.invokevirtual 140, 3) := dk_182 0 140 (dk_at dksX4_writeCow_5 20 rfl rfl)
theorem dX4_writeCow_140 : decode cX4_writeCow 140 = .ok (.aload_n 0, 1) := dk_42 (dk_at dksX4_writeCow_5 23 rfl rfl)
theorem dX4_writeCow_141 : decode cX4_writeCow 141 = .ok (.getfield 7, 3) := dk_180 0 7 (dk_at dksX4_writeCow_6 0 rfl rfl)
theorem dX4_writeCow_144 : decode cX4_writeCow 144 = .ok (.iload_n 1, 1) := dk_27 (dk_at dksX4_writeCow_6 3 rfl rfl)
theorem dX4_writeCow_145 : decode cX4_writeCow 145 = .ok (.iconst 2, 1) := dk_5 (dk_at dksX4_writeCow_6 4 rfl rfl)
theorem dX4_writeCow_146 : decode cX4_writeCow 146 = .ok (.invokestatic 50, 3) := dk_184 0 50 (dk_at dksX4_writeCow_6 5 rfl rfl)
theorem dX4_writeCow_149 : decode cX4_writeCow 149 = .ok (.iaload, 1) := dk_46 (dk_at dksX4_writeCow_6 8 rfl rfl)
theorem dX4_writeCow_150 : decode cX4_writeCow 150 = .ok (.invokevirtual 144, 3) := dk_182 0 144 (dk_at dksX4_writeCow_6 9 rfl rfl)
theorem dX4_writeCow_153 : decode cX4_writeCow 153 = .ok (.bipush 99, 2) := dk_16 99 (dk_at dksX4_writeCow_6 12 rfl rfl)
theorem dX4_writeCow_155 : decode cX4_writeCow 155 = .ok (.invokevirtual 140, 3) := dk_182 0 140 (dk_at dksX4_writeCow_6 14 rfl rfl)
theorem dX4_writeCow_158 : decode cX4_writeCow 158 = .ok (.pop, 1) := dk_87 (dk_at dksX4_writeCow_6 17 rfl rfl)
theorem dX4_writeCow_159 : decode cX4_writeCow 159 = .ok (.aload_n 0, 1) := dk_42 (dk_at dksX4_writeCow_6 18 rfl rfl)
theorem dX4_writeCow_160 : decode cX4_writeCow 160 = .ok (.getfield 7, 3) := dk_180 0 7 (dk_at dksX4_writeCow_6 19 rfl rfl)
theorem dX4_writeCow_163 : decode cX4_writeCow 163 = .ok (.iload_n 1, 1) := dk_27 (dk_at dksX4_writeCow_6 22 rfl rfl)
theorem dX4_writeCow_164 : decode cX4_writeCow 164 = .ok (.bipush 7, 2) := dk_16 7 (dk_at dksX4_writeCow_7 0 rfl rfl)
theorem dX4_writeCow_166 : decode cX4_writeCow 166 = .ok (.invokestatic 50, 3) := dk_184 0 50 (dk_at dksX4_writeCow_7 2 rfl rfl)
theorem dX4_writeCow_169 : decode cX4_writeCow 169 = .ok (.iaload, 1) := dk_46 (dk_at dksX4_writeCow_7 5 rfl rfl)
theorem dX4_writeCow_170 : decode cX4_writeCow 170 = .ok (.aload_n 0, 1) := dk_42 (dk_at dksX4_writeCow_7 6 rfl rfl)
theorem dX4_writeCow_171 : decode cX4_writeCow 171 = .ok (.getfield 7, 3) := dk_180 0 7 (dk_at dksX4_writeCow_7 7 rfl rfl)
theorem dX4_writeCow_174 : decode cX4_writeCow 174 = .ok (.iconst 0, 1) := dk_3 (dk_at dksX4_writeCow_7 10 rfl rfl)
theorem dX4_writeCow_175 : decode cX4_writeCow 175 = .ok (.iaload, 1) := dk_46 (dk_at dksX4_writeCow_7 11 rfl rfl)
theorem dX4_writeCow_176 : decode cX4_writeCow 176 = .ok (.if_icmp .le 27, 3) := dk_164 0 27 (dk_at dksX4_writeCow_7 12 rfl rfl)
theorem dX4_writeCow_179 : decode cX4_writeCow 179 = .ok (.aload_n 0, 1) := dk_42 (dk_at dksX4_writeCow_7 15 rfl rfl)
theorem dX4_writeCow_180 : decode cX4_writeCow 180 = .ok (.getfield 25, 3) := dk_180 0 25 (dk_at dksX4_writeCow_7 16 rfl rfl)
theorem dX4_writeCow_183 : decode cX4_writeCow 183 = .ok (.ldc 159, 2) := dk_18 159 (dk_at dksX4_writeCow_7 19 rfl rfl)
theorem dX4_writeCow_185 : decode cX4_writeCow 185 = .ok (.invokevirtual 149, 3) := dk_182 0 149 (dk_at dksX4_writeCow_7 21 rfl rfl)
theorem dX4_writeCow_188 : decode cX4_writeCow 188 = .ok (.aload_n 0, 1) := dk_42 (dk_at dksX4_writeCow_8 0 rfl rfl)
theorem dX4_writeCow_189 : decode cX4_writeCow 189 = .ok (.getfield 7, 3) := dk_180 0 7 (dk_at dksX4_writeCow_8 1 rfl rfl)
theorem dX4_writeCow_192 : decode cX4_writeCow 192 = .ok (.iload_n 1, 1) := dk_27 (dk_at dksX4_writeCow_8 4 rfl rfl)
theorem dX4_writeCow_193 : decode cX4_writeCow 193 = .ok (.bipush 7, 2) := dk_16 7 (dk_at dksX4_writeCow_8 5 rfl rfl)
theorem dX4_writeCow_195 : decode cX4_writeCow 195 = .ok (.invokestatic 50, 3) := dk_184 0 50 (dk_at dksX4_writeCow_8 7 rfl rfl)
theorem dX4_writeCow_198 : decode cX4_writeCow 198 = .ok (.iaload, 1) := dk_46 (dk_at dksX4_writeCow_8 10 rfl rfl)
theorem dX4_writeCow_199 : decode cX4_writeCow 199 = .ok (.invokevirtual 144, 3) := dk_182 0 144 (dk_at dksX4_writeCow_8 11 rfl rfl)
theorem dX4_writeCow_202 : decode cX4_writeCow 202 = .ok (.pop, 1) := dk_87 (dk_at dksX4_writeCow_8 14 rfl rfl)
theorem dX4_writeCow_203 : decode cX4_writeCow 203 = .ok (.aload_n 0, 1) := dk_42 (dk_at dksX4_writeCow_8 15 rfl rfl)
theorem dX4_writeCow_204 : decode cX4_writeCow 204 = .ok (.iload_n 1, 1) := dk_27 (dk_at dksX4_writeCow_8 16 rfl rfl)
theorem dX4_writeCow_205 : decode cX4_writeCow 205 = .ok (.invokevirtual 80, 3) := dk_182 0 80 (dk_at dksX4_writeCow_8 17 rfl rfl)
theorem dX4_writeCow_208 : decode cX4_writeCow 208 = .ok (.ifCond .eq 27, 3) := dk_153 0 27 (dk_at dksX4_writeCow_8 20 rfl rfl)
theorem dX4_writeCow_211 : decode cX4_writeCow 211 = .ok (.aload_n 0, 1) := dk_42 (dk_at dksX4_writeCow_8 23 rfl rfl)
theorem dX4_writeCow_212 : decode cX4_writeCow 212 = .ok (.getfield 25, 3) := dk_180 0 25 (dk_at dksX4_writeCow_9 0 rfl rfl)
theorem dX4_writeCow_215 : decode cX4_writeCow 215 = .ok (.ldc 161, 2) := dk_18 161 (dk_at dksX4_writeCow_9 3 rfl rfl)
theorem dX4_writeCow_217 : decode cX4_writeCow 217 = .ok (.invokevirtual 149, 3) := dk_182 0 149 (dk_at dksX4_writeCow_9 5 rfl rfl)
theorem dX4_writeCow_220 : decode cX4_writeCow 220 = .ok (.aload_n 0, 1) := dk_42 (dk_at dksX4_writeCow_9 8 rfl rfl)
theorem dX4_writeCow_221 : decode cX4_writeCow 221 = .ok (.getfield 7, 3) := dk_180 0 7 (dk_at dksX4_writeCow_9 9 rfl rfl)
theorem dX4_writeCow_224 : decode cX4_writeCow 224 = .ok (.iload_n 1, 1) := dk_27 (dk_at dksX4_writeCow_9 12 rfl rfl)
theorem dX4_writeCow_225 : decode cX4_writeCow 225 = .ok (.bipush 6, 2) := dk_16 6 (dk_at dksX4_writeCow_9 13 rfl rfl)
theorem dX4_writeCow_227 : decode cX4_writeCow 227 = .ok (.invokestatic 50, 3) := dk_184 0 50 (dk_at dksX4_writeCow_9 15 rfl rfl)
theorem dX4_writeCow_230 : decode cX4_writeCow 230 = .ok (.iaload, 1) := dk_46 (dk_at dksX4_writeCow_9 18 rfl rfl)
theorem dX4_writeCow_231 : decode cX4_writeCow 231 = .ok (.invokevirtual 144, 3) := dk_182 0 144 (dk_at dksX4_writeCow_9 19 rfl rfl)
theorem dX4_writeCow_234 : decode cX4_writeCow 234 = .ok (.pop, 1) := dk_87 (dk_at dksX4_writeCow_9 22 rfl rfl)
theorem dX4_writeCow_235 : decode cX4_writeCow 235 = .ok (.aload_n 0, 1) := dk_42 (dk_at dksX4_writeCow_9 23 rfl rfl)
theorem dX4_writeCow_236 : decode cX4_writeCow 236 = .ok (.getfield 25, 3) := dk_180 0 25 (dk_at dksX4_writeCow_10 0 rfl rfl)
theorem dX4_writeCow_239 : decode cX4_writeCow 239 = .ok (.invokevirtual 156, 3) := dk_182 0 156 (dk_at dksX4_writeCow_10 3 rfl rfl)
theorem dX4_writeCow_242 : decode cX4_writeCow 242 = .ok (.ireturn, 1) := dk_172 (dk_at dksX4_writeCow_10 6 rfl rfl)
abbrev cX4_written : ByteArray := prog_15_method_54_code
def yX4_written : MethodName := ⟨RX4, "written", "(I)C"⟩
def dkwX4_written_1 : List UInt8 := [181, 0, 39, 42, 180, 0, 39, 158, 0, 8, 16, 97, 167, 0, 11, 42, 180, 0, 25, 27, 182, 0, 163, 172]
abbrev dktX4_written_1 : List UInt8 := dkwX4_written_1 ++ []
def dkwX4_written_0 : List UInt8 := [42, 27, 3, 42, 180, 0, 25, 182, 0, 156, 4, 100, 184, 0, 42, 153, 0, 7, 3, 167, 0, 4, 4]
abbrev dktX4_written_0 : List UInt8 := dkwX4_written_0 ++ dktX4_written_1
theorem dksX4_written_0 : cX4_written.data.toList.drop 0 = dktX4_written_0 := by decide +kernel
theorem dksX4_written_1 : cX4_written.data.toList.drop 23 = dktX4_written_1 := dk_seg dksX4_written_0 23 rfl rfl
theorem dX4_written_0 : decode cX4_written 0 = .ok (.aload_n 0, 1) := dk_42 (dk_at dksX4_written_0 0 rfl rfl)
theorem dX4_written_1 : decode cX4_written 1 = .ok (.iload_n 1, 1) := dk_27 (dk_at dksX4_written_0 1 rfl rfl)
theorem dX4_written_2 : decode cX4_written 2 = .ok (.iconst 0, 1) := dk_3 (dk_at dksX4_written_0 2 rfl rfl)
theorem dX4_written_3 : decode cX4_written 3 = .ok (.aload_n 0, 1) := dk_42 (dk_at dksX4_written_0 3 rfl rfl)
theorem dX4_written_4 : decode cX4_written 4 = .ok (.getfield 25, 3) := dk_180 0 25 (dk_at dksX4_written_0 4 rfl rfl)
theorem dX4_written_7 : decode cX4_written 7 = .ok (.invokevirtual 156, 3) := dk_182 0 156 (dk_at dksX4_written_0 7 rfl rfl)
theorem dX4_written_10 : decode cX4_written 10 = .ok (.iconst 1, 1) := dk_4 (dk_at dksX4_written_0 10 rfl rfl)
theorem dX4_written_11 : decode cX4_written 11 = .ok (.isub, 1) := dk_100 (dk_at dksX4_written_0 11 rfl rfl)
theorem dX4_written_12 : decode cX4_written 12 = .ok (.invokestatic 42, 3) := dk_184 0 42 (dk_at dksX4_written_0 12 rfl rfl)
theorem dX4_written_15 : decode cX4_written 15 = .ok (.ifCond .eq 7, 3) := dk_153 0 7 (dk_at dksX4_written_0 15 rfl rfl)
theorem dX4_written_18 : decode cX4_written 18 = .ok (.iconst 0, 1) := dk_3 (dk_at dksX4_written_0 18 rfl rfl)
theorem dX4_written_19 : decode cX4_written 19 = .ok (.goto 4, 3) := dk_167 0 4 (dk_at dksX4_written_0 19 rfl rfl)
theorem dX4_written_22 : decode cX4_written 22 = .ok (.iconst 1, 1) := dk_4 (dk_at dksX4_written_0 22 rfl rfl)
theorem dX4_written_23 : decode cX4_written 23 = .ok (.putfield 39, 3) := dk_181 0 39 (dk_at dksX4_written_1 0 rfl rfl)
theorem dX4_written_26 : decode cX4_written 26 = .ok (.aload_n 0, 1) := dk_42 (dk_at dksX4_written_1 3 rfl rfl)
theorem dX4_written_27 : decode cX4_written 27 = .ok (.getfield 39, 3) := dk_180 0 39 (dk_at dksX4_written_1 4 rfl rfl)
theorem dX4_written_30 : decode cX4_written 30 = .ok (.ifCond .le 8, 3) := dk_158 0 8 (dk_at dksX4_written_1 7 rfl rfl)
theorem dX4_written_33 : decode cX4_written 33 = .ok (.bipush 97, 2) := dk_16 97 (dk_at dksX4_written_1 10 rfl rfl)
theorem dX4_written_35 : decode cX4_written 35 = .ok (.goto 11, 3) := dk_167 0 11 (dk_at dksX4_written_1 12 rfl rfl)
theorem dX4_written_38 : decode cX4_written 38 = .ok (.aload_n 0, 1) := dk_42 (dk_at dksX4_written_1 15 rfl rfl)
theorem dX4_written_39 : decode cX4_written 39 = .ok (.getfield 25, 3) := dk_180 0 25 (dk_at dksX4_written_1 16 rfl rfl)
theorem dX4_written_42 : decode cX4_written 42 = .ok (.iload_n 1, 1) := dk_27 (dk_at dksX4_written_1 19 rfl rfl)
theorem dX4_written_43 : decode cX4_written 43 = .ok (.invokevirtual 163, 3) := dk_182 0 163 (dk_at dksX4_written_1 20 rfl rfl)
theorem dX4_written_46 : decode cX4_written 46 = .ok (.ireturn, 1) := dk_172 (dk_at dksX4_written_1 23 rfl rfl)
abbrev cX4_append : ByteArray := prog_15_method_55_code
def yX4_append : MethodName := ⟨RX4, "append", "(C)V"⟩
def dkwX4_append_1 : List UInt8 := [154, 0, 23, 42, 180, 0, 29, 42, 180, 0, 167, 27, 79, 42, 89, 180, 0, 167, 4, 96, 181, 0, 167, 177]
abbrev dktX4_append_1 : List UInt8 := dkwX4_append_1 ++ []
def dkwX4_append_0 : List UInt8 := [42, 42, 180, 0, 167, 16, 50, 160, 0, 7, 4, 167, 0, 4, 3, 181, 0, 39, 42, 180, 0, 39]
abbrev dktX4_append_0 : List UInt8 := dkwX4_append_0 ++ dktX4_append_1
theorem dksX4_append_0 : cX4_append.data.toList.drop 0 = dktX4_append_0 := by decide +kernel
theorem dksX4_append_1 : cX4_append.data.toList.drop 22 = dktX4_append_1 := dk_seg dksX4_append_0 22 rfl rfl
theorem dX4_append_0 : decode cX4_append 0 = .ok (.aload_n 0, 1) := dk_42 (dk_at dksX4_append_0 0 rfl rfl)
theorem dX4_append_1 : decode cX4_append 1 = .ok (.aload_n 0, 1) := dk_42 (dk_at dksX4_append_0 1 rfl rfl)
theorem dX4_append_2 : decode cX4_append 2 = .ok (.getfield 167, 3) := dk_180 0 167 (dk_at dksX4_append_0 2 rfl rfl)
theorem dX4_append_5 : decode cX4_append 5 = .ok (.bipush 50, 2) := dk_16 50 (dk_at dksX4_append_0 5 rfl rfl)
theorem dX4_append_7 : decode cX4_append 7 = .ok (.if_icmp .ne 7, 3) := dk_160 0 7 (dk_at dksX4_append_0 7 rfl rfl)
theorem dX4_append_10 : decode cX4_append 10 = .ok (.iconst 1, 1) := dk_4 (dk_at dksX4_append_0 10 rfl rfl)
theorem dX4_append_11 : decode cX4_append 11 = .ok (.goto 4, 3) := dk_167 0 4 (dk_at dksX4_append_0 11 rfl rfl)
theorem dX4_append_14 : decode cX4_append 14 = .ok (.iconst 0, 1) := dk_3 (dk_at dksX4_append_0 14 rfl rfl)
theorem dX4_append_15 : decode cX4_append 15 = .ok (.putfield 39, 3) := dk_181 0 39 (dk_at dksX4_append_0 15 rfl rfl)
theorem dX4_append_18 : decode cX4_append 18 = .ok (.aload_n 0, 1) := dk_42 (dk_at dksX4_append_0 18 rfl rfl)
theorem dX4_append_19 : decode cX4_append 19 = .ok (.getfield 39, 3) := dk_180 0 39 (dk_at dksX4_append_0 19 rfl rfl)
theorem dX4_append_22 : decode cX4_append 22 = .ok (.ifCond .ne 23, 3) := dk_154 0 23 (dk_at dksX4_append_1 0 rfl rfl)
theorem dX4_append_25 : decode cX4_append 25 = .ok (.aload_n 0, 1) := dk_42 (dk_at dksX4_append_1 3 rfl rfl)
theorem dX4_append_26 : decode cX4_append 26 = .ok (.getfield 29, 3) := dk_180 0 29 (dk_at dksX4_append_1 4 rfl rfl)
theorem dX4_append_29 : decode cX4_append 29 = .ok (.aload_n 0, 1) := dk_42 (dk_at dksX4_append_1 7 rfl rfl)
theorem dX4_append_30 : decode cX4_append 30 = .ok (.getfield 167, 3) := dk_180 0 167 (dk_at dksX4_append_1 8 rfl rfl)
theorem dX4_append_33 : decode cX4_append 33 = .ok (.iload_n 1, 1) := dk_27 (dk_at dksX4_append_1 11 rfl rfl)
theorem dX4_append_34 : decode cX4_append 34 = .ok (.iastore, 1) := dk_79 (dk_at dksX4_append_1 12 rfl rfl)
theorem dX4_append_35 : decode cX4_append 35 = .ok (.aload_n 0, 1) := dk_42 (dk_at dksX4_append_1 13 rfl rfl)
theorem dX4_append_36 : decode cX4_append 36 = .ok (.dup, 1) := dk_89 (dk_at dksX4_append_1 14 rfl rfl)
theorem dX4_append_37 : decode cX4_append 37 = .ok (.getfield 167, 3) := dk_180 0 167 (dk_at dksX4_append_1 15 rfl rfl)
theorem dX4_append_40 : decode cX4_append 40 = .ok (.iconst 1, 1) := dk_4 (dk_at dksX4_append_1 18 rfl rfl)
theorem dX4_append_41 : decode cX4_append 41 = .ok (.iadd, 1) := dk_96 (dk_at dksX4_append_1 19 rfl rfl)
theorem dX4_append_42 : decode cX4_append 42 = .ok (.putfield 167, 3) := dk_181 0 167 (dk_at dksX4_append_1 20 rfl rfl)
theorem dX4_append_45 : decode cX4_append 45 = .ok (.return_, 1) := dk_177 (dk_at dksX4_append_1 23 rfl rfl)
abbrev cX4_faultPosition : ByteArray := prog_15_method_56_code
def yX4_faultPosition : MethodName := ⟨RX4, "faultPosition", "()I"⟩
def dkwX4_faultPosition_0 : List UInt8 := [42, 3, 181, 0, 39, 42, 180, 0, 32, 172]
abbrev dktX4_faultPosition_0 : List UInt8 := dkwX4_faultPosition_0 ++ []
theorem dksX4_faultPosition_0 : cX4_faultPosition.data.toList.drop 0 = dktX4_faultPosition_0 := by decide +kernel
theorem dX4_faultPosition_0 : decode cX4_faultPosition 0 = .ok (.aload_n 0, 1) := dk_42 (dk_at dksX4_faultPosition_0 0 rfl rfl)
theorem dX4_faultPosition_1 : decode cX4_faultPosition 1 = .ok (.iconst 0, 1) := dk_3 (dk_at dksX4_faultPosition_0 1 rfl rfl)
theorem dX4_faultPosition_2 : decode cX4_faultPosition 2 = .ok (.putfield 39, 3) := dk_181 0 39 (dk_at dksX4_faultPosition_0 2 rfl rfl)
theorem dX4_faultPosition_5 : decode cX4_faultPosition 5 = .ok (.aload_n 0, 1) := dk_42 (dk_at dksX4_faultPosition_0 5 rfl rfl)
theorem dX4_faultPosition_6 : decode cX4_faultPosition 6 = .ok (.getfield 32, 3) := dk_180 0 32 (dk_at dksX4_faultPosition_0 6 rfl rfl)
theorem dX4_faultPosition_9 : decode cX4_faultPosition 9 = .ok (.ireturn, 1) := dk_172 (dk_at dksX4_faultPosition_0 9 rfl rfl)
abbrev cX4_order : ByteArray := prog_15_method_65_code
def yX4_order : MethodName := ⟨RX4, "order", "()I"⟩
def dkwX4_order_7 : List UInt8 := [42, 42, 180, 0, 16, 182, 0, 65, 42, 180, 0, 201, 172]
abbrev dktX4_order_7 : List UInt8 := dkwX4_order_7 ++ []
def dkwX4_order_6 : List UInt8 := [104, 4, 96, 46, 42, 180, 0, 36, 6, 28, 104, 5, 96, 46, 182, 0, 106, 87, 132, 2, 1, 167, 255, 151]
abbrev dktX4_order_6 : List UInt8 := dkwX4_order_6 ++ dktX4_order_7
def dkwX4_order_5 : List UInt8 := [181, 0, 100, 42, 5, 182, 0, 103, 172, 42, 42, 180, 0, 36, 6, 28, 104, 46, 42, 180, 0, 36, 6, 28]
abbrev dktX4_order_5 : List UInt8 := dkwX4_order_5 ++ dktX4_order_6
def dkwX4_order_4 : List UInt8 := [182, 0, 96, 62, 29, 158, 0, 27, 42, 180, 0, 16, 3, 42, 180, 0, 7, 3, 184, 0, 57, 42, 29]
abbrev dktX4_order_4 : List UInt8 := dkwX4_order_4 ++ dktX4_order_5
def dkwX4_order_3 : List UInt8 := [104, 46, 42, 180, 0, 36, 6, 28, 104, 4, 96, 46, 42, 180, 0, 36, 6, 28, 104, 5, 96, 46]
abbrev dktX4_order_3 : List UInt8 := dkwX4_order_3 ++ dktX4_order_4
def dkwX4_order_2 : List UInt8 := [180, 0, 16, 3, 184, 0, 57, 3, 61, 28, 42, 180, 0, 201, 162, 0, 103, 42, 42, 180, 0, 36, 6, 28]
abbrev dktX4_order_2 : List UInt8 := dkwX4_order_2 ++ dktX4_order_3
def dkwX4_order_1 : List UInt8 := [181, 0, 32, 42, 3, 181, 0, 167, 27, 154, 0, 9, 42, 4, 182, 0, 103, 172, 42, 180, 0, 7, 3, 42]
abbrev dktX4_order_1 : List UInt8 := dkwX4_order_1 ++ dktX4_order_2
def dkwX4_order_0 : List UInt8 := [42, 3, 181, 0, 39, 42, 182, 0, 216, 60, 42, 27, 153, 0, 7, 2, 167, 0, 7, 42, 180, 0, 169]
abbrev dktX4_order_0 : List UInt8 := dkwX4_order_0 ++ dktX4_order_1
theorem dksX4_order_0 : cX4_order.data.toList.drop 0 = dktX4_order_0 := by decide +kernel
theorem dksX4_order_1 : cX4_order.data.toList.drop 23 = dktX4_order_1 := dk_seg dksX4_order_0 23 rfl rfl
theorem dksX4_order_2 : cX4_order.data.toList.drop 47 = dktX4_order_2 := dk_seg dksX4_order_1 24 rfl rfl
theorem dksX4_order_3 : cX4_order.data.toList.drop 71 = dktX4_order_3 := dk_seg dksX4_order_2 24 rfl rfl
theorem dksX4_order_4 : cX4_order.data.toList.drop 93 = dktX4_order_4 := dk_seg dksX4_order_3 22 rfl rfl
theorem dksX4_order_5 : cX4_order.data.toList.drop 116 = dktX4_order_5 := dk_seg dksX4_order_4 23 rfl rfl
theorem dksX4_order_6 : cX4_order.data.toList.drop 140 = dktX4_order_6 := dk_seg dksX4_order_5 24 rfl rfl
theorem dksX4_order_7 : cX4_order.data.toList.drop 164 = dktX4_order_7 := dk_seg dksX4_order_6 24 rfl rfl
theorem dX4_order_0 : decode cX4_order 0 = .ok (.aload_n 0, 1) := dk_42 (dk_at dksX4_order_0 0 rfl rfl)
theorem dX4_order_1 : decode cX4_order 1 = .ok (.iconst 0, 1) := dk_3 (dk_at dksX4_order_0 1 rfl rfl)
theorem dX4_order_2 : decode cX4_order 2 = .ok (.putfield 39, 3) := dk_181 0 39 (dk_at dksX4_order_0 2 rfl rfl)
theorem dX4_order_5 : decode cX4_order 5 = .ok (.aload_n 0, 1) := dk_42 (dk_at dksX4_order_0 5 rfl rfl)
theorem dX4_order_6 : decode cX4_order 6 = .ok (.invokevirtual 216, 3) := dk_182 0 216 (dk_at dksX4_order_0 6 rfl rfl)
theorem dX4_order_9 : decode cX4_order 9 = .ok (.istore_n 1, 1) := dk_60 (dk_at dksX4_order_0 9 rfl rfl)
theorem dX4_order_10 : decode cX4_order 10 = .ok (.aload_n 0, 1) := dk_42 (dk_at dksX4_order_0 10 rfl rfl)
theorem dX4_order_11 : decode cX4_order 11 = .ok (.iload_n 1, 1) := dk_27 (dk_at dksX4_order_0 11 rfl rfl)
theorem dX4_order_12 : decode cX4_order 12 = .ok (.ifCond .eq 7, 3) := dk_153 0 7 (dk_at dksX4_order_0 12 rfl rfl)
theorem dX4_order_15 : decode cX4_order 15 = .ok (.iconst (-1), 1) := dk_2 (dk_at dksX4_order_0 15 rfl rfl)
theorem dX4_order_16 : decode cX4_order 16 = .ok (.goto 7, 3) := dk_167 0 7 (dk_at dksX4_order_0 16 rfl rfl)
theorem dX4_order_19 : decode cX4_order 19 = .ok (.aload_n 0, 1) := dk_42 (dk_at dksX4_order_0 19 rfl rfl)
theorem dX4_order_20 : decode cX4_order 20 = .ok (.getfield 169, 3) := dk_180 0 169 (dk_at dksX4_order_0 20 rfl rfl)
theorem dX4_order_23 : decode cX4_order 23 = .ok (.putfield 32, 3) := dk_181 0 32 (dk_at dksX4_order_1 0 rfl rfl)
theorem dX4_order_26 : decode cX4_order 26 = .ok (.aload_n 0, 1) := dk_42 (dk_at dksX4_order_1 3 rfl rfl)
theorem dX4_order_27 : decode cX4_order 27 = .ok (.iconst 0, 1) := dk_3 (dk_at dksX4_order_1 4 rfl rfl)
theorem dX4_order_28 : decode cX4_order 28 = .ok (.putfield 167, 3) := dk_181 0 167 (dk_at dksX4_order_1 5 rfl rfl)
theorem dX4_order_31 : decode cX4_order 31 = .ok (.iload_n 1, 1) := dk_27 (dk_at dksX4_order_1 8 rfl rfl)
theorem dX4_order_32 : decode cX4_order 32 = .ok (.ifCond .ne 9, 3) := dk_154 0 9 (dk_at dksX4_order_1 9 rfl rfl)
theorem dX4_order_35 : decode cX4_order 35 = .ok (.aload_n 0, 1) := dk_42 (dk_at dksX4_order_1 12 rfl rfl)
theorem dX4_order_36 : decode cX4_order 36 = .ok (.iconst 1, 1) := dk_4 (dk_at dksX4_order_1 13 rfl rfl)
theorem dX4_order_37 : decode cX4_order 37 = .ok (.invokevirtual 103, 3) := dk_182 0 103 (dk_at dksX4_order_1 14 rfl rfl)
theorem dX4_order_40 : decode cX4_order 40 = .ok (.ireturn, 1) := dk_172 (dk_at dksX4_order_1 17 rfl rfl)
theorem dX4_order_41 : decode cX4_order 41 = .ok (.aload_n 0, 1) := dk_42 (dk_at dksX4_order_1 18 rfl rfl)
theorem dX4_order_42 : decode cX4_order 42 = .ok (.getfield 7, 3) := dk_180 0 7 (dk_at dksX4_order_1 19 rfl rfl)
theorem dX4_order_45 : decode cX4_order 45 = .ok (.iconst 0, 1) := dk_3 (dk_at dksX4_order_1 22 rfl rfl)
theorem dX4_order_46 : decode cX4_order 46 = .ok (.aload_n 0, 1) := dk_42 (dk_at dksX4_order_1 23 rfl rfl)
theorem dX4_order_47 : decode cX4_order 47 = .ok (.getfield 16, 3) := dk_180 0 16 (dk_at dksX4_order_2 0 rfl rfl)
theorem dX4_order_50 : decode cX4_order 50 = .ok (.iconst 0, 1) := dk_3 (dk_at dksX4_order_2 3 rfl rfl)
theorem dX4_order_51 : decode cX4_order 51 = .ok (.invokestatic 57, 3) := dk_184 0 57 (dk_at dksX4_order_2 4 rfl rfl)
theorem dX4_order_54 : decode cX4_order 54 = .ok (.iconst 0, 1) := dk_3 (dk_at dksX4_order_2 7 rfl rfl)
theorem dX4_order_55 : decode cX4_order 55 = .ok (.istore_n 2, 1) := dk_61 (dk_at dksX4_order_2 8 rfl rfl)
theorem dX4_order_56 : decode cX4_order 56 = .ok (.iload_n 2, 1) := dk_28 (dk_at dksX4_order_2 9 rfl rfl)
theorem dX4_order_57 : decode cX4_order 57 = .ok (.aload_n 0, 1) := dk_42 (dk_at dksX4_order_2 10 rfl rfl)
theorem dX4_order_58 : decode cX4_order 58 = .ok (.getfield 201, 3) := dk_180 0 201 (dk_at dksX4_order_2 11 rfl rfl)
theorem dX4_order_61 : decode cX4_order 61 = .ok (.if_icmp .ge 103, 3) := dk_162 0 103 (dk_at dksX4_order_2 14 rfl rfl)
theorem dX4_order_64 : decode cX4_order 64 = .ok (.aload_n 0, 1) := dk_42 (dk_at dksX4_order_2 17 rfl rfl)
theorem dX4_order_65 : decode cX4_order 65 = .ok (.aload_n 0, 1) := dk_42 (dk_at dksX4_order_2 18 rfl rfl)
theorem dX4_order_66 : decode cX4_order 66 = .ok (.getfield 36, 3) := dk_180 0 36 (dk_at dksX4_order_2 19 rfl rfl)
theorem dX4_order_69 : decode cX4_order 69 = .ok (.iconst 3, 1) := dk_6 (dk_at dksX4_order_2 22 rfl rfl)
theorem dX4_order_70 : decode cX4_order 70 = .ok (.iload_n 2, 1) := dk_28 (dk_at dksX4_order_2 23 rfl rfl)
theorem dX4_order_71 : decode cX4_order 71 = .ok (.imul, 1) := dk_104 (dk_at dksX4_order_3 0 rfl rfl)
theorem dX4_order_72 : decode cX4_order 72 = .ok (.iaload, 1) := dk_46 (dk_at dksX4_order_3 1 rfl rfl)
theorem dX4_order_73 : decode cX4_order 73 = .ok (.aload_n 0, 1) := dk_42 (dk_at dksX4_order_3 2 rfl rfl)
theorem dX4_order_74 : decode cX4_order 74 = .ok (.getfield 36, 3) := dk_180 0 36 (dk_at dksX4_order_3 3 rfl rfl)
theorem dX4_order_77 : decode cX4_order 77 = .ok (.iconst 3, 1) := dk_6 (dk_at dksX4_order_3 6 rfl rfl)
theorem dX4_order_78 : decode cX4_order 78 = .ok (.iload_n 2, 1) := dk_28 (dk_at dksX4_order_3 7 rfl rfl)
theorem dX4_order_79 : decode cX4_order 79 = .ok (.imul, 1) := dk_104 (dk_at dksX4_order_3 8 rfl rfl)
theorem dX4_order_80 : decode cX4_order 80 = .ok (.iconst 1, 1) := dk_4 (dk_at dksX4_order_3 9 rfl rfl)
theorem dX4_order_81 : decode cX4_order 81 = .ok (.iadd, 1) := dk_96 (dk_at dksX4_order_3 10 rfl rfl)
theorem dX4_order_82 : decode cX4_order 82 = .ok (.iaload, 1) := dk_46 (dk_at dksX4_order_3 11 rfl rfl)
theorem dX4_order_83 : decode cX4_order 83 = .ok (.aload_n 0, 1) := dk_42 (dk_at dksX4_order_3 12 rfl rfl)
theorem dX4_order_84 : decode cX4_order 84 = .ok (.getfield 36, 3) := dk_180 0 36 (dk_at dksX4_order_3 13 rfl rfl)
theorem dX4_order_87 : decode cX4_order 87 = .ok (.iconst 3, 1) := dk_6 (dk_at dksX4_order_3 16 rfl rfl)
theorem dX4_order_88 : decode cX4_order 88 = .ok (.iload_n 2, 1) := dk_28 (dk_at dksX4_order_3 17 rfl rfl)
theorem dX4_order_89 : decode cX4_order 89 = .ok (.imul, 1) := dk_104 (dk_at dksX4_order_3 18 rfl rfl)
theorem dX4_order_90 : decode cX4_order 90 = .ok (.iconst 2, 1) := dk_5 (dk_at dksX4_order_3 19 rfl rfl)
theorem dX4_order_91 : decode cX4_order 91 = .ok (.iadd, 1) := dk_96 (dk_at dksX4_order_3 20 rfl rfl)
theorem dX4_order_92 : decode cX4_order 92 = .ok (.iaload, 1) := dk_46 (dk_at dksX4_order_3 21 rfl rfl)
theorem dX4_order_93 : decode cX4_order 93 = .ok (.invokevirtual 96, 3) := dk_182 0 96 (dk_at dksX4_order_4 0 rfl rfl)
theorem dX4_order_96 : decode cX4_order 96 = .ok (.istore_n 3, 1) := dk_62 (dk_at dksX4_order_4 3 rfl rfl)
theorem dX4_order_97 : decode cX4_order 97 = .ok (.iload_n 3, 1) := dk_29 (dk_at dksX4_order_4 4 rfl rfl)
theorem dX4_order_98 : decode cX4_order 98 = .ok (.ifCond .le 27, 3) := dk_158 0 27 (dk_at dksX4_order_4 5 rfl rfl)
theorem dX4_order_101 : decode cX4_order 101 = .ok (.aload_n 0, 1) := dk_42 (dk_at dksX4_order_4 8 rfl rfl)
theorem dX4_order_102 : decode cX4_order 102 = .ok (.getfield 16, 3) := dk_180 0 16 (dk_at dksX4_order_4 9 rfl rfl)
theorem dX4_order_105 : decode cX4_order 105 = .ok (.iconst 0, 1) := dk_3 (dk_at dksX4_order_4 12 rfl rfl)
theorem dX4_order_106 : decode cX4_order 106 = .ok (.aload_n 0, 1) := dk_42 (dk_at dksX4_order_4 13 rfl rfl)
theorem dX4_order_107 : decode cX4_order 107 = .ok (.getfield 7, 3) := dk_180 0 7 (dk_at dksX4_order_4 14 rfl rfl)
theorem dX4_order_110 : decode cX4_order 110 = .ok (.iconst 0, 1) := dk_3 (dk_at dksX4_order_4 17 rfl rfl)
theorem dX4_order_111 : decode cX4_order 111 = .ok (.invokestatic 57, 3) := dk_184 0 57 (dk_at dksX4_order_4 18 rfl rfl)
theorem dX4_order_114 : decode cX4_order 114 = .ok (.aload_n 0, 1) := dk_42 (dk_at dksX4_order_4 21 rfl rfl)
theorem dX4_order_115 : decode cX4_order 115 = .ok (.iload_n 3, 1) := dk_29 (dk_at dksX4_order_4 22 rfl rfl)
theorem dX4_order_116 : decode cX4_order 116 = .ok (.putfield 100, 3) := dk_181 0 100 (dk_at dksX4_order_5 0 rfl rfl)
theorem dX4_order_119 : decode cX4_order 119 = .ok (.aload_n 0, 1) := dk_42 (dk_at dksX4_order_5 3 rfl rfl)
theorem dX4_order_120 : decode cX4_order 120 = .ok (.iconst 2, 1) := dk_5 (dk_at dksX4_order_5 4 rfl rfl)
theorem dX4_order_121 : decode cX4_order 121 = .ok (.invokevirtual 103, 3) := dk_182 0 103 (dk_at dksX4_order_5 5 rfl rfl)
theorem dX4_order_124 : decode cX4_order 124 = .ok (.ireturn, 1) := dk_172 (dk_at dksX4_order_5 8 rfl rfl)
theorem dX4_order_125 : decode cX4_order 125 = .ok (.aload_n 0, 1) := dk_42 (dk_at dksX4_order_5 9 rfl rfl)
theorem dX4_order_126 : decode cX4_order 126 = .ok (.aload_n 0, 1) := dk_42 (dk_at dksX4_order_5 10 rfl rfl)
theorem dX4_order_127 : decode cX4_order 127 = .ok (.getfield 36, 3) := dk_180 0 36 (dk_at dksX4_order_5 11 rfl rfl)
theorem dX4_order_130 : decode cX4_order 130 = .ok (.iconst 3, 1) := dk_6 (dk_at dksX4_order_5 14 rfl rfl)
theorem dX4_order_131 : decode cX4_order 131 = .ok (.iload_n 2, 1) := dk_28 (dk_at dksX4_order_5 15 rfl rfl)
theorem dX4_order_132 : decode cX4_order 132 = .ok (.imul, 1) := dk_104 (dk_at dksX4_order_5 16 rfl rfl)
theorem dX4_order_133 : decode cX4_order 133 = .ok (.iaload, 1) := dk_46 (dk_at dksX4_order_5 17 rfl rfl)
theorem dX4_order_134 : decode cX4_order 134 = .ok (.aload_n 0, 1) := dk_42 (dk_at dksX4_order_5 18 rfl rfl)
theorem dX4_order_135 : decode cX4_order 135 = .ok (.getfield 36, 3) := dk_180 0 36 (dk_at dksX4_order_5 19 rfl rfl)
theorem dX4_order_138 : decode cX4_order 138 = .ok (.iconst 3, 1) := dk_6 (dk_at dksX4_order_5 22 rfl rfl)
theorem dX4_order_139 : decode cX4_order 139 = .ok (.iload_n 2, 1) := dk_28 (dk_at dksX4_order_5 23 rfl rfl)
theorem dX4_order_140 : decode cX4_order 140 = .ok (.imul, 1) := dk_104 (dk_at dksX4_order_6 0 rfl rfl)
theorem dX4_order_141 : decode cX4_order 141 = .ok (.iconst 1, 1) := dk_4 (dk_at dksX4_order_6 1 rfl rfl)
theorem dX4_order_142 : decode cX4_order 142 = .ok (.iadd, 1) := dk_96 (dk_at dksX4_order_6 2 rfl rfl)
theorem dX4_order_143 : decode cX4_order 143 = .ok (.iaload, 1) := dk_46 (dk_at dksX4_order_6 3 rfl rfl)
theorem dX4_order_144 : decode cX4_order 144 = .ok (.aload_n 0, 1) := dk_42 (dk_at dksX4_order_6 4 rfl rfl)
theorem dX4_order_145 : decode cX4_order 145 = .ok (.getfield 36, 3) := dk_180 0 36 (dk_at dksX4_order_6 5 rfl rfl)
theorem dX4_order_148 : decode cX4_order 148 = .ok (.iconst 3, 1) := dk_6 (dk_at dksX4_order_6 8 rfl rfl)
theorem dX4_order_149 : decode cX4_order 149 = .ok (.iload_n 2, 1) := dk_28 (dk_at dksX4_order_6 9 rfl rfl)
theorem dX4_order_150 : decode cX4_order 150 = .ok (.imul, 1) := dk_104 (dk_at dksX4_order_6 10 rfl rfl)
theorem dX4_order_151 : decode cX4_order 151 = .ok (.iconst 2, 1) := dk_5 (dk_at dksX4_order_6 11 rfl rfl)
theorem dX4_order_152 : decode cX4_order 152 = .ok (.iadd, 1) := dk_96 (dk_at dksX4_order_6 12 rfl rfl)
theorem dX4_order_153 : decode cX4_order 153 = .ok (.iaload, 1) := dk_46 (dk_at dksX4_order_6 13 rfl rfl)
theorem dX4_order_154 : decode cX4_order 154 = .ok (.invokevirtual 106, 3) := dk_182 0 106 (dk_at dksX4_order_6 14 rfl rfl)
theorem dX4_order_157 : decode cX4_order 157 = .ok (.pop, 1) := dk_87 (dk_at dksX4_order_6 17 rfl rfl)
theorem dX4_order_158 : decode cX4_order 158 = .ok (.iinc 2 1, 3) := dk_132 2 1 (dk_at dksX4_order_6 18 rfl rfl)
theorem dX4_order_161 : decode cX4_order 161 = .ok (.goto (-105), 3) := dk_167 255 151 (dk_at dksX4_order_6 21 rfl rfl)
theorem dX4_order_164 : decode cX4_order 164 = .ok (.aload_n 0, 1) := dk_42 (dk_at dksX4_order_7 0 rfl rfl)
theorem dX4_order_165 : decode cX4_order 165 = .ok (.aload_n 0, 1) := dk_42 (dk_at dksX4_order_7 1 rfl rfl)
theorem dX4_order_166 : decode cX4_order 166 = .ok (.getfield 16, 3) := dk_180 0 16 (dk_at dksX4_order_7 2 rfl rfl)
theorem dX4_order_169 : decode cX4_order 169 = .ok (.invokevirtual 65, 3) := dk_182 0 65 (dk_at dksX4_order_7 5 rfl rfl)
theorem dX4_order_172 : decode cX4_order 172 = .ok (.aload_n 0, 1) := dk_42 (dk_at dksX4_order_7 8 rfl rfl)
theorem dX4_order_173 : decode cX4_order 173 = .ok (.getfield 201, 3) := dk_180 0 201 (dk_at dksX4_order_7 9 rfl rfl)
theorem dX4_order_176 : decode cX4_order 176 = .ok (.ireturn, 1) := dk_172 (dk_at dksX4_order_7 12 rfl rfl)
abbrev cX4_isText : ByteArray := prog_15_method_64_code
def yX4_isText : MethodName := ⟨RX4, "isText", "()Z"⟩
def dkwX4_isText_1 : List UInt8 := [182, 0, 207, 154, 255, 241, 42, 180, 0, 169, 42, 180, 0, 167, 160, 0, 7, 4, 167, 0, 4, 3, 172]
abbrev dktX4_isText_1 : List UInt8 := dkwX4_isText_1 ++ []
def dkwX4_isText_0 : List UInt8 := [42, 3, 181, 0, 169, 42, 3, 181, 0, 201, 42, 182, 0, 213, 154, 0, 5, 3, 172, 42, 16, 59]
abbrev dktX4_isText_0 : List UInt8 := dkwX4_isText_0 ++ dktX4_isText_1
theorem dksX4_isText_0 : cX4_isText.data.toList.drop 0 = dktX4_isText_0 := by decide +kernel
theorem dksX4_isText_1 : cX4_isText.data.toList.drop 22 = dktX4_isText_1 := dk_seg dksX4_isText_0 22 rfl rfl
theorem dX4_isText_0 : decode cX4_isText 0 = .ok (.aload_n 0, 1) := dk_42 (dk_at dksX4_isText_0 0 rfl rfl)
theorem dX4_isText_1 : decode cX4_isText 1 = .ok (.iconst 0, 1) := dk_3 (dk_at dksX4_isText_0 1 rfl rfl)
theorem dX4_isText_2 : decode cX4_isText 2 = .ok (.putfield 169, 3) := dk_181 0 169 (dk_at dksX4_isText_0 2 rfl rfl)
theorem dX4_isText_5 : decode cX4_isText 5 = .ok (.aload_n 0, 1) := dk_42 (dk_at dksX4_isText_0 5 rfl rfl)
theorem dX4_isText_6 : decode cX4_isText 6 = .ok (.iconst 0, 1) := dk_3 (dk_at dksX4_isText_0 6 rfl rfl)
theorem dX4_isText_7 : decode cX4_isText 7 = .ok (.putfield 201, 3) := dk_181 0 201 (dk_at dksX4_isText_0 7 rfl rfl)
theorem dX4_isText_10 : decode cX4_isText 10 = .ok (.aload_n 0, 1) := dk_42 (dk_at dksX4_isText_0 10 rfl rfl)
theorem dX4_isText_11 : decode cX4_isText 11 = .ok (.invokevirtual 213, 3) := dk_182 0 213 (dk_at dksX4_isText_0 11 rfl rfl)
theorem dX4_isText_14 : decode cX4_isText 14 = .ok (.ifCond .ne 5, 3) := dk_154 0 5 (dk_at dksX4_isText_0 14 rfl rfl)
theorem dX4_isText_17 : decode cX4_isText 17 = .ok (.iconst 0, 1) := dk_3 (dk_at dksX4_isText_0 17 rfl rfl)
theorem dX4_isText_18 : decode cX4_isText 18 = .ok (.ireturn, 1) := dk_172 (dk_at dksX4_isText_0 18 rfl rfl)
theorem dX4_isText_19 : decode cX4_isText 19 = .ok (.aload_n 0, 1) := dk_42 (dk_at dksX4_isText_0 19 rfl rfl)
theorem dX4_isText_20 : decode cX4_isText 20 = .ok (.bipush 59, 2) := dk_16 59 (dk_at dksX4_isText_0 20 rfl rfl)
theorem dX4_isText_22 : decode cX4_isText 22 = .ok (.invokevirtual 207, 3) := dk_182 0 207 (dk_at dksX4_isText_1 0 rfl rfl)
theorem dX4_isText_25 : decode cX4_isText 25 = .ok (.ifCond .ne (-15), 3) := dk_154 255 241 (dk_at dksX4_isText_1 3 rfl rfl)
theorem dX4_isText_28 : decode cX4_isText 28 = .ok (.aload_n 0, 1) := dk_42 (dk_at dksX4_isText_1 6 rfl rfl)
theorem dX4_isText_29 : decode cX4_isText 29 = .ok (.getfield 169, 3) := dk_180 0 169 (dk_at dksX4_isText_1 7 rfl rfl)
theorem dX4_isText_32 : decode cX4_isText 32 = .ok (.aload_n 0, 1) := dk_42 (dk_at dksX4_isText_1 10 rfl rfl)
theorem dX4_isText_33 : decode cX4_isText 33 = .ok (.getfield 167, 3) := dk_180 0 167 (dk_at dksX4_isText_1 11 rfl rfl)
theorem dX4_isText_36 : decode cX4_isText 36 = .ok (.if_icmp .ne 7, 3) := dk_160 0 7 (dk_at dksX4_isText_1 14 rfl rfl)
theorem dX4_isText_39 : decode cX4_isText 39 = .ok (.iconst 1, 1) := dk_4 (dk_at dksX4_isText_1 17 rfl rfl)
theorem dX4_isText_40 : decode cX4_isText 40 = .ok (.goto 4, 3) := dk_167 0 4 (dk_at dksX4_isText_1 18 rfl rfl)
theorem dX4_isText_43 : decode cX4_isText 43 = .ok (.iconst 0, 1) := dk_3 (dk_at dksX4_isText_1 21 rfl rfl)
theorem dX4_isText_44 : decode cX4_isText 44 = .ok (.ireturn, 1) := dk_172 (dk_at dksX4_isText_1 22 rfl rfl)
abbrev cX4_command : ByteArray := prog_15_method_63_code
def yX4_command : MethodName := ⟨RX4, "command", "()Z"⟩
def dkwX4_command_4 : List UInt8 := [182, 0, 210, 154, 0, 5, 3, 172, 42, 180, 0, 36, 27, 5, 96, 42, 180, 0, 198, 79, 4, 172]
abbrev dktX4_command_4 : List UInt8 := dkwX4_command_4 ++ []
def dkwX4_command_3 : List UInt8 := [181, 0, 201, 28, 5, 161, 0, 8, 28, 8, 160, 0, 33, 42, 16, 32, 182, 0, 207, 153, 0, 10, 42]
abbrev dktX4_command_3 : List UInt8 := dkwX4_command_3 ++ dktX4_command_4
def dkwX4_command_2 : List UInt8 := [4, 96, 42, 180, 0, 198, 79, 42, 180, 0, 36, 27, 5, 96, 3, 79, 42, 89, 180, 0, 201, 4, 96]
abbrev dktX4_command_2 : List UInt8 := dkwX4_command_2 ++ dktX4_command_3
def dkwX4_command_1 : List UInt8 := [153, 0, 10, 42, 182, 0, 210, 154, 0, 5, 3, 172, 42, 180, 0, 36, 27, 28, 79, 42, 180, 0, 36, 27]
abbrev dktX4_command_1 : List UInt8 := dkwX4_command_1 ++ dktX4_command_2
def dkwX4_command_0 : List UInt8 := [6, 42, 180, 0, 201, 104, 60, 42, 182, 0, 204, 61, 28, 155, 0, 19, 42, 16, 32, 182, 0, 207]
abbrev dktX4_command_0 : List UInt8 := dkwX4_command_0 ++ dktX4_command_1
theorem dksX4_command_0 : cX4_command.data.toList.drop 0 = dktX4_command_0 := by decide +kernel
theorem dksX4_command_1 : cX4_command.data.toList.drop 22 = dktX4_command_1 := dk_seg dksX4_command_0 22 rfl rfl
theorem dksX4_command_2 : cX4_command.data.toList.drop 46 = dktX4_command_2 := dk_seg dksX4_command_1 24 rfl rfl
theorem dksX4_command_3 : cX4_command.data.toList.drop 69 = dktX4_command_3 := dk_seg dksX4_command_2 23 rfl rfl
theorem dksX4_command_4 : cX4_command.data.toList.drop 92 = dktX4_command_4 := dk_seg dksX4_command_3 23 rfl rfl
theorem dX4_command_0 : decode cX4_command 0 = .ok (.iconst 3, 1) := dk_6 (dk_at dksX4_command_0 0 rfl rfl)
theorem dX4_command_1 : decode cX4_command 1 = .ok (.aload_n 0, 1) := dk_42 (dk_at dksX4_command_0 1 rfl rfl)
theorem dX4_command_2 : decode cX4_command 2 = .ok (.getfield 201, 3) := dk_180 0 201 (dk_at dksX4_command_0 2 rfl rfl)
theorem dX4_command_5 : decode cX4_command 5 = .ok (.imul, 1) := dk_104 (dk_at dksX4_command_0 5 rfl rfl)
theorem dX4_command_6 : decode cX4_command 6 = .ok (.istore_n 1, 1) := dk_60 (dk_at dksX4_command_0 6 rfl rfl)
theorem dX4_command_7 : decode cX4_command 7 = .ok (.aload_n 0, 1) := dk_42 (dk_at dksX4_command_0 7 rfl rfl)
theorem dX4_command_8 : decode cX4_command 8 = .ok (.invokevirtual 204, 3) := dk_182 0 204 (dk_at dksX4_command_0 8 rfl rfl)
theorem dX4_command_11 : decode cX4_command 11 = .ok (.istore_n 2, 1) := dk_61 (dk_at dksX4_command_0 11 rfl rfl)
theorem dX4_command_12 : decode cX4_command 12 = .ok (.iload_n 2, 1) := dk_28 (dk_at dksX4_command_0 12 rfl rfl)
theorem dX4_command_13 : decode cX4_command 13 = .ok (.ifCond .lt 19, 3) := dk_155 0 19 (dk_at dksX4_command_0 13 rfl rfl)
theorem dX4_command_16 : decode cX4_command 16 = .ok (.aload_n 0, 1) := dk_42 (dk_at dksX4_command_0 16 rfl rfl)
theorem dX4_command_17 : decode cX4_command 17 = .ok (.bipush 32, 2) := dk_16 32 (dk_at dksX4_command_0 17 rfl rfl)
theorem dX4_command_19 : decode cX4_command 19 = .ok (.invokevirtual 207, 3) := dk_182 0 207 (dk_at dksX4_command_0 19 rfl rfl)
theorem dX4_command_22 : decode cX4_command 22 = .ok (.ifCond .eq 10, 3) := dk_153 0 10 (dk_at dksX4_command_1 0 rfl rfl)
theorem dX4_command_25 : decode cX4_command 25 = .ok (.aload_n 0, 1) := dk_42 (dk_at dksX4_command_1 3 rfl rfl)
theorem dX4_command_26 : decode cX4_command 26 = .ok (.invokevirtual 210, 3) := dk_182 0 210 (dk_at dksX4_command_1 4 rfl rfl)
theorem dX4_command_29 : decode cX4_command 29 = .ok (.ifCond .ne 5, 3) := dk_154 0 5 (dk_at dksX4_command_1 7 rfl rfl)
theorem dX4_command_32 : decode cX4_command 32 = .ok (.iconst 0, 1) := dk_3 (dk_at dksX4_command_1 10 rfl rfl)
theorem dX4_command_33 : decode cX4_command 33 = .ok (.ireturn, 1) := dk_172 (dk_at dksX4_command_1 11 rfl rfl)
theorem dX4_command_34 : decode cX4_command 34 = .ok (.aload_n 0, 1) := dk_42 (dk_at dksX4_command_1 12 rfl rfl)
theorem dX4_command_35 : decode cX4_command 35 = .ok (.getfield 36, 3) := dk_180 0 36 (dk_at dksX4_command_1 13 rfl rfl)
theorem dX4_command_38 : decode cX4_command 38 = .ok (.iload_n 1, 1) := dk_27 (dk_at dksX4_command_1 16 rfl rfl)
theorem dX4_command_39 : decode cX4_command 39 = .ok (.iload_n 2, 1) := dk_28 (dk_at dksX4_command_1 17 rfl rfl)
theorem dX4_command_40 : decode cX4_command 40 = .ok (.iastore, 1) := dk_79 (dk_at dksX4_command_1 18 rfl rfl)
theorem dX4_command_41 : decode cX4_command 41 = .ok (.aload_n 0, 1) := dk_42 (dk_at dksX4_command_1 19 rfl rfl)
theorem dX4_command_42 : decode cX4_command 42 = .ok (.getfield 36, 3) := dk_180 0 36 (dk_at dksX4_command_1 20 rfl rfl)
theorem dX4_command_45 : decode cX4_command 45 = .ok (.iload_n 1, 1) := dk_27 (dk_at dksX4_command_1 23 rfl rfl)
theorem dX4_command_46 : decode cX4_command 46 = .ok (.iconst 1, 1) := dk_4 (dk_at dksX4_command_2 0 rfl rfl)
theorem dX4_command_47 : decode cX4_command 47 = .ok (.iadd, 1) := dk_96 (dk_at dksX4_command_2 1 rfl rfl)
theorem dX4_command_48 : decode cX4_command 48 = .ok (.aload_n 0, 1) := dk_42 (dk_at dksX4_command_2 2 rfl rfl)
theorem dX4_command_49 : decode cX4_command 49 = .ok (.getfield 198, 3) := dk_180 0 198 (dk_at dksX4_command_2 3 rfl rfl)
theorem dX4_command_52 : decode cX4_command 52 = .ok (.iastore, 1) := dk_79 (dk_at dksX4_command_2 6 rfl rfl)
theorem dX4_command_53 : decode cX4_command 53 = .ok (.aload_n 0, 1) := dk_42 (dk_at dksX4_command_2 7 rfl rfl)
theorem dX4_command_54 : decode cX4_command 54 = .ok (.getfield 36, 3) := dk_180 0 36 (dk_at dksX4_command_2 8 rfl rfl)
theorem dX4_command_57 : decode cX4_command 57 = .ok (.iload_n 1, 1) := dk_27 (dk_at dksX4_command_2 11 rfl rfl)
theorem dX4_command_58 : decode cX4_command 58 = .ok (.iconst 2, 1) := dk_5 (dk_at dksX4_command_2 12 rfl rfl)
theorem dX4_command_59 : decode cX4_command 59 = .ok (.iadd, 1) := dk_96 (dk_at dksX4_command_2 13 rfl rfl)
theorem dX4_command_60 : decode cX4_command 60 = .ok (.iconst 0, 1) := dk_3 (dk_at dksX4_command_2 14 rfl rfl)
theorem dX4_command_61 : decode cX4_command 61 = .ok (.iastore, 1) := dk_79 (dk_at dksX4_command_2 15 rfl rfl)
theorem dX4_command_62 : decode cX4_command 62 = .ok (.aload_n 0, 1) := dk_42 (dk_at dksX4_command_2 16 rfl rfl)
theorem dX4_command_63 : decode cX4_command 63 = .ok (.dup, 1) := dk_89 (dk_at dksX4_command_2 17 rfl rfl)
theorem dX4_command_64 : decode cX4_command 64 = .ok (.getfield 201, 3) := dk_180 0 201 (dk_at dksX4_command_2 18 rfl rfl)
theorem dX4_command_67 : decode cX4_command 67 = .ok (.iconst 1, 1) := dk_4 (dk_at dksX4_command_2 21 rfl rfl)
theorem dX4_command_68 : decode cX4_command 68 = .ok (.iadd, 1) := dk_96 (dk_at dksX4_command_2 22 rfl rfl)
theorem dX4_command_69 : decode cX4_command 69 = .ok (.putfield 201, 3) := dk_181 0 201 (dk_at dksX4_command_3 0 rfl rfl)
theorem dX4_command_72 : decode cX4_command 72 = .ok (.iload_n 2, 1) := dk_28 (dk_at dksX4_command_3 3 rfl rfl)
theorem dX4_command_73 : decode cX4_command 73 = .ok (.iconst 2, 1) := dk_5 (dk_at dksX4_command_3 4 rfl rfl)
theorem dX4_command_74 : decode cX4_command 74 = .ok (.if_icmp .lt 8, 3) := dk_161 0 8 (dk_at dksX4_command_3 5 rfl rfl)
theorem dX4_command_77 : decode cX4_command 77 = .ok (.iload_n 2, 1) := dk_28 (dk_at dksX4_command_3 8 rfl rfl)
theorem dX4_command_78 : decode cX4_command 78 = .ok (.iconst 5, 1) := dk_8 (dk_at dksX4_command_3 9 rfl rfl)
theorem dX4_command_79 : decode cX4_command 79 = .ok (.if_icmp .ne 33, 3) := dk_160 0 33 (dk_at dksX4_command_3 10 rfl rfl)
theorem dX4_command_82 : decode cX4_command 82 = .ok (.aload_n 0, 1) := dk_42 (dk_at dksX4_command_3 13 rfl rfl)
theorem dX4_command_83 : decode cX4_command 83 = .ok (.bipush 32, 2) := dk_16 32 (dk_at dksX4_command_3 14 rfl rfl)
theorem dX4_command_85 : decode cX4_command 85 = .ok (.invokevirtual 207, 3) := dk_182 0 207 (dk_at dksX4_command_3 16 rfl rfl)
theorem dX4_command_88 : decode cX4_command 88 = .ok (.ifCond .eq 10, 3) := dk_153 0 10 (dk_at dksX4_command_3 19 rfl rfl)
theorem dX4_command_91 : decode cX4_command 91 = .ok (.aload_n 0, 1) := dk_42 (dk_at dksX4_command_3 22 rfl rfl)
theorem dX4_command_92 : decode cX4_command 92 = .ok (.invokevirtual 210, 3) := dk_182 0 210 (dk_at dksX4_command_4 0 rfl rfl)
theorem dX4_command_95 : decode cX4_command 95 = .ok (.ifCond .ne 5, 3) := dk_154 0 5 (dk_at dksX4_command_4 3 rfl rfl)
theorem dX4_command_98 : decode cX4_command 98 = .ok (.iconst 0, 1) := dk_3 (dk_at dksX4_command_4 6 rfl rfl)
theorem dX4_command_99 : decode cX4_command 99 = .ok (.ireturn, 1) := dk_172 (dk_at dksX4_command_4 7 rfl rfl)
theorem dX4_command_100 : decode cX4_command 100 = .ok (.aload_n 0, 1) := dk_42 (dk_at dksX4_command_4 8 rfl rfl)
theorem dX4_command_101 : decode cX4_command 101 = .ok (.getfield 36, 3) := dk_180 0 36 (dk_at dksX4_command_4 9 rfl rfl)
theorem dX4_command_104 : decode cX4_command 104 = .ok (.iload_n 1, 1) := dk_27 (dk_at dksX4_command_4 12 rfl rfl)
theorem dX4_command_105 : decode cX4_command 105 = .ok (.iconst 2, 1) := dk_5 (dk_at dksX4_command_4 13 rfl rfl)
theorem dX4_command_106 : decode cX4_command 106 = .ok (.iadd, 1) := dk_96 (dk_at dksX4_command_4 14 rfl rfl)
theorem dX4_command_107 : decode cX4_command 107 = .ok (.aload_n 0, 1) := dk_42 (dk_at dksX4_command_4 15 rfl rfl)
theorem dX4_command_108 : decode cX4_command 108 = .ok (.getfield 198, 3) := dk_180 0 198 (dk_at dksX4_command_4 16 rfl rfl)
theorem dX4_command_111 : decode cX4_command 111 = .ok (.iastore, 1) := dk_79 (dk_at dksX4_command_4 19 rfl rfl)
theorem dX4_command_112 : decode cX4_command 112 = .ok (.iconst 1, 1) := dk_4 (dk_at dksX4_command_4 20 rfl rfl)
theorem dX4_command_113 : decode cX4_command 113 = .ok (.ireturn, 1) := dk_172 (dk_at dksX4_command_4 21 rfl rfl)
abbrev cX4_wordHere : ByteArray := prog_15_method_61_code
def yX4_wordHere : MethodName := ⟨RX4, "wordHere", "()I"⟩
def dkwX4_wordHere_2 : List UInt8 := [182, 0, 195, 153, 0, 5, 28, 172, 132, 2, 1, 167, 255, 232, 42, 27, 181, 0, 169, 2, 172]
abbrev dktX4_wordHere_2 : List UInt8 := dkwX4_wordHere_2 ++ []
def dkwX4_wordHere_1 : List UInt8 := [4, 96, 181, 0, 169, 167, 255, 232, 3, 61, 28, 16, 6, 162, 0, 24, 42, 27, 42, 180, 0, 169, 28]
abbrev dktX4_wordHere_1 : List UInt8 := dkwX4_wordHere_1 ++ dktX4_wordHere_2
def dkwX4_wordHere_0 : List UInt8 := [42, 180, 0, 169, 60, 42, 182, 0, 172, 16, 97, 16, 122, 184, 0, 42, 153, 0, 16, 42, 89, 180, 0, 169]
abbrev dktX4_wordHere_0 : List UInt8 := dkwX4_wordHere_0 ++ dktX4_wordHere_1
theorem dksX4_wordHere_0 : cX4_wordHere.data.toList.drop 0 = dktX4_wordHere_0 := by decide +kernel
theorem dksX4_wordHere_1 : cX4_wordHere.data.toList.drop 24 = dktX4_wordHere_1 := dk_seg dksX4_wordHere_0 24 rfl rfl
theorem dksX4_wordHere_2 : cX4_wordHere.data.toList.drop 47 = dktX4_wordHere_2 := dk_seg dksX4_wordHere_1 23 rfl rfl
theorem dX4_wordHere_0 : decode cX4_wordHere 0 = .ok (.aload_n 0, 1) := dk_42 (dk_at dksX4_wordHere_0 0 rfl rfl)
theorem dX4_wordHere_1 : decode cX4_wordHere 1 = .ok (.getfield 169, 3) := dk_180 0 169 (dk_at dksX4_wordHere_0 1 rfl rfl)
theorem dX4_wordHere_4 : decode cX4_wordHere 4 = .ok (.istore_n 1, 1) := dk_60 (dk_at dksX4_wordHere_0 4 rfl rfl)
theorem dX4_wordHere_5 : decode cX4_wordHere 5 = .ok (.aload_n 0, 1) := dk_42 (dk_at dksX4_wordHere_0 5 rfl rfl)
theorem dX4_wordHere_6 : decode cX4_wordHere 6 = .ok (.invokevirtual 172, 3) := dk_182 0 172 (dk_at dksX4_wordHere_0 6 rfl rfl)
theorem dX4_wordHere_9 : decode cX4_wordHere 9 = .ok (.bipush 97, 2) := dk_16 97 (dk_at dksX4_wordHere_0 9 rfl rfl)
theorem dX4_wordHere_11 : decode cX4_wordHere 11 = .ok (.bipush 122, 2) := dk_16 122 (dk_at dksX4_wordHere_0 11 rfl rfl)
theorem dX4_wordHere_13 : decode cX4_wordHere 13 = .ok (.invokestatic 42, 3) := dk_184 0 42 (dk_at dksX4_wordHere_0 13 rfl rfl)
theorem dX4_wordHere_16 : decode cX4_wordHere 16 = .ok (.ifCond .eq 16, 3) := dk_153 0 16 (dk_at dksX4_wordHere_0 16 rfl rfl)
theorem dX4_wordHere_19 : decode cX4_wordHere 19 = .ok (.aload_n 0, 1) := dk_42 (dk_at dksX4_wordHere_0 19 rfl rfl)
theorem dX4_wordHere_20 : decode cX4_wordHere 20 = .ok (.dup, 1) := dk_89 (dk_at dksX4_wordHere_0 20 rfl rfl)
theorem dX4_wordHere_21 : decode cX4_wordHere 21 = .ok (.getfield 169, 3) := dk_180 0 169 (dk_at dksX4_wordHere_0 21 rfl rfl)
theorem dX4_wordHere_24 : decode cX4_wordHere 24 = .ok (.iconst 1, 1) := dk_4 (dk_at dksX4_wordHere_1 0 rfl rfl)
theorem dX4_wordHere_25 : decode cX4_wordHere 25 = .ok (.iadd, 1) := dk_96 (dk_at dksX4_wordHere_1 1 rfl rfl)
theorem dX4_wordHere_26 : decode cX4_wordHere 26 = .ok (.putfield 169, 3) := dk_181 0 169 (dk_at dksX4_wordHere_1 2 rfl rfl)
theorem dX4_wordHere_29 : decode cX4_wordHere 29 = .ok (.goto (-24), 3) := dk_167 255 232 (dk_at dksX4_wordHere_1 5 rfl rfl)
theorem dX4_wordHere_32 : decode cX4_wordHere 32 = .ok (.iconst 0, 1) := dk_3 (dk_at dksX4_wordHere_1 8 rfl rfl)
theorem dX4_wordHere_33 : decode cX4_wordHere 33 = .ok (.istore_n 2, 1) := dk_61 (dk_at dksX4_wordHere_1 9 rfl rfl)
theorem dX4_wordHere_34 : decode cX4_wordHere 34 = .ok (.iload_n 2, 1) := dk_28 (dk_at dksX4_wordHere_1 10 rfl rfl)
theorem dX4_wordHere_35 : decode cX4_wordHere 35 = .ok (.bipush 6, 2) := dk_16 6 (dk_at dksX4_wordHere_1 11 rfl rfl)
theorem dX4_wordHere_37 : decode cX4_wordHere 37 = .ok (.if_icmp .ge 24, 3) := dk_162 0 24 (dk_at dksX4_wordHere_1 13 rfl rfl)
theorem dX4_wordHere_40 : decode cX4_wordHere 40 = .ok (.aload_n 0, 1) := dk_42 (dk_at dksX4_wordHere_1 16 rfl rfl)
theorem dX4_wordHere_41 : decode cX4_wordHere 41 = .ok (.iload_n 1, 1) := dk_27 (dk_at dksX4_wordHere_1 17 rfl rfl)
theorem dX4_wordHere_42 : decode cX4_wordHere 42 = .ok (.aload_n 0, 1) := dk_42 (dk_at dksX4_wordHere_1 18 rfl rfl)
theorem dX4_wordHere_43 : decode cX4_wordHere 43 = .ok (.getfield 169, 3) := dk_180 0 169 (dk_at dksX4_wordHere_1 19 rfl rfl)
theorem dX4_wordHere_46 : decode cX4_wordHere 46 = .ok (.iload_n 2, 1) := dk_28 (dk_at dksX4_wordHere_1 22 rfl rfl)
theorem dX4_wordHere_47 : decode cX4_wordHere 47 = .ok (.invokevirtual 195, 3) := dk_182 0 195 (dk_at dksX4_wordHere_2 0 rfl rfl)
theorem dX4_wordHere_50 : decode cX4_wordHere 50 = .ok (.ifCond .eq 5, 3) := dk_153 0 5 (dk_at dksX4_wordHere_2 3 rfl rfl)
theorem dX4_wordHere_53 : decode cX4_wordHere 53 = .ok (.iload_n 2, 1) := dk_28 (dk_at dksX4_wordHere_2 6 rfl rfl)
theorem dX4_wordHere_54 : decode cX4_wordHere 54 = .ok (.ireturn, 1) := dk_172 (dk_at dksX4_wordHere_2 7 rfl rfl)
theorem dX4_wordHere_55 : decode cX4_wordHere 55 = .ok (.iinc 2 1, 3) := dk_132 2 1 (dk_at dksX4_wordHere_2 8 rfl rfl)
theorem dX4_wordHere_58 : decode cX4_wordHere 58 = .ok (.goto (-24), 3) := dk_167 255 232 (dk_at dksX4_wordHere_2 11 rfl rfl)
theorem dX4_wordHere_61 : decode cX4_wordHere 61 = .ok (.aload_n 0, 1) := dk_42 (dk_at dksX4_wordHere_2 14 rfl rfl)
theorem dX4_wordHere_62 : decode cX4_wordHere 62 = .ok (.iload_n 1, 1) := dk_27 (dk_at dksX4_wordHere_2 15 rfl rfl)
theorem dX4_wordHere_63 : decode cX4_wordHere 63 = .ok (.putfield 169, 3) := dk_181 0 169 (dk_at dksX4_wordHere_2 16 rfl rfl)
theorem dX4_wordHere_66 : decode cX4_wordHere 66 = .ok (.iconst (-1), 1) := dk_2 (dk_at dksX4_wordHere_2 19 rfl rfl)
theorem dX4_wordHere_67 : decode cX4_wordHere 67 = .ok (.ireturn, 1) := dk_172 (dk_at dksX4_wordHere_2 20 rfl rfl)
abbrev cX4_here : ByteArray := prog_15_method_57_code
def yX4_here : MethodName := ⟨RX4, "here", "()I"⟩
def dkwX4_here_1 : List UInt8 := [172]
abbrev dktX4_here_1 : List UInt8 := dkwX4_here_1 ++ []
def dkwX4_here_0 : List UInt8 := [42, 180, 0, 169, 42, 180, 0, 167, 162, 0, 15, 42, 180, 0, 29, 42, 180, 0, 169, 46, 167, 0, 4, 2]
abbrev dktX4_here_0 : List UInt8 := dkwX4_here_0 ++ dktX4_here_1
theorem dksX4_here_0 : cX4_here.data.toList.drop 0 = dktX4_here_0 := by decide +kernel
theorem dksX4_here_1 : cX4_here.data.toList.drop 24 = dktX4_here_1 := dk_seg dksX4_here_0 24 rfl rfl
theorem dX4_here_0 : decode cX4_here 0 = .ok (.aload_n 0, 1) := dk_42 (dk_at dksX4_here_0 0 rfl rfl)
theorem dX4_here_1 : decode cX4_here 1 = .ok (.getfield 169, 3) := dk_180 0 169 (dk_at dksX4_here_0 1 rfl rfl)
theorem dX4_here_4 : decode cX4_here 4 = .ok (.aload_n 0, 1) := dk_42 (dk_at dksX4_here_0 4 rfl rfl)
theorem dX4_here_5 : decode cX4_here 5 = .ok (.getfield 167, 3) := dk_180 0 167 (dk_at dksX4_here_0 5 rfl rfl)
theorem dX4_here_8 : decode cX4_here 8 = .ok (.if_icmp .ge 15, 3) := dk_162 0 15 (dk_at dksX4_here_0 8 rfl rfl)
theorem dX4_here_11 : decode cX4_here 11 = .ok (.aload_n 0, 1) := dk_42 (dk_at dksX4_here_0 11 rfl rfl)
theorem dX4_here_12 : decode cX4_here 12 = .ok (.getfield 29, 3) := dk_180 0 29 (dk_at dksX4_here_0 12 rfl rfl)
theorem dX4_here_15 : decode cX4_here 15 = .ok (.aload_n 0, 1) := dk_42 (dk_at dksX4_here_0 15 rfl rfl)
theorem dX4_here_16 : decode cX4_here 16 = .ok (.getfield 169, 3) := dk_180 0 169 (dk_at dksX4_here_0 16 rfl rfl)
theorem dX4_here_19 : decode cX4_here 19 = .ok (.iaload, 1) := dk_46 (dk_at dksX4_here_0 19 rfl rfl)
theorem dX4_here_20 : decode cX4_here 20 = .ok (.goto 4, 3) := dk_167 0 4 (dk_at dksX4_here_0 20 rfl rfl)
theorem dX4_here_23 : decode cX4_here 23 = .ok (.iconst (-1), 1) := dk_2 (dk_at dksX4_here_0 23 rfl rfl)
theorem dX4_here_24 : decode cX4_here 24 = .ok (.ireturn, 1) := dk_172 (dk_at dksX4_here_1 0 rfl rfl)
abbrev cX4_isWord : ByteArray := prog_15_method_60_code
def yX4_isWord : MethodName := ⟨RX4, "isWord", "(III)Z"⟩
def dkwX4_isWord_2 : List UInt8 := [27, 100, 182, 0, 194, 160, 0, 7, 4, 167, 0, 4, 3, 54, 4, 132, 5, 1, 167, 255, 214, 21, 4, 172]
abbrev dktX4_isWord_2 : List UInt8 := dkwX4_isWord_2 ++ []
def dkwX4_isWord_1 : List UInt8 := [21, 5, 28, 162, 0, 42, 21, 4, 153, 0, 37, 42, 180, 0, 29, 21, 5, 46, 29, 184, 0, 187, 21, 5]
abbrev dktX4_isWord_1 : List UInt8 := dkwX4_isWord_1 ++ dktX4_isWord_2
def dkwX4_isWord_0 : List UInt8 := [28, 27, 100, 29, 184, 0, 187, 182, 0, 191, 160, 0, 7, 4, 167, 0, 4, 3, 54, 4, 27, 54, 5]
abbrev dktX4_isWord_0 : List UInt8 := dkwX4_isWord_0 ++ dktX4_isWord_1
theorem dksX4_isWord_0 : cX4_isWord.data.toList.drop 0 = dktX4_isWord_0 := by decide +kernel
theorem dksX4_isWord_1 : cX4_isWord.data.toList.drop 23 = dktX4_isWord_1 := dk_seg dksX4_isWord_0 23 rfl rfl
theorem dksX4_isWord_2 : cX4_isWord.data.toList.drop 47 = dktX4_isWord_2 := dk_seg dksX4_isWord_1 24 rfl rfl
theorem dX4_isWord_0 : decode cX4_isWord 0 = .ok (.iload_n 2, 1) := dk_28 (dk_at dksX4_isWord_0 0 rfl rfl)
theorem dX4_isWord_1 : decode cX4_isWord 1 = .ok (.iload_n 1, 1) := dk_27 (dk_at dksX4_isWord_0 1 rfl rfl)
theorem dX4_isWord_2 : decode cX4_isWord 2 = .ok (.isub, 1) := dk_100 (dk_at dksX4_isWord_0 2 rfl rfl)
theorem dX4_isWord_3 : decode cX4_isWord 3 = .ok (.iload_n 3, 1) := dk_29 (dk_at dksX4_isWord_0 3 rfl rfl)
theorem dX4_isWord_4 : decode cX4_isWord 4 = .ok (.invokestatic 187, 3) := dk_184 0 187 (dk_at dksX4_isWord_0 4 rfl rfl)
theorem dX4_isWord_7 : decode cX4_isWord 7 = .ok (.invokevirtual 191, 3) := dk_182 0 191 (dk_at dksX4_isWord_0 7 rfl rfl)
theorem dX4_isWord_10 : decode cX4_isWord 10 = .ok (.if_icmp .ne 7, 3) := dk_160 0 7 (dk_at dksX4_isWord_0 10 rfl rfl)
theorem dX4_isWord_13 : decode cX4_isWord 13 = .ok (.iconst 1, 1) := dk_4 (dk_at dksX4_isWord_0 13 rfl rfl)
theorem dX4_isWord_14 : decode cX4_isWord 14 = .ok (.goto 4, 3) := dk_167 0 4 (dk_at dksX4_isWord_0 14 rfl rfl)
theorem dX4_isWord_17 : decode cX4_isWord 17 = .ok (.iconst 0, 1) := dk_3 (dk_at dksX4_isWord_0 17 rfl rfl)
theorem dX4_isWord_18 : decode cX4_isWord 18 = .ok (.istore 4, 2) := dk_54 4 (dk_at dksX4_isWord_0 18 rfl rfl)
theorem dX4_isWord_20 : decode cX4_isWord 20 = .ok (.iload_n 1, 1) := dk_27 (dk_at dksX4_isWord_0 20 rfl rfl)
theorem dX4_isWord_21 : decode cX4_isWord 21 = .ok (.istore 5, 2) := dk_54 5 (dk_at dksX4_isWord_0 21 rfl rfl)
theorem dX4_isWord_23 : decode cX4_isWord 23 = .ok (.iload 5, 2) := dk_21 5 (dk_at dksX4_isWord_1 0 rfl rfl)
theorem dX4_isWord_25 : decode cX4_isWord 25 = .ok (.iload_n 2, 1) := dk_28 (dk_at dksX4_isWord_1 2 rfl rfl)
theorem dX4_isWord_26 : decode cX4_isWord 26 = .ok (.if_icmp .ge 42, 3) := dk_162 0 42 (dk_at dksX4_isWord_1 3 rfl rfl)
theorem dX4_isWord_29 : decode cX4_isWord 29 = .ok (.iload 4, 2) := dk_21 4 (dk_at dksX4_isWord_1 6 rfl rfl)
theorem dX4_isWord_31 : decode cX4_isWord 31 = .ok (.ifCond .eq 37, 3) := dk_153 0 37 (dk_at dksX4_isWord_1 8 rfl rfl)
theorem dX4_isWord_34 : decode cX4_isWord 34 = .ok (.aload_n 0, 1) := dk_42 (dk_at dksX4_isWord_1 11 rfl rfl)
theorem dX4_isWord_35 : decode cX4_isWord 35 = .ok (.getfield 29, 3) := dk_180 0 29 (dk_at dksX4_isWord_1 12 rfl rfl)
theorem dX4_isWord_38 : decode cX4_isWord 38 = .ok (.iload 5, 2) := dk_21 5 (dk_at dksX4_isWord_1 15 rfl rfl)
theorem dX4_isWord_40 : decode cX4_isWord 40 = .ok (.iaload, 1) := dk_46 (dk_at dksX4_isWord_1 17 rfl rfl)
theorem dX4_isWord_41 : decode cX4_isWord 41 = .ok (.iload_n 3, 1) := dk_29 (dk_at dksX4_isWord_1 18 rfl rfl)
theorem dX4_isWord_42 : decode cX4_isWord 42 = .ok (.invokestatic 187, 3) := dk_184 0 187 (dk_at dksX4_isWord_1 19 rfl rfl)
theorem dX4_isWord_45 : decode cX4_isWord 45 = .ok (.iload 5, 2) := dk_21 5 (dk_at dksX4_isWord_1 22 rfl rfl)
theorem dX4_isWord_47 : decode cX4_isWord 47 = .ok (.iload_n 1, 1) := dk_27 (dk_at dksX4_isWord_2 0 rfl rfl)
theorem dX4_isWord_48 : decode cX4_isWord 48 = .ok (.isub, 1) := dk_100 (dk_at dksX4_isWord_2 1 rfl rfl)
theorem dX4_isWord_49 : decode cX4_isWord 49 = .ok (.invokevirtual 194, 3) := dk_182 0 194 (dk_at dksX4_isWord_2 2 rfl rfl)
theorem dX4_isWord_52 : decode cX4_isWord 52 = .ok (.if_icmp .ne 7, 3) := dk_160 0 7 (dk_at dksX4_isWord_2 5 rfl rfl)
theorem dX4_isWord_55 : decode cX4_isWord 55 = .ok (.iconst 1, 1) := dk_4 (dk_at dksX4_isWord_2 8 rfl rfl)
theorem dX4_isWord_56 : decode cX4_isWord 56 = .ok (.goto 4, 3) := dk_167 0 4 (dk_at dksX4_isWord_2 9 rfl rfl)
theorem dX4_isWord_59 : decode cX4_isWord 59 = .ok (.iconst 0, 1) := dk_3 (dk_at dksX4_isWord_2 12 rfl rfl)
theorem dX4_isWord_60 : decode cX4_isWord 60 = .ok (.istore 4, 2) := dk_54 4 (dk_at dksX4_isWord_2 13 rfl rfl)
theorem dX4_isWord_62 : decode cX4_isWord 62 = .ok (.iinc 5 1, 3) := dk_132 5 1 (dk_at dksX4_isWord_2 15 rfl rfl)
theorem dX4_isWord_65 : decode cX4_isWord 65 = .ok (.goto (-42), 3) := dk_167 255 214 (dk_at dksX4_isWord_2 18 rfl rfl)
theorem dX4_isWord_68 : decode cX4_isWord 68 = .ok (.iload 4, 2) := dk_21 4 (dk_at dksX4_isWord_2 21 rfl rfl)
theorem dX4_isWord_70 : decode cX4_isWord 70 = .ok (.ireturn, 1) := dk_172 (dk_at dksX4_isWord_2 23 rfl rfl)
abbrev cX4_word : ByteArray := prog_15_method_59_code
def yX4_word : MethodName := ⟨RX4, "word", "(I)Ljava/lang/String;"⟩
def dkwX4_word_2 : List UInt8 := [18, 175, 176, 18, 177, 176, 18, 179, 176, 18, 181, 176, 18, 183, 176, 18, 185, 176]
abbrev dktX4_word_2 : List UInt8 := dkwX4_word_2 ++ []
def dkwX4_word_1 : List UInt8 := [170, 0, 0, 0, 0, 0, 50, 0, 0, 0, 0, 0, 0, 0, 4, 0, 0, 0, 35, 0, 0, 0, 38, 0, 0, 0, 41, 0, 0, 0, 44, 0, 0, 0, 47]
abbrev dktX4_word_1 : List UInt8 := dkwX4_word_1 ++ dktX4_word_2
def dkwX4_word_0 : List UInt8 := [26]
abbrev dktX4_word_0 : List UInt8 := dkwX4_word_0 ++ dktX4_word_1
theorem dksX4_word_0 : cX4_word.data.toList.drop 0 = dktX4_word_0 := by decide +kernel
theorem dksX4_word_1 : cX4_word.data.toList.drop 1 = dktX4_word_1 := dk_seg dksX4_word_0 1 rfl rfl
theorem dksX4_word_2 : cX4_word.data.toList.drop 36 = dktX4_word_2 := dk_seg dksX4_word_1 35 rfl rfl
theorem dX4_word_0 : decode cX4_word 0 = .ok (.iload_n 0, 1) := dk_26 (dk_at dksX4_word_0 0 rfl rfl)
theorem dX4_word_1 : decode cX4_word 1 = .ok (.tableswitch 50 0 4 #[35, 38, 41, 44, 47], 35) := by decide +kernel
theorem dX4_word_36 : decode cX4_word 36 = .ok (.ldc 175, 2) := dk_18 175 (dk_at dksX4_word_2 0 rfl rfl)
theorem dX4_word_38 : decode cX4_word 38 = .ok (.areturn, 1) := dk_176 (dk_at dksX4_word_2 2 rfl rfl)
theorem dX4_word_39 : decode cX4_word 39 = .ok (.ldc 177, 2) := dk_18 177 (dk_at dksX4_word_2 3 rfl rfl)
theorem dX4_word_41 : decode cX4_word 41 = .ok (.areturn, 1) := dk_176 (dk_at dksX4_word_2 5 rfl rfl)
theorem dX4_word_42 : decode cX4_word 42 = .ok (.ldc 179, 2) := dk_18 179 (dk_at dksX4_word_2 6 rfl rfl)
theorem dX4_word_44 : decode cX4_word 44 = .ok (.areturn, 1) := dk_176 (dk_at dksX4_word_2 8 rfl rfl)
theorem dX4_word_45 : decode cX4_word 45 = .ok (.ldc 181, 2) := dk_18 181 (dk_at dksX4_word_2 9 rfl rfl)
theorem dX4_word_47 : decode cX4_word 47 = .ok (.areturn, 1) := dk_176 (dk_at dksX4_word_2 11 rfl rfl)
theorem dX4_word_48 : decode cX4_word 48 = .ok (.ldc 183, 2) := dk_18 183 (dk_at dksX4_word_2 12 rfl rfl)
theorem dX4_word_50 : decode cX4_word 50 = .ok (.areturn, 1) := dk_176 (dk_at dksX4_word_2 14 rfl rfl)
theorem dX4_word_51 : decode cX4_word 51 = .ok (.ldc 185, 2) := dk_18 185 (dk_at dksX4_word_2 15 rfl rfl)
theorem dX4_word_53 : decode cX4_word 53 = .ok (.areturn, 1) := dk_176 (dk_at dksX4_word_2 17 rfl rfl)
abbrev cX4_skips : ByteArray := prog_15_method_58_code
def yX4_skips : MethodName := ⟨RX4, "skips", "(I)Z"⟩
def dkwX4_skips_1 : List UInt8 := [167, 0, 4, 3, 96, 181, 0, 169, 28, 172]
abbrev dktX4_skips_1 : List UInt8 := dkwX4_skips_1 ++ []
def dkwX4_skips_0 : List UInt8 := [42, 182, 0, 172, 27, 160, 0, 7, 4, 167, 0, 4, 3, 61, 42, 89, 180, 0, 169, 28, 153, 0, 7, 4]
abbrev dktX4_skips_0 : List UInt8 := dkwX4_skips_0 ++ dktX4_skips_1
theorem dksX4_skips_0 : cX4_skips.data.toList.drop 0 = dktX4_skips_0 := by decide +kernel
theorem dksX4_skips_1 : cX4_skips.data.toList.drop 24 = dktX4_skips_1 := dk_seg dksX4_skips_0 24 rfl rfl
theorem dX4_skips_0 : decode cX4_skips 0 = .ok (.aload_n 0, 1) := dk_42 (dk_at dksX4_skips_0 0 rfl rfl)
theorem dX4_skips_1 : decode cX4_skips 1 = .ok (.invokevirtual 172, 3) := dk_182 0 172 (dk_at dksX4_skips_0 1 rfl rfl)
theorem dX4_skips_4 : decode cX4_skips 4 = .ok (.iload_n 1, 1) := dk_27 (dk_at dksX4_skips_0 4 rfl rfl)
theorem dX4_skips_5 : decode cX4_skips 5 = .ok (.if_icmp .ne 7, 3) := dk_160 0 7 (dk_at dksX4_skips_0 5 rfl rfl)
theorem dX4_skips_8 : decode cX4_skips 8 = .ok (.iconst 1, 1) := dk_4 (dk_at dksX4_skips_0 8 rfl rfl)
theorem dX4_skips_9 : decode cX4_skips 9 = .ok (.goto 4, 3) := dk_167 0 4 (dk_at dksX4_skips_0 9 rfl rfl)
theorem dX4_skips_12 : decode cX4_skips 12 = .ok (.iconst 0, 1) := dk_3 (dk_at dksX4_skips_0 12 rfl rfl)
theorem dX4_skips_13 : decode cX4_skips 13 = .ok (.istore_n 2, 1) := dk_61 (dk_at dksX4_skips_0 13 rfl rfl)
theorem dX4_skips_14 : decode cX4_skips 14 = .ok (.aload_n 0, 1) := dk_42 (dk_at dksX4_skips_0 14 rfl rfl)
theorem dX4_skips_15 : decode cX4_skips 15 = .ok (.dup, 1) := dk_89 (dk_at dksX4_skips_0 15 rfl rfl)
theorem dX4_skips_16 : decode cX4_skips 16 = .ok (.getfield 169, 3) := dk_180 0 169 (dk_at dksX4_skips_0 16 rfl rfl)
theorem dX4_skips_19 : decode cX4_skips 19 = .ok (.iload_n 2, 1) := dk_28 (dk_at dksX4_skips_0 19 rfl rfl)
theorem dX4_skips_20 : decode cX4_skips 20 = .ok (.ifCond .eq 7, 3) := dk_153 0 7 (dk_at dksX4_skips_0 20 rfl rfl)
theorem dX4_skips_23 : decode cX4_skips 23 = .ok (.iconst 1, 1) := dk_4 (dk_at dksX4_skips_0 23 rfl rfl)
theorem dX4_skips_24 : decode cX4_skips 24 = .ok (.goto 4, 3) := dk_167 0 4 (dk_at dksX4_skips_1 0 rfl rfl)
theorem dX4_skips_27 : decode cX4_skips 27 = .ok (.iconst 0, 1) := dk_3 (dk_at dksX4_skips_1 3 rfl rfl)
theorem dX4_skips_28 : decode cX4_skips 28 = .ok (.iadd, 1) := dk_96 (dk_at dksX4_skips_1 4 rfl rfl)
theorem dX4_skips_29 : decode cX4_skips 29 = .ok (.putfield 169, 3) := dk_181 0 169 (dk_at dksX4_skips_1 5 rfl rfl)
theorem dX4_skips_32 : decode cX4_skips 32 = .ok (.iload_n 2, 1) := dk_28 (dk_at dksX4_skips_1 8 rfl rfl)
theorem dX4_skips_33 : decode cX4_skips 33 = .ok (.ireturn, 1) := dk_172 (dk_at dksX4_skips_1 9 rfl rfl)
abbrev cX4_number : ByteArray := prog_15_method_62_code
def yX4_number : MethodName := ⟨RX4, "number", "()Z"⟩
def dkwX4_number_4 : List UInt8 := [132, 1, 1, 167, 255, 198, 4, 172]
abbrev dktX4_number_4 : List UInt8 := dkwX4_number_4 ++ []
def dkwX4_number_3 : List UInt8 := [104, 42, 182, 0, 172, 96, 16, 48, 100, 181, 0, 198, 42, 89, 180, 0, 169, 4, 96, 181, 0, 169]
abbrev dktX4_number_3 : List UInt8 := dkwX4_number_3 ++ dktX4_number_4
def dkwX4_number_2 : List UInt8 := [158, 0, 52, 42, 182, 0, 172, 16, 48, 16, 57, 184, 0, 42, 153, 0, 38, 42, 16, 10, 42, 180, 0, 198]
abbrev dktX4_number_2 : List UInt8 := dkwX4_number_2 ++ dktX4_number_3
def dkwX4_number_1 : List UInt8 := [181, 0, 198, 42, 89, 180, 0, 169, 4, 96, 181, 0, 169, 4, 60, 27, 6, 162, 0, 59, 42, 180, 0, 198]
abbrev dktX4_number_1 : List UInt8 := dkwX4_number_1 ++ dktX4_number_2
def dkwX4_number_0 : List UInt8 := [42, 182, 0, 172, 16, 48, 16, 57, 184, 0, 42, 154, 0, 5, 3, 172, 42, 42, 182, 0, 172, 16, 48, 100]
abbrev dktX4_number_0 : List UInt8 := dkwX4_number_0 ++ dktX4_number_1
theorem dksX4_number_0 : cX4_number.data.toList.drop 0 = dktX4_number_0 := by decide +kernel
theorem dksX4_number_1 : cX4_number.data.toList.drop 24 = dktX4_number_1 := dk_seg dksX4_number_0 24 rfl rfl
theorem dksX4_number_2 : cX4_number.data.toList.drop 48 = dktX4_number_2 := dk_seg dksX4_number_1 24 rfl rfl
theorem dksX4_number_3 : cX4_number.data.toList.drop 72 = dktX4_number_3 := dk_seg dksX4_number_2 24 rfl rfl
theorem dksX4_number_4 : cX4_number.data.toList.drop 94 = dktX4_number_4 := dk_seg dksX4_number_3 22 rfl rfl
theorem dX4_number_0 : decode cX4_number 0 = .ok (.aload_n 0, 1) := dk_42 (dk_at dksX4_number_0 0 rfl rfl)
theorem dX4_number_1 : decode cX4_number 1 = .ok (.invokevirtual 172, 3) := dk_182 0 172 (dk_at dksX4_number_0 1 rfl rfl)
theorem dX4_number_4 : decode cX4_number 4 = .ok (.bipush 48, 2) := dk_16 48 (dk_at dksX4_number_0 4 rfl rfl)
theorem dX4_number_6 : decode cX4_number 6 = .ok (.bipush 57, 2) := dk_16 57 (dk_at dksX4_number_0 6 rfl rfl)
theorem dX4_number_8 : decode cX4_number 8 = .ok (.invokestatic 42, 3) := dk_184 0 42 (dk_at dksX4_number_0 8 rfl rfl)
theorem dX4_number_11 : decode cX4_number 11 = .ok (.ifCond .ne 5, 3) := dk_154 0 5 (dk_at dksX4_number_0 11 rfl rfl)
theorem dX4_number_14 : decode cX4_number 14 = .ok (.iconst 0, 1) := dk_3 (dk_at dksX4_number_0 14 rfl rfl)
theorem dX4_number_15 : decode cX4_number 15 = .ok (.ireturn, 1) := dk_172 (dk_at dksX4_number_0 15 rfl rfl)
theorem dX4_number_16 : decode cX4_number 16 = .ok (.aload_n 0, 1) := dk_42 (dk_at dksX4_number_0 16 rfl rfl)
theorem dX4_number_17 : decode cX4_number 17 = .ok (.aload_n 0, 1) := dk_42 (dk_at dksX4_number_0 17 rfl rfl)
theorem dX4_number_18 : decode cX4_number 18 = .ok (.invokevirtual 172, 3) := dk_182 0 172 (dk_at dksX4_number_0 18 rfl rfl)
theorem dX4_number_21 : decode cX4_number 21 = .ok (.bipush 48, 2) := dk_16 48 (dk_at dksX4_number_0 21 rfl rfl)
theorem dX4_number_23 : decode cX4_number 23 = .ok (.isub, 1) := dk_100 (dk_at dksX4_number_0 23 rfl rfl)
theorem dX4_number_24 : decode cX4_number 24 = .ok (.putfield 198, 3) := dk_181 0 198 (dk_at dksX4_number_1 0 rfl rfl)
theorem dX4_number_27 : decode cX4_number 27 = .ok (.aload_n 0, 1) := dk_42 (dk_at dksX4_number_1 3 rfl rfl)
theorem dX4_number_28 : decode cX4_number 28 = .ok (.dup, 1) := dk_89 (dk_at dksX4_number_1 4 rfl rfl)
theorem dX4_number_29 : decode cX4_number 29 = .ok (.getfield 169, 3) := dk_180 0 169 (dk_at dksX4_number_1 5 rfl rfl)
theorem dX4_number_32 : decode cX4_number 32 = .ok (.iconst 1, 1) := dk_4 (dk_at dksX4_number_1 8 rfl rfl)
theorem dX4_number_33 : decode cX4_number 33 = .ok (.iadd, 1) := dk_96 (dk_at dksX4_number_1 9 rfl rfl)
theorem dX4_number_34 : decode cX4_number 34 = .ok (.putfield 169, 3) := dk_181 0 169 (dk_at dksX4_number_1 10 rfl rfl)
theorem dX4_number_37 : decode cX4_number 37 = .ok (.iconst 1, 1) := dk_4 (dk_at dksX4_number_1 13 rfl rfl)
theorem dX4_number_38 : decode cX4_number 38 = .ok (.istore_n 1, 1) := dk_60 (dk_at dksX4_number_1 14 rfl rfl)
theorem dX4_number_39 : decode cX4_number 39 = .ok (.iload_n 1, 1) := dk_27 (dk_at dksX4_number_1 15 rfl rfl)
theorem dX4_number_40 : decode cX4_number 40 = .ok (.iconst 3, 1) := dk_6 (dk_at dksX4_number_1 16 rfl rfl)
theorem dX4_number_41 : decode cX4_number 41 = .ok (.if_icmp .ge 59, 3) := dk_162 0 59 (dk_at dksX4_number_1 17 rfl rfl)
theorem dX4_number_44 : decode cX4_number 44 = .ok (.aload_n 0, 1) := dk_42 (dk_at dksX4_number_1 20 rfl rfl)
theorem dX4_number_45 : decode cX4_number 45 = .ok (.getfield 198, 3) := dk_180 0 198 (dk_at dksX4_number_1 21 rfl rfl)
theorem dX4_number_48 : decode cX4_number 48 = .ok (.ifCond .le 52, 3) := dk_158 0 52 (dk_at dksX4_number_2 0 rfl rfl)
theorem dX4_number_51 : decode cX4_number 51 = .ok (.aload_n 0, 1) := dk_42 (dk_at dksX4_number_2 3 rfl rfl)
theorem dX4_number_52 : decode cX4_number 52 = .ok (.invokevirtual 172, 3) := dk_182 0 172 (dk_at dksX4_number_2 4 rfl rfl)
theorem dX4_number_55 : decode cX4_number 55 = .ok (.bipush 48, 2) := dk_16 48 (dk_at dksX4_number_2 7 rfl rfl)
theorem dX4_number_57 : decode cX4_number 57 = .ok (.bipush 57, 2) := dk_16 57 (dk_at dksX4_number_2 9 rfl rfl)
theorem dX4_number_59 : decode cX4_number 59 = .ok (.invokestatic 42, 3) := dk_184 0 42 (dk_at dksX4_number_2 11 rfl rfl)
theorem dX4_number_62 : decode cX4_number 62 = .ok (.ifCond .eq 38, 3) := dk_153 0 38 (dk_at dksX4_number_2 14 rfl rfl)
theorem dX4_number_65 : decode cX4_number 65 = .ok (.aload_n 0, 1) := dk_42 (dk_at dksX4_number_2 17 rfl rfl)
theorem dX4_number_66 : decode cX4_number 66 = .ok (.bipush 10, 2) := dk_16 10 (dk_at dksX4_number_2 18 rfl rfl)
theorem dX4_number_68 : decode cX4_number 68 = .ok (.aload_n 0, 1) := dk_42 (dk_at dksX4_number_2 20 rfl rfl)
theorem dX4_number_69 : decode cX4_number 69 = .ok (.getfield 198, 3) := dk_180 0 198 (dk_at dksX4_number_2 21 rfl rfl)
theorem dX4_number_72 : decode cX4_number 72 = .ok (.imul, 1) := dk_104 (dk_at dksX4_number_3 0 rfl rfl)
theorem dX4_number_73 : decode cX4_number 73 = .ok (.aload_n 0, 1) := dk_42 (dk_at dksX4_number_3 1 rfl rfl)
theorem dX4_number_74 : decode cX4_number 74 = .ok (.invokevirtual 172, 3) := dk_182 0 172 (dk_at dksX4_number_3 2 rfl rfl)
theorem dX4_number_77 : decode cX4_number 77 = .ok (.iadd, 1) := dk_96 (dk_at dksX4_number_3 5 rfl rfl)
theorem dX4_number_78 : decode cX4_number 78 = .ok (.bipush 48, 2) := dk_16 48 (dk_at dksX4_number_3 6 rfl rfl)
theorem dX4_number_80 : decode cX4_number 80 = .ok (.isub, 1) := dk_100 (dk_at dksX4_number_3 8 rfl rfl)
theorem dX4_number_81 : decode cX4_number 81 = .ok (.putfield 198, 3) := dk_181 0 198 (dk_at dksX4_number_3 9 rfl rfl)
theorem dX4_number_84 : decode cX4_number 84 = .ok (.aload_n 0, 1) := dk_42 (dk_at dksX4_number_3 12 rfl rfl)
theorem dX4_number_85 : decode cX4_number 85 = .ok (.dup, 1) := dk_89 (dk_at dksX4_number_3 13 rfl rfl)
theorem dX4_number_86 : decode cX4_number 86 = .ok (.getfield 169, 3) := dk_180 0 169 (dk_at dksX4_number_3 14 rfl rfl)
theorem dX4_number_89 : decode cX4_number 89 = .ok (.iconst 1, 1) := dk_4 (dk_at dksX4_number_3 17 rfl rfl)
theorem dX4_number_90 : decode cX4_number 90 = .ok (.iadd, 1) := dk_96 (dk_at dksX4_number_3 18 rfl rfl)
theorem dX4_number_91 : decode cX4_number 91 = .ok (.putfield 169, 3) := dk_181 0 169 (dk_at dksX4_number_3 19 rfl rfl)
theorem dX4_number_94 : decode cX4_number 94 = .ok (.iinc 1 1, 3) := dk_132 1 1 (dk_at dksX4_number_4 0 rfl rfl)
theorem dX4_number_97 : decode cX4_number 97 = .ok (.goto (-58), 3) := dk_167 255 198 (dk_at dksX4_number_4 3 rfl rfl)
theorem dX4_number_100 : decode cX4_number 100 = .ok (.iconst 1, 1) := dk_4 (dk_at dksX4_number_4 6 rfl rfl)
theorem dX4_number_101 : decode cX4_number 101 = .ok (.ireturn, 1) := dk_172 (dk_at dksX4_number_4 7 rfl rfl)
abbrev cX4_account : ByteArray := prog_15_method_68_code
def yX4_account : MethodName := ⟨RX4, "account", "(I)I"⟩
def dkwX4_account_5 : List UInt8 := [172, 42, 180, 0, 7, 16, 11, 46, 172]
abbrev dktX4_account_5 : List UInt8 := dkwX4_account_5 ++ []
def dkwX4_account_4 : List UInt8 := [172, 42, 180, 0, 7, 16, 12, 46, 172, 42, 180, 0, 7, 16, 14, 46, 172, 42, 180, 0, 7, 16, 13, 46]
abbrev dktX4_account_4 : List UInt8 := dkwX4_account_4 ++ dktX4_account_5
def dkwX4_account_3 : List UInt8 := [42, 182, 0, 89, 172, 42, 27, 182, 0, 219, 172, 42, 16, 8, 182, 0, 222, 172, 42, 16, 9, 182, 0, 222]
abbrev dktX4_account_3 : List UInt8 := dkwX4_account_3 ++ dktX4_account_4
def dkwX4_account_2 : List UInt8 := [170, 0, 0, 0, 0, 0, 96, 0, 0, 0, 0, 0, 0, 0, 7, 0, 0, 0, 47, 0, 0, 0, 52, 0, 0, 0, 52, 0, 0, 0, 58, 0, 0, 0, 65, 0, 0, 0, 72, 0, 0, 0, 80, 0, 0, 0, 88]
abbrev dktX4_account_2 : List UInt8 := dkwX4_account_2 ++ dktX4_account_3
def dkwX4_account_1 : List UInt8 := [158, 0, 5, 3, 172, 27]
abbrev dktX4_account_1 : List UInt8 := dkwX4_account_1 ++ dktX4_account_2
def dkwX4_account_0 : List UInt8 := [42, 27, 3, 16, 8, 184, 0, 42, 153, 0, 7, 3, 167, 0, 4, 4, 181, 0, 39, 42, 180, 0, 39]
abbrev dktX4_account_0 : List UInt8 := dkwX4_account_0 ++ dktX4_account_1
theorem dksX4_account_0 : cX4_account.data.toList.drop 0 = dktX4_account_0 := by decide +kernel
theorem dksX4_account_1 : cX4_account.data.toList.drop 23 = dktX4_account_1 := dk_seg dksX4_account_0 23 rfl rfl
theorem dksX4_account_2 : cX4_account.data.toList.drop 29 = dktX4_account_2 := dk_seg dksX4_account_1 6 rfl rfl
theorem dksX4_account_3 : cX4_account.data.toList.drop 76 = dktX4_account_3 := dk_seg dksX4_account_2 47 rfl rfl
theorem dksX4_account_4 : cX4_account.data.toList.drop 100 = dktX4_account_4 := dk_seg dksX4_account_3 24 rfl rfl
theorem dksX4_account_5 : cX4_account.data.toList.drop 124 = dktX4_account_5 := dk_seg dksX4_account_4 24 rfl rfl
theorem dX4_account_0 : decode cX4_account 0 = .ok (.aload_n 0, 1) := dk_42 (dk_at dksX4_account_0 0 rfl rfl)
theorem dX4_account_1 : decode cX4_account 1 = .ok (.iload_n 1, 1) := dk_27 (dk_at dksX4_account_0 1 rfl rfl)
theorem dX4_account_2 : decode cX4_account 2 = .ok (.iconst 0, 1) := dk_3 (dk_at dksX4_account_0 2 rfl rfl)
theorem dX4_account_3 : decode cX4_account 3 = .ok (.bipush 8, 2) := dk_16 8 (dk_at dksX4_account_0 3 rfl rfl)
theorem dX4_account_5 : decode cX4_account 5 = .ok (.invokestatic 42, 3) := dk_184 0 42 (dk_at dksX4_account_0 5 rfl rfl)
theorem dX4_account_8 : decode cX4_account 8 = .ok (.ifCond .eq 7, 3) := dk_153 0 7 (dk_at dksX4_account_0 8 rfl rfl)
theorem dX4_account_11 : decode cX4_account 11 = .ok (.iconst 0, 1) := dk_3 (dk_at dksX4_account_0 11 rfl rfl)
theorem dX4_account_12 : decode cX4_account 12 = .ok (.goto 4, 3) := dk_167 0 4 (dk_at dksX4_account_0 12 rfl rfl)
theorem dX4_account_15 : decode cX4_account 15 = .ok (.iconst 1, 1) := dk_4 (dk_at dksX4_account_0 15 rfl rfl)
theorem dX4_account_16 : decode cX4_account 16 = .ok (.putfield 39, 3) := dk_181 0 39 (dk_at dksX4_account_0 16 rfl rfl)
theorem dX4_account_19 : decode cX4_account 19 = .ok (.aload_n 0, 1) := dk_42 (dk_at dksX4_account_0 19 rfl rfl)
theorem dX4_account_20 : decode cX4_account 20 = .ok (.getfield 39, 3) := dk_180 0 39 (dk_at dksX4_account_0 20 rfl rfl)
theorem dX4_account_23 : decode cX4_account 23 = .ok (.ifCond .le 5, 3) := dk_158 0 5 (dk_at dksX4_account_1 0 rfl rfl)
theorem dX4_account_26 : decode cX4_account 26 = .ok (.iconst 0, 1) := dk_3 (dk_at dksX4_account_1 3 rfl rfl)
theorem dX4_account_27 : decode cX4_account 27 = .ok (.ireturn, 1) := dk_172 (dk_at dksX4_account_1 4 rfl rfl)
theorem dX4_account_28 : decode cX4_account 28 = .ok (.iload_n 1, 1) := dk_27 (dk_at dksX4_account_1 5 rfl rfl)
theorem dX4_account_29 : decode cX4_account 29 = .ok (.tableswitch 96 0 7 #[47, 52, 52, 58, 65, 72, 80, 88], 47) := by decide +kernel
theorem dX4_account_76 : decode cX4_account 76 = .ok (.aload_n 0, 1) := dk_42 (dk_at dksX4_account_3 0 rfl rfl)
theorem dX4_account_77 : decode cX4_account 77 = .ok (.invokevirtual 89, 3) := dk_182 0 89 (dk_at dksX4_account_3 1 rfl rfl)
theorem dX4_account_80 : decode cX4_account 80 = .ok (.ireturn, 1) := dk_172 (dk_at dksX4_account_3 4 rfl rfl)
theorem dX4_account_81 : decode cX4_account 81 = .ok (.aload_n 0, 1) := dk_42 (dk_at dksX4_account_3 5 rfl rfl)
theorem dX4_account_82 : decode cX4_account 82 = .ok (.iload_n 1, 1) := dk_27 (dk_at dksX4_account_3 6 rfl rfl)
theorem dX4_account_83 : decode cX4_account 83 = .ok (.invokevirtual 219, 3) := dk_182 0 219 (dk_at dksX4_account_3 7 rfl rfl)
theorem dX4_account_86 : decode cX4_account 86 = .ok (.ireturn, 1) := dk_172 (dk_at dksX4_account_3 10 rfl rfl)
theorem dX4_account_87 : decode cX4_account 87 = .ok (.aload_n 0, 1) := dk_42 (dk_at dksX4_account_3 11 rfl rfl)
theorem dX4_account_88 : decode cX4_account 88 = .ok (.bipush 8, 2) := dk_16 8 (dk_at dksX4_account_3 12 rfl rfl)
theorem dX4_account_90 : decode cX4_account 90 = .ok (.invokevirtual 222, 3) := dk_182 0 222 (dk_at dksX4_account_3 14 rfl rfl)
theorem dX4_account_93 : decode cX4_account 93 = .ok (.ireturn, 1) := dk_172 (dk_at dksX4_account_3 17 rfl rfl)
theorem dX4_account_94 : decode cX4_account 94 = .ok (.aload_n 0, 1) := dk_42 (dk_at dksX4_account_3 18 rfl rfl)
theorem dX4_account_95 : decode cX4_account 95 = .ok (.bipush 9, 2) := dk_16 9 (dk_at dksX4_account_3 19 rfl rfl)
theorem dX4_account_97 : decode cX4_account 97 = .ok (.invokevirtual 222, 3) := dk_182 0 222 (dk_at dksX4_account_3 21 rfl rfl)
theorem dX4_account_100 : decode cX4_account 100 = .ok (.ireturn, 1) := dk_172 (dk_at dksX4_account_4 0 rfl rfl)
theorem dX4_account_101 : decode cX4_account 101 = .ok (.aload_n 0, 1) := dk_42 (dk_at dksX4_account_4 1 rfl rfl)
theorem dX4_account_102 : decode cX4_account 102 = .ok (.getfield 7, 3) := dk_180 0 7 (dk_at dksX4_account_4 2 rfl rfl)
theorem dX4_account_105 : decode cX4_account 105 = .ok (.bipush 12, 2) := dk_16 12 (dk_at dksX4_account_4 5 rfl rfl)
theorem dX4_account_107 : decode cX4_account 107 = .ok (.iaload, 1) := dk_46 (dk_at dksX4_account_4 7 rfl rfl)
theorem dX4_account_108 : decode cX4_account 108 = .ok (.ireturn, 1) := dk_172 (dk_at dksX4_account_4 8 rfl rfl)
theorem dX4_account_109 : decode cX4_account 109 = .ok (.aload_n 0, 1) := dk_42 (dk_at dksX4_account_4 9 rfl rfl)
theorem dX4_account_110 : decode cX4_account 110 = .ok (.getfield 7, 3) := dk_180 0 7 (dk_at dksX4_account_4 10 rfl rfl)
theorem dX4_account_113 : decode cX4_account 113 = .ok (.bipush 14, 2) := dk_16 14 (dk_at dksX4_account_4 13 rfl rfl)
theorem dX4_account_115 : decode cX4_account 115 = .ok (.iaload, 1) := dk_46 (dk_at dksX4_account_4 15 rfl rfl)
theorem dX4_account_116 : decode cX4_account 116 = .ok (.ireturn, 1) := dk_172 (dk_at dksX4_account_4 16 rfl rfl)
theorem dX4_account_117 : decode cX4_account 117 = .ok (.aload_n 0, 1) := dk_42 (dk_at dksX4_account_4 17 rfl rfl)
theorem dX4_account_118 : decode cX4_account 118 = .ok (.getfield 7, 3) := dk_180 0 7 (dk_at dksX4_account_4 18 rfl rfl)
theorem dX4_account_121 : decode cX4_account 121 = .ok (.bipush 13, 2) := dk_16 13 (dk_at dksX4_account_4 21 rfl rfl)
theorem dX4_account_123 : decode cX4_account 123 = .ok (.iaload, 1) := dk_46 (dk_at dksX4_account_4 23 rfl rfl)
theorem dX4_account_124 : decode cX4_account 124 = .ok (.ireturn, 1) := dk_172 (dk_at dksX4_account_5 0 rfl rfl)
theorem dX4_account_125 : decode cX4_account 125 = .ok (.aload_n 0, 1) := dk_42 (dk_at dksX4_account_5 1 rfl rfl)
theorem dX4_account_126 : decode cX4_account 126 = .ok (.getfield 7, 3) := dk_180 0 7 (dk_at dksX4_account_5 2 rfl rfl)
theorem dX4_account_129 : decode cX4_account 129 = .ok (.bipush 11, 2) := dk_16 11 (dk_at dksX4_account_5 5 rfl rfl)
theorem dX4_account_131 : decode cX4_account 131 = .ok (.iaload, 1) := dk_46 (dk_at dksX4_account_5 7 rfl rfl)
theorem dX4_account_132 : decode cX4_account 132 = .ok (.ireturn, 1) := dk_172 (dk_at dksX4_account_5 8 rfl rfl)
abbrev cX4_cowsThat : ByteArray := prog_15_method_67_code
def yX4_cowsThat : MethodName := ⟨RX4, "cowsThat", "(I)I"⟩
def dkwX4_cowsThat_2 : List UInt8 := [167, 0, 4, 3, 96, 61, 132, 3, 1, 167, 255, 205, 28, 172]
abbrev dktX4_cowsThat_2 : List UInt8 := dkwX4_cowsThat_2 ++ []
def dkwX4_cowsThat_1 : List UInt8 := [182, 0, 83, 153, 0, 7, 4, 167, 0, 20, 3, 167, 0, 16, 42, 29, 182, 0, 80, 153, 0, 7, 4]
abbrev dktX4_cowsThat_1 : List UInt8 := dkwX4_cowsThat_1 ++ dktX4_cowsThat_2
def dkwX4_cowsThat_0 : List UInt8 := [3, 61, 3, 62, 29, 42, 180, 0, 7, 16, 7, 46, 162, 0, 46, 28, 27, 4, 160, 0, 19, 42, 29]
abbrev dktX4_cowsThat_0 : List UInt8 := dkwX4_cowsThat_0 ++ dktX4_cowsThat_1
theorem dksX4_cowsThat_0 : cX4_cowsThat.data.toList.drop 0 = dktX4_cowsThat_0 := by decide +kernel
theorem dksX4_cowsThat_1 : cX4_cowsThat.data.toList.drop 23 = dktX4_cowsThat_1 := dk_seg dksX4_cowsThat_0 23 rfl rfl
theorem dksX4_cowsThat_2 : cX4_cowsThat.data.toList.drop 46 = dktX4_cowsThat_2 := dk_seg dksX4_cowsThat_1 23 rfl rfl
theorem dX4_cowsThat_0 : decode cX4_cowsThat 0 = .ok (.iconst 0, 1) := dk_3 (dk_at dksX4_cowsThat_0 0 rfl rfl)
theorem dX4_cowsThat_1 : decode cX4_cowsThat 1 = .ok (.istore_n 2, 1) := dk_61 (dk_at dksX4_cowsThat_0 1 rfl rfl)
theorem dX4_cowsThat_2 : decode cX4_cowsThat 2 = .ok (.iconst 0, 1) := dk_3 (dk_at dksX4_cowsThat_0 2 rfl rfl)
theorem dX4_cowsThat_3 : decode cX4_cowsThat 3 = .ok (.istore_n 3, 1) := dk_62 (dk_at dksX4_cowsThat_0 3 rfl rfl)
theorem dX4_cowsThat_4 : decode cX4_cowsThat 4 = .ok (.iload_n 3, 1) := dk_29 (dk_at dksX4_cowsThat_0 4 rfl rfl)
theorem dX4_cowsThat_5 : decode cX4_cowsThat 5 = .ok (.aload_n 0, 1) := dk_42 (dk_at dksX4_cowsThat_0 5 rfl rfl)
theorem dX4_cowsThat_6 : decode cX4_cowsThat 6 = .ok (.getfield 7, 3) := dk_180 0 7 (dk_at dksX4_cowsThat_0 6 rfl rfl)
theorem dX4_cowsThat_9 : decode cX4_cowsThat 9 = .ok (.bipush 7, 2) := dk_16 7 (dk_at dksX4_cowsThat_0 9 rfl rfl)
theorem dX4_cowsThat_11 : decode cX4_cowsThat 11 = .ok (.iaload, 1) := dk_46 (dk_at dksX4_cowsThat_0 11 rfl rfl)
theorem dX4_cowsThat_12 : decode cX4_cowsThat 12 = .ok (.if_icmp .ge 46, 3) := dk_162 0 46 (dk_at dksX4_cowsThat_0 12 rfl rfl)
theorem dX4_cowsThat_15 : decode cX4_cowsThat 15 = .ok (.iload_n 2, 1) := dk_28 (dk_at dksX4_cowsThat_0 15 rfl rfl)
theorem dX4_cowsThat_16 : decode cX4_cowsThat 16 = .ok (.iload_n 1, 1) := dk_27 (dk_at dksX4_cowsThat_0 16 rfl rfl)
theorem dX4_cowsThat_17 : decode cX4_cowsThat 17 = .ok (.iconst 1, 1) := dk_4 (dk_at dksX4_cowsThat_0 17 rfl rfl)
theorem dX4_cowsThat_18 : decode cX4_cowsThat 18 = .ok (.if_icmp .ne 19, 3) := dk_160 0 19 (dk_at dksX4_cowsThat_0 18 rfl rfl)
theorem dX4_cowsThat_21 : decode cX4_cowsThat 21 = .ok (.aload_n 0, 1) := dk_42 (dk_at dksX4_cowsThat_0 21 rfl rfl)
theorem dX4_cowsThat_22 : decode cX4_cowsThat 22 = .ok (.iload_n 3, 1) := dk_29 (dk_at dksX4_cowsThat_0 22 rfl rfl)
theorem dX4_cowsThat_23 : decode cX4_cowsThat 23 = .ok (.invokevirtual 83, 3) := dk_182 0 83 (dk_at dksX4_cowsThat_1 0 rfl rfl)
theorem dX4_cowsThat_26 : decode cX4_cowsThat 26 = .ok (.ifCond .eq 7, 3) := dk_153 0 7 (dk_at dksX4_cowsThat_1 3 rfl rfl)
theorem dX4_cowsThat_29 : decode cX4_cowsThat 29 = .ok (.iconst 1, 1) := dk_4 (dk_at dksX4_cowsThat_1 6 rfl rfl)
theorem dX4_cowsThat_30 : decode cX4_cowsThat 30 = .ok (.goto 20, 3) := dk_167 0 20 (dk_at dksX4_cowsThat_1 7 rfl rfl)
theorem dX4_cowsThat_33 : decode cX4_cowsThat 33 = .ok (.iconst 0, 1) := dk_3 (dk_at dksX4_cowsThat_1 10 rfl rfl)
theorem dX4_cowsThat_34 : decode cX4_cowsThat 34 = .ok (.goto 16, 3) := dk_167 0 16 (dk_at dksX4_cowsThat_1 11 rfl rfl)
theorem dX4_cowsThat_37 : decode cX4_cowsThat 37 = .ok (.aload_n 0, 1) := dk_42 (dk_at dksX4_cowsThat_1 14 rfl rfl)
theorem dX4_cowsThat_38 : decode cX4_cowsThat 38 = .ok (.iload_n 3, 1) := dk_29 (dk_at dksX4_cowsThat_1 15 rfl rfl)
theorem dX4_cowsThat_39 : decode cX4_cowsThat 39 = .ok (.invokevirtual 80, 3) := dk_182 0 80 (dk_at dksX4_cowsThat_1 16 rfl rfl)
theorem dX4_cowsThat_42 : decode cX4_cowsThat 42 = .ok (.ifCond .eq 7, 3) := dk_153 0 7 (dk_at dksX4_cowsThat_1 19 rfl rfl)
theorem dX4_cowsThat_45 : decode cX4_cowsThat 45 = .ok (.iconst 1, 1) := dk_4 (dk_at dksX4_cowsThat_1 22 rfl rfl)
theorem dX4_cowsThat_46 : decode cX4_cowsThat 46 = .ok (.goto 4, 3) := dk_167 0 4 (dk_at dksX4_cowsThat_2 0 rfl rfl)
theorem dX4_cowsThat_49 : decode cX4_cowsThat 49 = .ok (.iconst 0, 1) := dk_3 (dk_at dksX4_cowsThat_2 3 rfl rfl)
theorem dX4_cowsThat_50 : decode cX4_cowsThat 50 = .ok (.iadd, 1) := dk_96 (dk_at dksX4_cowsThat_2 4 rfl rfl)
theorem dX4_cowsThat_51 : decode cX4_cowsThat 51 = .ok (.istore_n 2, 1) := dk_61 (dk_at dksX4_cowsThat_2 5 rfl rfl)
theorem dX4_cowsThat_52 : decode cX4_cowsThat 52 = .ok (.iinc 3 1, 3) := dk_132 3 1 (dk_at dksX4_cowsThat_2 6 rfl rfl)
theorem dX4_cowsThat_55 : decode cX4_cowsThat 55 = .ok (.goto (-51), 3) := dk_167 255 205 (dk_at dksX4_cowsThat_2 9 rfl rfl)
theorem dX4_cowsThat_58 : decode cX4_cowsThat 58 = .ok (.iload_n 2, 1) := dk_28 (dk_at dksX4_cowsThat_2 12 rfl rfl)
theorem dX4_cowsThat_59 : decode cX4_cowsThat 59 = .ok (.ireturn, 1) := dk_172 (dk_at dksX4_cowsThat_2 13 rfl rfl)
abbrev cX4_sums : ByteArray := prog_15_method_66_code
def yX4_sums : MethodName := ⟨RX4, "sums", "(I)I"⟩
def dkwX4_sums_1 : List UInt8 := [184, 0, 50, 46, 96, 61, 132, 3, 1, 167, 255, 229, 28, 172]
abbrev dktX4_sums_1 : List UInt8 := dkwX4_sums_1 ++ []
def dkwX4_sums_0 : List UInt8 := [3, 61, 3, 62, 29, 42, 180, 0, 7, 16, 7, 46, 162, 0, 22, 28, 42, 180, 0, 7, 29, 27]
abbrev dktX4_sums_0 : List UInt8 := dkwX4_sums_0 ++ dktX4_sums_1
theorem dksX4_sums_0 : cX4_sums.data.toList.drop 0 = dktX4_sums_0 := by decide +kernel
theorem dksX4_sums_1 : cX4_sums.data.toList.drop 22 = dktX4_sums_1 := dk_seg dksX4_sums_0 22 rfl rfl
theorem dX4_sums_0 : decode cX4_sums 0 = .ok (.iconst 0, 1) := dk_3 (dk_at dksX4_sums_0 0 rfl rfl)
theorem dX4_sums_1 : decode cX4_sums 1 = .ok (.istore_n 2, 1) := dk_61 (dk_at dksX4_sums_0 1 rfl rfl)
theorem dX4_sums_2 : decode cX4_sums 2 = .ok (.iconst 0, 1) := dk_3 (dk_at dksX4_sums_0 2 rfl rfl)
theorem dX4_sums_3 : decode cX4_sums 3 = .ok (.istore_n 3, 1) := dk_62 (dk_at dksX4_sums_0 3 rfl rfl)
theorem dX4_sums_4 : decode cX4_sums 4 = .ok (.iload_n 3, 1) := dk_29 (dk_at dksX4_sums_0 4 rfl rfl)
theorem dX4_sums_5 : decode cX4_sums 5 = .ok (.aload_n 0, 1) := dk_42 (dk_at dksX4_sums_0 5 rfl rfl)
theorem dX4_sums_6 : decode cX4_sums 6 = .ok (.getfield 7, 3) := dk_180 0 7 (dk_at dksX4_sums_0 6 rfl rfl)
theorem dX4_sums_9 : decode cX4_sums 9 = .ok (.bipush 7, 2) := dk_16 7 (dk_at dksX4_sums_0 9 rfl rfl)
theorem dX4_sums_11 : decode cX4_sums 11 = .ok (.iaload, 1) := dk_46 (dk_at dksX4_sums_0 11 rfl rfl)
theorem dX4_sums_12 : decode cX4_sums 12 = .ok (.if_icmp .ge 22, 3) := dk_162 0 22 (dk_at dksX4_sums_0 12 rfl rfl)
theorem dX4_sums_15 : decode cX4_sums 15 = .ok (.iload_n 2, 1) := dk_28 (dk_at dksX4_sums_0 15 rfl rfl)
theorem dX4_sums_16 : decode cX4_sums 16 = .ok (.aload_n 0, 1) := dk_42 (dk_at dksX4_sums_0 16 rfl rfl)
theorem dX4_sums_17 : decode cX4_sums 17 = .ok (.getfield 7, 3) := dk_180 0 7 (dk_at dksX4_sums_0 17 rfl rfl)
theorem dX4_sums_20 : decode cX4_sums 20 = .ok (.iload_n 3, 1) := dk_29 (dk_at dksX4_sums_0 20 rfl rfl)
theorem dX4_sums_21 : decode cX4_sums 21 = .ok (.iload_n 1, 1) := dk_27 (dk_at dksX4_sums_0 21 rfl rfl)
theorem dX4_sums_22 : decode cX4_sums 22 = .ok (.invokestatic 50, 3) := dk_184 0 50 (dk_at dksX4_sums_1 0 rfl rfl)
theorem dX4_sums_25 : decode cX4_sums 25 = .ok (.iaload, 1) := dk_46 (dk_at dksX4_sums_1 3 rfl rfl)
theorem dX4_sums_26 : decode cX4_sums 26 = .ok (.iadd, 1) := dk_96 (dk_at dksX4_sums_1 4 rfl rfl)
theorem dX4_sums_27 : decode cX4_sums 27 = .ok (.istore_n 2, 1) := dk_61 (dk_at dksX4_sums_1 5 rfl rfl)
theorem dX4_sums_28 : decode cX4_sums 28 = .ok (.iinc 3 1, 3) := dk_132 3 1 (dk_at dksX4_sums_1 6 rfl rfl)
theorem dX4_sums_31 : decode cX4_sums 31 = .ok (.goto (-27), 3) := dk_167 255 229 (dk_at dksX4_sums_1 9 rfl rfl)
theorem dX4_sums_34 : decode cX4_sums 34 = .ok (.iload_n 2, 1) := dk_28 (dk_at dksX4_sums_1 12 rfl rfl)
theorem dX4_sums_35 : decode cX4_sums 35 = .ok (.ireturn, 1) := dk_172 (dk_at dksX4_sums_1 13 rfl rfl)
abbrev cX4_bestCow : ByteArray := prog_15_method_69_code
def yX4_bestCow : MethodName := ⟨RX4, "bestCow", "()I"⟩
def dkwX4_bestCow_3 : List UInt8 := [167, 255, 211, 27, 172]
abbrev dktX4_bestCow_3 : List UInt8 := dkwX4_bestCow_3 ++ []
def dkwX4_bestCow_2 : List UInt8 := [180, 0, 7, 27, 16, 8, 184, 0, 50, 46, 164, 0, 7, 28, 167, 0, 4, 27, 60, 132, 2, 1]
abbrev dktX4_bestCow_2 : List UInt8 := dkwX4_bestCow_2 ++ dktX4_bestCow_3
def dkwX4_bestCow_1 : List UInt8 := [42, 180, 0, 7, 16, 7, 46, 162, 0, 40, 42, 180, 0, 7, 28, 16, 8, 184, 0, 50, 46, 42]
abbrev dktX4_bestCow_1 : List UInt8 := dkwX4_bestCow_1 ++ dktX4_bestCow_2
def dkwX4_bestCow_0 : List UInt8 := [42, 42, 180, 0, 7, 16, 7, 46, 154, 0, 7, 4, 167, 0, 4, 3, 181, 0, 39, 3, 60, 4, 61, 28]
abbrev dktX4_bestCow_0 : List UInt8 := dkwX4_bestCow_0 ++ dktX4_bestCow_1
theorem dksX4_bestCow_0 : cX4_bestCow.data.toList.drop 0 = dktX4_bestCow_0 := by decide +kernel
theorem dksX4_bestCow_1 : cX4_bestCow.data.toList.drop 24 = dktX4_bestCow_1 := dk_seg dksX4_bestCow_0 24 rfl rfl
theorem dksX4_bestCow_2 : cX4_bestCow.data.toList.drop 46 = dktX4_bestCow_2 := dk_seg dksX4_bestCow_1 22 rfl rfl
theorem dksX4_bestCow_3 : cX4_bestCow.data.toList.drop 68 = dktX4_bestCow_3 := dk_seg dksX4_bestCow_2 22 rfl rfl
theorem dX4_bestCow_0 : decode cX4_bestCow 0 = .ok (.aload_n 0, 1) := dk_42 (dk_at dksX4_bestCow_0 0 rfl rfl)
theorem dX4_bestCow_1 : decode cX4_bestCow 1 = .ok (.aload_n 0, 1) := dk_42 (dk_at dksX4_bestCow_0 1 rfl rfl)
theorem dX4_bestCow_2 : decode cX4_bestCow 2 = .ok (.getfield 7, 3) := dk_180 0 7 (dk_at dksX4_bestCow_0 2 rfl rfl)
theorem dX4_bestCow_5 : decode cX4_bestCow 5 = .ok (.bipush 7, 2) := dk_16 7 (dk_at dksX4_bestCow_0 5 rfl rfl)
theorem dX4_bestCow_7 : decode cX4_bestCow 7 = .ok (.iaload, 1) := dk_46 (dk_at dksX4_bestCow_0 7 rfl rfl)
theorem dX4_bestCow_8 : decode cX4_bestCow 8 = .ok (.ifCond .ne 7, 3) := dk_154 0 7 (dk_at dksX4_bestCow_0 8 rfl rfl)
theorem dX4_bestCow_11 : decode cX4_bestCow 11 = .ok (.iconst 1, 1) := dk_4 (dk_at dksX4_bestCow_0 11 rfl rfl)
theorem dX4_bestCow_12 : decode cX4_bestCow 12 = .ok (.goto 4, 3) := dk_167 0 4 (dk_at dksX4_bestCow_0 12 rfl rfl)
theorem dX4_bestCow_15 : decode cX4_bestCow 15 = .ok (.iconst 0, 1) := dk_3 (dk_at dksX4_bestCow_0 15 rfl rfl)
theorem dX4_bestCow_16 : decode cX4_bestCow 16 = .ok (.putfield 39, 3) := dk_181 0 39 (dk_at dksX4_bestCow_0 16 rfl rfl)
theorem dX4_bestCow_19 : decode cX4_bestCow 19 = .ok (.iconst 0, 1) := dk_3 (dk_at dksX4_bestCow_0 19 rfl rfl)
theorem dX4_bestCow_20 : decode cX4_bestCow 20 = .ok (.istore_n 1, 1) := dk_60 (dk_at dksX4_bestCow_0 20 rfl rfl)
theorem dX4_bestCow_21 : decode cX4_bestCow 21 = .ok (.iconst 1, 1) := dk_4 (dk_at dksX4_bestCow_0 21 rfl rfl)
theorem dX4_bestCow_22 : decode cX4_bestCow 22 = .ok (.istore_n 2, 1) := dk_61 (dk_at dksX4_bestCow_0 22 rfl rfl)
theorem dX4_bestCow_23 : decode cX4_bestCow 23 = .ok (.iload_n 2, 1) := dk_28 (dk_at dksX4_bestCow_0 23 rfl rfl)
theorem dX4_bestCow_24 : decode cX4_bestCow 24 = .ok (.aload_n 0, 1) := dk_42 (dk_at dksX4_bestCow_1 0 rfl rfl)
theorem dX4_bestCow_25 : decode cX4_bestCow 25 = .ok (.getfield 7, 3) := dk_180 0 7 (dk_at dksX4_bestCow_1 1 rfl rfl)
theorem dX4_bestCow_28 : decode cX4_bestCow 28 = .ok (.bipush 7, 2) := dk_16 7 (dk_at dksX4_bestCow_1 4 rfl rfl)
theorem dX4_bestCow_30 : decode cX4_bestCow 30 = .ok (.iaload, 1) := dk_46 (dk_at dksX4_bestCow_1 6 rfl rfl)
theorem dX4_bestCow_31 : decode cX4_bestCow 31 = .ok (.if_icmp .ge 40, 3) := dk_162 0 40 (dk_at dksX4_bestCow_1 7 rfl rfl)
theorem dX4_bestCow_34 : decode cX4_bestCow 34 = .ok (.aload_n 0, 1) := dk_42 (dk_at dksX4_bestCow_1 10 rfl rfl)
theorem dX4_bestCow_35 : decode cX4_bestCow 35 = .ok (.getfield 7, 3) := dk_180 0 7 (dk_at dksX4_bestCow_1 11 rfl rfl)
theorem dX4_bestCow_38 : decode cX4_bestCow 38 = .ok (.iload_n 2, 1) := dk_28 (dk_at dksX4_bestCow_1 14 rfl rfl)
theorem dX4_bestCow_39 : decode cX4_bestCow 39 = .ok (.bipush 8, 2) := dk_16 8 (dk_at dksX4_bestCow_1 15 rfl rfl)
theorem dX4_bestCow_41 : decode cX4_bestCow 41 = .ok (.invokestatic 50, 3) := dk_184 0 50 (dk_at dksX4_bestCow_1 17 rfl rfl)
theorem dX4_bestCow_44 : decode cX4_bestCow 44 = .ok (.iaload, 1) := dk_46 (dk_at dksX4_bestCow_1 20 rfl rfl)
theorem dX4_bestCow_45 : decode cX4_bestCow 45 = .ok (.aload_n 0, 1) := dk_42 (dk_at dksX4_bestCow_1 21 rfl rfl)
theorem dX4_bestCow_46 : decode cX4_bestCow 46 = .ok (.getfield 7, 3) := dk_180 0 7 (dk_at dksX4_bestCow_2 0 rfl rfl)
theorem dX4_bestCow_49 : decode cX4_bestCow 49 = .ok (.iload_n 1, 1) := dk_27 (dk_at dksX4_bestCow_2 3 rfl rfl)
theorem dX4_bestCow_50 : decode cX4_bestCow 50 = .ok (.bipush 8, 2) := dk_16 8 (dk_at dksX4_bestCow_2 4 rfl rfl)
theorem dX4_bestCow_52 : decode cX4_bestCow 52 = .ok (.invokestatic 50, 3) := dk_184 0 50 (dk_at dksX4_bestCow_2 6 rfl rfl)
theorem dX4_bestCow_55 : decode cX4_bestCow 55 = .ok (.iaload, 1) := dk_46 (dk_at dksX4_bestCow_2 9 rfl rfl)
theorem dX4_bestCow_56 : decode cX4_bestCow 56 = .ok (.if_icmp .le 7, 3) := dk_164 0 7 (dk_at dksX4_bestCow_2 10 rfl rfl)
theorem dX4_bestCow_59 : decode cX4_bestCow 59 = .ok (.iload_n 2, 1) := dk_28 (dk_at dksX4_bestCow_2 13 rfl rfl)
theorem dX4_bestCow_60 : decode cX4_bestCow 60 = .ok (.goto 4, 3) := dk_167 0 4 (dk_at dksX4_bestCow_2 14 rfl rfl)
theorem dX4_bestCow_63 : decode cX4_bestCow 63 = .ok (.iload_n 1, 1) := dk_27 (dk_at dksX4_bestCow_2 17 rfl rfl)
theorem dX4_bestCow_64 : decode cX4_bestCow 64 = .ok (.istore_n 1, 1) := dk_60 (dk_at dksX4_bestCow_2 18 rfl rfl)
theorem dX4_bestCow_65 : decode cX4_bestCow 65 = .ok (.iinc 2 1, 3) := dk_132 2 1 (dk_at dksX4_bestCow_2 19 rfl rfl)
theorem dX4_bestCow_68 : decode cX4_bestCow 68 = .ok (.goto (-45), 3) := dk_167 255 211 (dk_at dksX4_bestCow_3 0 rfl rfl)
theorem dX4_bestCow_71 : decode cX4_bestCow 71 = .ok (.iload_n 1, 1) := dk_27 (dk_at dksX4_bestCow_3 3 rfl rfl)
theorem dX4_bestCow_72 : decode cX4_bestCow 72 = .ok (.ireturn, 1) := dk_172 (dk_at dksX4_bestCow_3 4 rfl rfl)
abbrev cX4_share : ByteArray := prog_15_method_70_code
def yX4_share : MethodName := ⟨RX4, "share", "()D"⟩
def dkwX4_share_1 : List UInt8 := [14, 167, 0, 13, 42, 16, 9, 182, 0, 222, 135, 27, 135, 111, 175]
abbrev dktX4_share_1 : List UInt8 := dkwX4_share_1 ++ []
def dkwX4_share_0 : List UInt8 := [42, 16, 8, 182, 0, 222, 60, 42, 27, 154, 0, 7, 4, 167, 0, 4, 3, 181, 0, 39, 27, 154, 0, 7]
abbrev dktX4_share_0 : List UInt8 := dkwX4_share_0 ++ dktX4_share_1
theorem dksX4_share_0 : cX4_share.data.toList.drop 0 = dktX4_share_0 := by decide +kernel
theorem dksX4_share_1 : cX4_share.data.toList.drop 24 = dktX4_share_1 := dk_seg dksX4_share_0 24 rfl rfl
theorem dX4_share_0 : decode cX4_share 0 = .ok (.aload_n 0, 1) := dk_42 (dk_at dksX4_share_0 0 rfl rfl)
theorem dX4_share_1 : decode cX4_share 1 = .ok (.bipush 8, 2) := dk_16 8 (dk_at dksX4_share_0 1 rfl rfl)
theorem dX4_share_3 : decode cX4_share 3 = .ok (.invokevirtual 222, 3) := dk_182 0 222 (dk_at dksX4_share_0 3 rfl rfl)
theorem dX4_share_6 : decode cX4_share 6 = .ok (.istore_n 1, 1) := dk_60 (dk_at dksX4_share_0 6 rfl rfl)
theorem dX4_share_7 : decode cX4_share 7 = .ok (.aload_n 0, 1) := dk_42 (dk_at dksX4_share_0 7 rfl rfl)
theorem dX4_share_8 : decode cX4_share 8 = .ok (.iload_n 1, 1) := dk_27 (dk_at dksX4_share_0 8 rfl rfl)
theorem dX4_share_9 : decode cX4_share 9 = .ok (.ifCond .ne 7, 3) := dk_154 0 7 (dk_at dksX4_share_0 9 rfl rfl)
theorem dX4_share_12 : decode cX4_share 12 = .ok (.iconst 1, 1) := dk_4 (dk_at dksX4_share_0 12 rfl rfl)
theorem dX4_share_13 : decode cX4_share 13 = .ok (.goto 4, 3) := dk_167 0 4 (dk_at dksX4_share_0 13 rfl rfl)
theorem dX4_share_16 : decode cX4_share 16 = .ok (.iconst 0, 1) := dk_3 (dk_at dksX4_share_0 16 rfl rfl)
theorem dX4_share_17 : decode cX4_share 17 = .ok (.putfield 39, 3) := dk_181 0 39 (dk_at dksX4_share_0 17 rfl rfl)
theorem dX4_share_20 : decode cX4_share 20 = .ok (.iload_n 1, 1) := dk_27 (dk_at dksX4_share_0 20 rfl rfl)
theorem dX4_share_21 : decode cX4_share 21 = .ok (.ifCond .ne 7, 3) := dk_154 0 7 (dk_at dksX4_share_0 21 rfl rfl)
theorem dX4_share_24 : decode cX4_share 24 = .ok (.dconst 0, 1) := dk_14 (dk_at dksX4_share_1 0 rfl rfl)
theorem dX4_share_25 : decode cX4_share 25 = .ok (.goto 13, 3) := dk_167 0 13 (dk_at dksX4_share_1 1 rfl rfl)
theorem dX4_share_28 : decode cX4_share 28 = .ok (.aload_n 0, 1) := dk_42 (dk_at dksX4_share_1 4 rfl rfl)
theorem dX4_share_29 : decode cX4_share 29 = .ok (.bipush 9, 2) := dk_16 9 (dk_at dksX4_share_1 5 rfl rfl)
theorem dX4_share_31 : decode cX4_share 31 = .ok (.invokevirtual 222, 3) := dk_182 0 222 (dk_at dksX4_share_1 7 rfl rfl)
theorem dX4_share_34 : decode cX4_share 34 = .ok (.i2d, 1) := dk_135 (dk_at dksX4_share_1 10 rfl rfl)
theorem dX4_share_35 : decode cX4_share 35 = .ok (.iload_n 1, 1) := dk_27 (dk_at dksX4_share_1 11 rfl rfl)
theorem dX4_share_36 : decode cX4_share 36 = .ok (.i2d, 1) := dk_135 (dk_at dksX4_share_1 12 rfl rfl)
theorem dX4_share_37 : decode cX4_share 37 = .ok (.ddiv, 1) := dk_111 (dk_at dksX4_share_1 13 rfl rfl)
theorem dX4_share_38 : decode cX4_share 38 = .ok (.dreturn, 1) := dk_175 (dk_at dksX4_share_1 14 rfl rfl)
theorem q73 : (Jvm.Cond.initialized "DairyBookModel") ∈ lw_all := lw_g (lw_at lw_m1 12 rfl) rfl
theorem q515 : (Jvm.Cond.selects "DairyBookModel" ({ cls := "java/lang/Object", name := "getClass", desc := "()Ljava/lang/Class;" } : Jvm.MethodName) ({ cls := "java/lang/Object", name := "getClass", desc := "()Ljava/lang/Class;" } : Jvm.MethodName)) ∈ lw_all := lw_g (lw_at lw_m2 214 rfl) rfl
theorem q1800 : (Jvm.Cond.instantiable "DairyBookModel" (16 : Nat)) ∈ lw_all := lw_g (lw_at lw_m8 59 rfl) rfl
theorem q1802 : (Jvm.Cond.instanceMethod ({ cls := "DairyBookModel", name := "<init>", desc := "()V" } : Jvm.MethodName)) ∈ lw_all := lw_g (lw_at lw_m8 61 rfl) rfl
theorem q1803 : (Jvm.Cond.code ({ cls := "DairyBookModel", name := "<init>", desc := "()V" } : Jvm.MethodName) prog_15_method_1_code (1 : Nat) (Option.none : Option Jvm.ClassFile.FieldType)) ∈ lw_all := lw_g (lw_at lw_m8 62 rfl) rfl
theorem q1804 : (Jvm.Cond.methodLink "DairyBookModel" (1 : Nat) ({ cls := "java/lang/Object", name := "<init>", desc := "()V" } : Jvm.MethodName)) ∈ lw_all := lw_g (lw_at lw_m8 63 rfl) rfl
theorem q1805 : (Jvm.Cond.classLink "DairyBookModel" (22 : Nat) "java/lang/StringBuilder") ∈ lw_all := lw_g (lw_at lw_m8 64 rfl) rfl
theorem q1806 : (Jvm.Cond.methodLink "DairyBookModel" (24 : Nat) ({ cls := "java/lang/StringBuilder", name := "<init>", desc := "()V" } : Jvm.MethodName)) ∈ lw_all := lw_g (lw_at lw_m8 65 rfl) rfl
theorem q1807 : (Jvm.Cond.fieldLink "DairyBookModel" (7 : Nat) "DairyBookModel" "g" "[I") ∈ lw_all := lw_g (lw_at lw_m8 66 rfl) rfl
theorem q1808 : (Jvm.Cond.fieldLink "DairyBookModel" (13 : Nat) "DairyBookModel" "kept" "[I") ∈ lw_all := lw_g (lw_at lw_m8 67 rfl) rfl
theorem q1809 : (Jvm.Cond.fieldLink "DairyBookModel" (16 : Nat) "DairyBookModel" "spare" "[I") ∈ lw_all := lw_g (lw_at lw_m8 68 rfl) rfl
theorem q1810 : (Jvm.Cond.fieldLink "DairyBookModel" (61 : Nat) "DairyBookModel" "hasKept" "Z") ∈ lw_all := lw_g (lw_at lw_m8 69 rfl) rfl
theorem q1811 : (Jvm.Cond.fieldLink "DairyBookModel" (19 : Nat) "DairyBookModel" "past" "[I") ∈ lw_all := lw_g (lw_at lw_m8 70 rfl) rfl
theorem q1812 : (Jvm.Cond.fieldLink "DairyBookModel" (54 : Nat) "DairyBookModel" "pasts" "I") ∈ lw_all := lw_g (lw_at lw_m8 71 rfl) rfl
theorem q1813 : (Jvm.Cond.fieldLink "DairyBookModel" (100 : Nat) "DairyBookModel" "reason" "I") ∈ lw_all := lw_g (lw_at lw_m8 72 rfl) rfl
theorem q1814 : (Jvm.Cond.fieldLink "DairyBookModel" (39 : Nat) "DairyBookModel" "thrown" "I") ∈ lw_all := lw_g (lw_at lw_m8 73 rfl) rfl
theorem q1815 : (Jvm.Cond.fieldLink "DairyBookModel" (25 : Nat) "DairyBookModel" "paper" "Ljava/lang/StringBuilder;") ∈ lw_all := lw_g (lw_at lw_m8 74 rfl) rfl
theorem q1816 : (Jvm.Cond.fieldLink "DairyBookModel" (29 : Nat) "DairyBookModel" "text" "[I") ∈ lw_all := lw_g (lw_at lw_m8 75 rfl) rfl
theorem q1817 : (Jvm.Cond.fieldLink "DairyBookModel" (167 : Nat) "DairyBookModel" "length" "I") ∈ lw_all := lw_g (lw_at lw_m8 76 rfl) rfl
theorem q1818 : (Jvm.Cond.fieldLink "DairyBookModel" (169 : Nat) "DairyBookModel" "spot" "I") ∈ lw_all := lw_g (lw_at lw_m8 77 rfl) rfl
theorem q1819 : (Jvm.Cond.fieldLink "DairyBookModel" (198 : Nat) "DairyBookModel" "number" "I") ∈ lw_all := lw_g (lw_at lw_m8 78 rfl) rfl
theorem q1820 : (Jvm.Cond.fieldLink "DairyBookModel" (32 : Nat) "DairyBookModel" "wrong" "I") ∈ lw_all := lw_g (lw_at lw_m8 79 rfl) rfl
theorem q1821 : (Jvm.Cond.fieldLink "DairyBookModel" (36 : Nat) "DairyBookModel" "told" "[I") ∈ lw_all := lw_g (lw_at lw_m8 80 rfl) rfl
theorem q1822 : (Jvm.Cond.fieldLink "DairyBookModel" (201 : Nat) "DairyBookModel" "tolds" "I") ∈ lw_all := lw_g (lw_at lw_m8 81 rfl) rfl
theorem q1823 : (Jvm.Cond.laysFinal "DairyBookModel" "DairyBookModel" "g" "[I") ∈ lw_all := lw_g (lw_at lw_m8 82 rfl) rfl
theorem q1824 : (Jvm.Cond.soleField "DairyBookModel" "g") ∈ lw_all := lw_g (lw_at lw_m8 83 rfl) rfl
theorem q1825 : (Jvm.Cond.laysFinal "DairyBookModel" "DairyBookModel" "kept" "[I") ∈ lw_all := lw_g (lw_at lw_m8 84 rfl) rfl
theorem q1826 : (Jvm.Cond.soleField "DairyBookModel" "kept") ∈ lw_all := lw_g (lw_at lw_m8 85 rfl) rfl
theorem q1827 : (Jvm.Cond.laysFinal "DairyBookModel" "DairyBookModel" "spare" "[I") ∈ lw_all := lw_g (lw_at lw_m8 86 rfl) rfl
theorem q1828 : (Jvm.Cond.soleField "DairyBookModel" "spare") ∈ lw_all := lw_g (lw_at lw_m8 87 rfl) rfl
theorem q1829 : (Jvm.Cond.lays "DairyBookModel" "DairyBookModel" "hasKept" "Z") ∈ lw_all := lw_g (lw_at lw_m8 88 rfl) rfl
theorem q1830 : (Jvm.Cond.soleField "DairyBookModel" "hasKept") ∈ lw_all := lw_g (lw_at lw_m8 89 rfl) rfl
theorem q1831 : (Jvm.Cond.laysFinal "DairyBookModel" "DairyBookModel" "past" "[I") ∈ lw_all := lw_g (lw_at lw_m8 90 rfl) rfl
theorem q1832 : (Jvm.Cond.soleField "DairyBookModel" "past") ∈ lw_all := lw_g (lw_at lw_m8 91 rfl) rfl
theorem q1833 : (Jvm.Cond.lays "DairyBookModel" "DairyBookModel" "pasts" "I") ∈ lw_all := lw_g (lw_at lw_m8 92 rfl) rfl
theorem q1834 : (Jvm.Cond.soleField "DairyBookModel" "pasts") ∈ lw_all := lw_g (lw_at lw_m8 93 rfl) rfl
theorem q1835 : (Jvm.Cond.lays "DairyBookModel" "DairyBookModel" "reason" "I") ∈ lw_all := lw_g (lw_at lw_m8 94 rfl) rfl
theorem q1836 : (Jvm.Cond.soleField "DairyBookModel" "reason") ∈ lw_all := lw_g (lw_at lw_m8 95 rfl) rfl
theorem q1837 : (Jvm.Cond.lays "DairyBookModel" "DairyBookModel" "thrown" "I") ∈ lw_all := lw_g (lw_at lw_m8 96 rfl) rfl
theorem q1838 : (Jvm.Cond.soleField "DairyBookModel" "thrown") ∈ lw_all := lw_g (lw_at lw_m8 97 rfl) rfl
theorem q1839 : (Jvm.Cond.laysFinal "DairyBookModel" "DairyBookModel" "paper" "Ljava/lang/StringBuilder;") ∈ lw_all := lw_g (lw_at lw_m8 98 rfl) rfl
theorem q1840 : (Jvm.Cond.soleField "DairyBookModel" "paper") ∈ lw_all := lw_g (lw_at lw_m8 99 rfl) rfl
theorem q1841 : (Jvm.Cond.laysFinal "DairyBookModel" "DairyBookModel" "text" "[I") ∈ lw_all := lw_g (lw_at lw_m8 100 rfl) rfl
theorem q1842 : (Jvm.Cond.soleField "DairyBookModel" "text") ∈ lw_all := lw_g (lw_at lw_m8 101 rfl) rfl
theorem q1843 : (Jvm.Cond.lays "DairyBookModel" "DairyBookModel" "length" "I") ∈ lw_all := lw_g (lw_at lw_m8 102 rfl) rfl
theorem q1844 : (Jvm.Cond.soleField "DairyBookModel" "length") ∈ lw_all := lw_g (lw_at lw_m8 103 rfl) rfl
theorem q1845 : (Jvm.Cond.lays "DairyBookModel" "DairyBookModel" "spot" "I") ∈ lw_all := lw_g (lw_at lw_m8 104 rfl) rfl
theorem q1846 : (Jvm.Cond.soleField "DairyBookModel" "spot") ∈ lw_all := lw_g (lw_at lw_m8 105 rfl) rfl
theorem q1847 : (Jvm.Cond.lays "DairyBookModel" "DairyBookModel" "number" "I") ∈ lw_all := lw_g (lw_at lw_m8 106 rfl) rfl
theorem q1848 : (Jvm.Cond.soleField "DairyBookModel" "number") ∈ lw_all := lw_g (lw_at lw_m8 107 rfl) rfl
theorem q1849 : (Jvm.Cond.lays "DairyBookModel" "DairyBookModel" "wrong" "I") ∈ lw_all := lw_g (lw_at lw_m8 108 rfl) rfl
theorem q1850 : (Jvm.Cond.soleField "DairyBookModel" "wrong") ∈ lw_all := lw_g (lw_at lw_m8 109 rfl) rfl
theorem q1851 : (Jvm.Cond.laysFinal "DairyBookModel" "DairyBookModel" "told" "[I") ∈ lw_all := lw_g (lw_at lw_m8 110 rfl) rfl
theorem q1852 : (Jvm.Cond.soleField "DairyBookModel" "told") ∈ lw_all := lw_g (lw_at lw_m8 111 rfl) rfl
theorem q1853 : (Jvm.Cond.lays "DairyBookModel" "DairyBookModel" "tolds" "I") ∈ lw_all := lw_g (lw_at lw_m8 112 rfl) rfl
theorem q1854 : (Jvm.Cond.soleField "DairyBookModel" "tolds") ∈ lw_all := lw_g (lw_at lw_m8 113 rfl) rfl
theorem q1855 : (Jvm.Cond.superclass "DairyBookModel" "java/lang/Object") ∈ lw_all := lw_g (lw_at lw_m8 114 rfl) rfl
theorem q1857 : (Jvm.Cond.instanceMethod ({ cls := "DairyBookModel", name := "thrown", desc := "()I" } : Jvm.MethodName)) ∈ lw_all := lw_g (lw_at lw_m8 116 rfl) rfl
theorem q1858 : (Jvm.Cond.selects "DairyBookModel" ({ cls := "DairyBookModel", name := "thrown", desc := "()I" } : Jvm.MethodName) ({ cls := "DairyBookModel", name := "thrown", desc := "()I" } : Jvm.MethodName)) ∈ lw_all := lw_g (lw_at lw_m8 117 rfl) rfl
theorem q1859 : (Jvm.Cond.code ({ cls := "DairyBookModel", name := "thrown", desc := "()I" } : Jvm.MethodName) prog_15_method_2_code (1 : Nat) (Option.some Jvm.ClassFile.FieldType.int)) ∈ lw_all := lw_g (lw_at lw_m8 118 rfl) rfl
theorem q1861 : (Jvm.Cond.instanceMethod ({ cls := "DairyBookModel", name := "undo", desc := "()I" } : Jvm.MethodName)) ∈ lw_all := lw_g (lw_at lw_m8 120 rfl) rfl
theorem q1862 : (Jvm.Cond.selects "DairyBookModel" ({ cls := "DairyBookModel", name := "undo", desc := "()I" } : Jvm.MethodName) ({ cls := "DairyBookModel", name := "undo", desc := "()I" } : Jvm.MethodName)) ∈ lw_all := lw_g (lw_at lw_m8 121 rfl) rfl
theorem q1863 : (Jvm.Cond.code ({ cls := "DairyBookModel", name := "undo", desc := "()I" } : Jvm.MethodName) prog_15_method_12_code (1 : Nat) (Option.some Jvm.ClassFile.FieldType.int)) ∈ lw_all := lw_g (lw_at lw_m8 122 rfl) rfl
theorem q1864 : (Jvm.Cond.methodLink "DairyBookModel" (57 : Nat) ({ cls := "DairyBookModel", name := "copies", desc := "([II[II)V" } : Jvm.MethodName)) ∈ lw_all := lw_g (lw_at lw_m8 123 rfl) rfl
theorem q1865 : (Jvm.Cond.static ({ cls := "DairyBookModel", name := "copies", desc := "([II[II)V" } : Jvm.MethodName)) ∈ lw_all := lw_g (lw_at lw_m8 124 rfl) rfl
theorem q1866 : (Jvm.Cond.code ({ cls := "DairyBookModel", name := "copies", desc := "([II[II)V" } : Jvm.MethodName) prog_15_method_10_code (5 : Nat) (Option.none : Option Jvm.ClassFile.FieldType)) ∈ lw_all := lw_g (lw_at lw_m8 125 rfl) rfl
theorem q1868 : (Jvm.Cond.instanceMethod ({ cls := "DairyBookModel", name := "save", desc := "()V" } : Jvm.MethodName)) ∈ lw_all := lw_g (lw_at lw_m8 127 rfl) rfl
theorem q1869 : (Jvm.Cond.selects "DairyBookModel" ({ cls := "DairyBookModel", name := "save", desc := "()V" } : Jvm.MethodName) ({ cls := "DairyBookModel", name := "save", desc := "()V" } : Jvm.MethodName)) ∈ lw_all := lw_g (lw_at lw_m8 128 rfl) rfl
theorem q1870 : (Jvm.Cond.code ({ cls := "DairyBookModel", name := "save", desc := "()V" } : Jvm.MethodName) prog_15_method_13_code (1 : Nat) (Option.none : Option Jvm.ClassFile.FieldType)) ∈ lw_all := lw_g (lw_at lw_m8 129 rfl) rfl
theorem q1872 : (Jvm.Cond.instanceMethod ({ cls := "DairyBookModel", name := "restore", desc := "()V" } : Jvm.MethodName)) ∈ lw_all := lw_g (lw_at lw_m8 131 rfl) rfl
theorem q1873 : (Jvm.Cond.selects "DairyBookModel" ({ cls := "DairyBookModel", name := "restore", desc := "()V" } : Jvm.MethodName) ({ cls := "DairyBookModel", name := "restore", desc := "()V" } : Jvm.MethodName)) ∈ lw_all := lw_g (lw_at lw_m8 132 rfl) rfl
theorem q1874 : (Jvm.Cond.code ({ cls := "DairyBookModel", name := "restore", desc := "()V" } : Jvm.MethodName) prog_15_method_14_code (1 : Nat) (Option.none : Option Jvm.ClassFile.FieldType)) ∈ lw_all := lw_g (lw_at lw_m8 133 rfl) rfl
theorem q1876 : (Jvm.Cond.instanceMethod ({ cls := "DairyBookModel", name := "addCow", desc := "(III)I" } : Jvm.MethodName)) ∈ lw_all := lw_g (lw_at lw_m8 135 rfl) rfl
theorem q1877 : (Jvm.Cond.selects "DairyBookModel" ({ cls := "DairyBookModel", name := "addCow", desc := "(III)I" } : Jvm.MethodName) ({ cls := "DairyBookModel", name := "addCow", desc := "(III)I" } : Jvm.MethodName)) ∈ lw_all := lw_g (lw_at lw_m8 136 rfl) rfl
theorem q1878 : (Jvm.Cond.code ({ cls := "DairyBookModel", name := "addCow", desc := "(III)I" } : Jvm.MethodName) prog_15_method_15_code (6 : Nat) (Option.some Jvm.ClassFile.FieldType.int)) ∈ lw_all := lw_g (lw_at lw_m8 137 rfl) rfl
theorem q1879 : (Jvm.Cond.methodLink "DairyBookModel" (42 : Nat) ({ cls := "DairyBookModel", name := "in", desc := "(III)Z" } : Jvm.MethodName)) ∈ lw_all := lw_g (lw_at lw_m8 138 rfl) rfl
theorem q1880 : (Jvm.Cond.static ({ cls := "DairyBookModel", name := "in", desc := "(III)Z" } : Jvm.MethodName)) ∈ lw_all := lw_g (lw_at lw_m8 139 rfl) rfl
theorem q1881 : (Jvm.Cond.code ({ cls := "DairyBookModel", name := "in", desc := "(III)Z" } : Jvm.MethodName) prog_15_method_4_code (3 : Nat) (Option.some Jvm.ClassFile.FieldType.boolean)) ∈ lw_all := lw_g (lw_at lw_m8 140 rfl) rfl
theorem q1882 : (Jvm.Cond.methodLink "DairyBookModel" (65 : Nat) ({ cls := "DairyBookModel", name := "changes", desc := "([I)V" } : Jvm.MethodName)) ∈ lw_all := lw_g (lw_at lw_m8 141 rfl) rfl
theorem q1883 : (Jvm.Cond.privateMethod ({ cls := "DairyBookModel", name := "changes", desc := "([I)V" } : Jvm.MethodName)) ∈ lw_tbl := lw_at lw_m8 142 rfl
theorem q1884 : (Jvm.Cond.instanceMethod ({ cls := "DairyBookModel", name := "changes", desc := "([I)V" } : Jvm.MethodName)) ∈ lw_all := lw_g (lw_at lw_m8 143 rfl) rfl
theorem q1885 : (Jvm.Cond.code ({ cls := "DairyBookModel", name := "changes", desc := "([I)V" } : Jvm.MethodName) prog_15_method_11_code (3 : Nat) (Option.none : Option Jvm.ClassFile.FieldType)) ∈ lw_all := lw_g (lw_at lw_m8 144 rfl) rfl
theorem q1886 : (Jvm.Cond.methodLink "DairyBookModel" (50 : Nat) ({ cls := "DairyBookModel", name := "at", desc := "(II)I" } : Jvm.MethodName)) ∈ lw_all := lw_g (lw_at lw_m8 145 rfl) rfl
theorem q1887 : (Jvm.Cond.static ({ cls := "DairyBookModel", name := "at", desc := "(II)I" } : Jvm.MethodName)) ∈ lw_all := lw_g (lw_at lw_m8 146 rfl) rfl
theorem q1888 : (Jvm.Cond.code ({ cls := "DairyBookModel", name := "at", desc := "(II)I" } : Jvm.MethodName) prog_15_method_5_code (2 : Nat) (Option.some Jvm.ClassFile.FieldType.int)) ∈ lw_all := lw_g (lw_at lw_m8 147 rfl) rfl
theorem q1890 : (Jvm.Cond.instanceMethod ({ cls := "DairyBookModel", name := "set", desc := "(II)I" } : Jvm.MethodName)) ∈ lw_all := lw_g (lw_at lw_m8 149 rfl) rfl
theorem q1891 : (Jvm.Cond.selects "DairyBookModel" ({ cls := "DairyBookModel", name := "set", desc := "(II)I" } : Jvm.MethodName) ({ cls := "DairyBookModel", name := "set", desc := "(II)I" } : Jvm.MethodName)) ∈ lw_all := lw_g (lw_at lw_m8 150 rfl) rfl
theorem q1892 : (Jvm.Cond.code ({ cls := "DairyBookModel", name := "set", desc := "(II)I" } : Jvm.MethodName) prog_15_method_17_code (4 : Nat) (Option.some Jvm.ClassFile.FieldType.int)) ∈ lw_all := lw_g (lw_at lw_m8 151 rfl) rfl
theorem q1893 : (Jvm.Cond.methodLink "DairyBookModel" (69 : Nat) ({ cls := "DairyBookModel", name := "maySet", desc := "(II)Z" } : Jvm.MethodName)) ∈ lw_all := lw_g (lw_at lw_m8 152 rfl) rfl
theorem q1894 : (Jvm.Cond.static ({ cls := "DairyBookModel", name := "maySet", desc := "(II)Z" } : Jvm.MethodName)) ∈ lw_all := lw_g (lw_at lw_m8 153 rfl) rfl
theorem q1895 : (Jvm.Cond.code ({ cls := "DairyBookModel", name := "maySet", desc := "(II)Z" } : Jvm.MethodName) prog_15_method_16_code (2 : Nat) (Option.some Jvm.ClassFile.FieldType.boolean)) ∈ lw_all := lw_g (lw_at lw_m8 154 rfl) rfl
theorem q1897 : (Jvm.Cond.instanceMethod ({ cls := "DairyBookModel", name := "setting", desc := "(I)I" } : Jvm.MethodName)) ∈ lw_all := lw_g (lw_at lw_m8 156 rfl) rfl
theorem q1898 : (Jvm.Cond.selects "DairyBookModel" ({ cls := "DairyBookModel", name := "setting", desc := "(I)I" } : Jvm.MethodName) ({ cls := "DairyBookModel", name := "setting", desc := "(I)I" } : Jvm.MethodName)) ∈ lw_all := lw_g (lw_at lw_m8 157 rfl) rfl
theorem q1899 : (Jvm.Cond.code ({ cls := "DairyBookModel", name := "setting", desc := "(I)I" } : Jvm.MethodName) prog_15_method_18_code (2 : Nat) (Option.some Jvm.ClassFile.FieldType.int)) ∈ lw_all := lw_g (lw_at lw_m8 158 rfl) rfl
theorem q1901 : (Jvm.Cond.instanceMethod ({ cls := "DairyBookModel", name := "hold", desc := "(II)I" } : Jvm.MethodName)) ∈ lw_all := lw_g (lw_at lw_m8 160 rfl) rfl
theorem q1902 : (Jvm.Cond.selects "DairyBookModel" ({ cls := "DairyBookModel", name := "hold", desc := "(II)I" } : Jvm.MethodName) ({ cls := "DairyBookModel", name := "hold", desc := "(II)I" } : Jvm.MethodName)) ∈ lw_all := lw_g (lw_at lw_m8 161 rfl) rfl
theorem q1903 : (Jvm.Cond.code ({ cls := "DairyBookModel", name := "hold", desc := "(II)I" } : Jvm.MethodName) prog_15_method_26_code (3 : Nat) (Option.some Jvm.ClassFile.FieldType.int)) ∈ lw_all := lw_g (lw_at lw_m8 162 rfl) rfl
theorem q1904 : (Jvm.Cond.methodLink "DairyBookModel" (109 : Nat) ({ cls := "DairyBookModel", name := "orders", desc := "(III)I" } : Jvm.MethodName)) ∈ lw_all := lw_g (lw_at lw_m8 163 rfl) rfl
theorem q1905 : (Jvm.Cond.privateMethod ({ cls := "DairyBookModel", name := "orders", desc := "(III)I" } : Jvm.MethodName)) ∈ lw_tbl := lw_at lw_m8 164 rfl
theorem q1906 : (Jvm.Cond.instanceMethod ({ cls := "DairyBookModel", name := "orders", desc := "(III)I" } : Jvm.MethodName)) ∈ lw_all := lw_g (lw_at lw_m8 165 rfl) rfl
theorem q1907 : (Jvm.Cond.code ({ cls := "DairyBookModel", name := "orders", desc := "(III)I" } : Jvm.MethodName) prog_15_method_25_code (5 : Nat) (Option.some Jvm.ClassFile.FieldType.int)) ∈ lw_all := lw_g (lw_at lw_m8 166 rfl) rfl
theorem q1908 : (Jvm.Cond.methodLink "DairyBookModel" (96 : Nat) ({ cls := "DairyBookModel", name := "against", desc := "(III)I" } : Jvm.MethodName)) ∈ lw_all := lw_g (lw_at lw_m8 167 rfl) rfl
theorem q1909 : (Jvm.Cond.privateMethod ({ cls := "DairyBookModel", name := "against", desc := "(III)I" } : Jvm.MethodName)) ∈ lw_tbl := lw_at lw_m8 168 rfl
theorem q1910 : (Jvm.Cond.instanceMethod ({ cls := "DairyBookModel", name := "against", desc := "(III)I" } : Jvm.MethodName)) ∈ lw_all := lw_g (lw_at lw_m8 169 rfl) rfl
theorem q1911 : (Jvm.Cond.code ({ cls := "DairyBookModel", name := "against", desc := "(III)I" } : Jvm.MethodName) prog_15_method_21_code (4 : Nat) (Option.some Jvm.ClassFile.FieldType.int)) ∈ lw_all := lw_g (lw_at lw_m8 170 rfl) rfl
theorem q1912 : (Jvm.Cond.methodLink "DairyBookModel" (73 : Nat) ({ cls := "DairyBookModel", name := "rowOf", desc := "(I)I" } : Jvm.MethodName)) ∈ lw_all := lw_g (lw_at lw_m8 171 rfl) rfl
theorem q1913 : (Jvm.Cond.privateMethod ({ cls := "DairyBookModel", name := "rowOf", desc := "(I)I" } : Jvm.MethodName)) ∈ lw_tbl := lw_at lw_m8 172 rfl
theorem q1914 : (Jvm.Cond.instanceMethod ({ cls := "DairyBookModel", name := "rowOf", desc := "(I)I" } : Jvm.MethodName)) ∈ lw_all := lw_g (lw_at lw_m8 173 rfl) rfl
theorem q1915 : (Jvm.Cond.code ({ cls := "DairyBookModel", name := "rowOf", desc := "(I)I" } : Jvm.MethodName) prog_15_method_20_code (3 : Nat) (Option.some Jvm.ClassFile.FieldType.int)) ∈ lw_all := lw_g (lw_at lw_m8 174 rfl) rfl
theorem q1916 : (Jvm.Cond.methodLink "DairyBookModel" (77 : Nat) ({ cls := "DairyBookModel", name := "isKept", desc := "(I)Z" } : Jvm.MethodName)) ∈ lw_all := lw_g (lw_at lw_m8 175 rfl) rfl
theorem q1917 : (Jvm.Cond.privateMethod ({ cls := "DairyBookModel", name := "isKept", desc := "(I)Z" } : Jvm.MethodName)) ∈ lw_tbl := lw_at lw_m8 176 rfl
theorem q1918 : (Jvm.Cond.instanceMethod ({ cls := "DairyBookModel", name := "isKept", desc := "(I)Z" } : Jvm.MethodName)) ∈ lw_all := lw_g (lw_at lw_m8 177 rfl) rfl
theorem q1919 : (Jvm.Cond.code ({ cls := "DairyBookModel", name := "isKept", desc := "(I)Z" } : Jvm.MethodName) prog_15_method_7_code (2 : Nat) (Option.some Jvm.ClassFile.FieldType.boolean)) ∈ lw_all := lw_g (lw_at lw_m8 178 rfl) rfl
theorem q1920 : (Jvm.Cond.methodLink "DairyBookModel" (46 : Nat) ({ cls := "DairyBookModel", name := "isCow", desc := "(I)Z" } : Jvm.MethodName)) ∈ lw_all := lw_g (lw_at lw_m8 179 rfl) rfl
theorem q1921 : (Jvm.Cond.privateMethod ({ cls := "DairyBookModel", name := "isCow", desc := "(I)Z" } : Jvm.MethodName)) ∈ lw_tbl := lw_at lw_m8 180 rfl
theorem q1922 : (Jvm.Cond.instanceMethod ({ cls := "DairyBookModel", name := "isCow", desc := "(I)Z" } : Jvm.MethodName)) ∈ lw_all := lw_g (lw_at lw_m8 181 rfl) rfl
theorem q1923 : (Jvm.Cond.code ({ cls := "DairyBookModel", name := "isCow", desc := "(I)Z" } : Jvm.MethodName) prog_15_method_6_code (2 : Nat) (Option.some Jvm.ClassFile.FieldType.boolean)) ∈ lw_all := lw_g (lw_at lw_m8 182 rfl) rfl
theorem q1924 : (Jvm.Cond.methodLink "DairyBookModel" (80 : Nat) ({ cls := "DairyBookModel", name := "isCarrying", desc := "(I)Z" } : Jvm.MethodName)) ∈ lw_all := lw_g (lw_at lw_m8 183 rfl) rfl
theorem q1925 : (Jvm.Cond.privateMethod ({ cls := "DairyBookModel", name := "isCarrying", desc := "(I)Z" } : Jvm.MethodName)) ∈ lw_tbl := lw_at lw_m8 184 rfl
theorem q1926 : (Jvm.Cond.instanceMethod ({ cls := "DairyBookModel", name := "isCarrying", desc := "(I)Z" } : Jvm.MethodName)) ∈ lw_all := lw_g (lw_at lw_m8 185 rfl) rfl
theorem q1927 : (Jvm.Cond.code ({ cls := "DairyBookModel", name := "isCarrying", desc := "(I)Z" } : Jvm.MethodName) prog_15_method_9_code (2 : Nat) (Option.some Jvm.ClassFile.FieldType.boolean)) ∈ lw_all := lw_g (lw_at lw_m8 186 rfl) rfl
theorem q1928 : (Jvm.Cond.methodLink "DairyBookModel" (83 : Nat) ({ cls := "DairyBookModel", name := "isMilked", desc := "(I)Z" } : Jvm.MethodName)) ∈ lw_all := lw_g (lw_at lw_m8 187 rfl) rfl
theorem q1929 : (Jvm.Cond.privateMethod ({ cls := "DairyBookModel", name := "isMilked", desc := "(I)Z" } : Jvm.MethodName)) ∈ lw_tbl := lw_at lw_m8 188 rfl
theorem q1930 : (Jvm.Cond.instanceMethod ({ cls := "DairyBookModel", name := "isMilked", desc := "(I)Z" } : Jvm.MethodName)) ∈ lw_all := lw_g (lw_at lw_m8 189 rfl) rfl
theorem q1931 : (Jvm.Cond.code ({ cls := "DairyBookModel", name := "isMilked", desc := "(I)Z" } : Jvm.MethodName) prog_15_method_8_code (2 : Nat) (Option.some Jvm.ClassFile.FieldType.boolean)) ∈ lw_all := lw_g (lw_at lw_m8 190 rfl) rfl
theorem q1932 : (Jvm.Cond.methodLink "DairyBookModel" (86 : Nat) ({ cls := "DairyBookModel", name := "inMilk", desc := "(I)I" } : Jvm.MethodName)) ∈ lw_all := lw_g (lw_at lw_m8 191 rfl) rfl
theorem q1933 : (Jvm.Cond.privateMethod ({ cls := "DairyBookModel", name := "inMilk", desc := "(I)I" } : Jvm.MethodName)) ∈ lw_tbl := lw_at lw_m8 192 rfl
theorem q1934 : (Jvm.Cond.instanceMethod ({ cls := "DairyBookModel", name := "inMilk", desc := "(I)I" } : Jvm.MethodName)) ∈ lw_all := lw_g (lw_at lw_m8 193 rfl) rfl
theorem q1935 : (Jvm.Cond.code ({ cls := "DairyBookModel", name := "inMilk", desc := "(I)I" } : Jvm.MethodName) prog_15_method_19_code (2 : Nat) (Option.some Jvm.ClassFile.FieldType.int)) ∈ lw_all := lw_g (lw_at lw_m8 194 rfl) rfl
theorem q1936 : (Jvm.Cond.methodLink "DairyBookModel" (103 : Nat) ({ cls := "DairyBookModel", name := "fails", desc := "(I)I" } : Jvm.MethodName)) ∈ lw_all := lw_g (lw_at lw_m8 195 rfl) rfl
theorem q1937 : (Jvm.Cond.privateMethod ({ cls := "DairyBookModel", name := "fails", desc := "(I)I" } : Jvm.MethodName)) ∈ lw_tbl := lw_at lw_m8 196 rfl
theorem q1938 : (Jvm.Cond.instanceMethod ({ cls := "DairyBookModel", name := "fails", desc := "(I)I" } : Jvm.MethodName)) ∈ lw_all := lw_g (lw_at lw_m8 197 rfl) rfl
theorem q1939 : (Jvm.Cond.code ({ cls := "DairyBookModel", name := "fails", desc := "(I)I" } : Jvm.MethodName) prog_15_method_3_code (2 : Nat) (Option.some Jvm.ClassFile.FieldType.int)) ∈ lw_all := lw_g (lw_at lw_m8 198 rfl) rfl
theorem q1940 : (Jvm.Cond.methodLink "DairyBookModel" (106 : Nat) ({ cls := "DairyBookModel", name := "does", desc := "(III)I" } : Jvm.MethodName)) ∈ lw_all := lw_g (lw_at lw_m8 199 rfl) rfl
theorem q1941 : (Jvm.Cond.privateMethod ({ cls := "DairyBookModel", name := "does", desc := "(III)I" } : Jvm.MethodName)) ∈ lw_tbl := lw_at lw_m8 200 rfl
theorem q1942 : (Jvm.Cond.instanceMethod ({ cls := "DairyBookModel", name := "does", desc := "(III)I" } : Jvm.MethodName)) ∈ lw_all := lw_g (lw_at lw_m8 201 rfl) rfl
theorem q1943 : (Jvm.Cond.code ({ cls := "DairyBookModel", name := "does", desc := "(III)I" } : Jvm.MethodName) prog_15_method_24_code (5 : Nat) (Option.some Jvm.ClassFile.FieldType.int)) ∈ lw_all := lw_g (lw_at lw_m8 202 rfl) rfl
theorem q1944 : (Jvm.Cond.methodLink "DairyBookModel" (89 : Nat) ({ cls := "DairyBookModel", name := "herd", desc := "()I" } : Jvm.MethodName)) ∈ lw_all := lw_g (lw_at lw_m8 203 rfl) rfl
theorem q1945 : (Jvm.Cond.privateMethod ({ cls := "DairyBookModel", name := "herd", desc := "()I" } : Jvm.MethodName)) ∈ lw_tbl := lw_at lw_m8 204 rfl
theorem q1946 : (Jvm.Cond.instanceMethod ({ cls := "DairyBookModel", name := "herd", desc := "()I" } : Jvm.MethodName)) ∈ lw_all := lw_g (lw_at lw_m8 205 rfl) rfl
theorem q1947 : (Jvm.Cond.code ({ cls := "DairyBookModel", name := "herd", desc := "()I" } : Jvm.MethodName) prog_15_method_22_code (3 : Nat) (Option.some Jvm.ClassFile.FieldType.int)) ∈ lw_all := lw_g (lw_at lw_m8 206 rfl) rfl
theorem q1948 : (Jvm.Cond.methodLink "DairyBookModel" (93 : Nat) ({ cls := "DairyBookModel", name := "rows", desc := "(II)I" } : Jvm.MethodName)) ∈ lw_all := lw_g (lw_at lw_m8 207 rfl) rfl
theorem q1949 : (Jvm.Cond.privateMethod ({ cls := "DairyBookModel", name := "rows", desc := "(II)I" } : Jvm.MethodName)) ∈ lw_tbl := lw_at lw_m8 208 rfl
theorem q1950 : (Jvm.Cond.instanceMethod ({ cls := "DairyBookModel", name := "rows", desc := "(II)I" } : Jvm.MethodName)) ∈ lw_all := lw_g (lw_at lw_m8 209 rfl) rfl
theorem q1951 : (Jvm.Cond.code ({ cls := "DairyBookModel", name := "rows", desc := "(II)I" } : Jvm.MethodName) prog_15_method_23_code (4 : Nat) (Option.some Jvm.ClassFile.FieldType.int)) ∈ lw_all := lw_g (lw_at lw_m8 210 rfl) rfl
theorem q1953 : (Jvm.Cond.instanceMethod ({ cls := "DairyBookModel", name := "setCells", desc := "(II)I" } : Jvm.MethodName)) ∈ lw_all := lw_g (lw_at lw_m8 212 rfl) rfl
theorem q1954 : (Jvm.Cond.selects "DairyBookModel" ({ cls := "DairyBookModel", name := "setCells", desc := "(II)I" } : Jvm.MethodName) ({ cls := "DairyBookModel", name := "setCells", desc := "(II)I" } : Jvm.MethodName)) ∈ lw_all := lw_g (lw_at lw_m8 213 rfl) rfl
theorem q1955 : (Jvm.Cond.code ({ cls := "DairyBookModel", name := "setCells", desc := "(II)I" } : Jvm.MethodName) prog_15_method_27_code (3 : Nat) (Option.some Jvm.ClassFile.FieldType.int)) ∈ lw_all := lw_g (lw_at lw_m8 214 rfl) rfl
theorem q1957 : (Jvm.Cond.instanceMethod ({ cls := "DairyBookModel", name := "serve", desc := "(I)I" } : Jvm.MethodName)) ∈ lw_all := lw_g (lw_at lw_m8 216 rfl) rfl
theorem q1958 : (Jvm.Cond.selects "DairyBookModel" ({ cls := "DairyBookModel", name := "serve", desc := "(I)I" } : Jvm.MethodName) ({ cls := "DairyBookModel", name := "serve", desc := "(I)I" } : Jvm.MethodName)) ∈ lw_all := lw_g (lw_at lw_m8 217 rfl) rfl
theorem q1959 : (Jvm.Cond.code ({ cls := "DairyBookModel", name := "serve", desc := "(I)I" } : Jvm.MethodName) prog_15_method_28_code (2 : Nat) (Option.some Jvm.ClassFile.FieldType.int)) ∈ lw_all := lw_g (lw_at lw_m8 218 rfl) rfl
theorem q1961 : (Jvm.Cond.instanceMethod ({ cls := "DairyBookModel", name := "dry", desc := "(I)I" } : Jvm.MethodName)) ∈ lw_all := lw_g (lw_at lw_m8 220 rfl) rfl
theorem q1962 : (Jvm.Cond.selects "DairyBookModel" ({ cls := "DairyBookModel", name := "dry", desc := "(I)I" } : Jvm.MethodName) ({ cls := "DairyBookModel", name := "dry", desc := "(I)I" } : Jvm.MethodName)) ∈ lw_all := lw_g (lw_at lw_m8 221 rfl) rfl
theorem q1963 : (Jvm.Cond.code ({ cls := "DairyBookModel", name := "dry", desc := "(I)I" } : Jvm.MethodName) prog_15_method_29_code (2 : Nat) (Option.some Jvm.ClassFile.FieldType.int)) ∈ lw_all := lw_g (lw_at lw_m8 222 rfl) rfl
theorem q1965 : (Jvm.Cond.instanceMethod ({ cls := "DairyBookModel", name := "sell", desc := "(I)I" } : Jvm.MethodName)) ∈ lw_all := lw_g (lw_at lw_m8 224 rfl) rfl
theorem q1966 : (Jvm.Cond.selects "DairyBookModel" ({ cls := "DairyBookModel", name := "sell", desc := "(I)I" } : Jvm.MethodName) ({ cls := "DairyBookModel", name := "sell", desc := "(I)I" } : Jvm.MethodName)) ∈ lw_all := lw_g (lw_at lw_m8 225 rfl) rfl
theorem q1967 : (Jvm.Cond.code ({ cls := "DairyBookModel", name := "sell", desc := "(I)I" } : Jvm.MethodName) prog_15_method_30_code (2 : Nat) (Option.some Jvm.ClassFile.FieldType.int)) ∈ lw_all := lw_g (lw_at lw_m8 226 rfl) rfl
theorem q1969 : (Jvm.Cond.instanceMethod ({ cls := "DairyBookModel", name := "setBonus", desc := "(II)I" } : Jvm.MethodName)) ∈ lw_all := lw_g (lw_at lw_m8 228 rfl) rfl
theorem q1970 : (Jvm.Cond.selects "DairyBookModel" ({ cls := "DairyBookModel", name := "setBonus", desc := "(II)I" } : Jvm.MethodName) ({ cls := "DairyBookModel", name := "setBonus", desc := "(II)I" } : Jvm.MethodName)) ∈ lw_all := lw_g (lw_at lw_m8 229 rfl) rfl
theorem q1971 : (Jvm.Cond.code ({ cls := "DairyBookModel", name := "setBonus", desc := "(II)I" } : Jvm.MethodName) prog_15_method_31_code (3 : Nat) (Option.some Jvm.ClassFile.FieldType.int)) ∈ lw_all := lw_g (lw_at lw_m8 230 rfl) rfl
theorem q1973 : (Jvm.Cond.instanceMethod ({ cls := "DairyBookModel", name := "bonus", desc := "(IZ)I" } : Jvm.MethodName)) ∈ lw_all := lw_g (lw_at lw_m8 232 rfl) rfl
theorem q1974 : (Jvm.Cond.selects "DairyBookModel" ({ cls := "DairyBookModel", name := "bonus", desc := "(IZ)I" } : Jvm.MethodName) ({ cls := "DairyBookModel", name := "bonus", desc := "(IZ)I" } : Jvm.MethodName)) ∈ lw_all := lw_g (lw_at lw_m8 233 rfl) rfl
theorem q1975 : (Jvm.Cond.code ({ cls := "DairyBookModel", name := "bonus", desc := "(IZ)I" } : Jvm.MethodName) prog_15_method_32_code (3 : Nat) (Option.some Jvm.ClassFile.FieldType.int)) ∈ lw_all := lw_g (lw_at lw_m8 234 rfl) rfl
theorem q1977 : (Jvm.Cond.instanceMethod ({ cls := "DairyBookModel", name := "refusal", desc := "()I" } : Jvm.MethodName)) ∈ lw_all := lw_g (lw_at lw_m8 236 rfl) rfl
theorem q1978 : (Jvm.Cond.selects "DairyBookModel" ({ cls := "DairyBookModel", name := "refusal", desc := "()I" } : Jvm.MethodName) ({ cls := "DairyBookModel", name := "refusal", desc := "()I" } : Jvm.MethodName)) ∈ lw_all := lw_g (lw_at lw_m8 237 rfl) rfl
theorem q1979 : (Jvm.Cond.code ({ cls := "DairyBookModel", name := "refusal", desc := "()I" } : Jvm.MethodName) prog_15_method_33_code (1 : Nat) (Option.some Jvm.ClassFile.FieldType.int)) ∈ lw_all := lw_g (lw_at lw_m8 238 rfl) rfl
theorem q1981 : (Jvm.Cond.instanceMethod ({ cls := "DairyBookModel", name := "pass", desc := "(I)I" } : Jvm.MethodName)) ∈ lw_all := lw_g (lw_at lw_m9 0 rfl) rfl
theorem q1982 : (Jvm.Cond.selects "DairyBookModel" ({ cls := "DairyBookModel", name := "pass", desc := "(I)I" } : Jvm.MethodName) ({ cls := "DairyBookModel", name := "pass", desc := "(I)I" } : Jvm.MethodName)) ∈ lw_all := lw_g (lw_at lw_m9 1 rfl) rfl
theorem q1983 : (Jvm.Cond.code ({ cls := "DairyBookModel", name := "pass", desc := "(I)I" } : Jvm.MethodName) prog_15_method_41_code (2 : Nat) (Option.some Jvm.ClassFile.FieldType.int)) ∈ lw_all := lw_g (lw_at lw_m9 2 rfl) rfl
theorem q1984 : (Jvm.Cond.methodLink "DairyBookModel" (131 : Nat) ({ cls := "DairyBookModel", name := "passes", desc := "(I)I" } : Jvm.MethodName)) ∈ lw_all := lw_g (lw_at lw_m9 3 rfl) rfl
theorem q1985 : (Jvm.Cond.privateMethod ({ cls := "DairyBookModel", name := "passes", desc := "(I)I" } : Jvm.MethodName)) ∈ lw_tbl := lw_at lw_m9 4 rfl
theorem q1986 : (Jvm.Cond.instanceMethod ({ cls := "DairyBookModel", name := "passes", desc := "(I)I" } : Jvm.MethodName)) ∈ lw_all := lw_g (lw_at lw_m9 5 rfl) rfl
theorem q1987 : (Jvm.Cond.code ({ cls := "DairyBookModel", name := "passes", desc := "(I)I" } : Jvm.MethodName) prog_15_method_40_code (4 : Nat) (Option.some Jvm.ClassFile.FieldType.int)) ∈ lw_all := lw_g (lw_at lw_m9 6 rfl) rfl
theorem q1988 : (Jvm.Cond.methodLink "DairyBookModel" (128 : Nat) ({ cls := "DairyBookModel", name := "goes", desc := "()V" } : Jvm.MethodName)) ∈ lw_all := lw_g (lw_at lw_m9 7 rfl) rfl
theorem q1989 : (Jvm.Cond.privateMethod ({ cls := "DairyBookModel", name := "goes", desc := "()V" } : Jvm.MethodName)) ∈ lw_tbl := lw_at lw_m9 8 rfl
theorem q1990 : (Jvm.Cond.instanceMethod ({ cls := "DairyBookModel", name := "goes", desc := "()V" } : Jvm.MethodName)) ∈ lw_all := lw_g (lw_at lw_m9 9 rfl) rfl
theorem q1991 : (Jvm.Cond.code ({ cls := "DairyBookModel", name := "goes", desc := "()V" } : Jvm.MethodName) prog_15_method_39_code (2 : Nat) (Option.none : Option Jvm.ClassFile.FieldType)) ∈ lw_all := lw_g (lw_at lw_m9 10 rfl) rfl
theorem q1992 : (Jvm.Cond.methodLink "DairyBookModel" (121 : Nat) ({ cls := "DairyBookModel", name := "milks", desc := "(I)V" } : Jvm.MethodName)) ∈ lw_all := lw_g (lw_at lw_m9 11 rfl) rfl
theorem q1993 : (Jvm.Cond.privateMethod ({ cls := "DairyBookModel", name := "milks", desc := "(I)V" } : Jvm.MethodName)) ∈ lw_tbl := lw_at lw_m9 12 rfl
theorem q1994 : (Jvm.Cond.instanceMethod ({ cls := "DairyBookModel", name := "milks", desc := "(I)V" } : Jvm.MethodName)) ∈ lw_all := lw_g (lw_at lw_m9 13 rfl) rfl
theorem q1995 : (Jvm.Cond.code ({ cls := "DairyBookModel", name := "milks", desc := "(I)V" } : Jvm.MethodName) prog_15_method_36_code (5 : Nat) (Option.none : Option Jvm.ClassFile.FieldType)) ∈ lw_all := lw_g (lw_at lw_m9 14 rfl) rfl
theorem q1996 : (Jvm.Cond.methodLink "DairyBookModel" (112 : Nat) ({ cls := "DairyBookModel", name := "litres", desc := "(II)I" } : Jvm.MethodName)) ∈ lw_all := lw_g (lw_at lw_m9 15 rfl) rfl
theorem q1997 : (Jvm.Cond.privateMethod ({ cls := "DairyBookModel", name := "litres", desc := "(II)I" } : Jvm.MethodName)) ∈ lw_tbl := lw_at lw_m9 16 rfl
theorem q1998 : (Jvm.Cond.instanceMethod ({ cls := "DairyBookModel", name := "litres", desc := "(II)I" } : Jvm.MethodName)) ∈ lw_all := lw_g (lw_at lw_m9 17 rfl) rfl
theorem q1999 : (Jvm.Cond.code ({ cls := "DairyBookModel", name := "litres", desc := "(II)I" } : Jvm.MethodName) prog_15_method_34_code (6 : Nat) (Option.some Jvm.ClassFile.FieldType.int)) ∈ lw_all := lw_g (lw_at lw_m9 18 rfl) rfl
theorem q2000 : (Jvm.Cond.methodLink "DairyBookModel" (115 : Nat) ({ cls := "DairyBookModel", name := "free", desc := "()I" } : Jvm.MethodName)) ∈ lw_all := lw_g (lw_at lw_m9 19 rfl) rfl
theorem q2001 : (Jvm.Cond.privateMethod ({ cls := "DairyBookModel", name := "free", desc := "()I" } : Jvm.MethodName)) ∈ lw_tbl := lw_at lw_m9 20 rfl
theorem q2002 : (Jvm.Cond.instanceMethod ({ cls := "DairyBookModel", name := "free", desc := "()I" } : Jvm.MethodName)) ∈ lw_all := lw_g (lw_at lw_m9 21 rfl) rfl
theorem q2003 : (Jvm.Cond.code ({ cls := "DairyBookModel", name := "free", desc := "()I" } : Jvm.MethodName) prog_15_method_35_code (1 : Nat) (Option.some Jvm.ClassFile.FieldType.int)) ∈ lw_all := lw_g (lw_at lw_m9 22 rfl) rfl
theorem q2004 : (Jvm.Cond.methodLink "DairyBookModel" (125 : Nat) ({ cls := "DairyBookModel", name := "picksUp", desc := "()V" } : Jvm.MethodName)) ∈ lw_all := lw_g (lw_at lw_m9 23 rfl) rfl
theorem q2005 : (Jvm.Cond.privateMethod ({ cls := "DairyBookModel", name := "picksUp", desc := "()V" } : Jvm.MethodName)) ∈ lw_tbl := lw_at lw_m9 24 rfl
theorem q2006 : (Jvm.Cond.instanceMethod ({ cls := "DairyBookModel", name := "picksUp", desc := "()V" } : Jvm.MethodName)) ∈ lw_all := lw_g (lw_at lw_m9 25 rfl) rfl
theorem q2007 : (Jvm.Cond.code ({ cls := "DairyBookModel", name := "picksUp", desc := "()V" } : Jvm.MethodName) prog_15_method_38_code (5 : Nat) (Option.none : Option Jvm.ClassFile.FieldType)) ∈ lw_all := lw_g (lw_at lw_m9 26 rfl) rfl
theorem q2008 : (Jvm.Cond.methodLink "DairyBookModel" (118 : Nat) ({ cls := "DairyBookModel", name := "bonusFor", desc := "(I)I" } : Jvm.MethodName)) ∈ lw_all := lw_g (lw_at lw_m9 27 rfl) rfl
theorem q2009 : (Jvm.Cond.privateMethod ({ cls := "DairyBookModel", name := "bonusFor", desc := "(I)I" } : Jvm.MethodName)) ∈ lw_tbl := lw_at lw_m9 28 rfl
theorem q2010 : (Jvm.Cond.instanceMethod ({ cls := "DairyBookModel", name := "bonusFor", desc := "(I)I" } : Jvm.MethodName)) ∈ lw_all := lw_g (lw_at lw_m9 29 rfl) rfl
theorem q2011 : (Jvm.Cond.code ({ cls := "DairyBookModel", name := "bonusFor", desc := "(I)I" } : Jvm.MethodName) prog_15_method_37_code (3 : Nat) (Option.some Jvm.ClassFile.FieldType.int)) ∈ lw_all := lw_g (lw_at lw_m9 30 rfl) rfl
theorem q2013 : (Jvm.Cond.instanceMethod ({ cls := "DairyBookModel", name := "forecast", desc := "(I)I" } : Jvm.MethodName)) ∈ lw_all := lw_g (lw_at lw_m9 32 rfl) rfl
theorem q2014 : (Jvm.Cond.selects "DairyBookModel" ({ cls := "DairyBookModel", name := "forecast", desc := "(I)I" } : Jvm.MethodName) ({ cls := "DairyBookModel", name := "forecast", desc := "(I)I" } : Jvm.MethodName)) ∈ lw_all := lw_g (lw_at lw_m9 33 rfl) rfl
theorem q2015 : (Jvm.Cond.code ({ cls := "DairyBookModel", name := "forecast", desc := "(I)I" } : Jvm.MethodName) prog_15_method_42_code (3 : Nat) (Option.some Jvm.ClassFile.FieldType.int)) ∈ lw_all := lw_g (lw_at lw_m9 34 rfl) rfl
theorem q2017 : (Jvm.Cond.instanceMethod ({ cls := "DairyBookModel", name := "today", desc := "()I" } : Jvm.MethodName)) ∈ lw_all := lw_g (lw_at lw_m9 36 rfl) rfl
theorem q2018 : (Jvm.Cond.selects "DairyBookModel" ({ cls := "DairyBookModel", name := "today", desc := "()I" } : Jvm.MethodName) ({ cls := "DairyBookModel", name := "today", desc := "()I" } : Jvm.MethodName)) ∈ lw_all := lw_g (lw_at lw_m9 37 rfl) rfl
theorem q2019 : (Jvm.Cond.code ({ cls := "DairyBookModel", name := "today", desc := "()I" } : Jvm.MethodName) prog_15_method_43_code (1 : Nat) (Option.some Jvm.ClassFile.FieldType.int)) ∈ lw_all := lw_g (lw_at lw_m9 38 rfl) rfl
theorem q2021 : (Jvm.Cond.instanceMethod ({ cls := "DairyBookModel", name := "cow", desc := "(II)I" } : Jvm.MethodName)) ∈ lw_all := lw_g (lw_at lw_m9 40 rfl) rfl
theorem q2022 : (Jvm.Cond.selects "DairyBookModel" ({ cls := "DairyBookModel", name := "cow", desc := "(II)I" } : Jvm.MethodName) ({ cls := "DairyBookModel", name := "cow", desc := "(II)I" } : Jvm.MethodName)) ∈ lw_all := lw_g (lw_at lw_m9 41 rfl) rfl
theorem q2023 : (Jvm.Cond.code ({ cls := "DairyBookModel", name := "cow", desc := "(II)I" } : Jvm.MethodName) prog_15_method_44_code (3 : Nat) (Option.some Jvm.ClassFile.FieldType.int)) ∈ lw_all := lw_g (lw_at lw_m9 42 rfl) rfl
theorem q2025 : (Jvm.Cond.instanceMethod ({ cls := "DairyBookModel", name := "curve", desc := "(II)I" } : Jvm.MethodName)) ∈ lw_all := lw_g (lw_at lw_m9 44 rfl) rfl
theorem q2026 : (Jvm.Cond.selects "DairyBookModel" ({ cls := "DairyBookModel", name := "curve", desc := "(II)I" } : Jvm.MethodName) ({ cls := "DairyBookModel", name := "curve", desc := "(II)I" } : Jvm.MethodName)) ∈ lw_all := lw_g (lw_at lw_m9 45 rfl) rfl
theorem q2027 : (Jvm.Cond.code ({ cls := "DairyBookModel", name := "curve", desc := "(II)I" } : Jvm.MethodName) prog_15_method_45_code (3 : Nat) (Option.some Jvm.ClassFile.FieldType.int)) ∈ lw_all := lw_g (lw_at lw_m9 46 rfl) rfl
theorem q2029 : (Jvm.Cond.instanceMethod ({ cls := "DairyBookModel", name := "dryDay", desc := "(I)I" } : Jvm.MethodName)) ∈ lw_all := lw_g (lw_at lw_m9 48 rfl) rfl
theorem q2030 : (Jvm.Cond.selects "DairyBookModel" ({ cls := "DairyBookModel", name := "dryDay", desc := "(I)I" } : Jvm.MethodName) ({ cls := "DairyBookModel", name := "dryDay", desc := "(I)I" } : Jvm.MethodName)) ∈ lw_all := lw_g (lw_at lw_m9 49 rfl) rfl
theorem q2031 : (Jvm.Cond.code ({ cls := "DairyBookModel", name := "dryDay", desc := "(I)I" } : Jvm.MethodName) prog_15_method_46_code (3 : Nat) (Option.some Jvm.ClassFile.FieldType.int)) ∈ lw_all := lw_g (lw_at lw_m9 50 rfl) rfl
theorem q2033 : (Jvm.Cond.instanceMethod ({ cls := "DairyBookModel", name := "tank", desc := "(I)I" } : Jvm.MethodName)) ∈ lw_all := lw_g (lw_at lw_m9 52 rfl) rfl
theorem q2034 : (Jvm.Cond.selects "DairyBookModel" ({ cls := "DairyBookModel", name := "tank", desc := "(I)I" } : Jvm.MethodName) ({ cls := "DairyBookModel", name := "tank", desc := "(I)I" } : Jvm.MethodName)) ∈ lw_all := lw_g (lw_at lw_m9 53 rfl) rfl
theorem q2035 : (Jvm.Cond.code ({ cls := "DairyBookModel", name := "tank", desc := "(I)I" } : Jvm.MethodName) prog_15_method_47_code (2 : Nat) (Option.some Jvm.ClassFile.FieldType.int)) ∈ lw_all := lw_g (lw_at lw_m9 54 rfl) rfl
theorem q2037 : (Jvm.Cond.instanceMethod ({ cls := "DairyBookModel", name := "pickup", desc := "(II)I" } : Jvm.MethodName)) ∈ lw_all := lw_g (lw_at lw_m9 56 rfl) rfl
theorem q2038 : (Jvm.Cond.selects "DairyBookModel" ({ cls := "DairyBookModel", name := "pickup", desc := "(II)I" } : Jvm.MethodName) ({ cls := "DairyBookModel", name := "pickup", desc := "(II)I" } : Jvm.MethodName)) ∈ lw_all := lw_g (lw_at lw_m9 57 rfl) rfl
theorem q2039 : (Jvm.Cond.code ({ cls := "DairyBookModel", name := "pickup", desc := "(II)I" } : Jvm.MethodName) prog_15_method_49_code (3 : Nat) (Option.some Jvm.ClassFile.FieldType.int)) ∈ lw_all := lw_g (lw_at lw_m9 58 rfl) rfl
theorem q2040 : (Jvm.Cond.methodLink "DairyBookModel" (134 : Nat) ({ cls := "DairyBookModel", name := "isPickup", desc := "(I)Z" } : Jvm.MethodName)) ∈ lw_all := lw_g (lw_at lw_m9 59 rfl) rfl
theorem q2041 : (Jvm.Cond.privateMethod ({ cls := "DairyBookModel", name := "isPickup", desc := "(I)Z" } : Jvm.MethodName)) ∈ lw_tbl := lw_at lw_m9 60 rfl
theorem q2042 : (Jvm.Cond.instanceMethod ({ cls := "DairyBookModel", name := "isPickup", desc := "(I)Z" } : Jvm.MethodName)) ∈ lw_all := lw_g (lw_at lw_m9 61 rfl) rfl
theorem q2043 : (Jvm.Cond.code ({ cls := "DairyBookModel", name := "isPickup", desc := "(I)Z" } : Jvm.MethodName) prog_15_method_48_code (2 : Nat) (Option.some Jvm.ClassFile.FieldType.boolean)) ∈ lw_all := lw_g (lw_at lw_m9 62 rfl) rfl
theorem q2045 : (Jvm.Cond.instanceMethod ({ cls := "DairyBookModel", name := "mean", desc := "(II)D" } : Jvm.MethodName)) ∈ lw_all := lw_g (lw_at lw_m9 64 rfl) rfl
theorem q2046 : (Jvm.Cond.selects "DairyBookModel" ({ cls := "DairyBookModel", name := "mean", desc := "(II)D" } : Jvm.MethodName) ({ cls := "DairyBookModel", name := "mean", desc := "(II)D" } : Jvm.MethodName)) ∈ lw_all := lw_g (lw_at lw_m9 65 rfl) rfl
theorem q2047 : (Jvm.Cond.code ({ cls := "DairyBookModel", name := "mean", desc := "(II)D" } : Jvm.MethodName) prog_15_method_50_code (6 : Nat) (Option.some Jvm.ClassFile.FieldType.double)) ∈ lw_all := lw_g (lw_at lw_m9 66 rfl) rfl
theorem q2049 : (Jvm.Cond.instanceMethod ({ cls := "DairyBookModel", name := "greatest", desc := "(I)I" } : Jvm.MethodName)) ∈ lw_all := lw_g (lw_at lw_m9 68 rfl) rfl
theorem q2050 : (Jvm.Cond.selects "DairyBookModel" ({ cls := "DairyBookModel", name := "greatest", desc := "(I)I" } : Jvm.MethodName) ({ cls := "DairyBookModel", name := "greatest", desc := "(I)I" } : Jvm.MethodName)) ∈ lw_all := lw_g (lw_at lw_m9 69 rfl) rfl
theorem q2051 : (Jvm.Cond.code ({ cls := "DairyBookModel", name := "greatest", desc := "(I)I" } : Jvm.MethodName) prog_15_method_51_code (4 : Nat) (Option.some Jvm.ClassFile.FieldType.int)) ∈ lw_all := lw_g (lw_at lw_m9 70 rfl) rfl
theorem q2053 : (Jvm.Cond.instanceMethod ({ cls := "DairyBookModel", name := "writePickup", desc := "(I)I" } : Jvm.MethodName)) ∈ lw_all := lw_g (lw_at lw_m9 72 rfl) rfl
theorem q2054 : (Jvm.Cond.selects "DairyBookModel" ({ cls := "DairyBookModel", name := "writePickup", desc := "(I)I" } : Jvm.MethodName) ({ cls := "DairyBookModel", name := "writePickup", desc := "(I)I" } : Jvm.MethodName)) ∈ lw_all := lw_g (lw_at lw_m9 73 rfl) rfl
theorem q2055 : (Jvm.Cond.code ({ cls := "DairyBookModel", name := "writePickup", desc := "(I)I" } : Jvm.MethodName) prog_15_method_52_code (3 : Nat) (Option.some Jvm.ClassFile.FieldType.int)) ∈ lw_all := lw_g (lw_at lw_m9 74 rfl) rfl
theorem q2056 : (Jvm.Cond.methodLink "DairyBookModel" (137 : Nat) ({ cls := "java/lang/StringBuilder", name := "setLength", desc := "(I)V" } : Jvm.MethodName)) ∈ lw_all := lw_g (lw_at lw_m9 75 rfl) rfl
theorem q2108 : (Jvm.Cond.methodLink "DairyBookModel" (140 : Nat) ({ cls := "java/lang/StringBuilder", name := "append", desc := "(C)Ljava/lang/StringBuilder;" } : Jvm.MethodName)) ∈ lw_all := lw_g (lw_at lw_m9 127 rfl) rfl
theorem q2109 : (Jvm.Cond.methodLink "DairyBookModel" (144 : Nat) ({ cls := "java/lang/StringBuilder", name := "append", desc := "(I)Ljava/lang/StringBuilder;" } : Jvm.MethodName)) ∈ lw_all := lw_g (lw_at lw_m9 128 rfl) rfl
theorem q2110 : (Jvm.Cond.stringRef "DairyBookModel" (147 : Nat) "l ") ∈ lw_tbl := lw_at lw_m9 129 rfl
theorem q2111 : (Jvm.Cond.methodLink "DairyBookModel" (149 : Nat) ({ cls := "java/lang/StringBuilder", name := "append", desc := "(Ljava/lang/String;)Ljava/lang/StringBuilder;" } : Jvm.MethodName)) ∈ lw_all := lw_g (lw_at lw_m9 130 rfl) rfl
theorem q2112 : (Jvm.Cond.stringRef "DairyBookModel" (152 : Nat) "c ") ∈ lw_tbl := lw_at lw_m9 131 rfl
theorem q2113 : (Jvm.Cond.stringRef "DairyBookModel" (154 : Nat) "m +") ∈ lw_tbl := lw_at lw_m9 132 rfl
theorem q2114 : (Jvm.Cond.methodLink "DairyBookModel" (156 : Nat) ({ cls := "java/lang/StringBuilder", name := "length", desc := "()I" } : Jvm.MethodName)) ∈ lw_all := lw_g (lw_at lw_m9 133 rfl) rfl
theorem q2116 : (Jvm.Cond.instanceMethod ({ cls := "DairyBookModel", name := "writeCow", desc := "(I)I" } : Jvm.MethodName)) ∈ lw_all := lw_g (lw_at lw_m9 135 rfl) rfl
theorem q2117 : (Jvm.Cond.selects "DairyBookModel" ({ cls := "DairyBookModel", name := "writeCow", desc := "(I)I" } : Jvm.MethodName) ({ cls := "DairyBookModel", name := "writeCow", desc := "(I)I" } : Jvm.MethodName)) ∈ lw_all := lw_g (lw_at lw_m9 136 rfl) rfl
theorem q2118 : (Jvm.Cond.code ({ cls := "DairyBookModel", name := "writeCow", desc := "(I)I" } : Jvm.MethodName) prog_15_method_53_code (2 : Nat) (Option.some Jvm.ClassFile.FieldType.int)) ∈ lw_all := lw_g (lw_at lw_m9 137 rfl) rfl
theorem q2119 : (Jvm.Cond.stringRef "DairyBookModel" (159 : Nat) " h") ∈ lw_tbl := lw_at lw_m9 138 rfl
theorem q2120 : (Jvm.Cond.stringRef "DairyBookModel" (161 : Nat) " >") ∈ lw_tbl := lw_at lw_m9 139 rfl
theorem q2122 : (Jvm.Cond.instanceMethod ({ cls := "DairyBookModel", name := "written", desc := "(I)C" } : Jvm.MethodName)) ∈ lw_all := lw_g (lw_at lw_m9 141 rfl) rfl
theorem q2123 : (Jvm.Cond.selects "DairyBookModel" ({ cls := "DairyBookModel", name := "written", desc := "(I)C" } : Jvm.MethodName) ({ cls := "DairyBookModel", name := "written", desc := "(I)C" } : Jvm.MethodName)) ∈ lw_all := lw_g (lw_at lw_m9 142 rfl) rfl
theorem q2124 : (Jvm.Cond.code ({ cls := "DairyBookModel", name := "written", desc := "(I)C" } : Jvm.MethodName) prog_15_method_54_code (2 : Nat) (Option.some Jvm.ClassFile.FieldType.char)) ∈ lw_all := lw_g (lw_at lw_m9 143 rfl) rfl
theorem q2125 : (Jvm.Cond.methodLink "DairyBookModel" (163 : Nat) ({ cls := "java/lang/StringBuilder", name := "charAt", desc := "(I)C" } : Jvm.MethodName)) ∈ lw_all := lw_g (lw_at lw_m9 144 rfl) rfl
theorem q2136 : (Jvm.Cond.instanceMethod ({ cls := "DairyBookModel", name := "append", desc := "(C)V" } : Jvm.MethodName)) ∈ lw_all := lw_g (lw_at lw_m9 155 rfl) rfl
theorem q2137 : (Jvm.Cond.selects "DairyBookModel" ({ cls := "DairyBookModel", name := "append", desc := "(C)V" } : Jvm.MethodName) ({ cls := "DairyBookModel", name := "append", desc := "(C)V" } : Jvm.MethodName)) ∈ lw_all := lw_g (lw_at lw_m9 156 rfl) rfl
theorem q2138 : (Jvm.Cond.code ({ cls := "DairyBookModel", name := "append", desc := "(C)V" } : Jvm.MethodName) prog_15_method_55_code (2 : Nat) (Option.none : Option Jvm.ClassFile.FieldType)) ∈ lw_all := lw_g (lw_at lw_m9 157 rfl) rfl
theorem q2140 : (Jvm.Cond.instanceMethod ({ cls := "DairyBookModel", name := "faultPosition", desc := "()I" } : Jvm.MethodName)) ∈ lw_all := lw_g (lw_at lw_m9 159 rfl) rfl
theorem q2141 : (Jvm.Cond.selects "DairyBookModel" ({ cls := "DairyBookModel", name := "faultPosition", desc := "()I" } : Jvm.MethodName) ({ cls := "DairyBookModel", name := "faultPosition", desc := "()I" } : Jvm.MethodName)) ∈ lw_all := lw_g (lw_at lw_m9 160 rfl) rfl
theorem q2142 : (Jvm.Cond.code ({ cls := "DairyBookModel", name := "faultPosition", desc := "()I" } : Jvm.MethodName) prog_15_method_56_code (1 : Nat) (Option.some Jvm.ClassFile.FieldType.int)) ∈ lw_all := lw_g (lw_at lw_m9 161 rfl) rfl
theorem q2144 : (Jvm.Cond.instanceMethod ({ cls := "DairyBookModel", name := "order", desc := "()I" } : Jvm.MethodName)) ∈ lw_all := lw_g (lw_at lw_m9 163 rfl) rfl
theorem q2145 : (Jvm.Cond.selects "DairyBookModel" ({ cls := "DairyBookModel", name := "order", desc := "()I" } : Jvm.MethodName) ({ cls := "DairyBookModel", name := "order", desc := "()I" } : Jvm.MethodName)) ∈ lw_all := lw_g (lw_at lw_m9 164 rfl) rfl
theorem q2146 : (Jvm.Cond.code ({ cls := "DairyBookModel", name := "order", desc := "()I" } : Jvm.MethodName) prog_15_method_65_code (4 : Nat) (Option.some Jvm.ClassFile.FieldType.int)) ∈ lw_all := lw_g (lw_at lw_m9 165 rfl) rfl
theorem q2147 : (Jvm.Cond.methodLink "DairyBookModel" (216 : Nat) ({ cls := "DairyBookModel", name := "isText", desc := "()Z" } : Jvm.MethodName)) ∈ lw_all := lw_g (lw_at lw_m9 166 rfl) rfl
theorem q2148 : (Jvm.Cond.privateMethod ({ cls := "DairyBookModel", name := "isText", desc := "()Z" } : Jvm.MethodName)) ∈ lw_tbl := lw_at lw_m9 167 rfl
theorem q2149 : (Jvm.Cond.instanceMethod ({ cls := "DairyBookModel", name := "isText", desc := "()Z" } : Jvm.MethodName)) ∈ lw_all := lw_g (lw_at lw_m9 168 rfl) rfl
theorem q2150 : (Jvm.Cond.code ({ cls := "DairyBookModel", name := "isText", desc := "()Z" } : Jvm.MethodName) prog_15_method_64_code (1 : Nat) (Option.some Jvm.ClassFile.FieldType.boolean)) ∈ lw_all := lw_g (lw_at lw_m9 169 rfl) rfl
theorem q2151 : (Jvm.Cond.methodLink "DairyBookModel" (213 : Nat) ({ cls := "DairyBookModel", name := "command", desc := "()Z" } : Jvm.MethodName)) ∈ lw_all := lw_g (lw_at lw_m9 170 rfl) rfl
theorem q2152 : (Jvm.Cond.privateMethod ({ cls := "DairyBookModel", name := "command", desc := "()Z" } : Jvm.MethodName)) ∈ lw_tbl := lw_at lw_m9 171 rfl
theorem q2153 : (Jvm.Cond.instanceMethod ({ cls := "DairyBookModel", name := "command", desc := "()Z" } : Jvm.MethodName)) ∈ lw_all := lw_g (lw_at lw_m9 172 rfl) rfl
theorem q2154 : (Jvm.Cond.code ({ cls := "DairyBookModel", name := "command", desc := "()Z" } : Jvm.MethodName) prog_15_method_63_code (3 : Nat) (Option.some Jvm.ClassFile.FieldType.boolean)) ∈ lw_all := lw_g (lw_at lw_m9 173 rfl) rfl
theorem q2155 : (Jvm.Cond.methodLink "DairyBookModel" (204 : Nat) ({ cls := "DairyBookModel", name := "wordHere", desc := "()I" } : Jvm.MethodName)) ∈ lw_all := lw_g (lw_at lw_m9 174 rfl) rfl
theorem q2156 : (Jvm.Cond.privateMethod ({ cls := "DairyBookModel", name := "wordHere", desc := "()I" } : Jvm.MethodName)) ∈ lw_tbl := lw_at lw_m9 175 rfl
theorem q2157 : (Jvm.Cond.instanceMethod ({ cls := "DairyBookModel", name := "wordHere", desc := "()I" } : Jvm.MethodName)) ∈ lw_all := lw_g (lw_at lw_m9 176 rfl) rfl
theorem q2158 : (Jvm.Cond.code ({ cls := "DairyBookModel", name := "wordHere", desc := "()I" } : Jvm.MethodName) prog_15_method_61_code (3 : Nat) (Option.some Jvm.ClassFile.FieldType.int)) ∈ lw_all := lw_g (lw_at lw_m9 177 rfl) rfl
theorem q2159 : (Jvm.Cond.methodLink "DairyBookModel" (172 : Nat) ({ cls := "DairyBookModel", name := "here", desc := "()I" } : Jvm.MethodName)) ∈ lw_all := lw_g (lw_at lw_m9 178 rfl) rfl
theorem q2160 : (Jvm.Cond.privateMethod ({ cls := "DairyBookModel", name := "here", desc := "()I" } : Jvm.MethodName)) ∈ lw_tbl := lw_at lw_m9 179 rfl
theorem q2161 : (Jvm.Cond.instanceMethod ({ cls := "DairyBookModel", name := "here", desc := "()I" } : Jvm.MethodName)) ∈ lw_all := lw_g (lw_at lw_m9 180 rfl) rfl
theorem q2162 : (Jvm.Cond.code ({ cls := "DairyBookModel", name := "here", desc := "()I" } : Jvm.MethodName) prog_15_method_57_code (1 : Nat) (Option.some Jvm.ClassFile.FieldType.int)) ∈ lw_all := lw_g (lw_at lw_m9 181 rfl) rfl
theorem q2163 : (Jvm.Cond.methodLink "DairyBookModel" (195 : Nat) ({ cls := "DairyBookModel", name := "isWord", desc := "(III)Z" } : Jvm.MethodName)) ∈ lw_all := lw_g (lw_at lw_m9 182 rfl) rfl
theorem q2164 : (Jvm.Cond.privateMethod ({ cls := "DairyBookModel", name := "isWord", desc := "(III)Z" } : Jvm.MethodName)) ∈ lw_tbl := lw_at lw_m9 183 rfl
theorem q2165 : (Jvm.Cond.instanceMethod ({ cls := "DairyBookModel", name := "isWord", desc := "(III)Z" } : Jvm.MethodName)) ∈ lw_all := lw_g (lw_at lw_m9 184 rfl) rfl
theorem q2166 : (Jvm.Cond.code ({ cls := "DairyBookModel", name := "isWord", desc := "(III)Z" } : Jvm.MethodName) prog_15_method_60_code (6 : Nat) (Option.some Jvm.ClassFile.FieldType.boolean)) ∈ lw_all := lw_g (lw_at lw_m9 185 rfl) rfl
theorem q2167 : (Jvm.Cond.methodLink "DairyBookModel" (187 : Nat) ({ cls := "DairyBookModel", name := "word", desc := "(I)Ljava/lang/String;" } : Jvm.MethodName)) ∈ lw_all := lw_g (lw_at lw_m9 186 rfl) rfl
theorem q2168 : (Jvm.Cond.static ({ cls := "DairyBookModel", name := "word", desc := "(I)Ljava/lang/String;" } : Jvm.MethodName)) ∈ lw_all := lw_g (lw_at lw_m9 187 rfl) rfl
theorem q2169 : (Jvm.Cond.code ({ cls := "DairyBookModel", name := "word", desc := "(I)Ljava/lang/String;" } : Jvm.MethodName) prog_15_method_59_code (1 : Nat) (Option.some (Jvm.ClassFile.FieldType.object "java/lang/String"))) ∈ lw_all := lw_g (lw_at lw_m9 188 rfl) rfl
theorem q2170 : (Jvm.Cond.stringRef "DairyBookModel" (175 : Nat) "hold") ∈ lw_tbl := lw_at lw_m9 189 rfl
theorem q2171 : (Jvm.Cond.stringRef "DairyBookModel" (177 : Nat) "cells") ∈ lw_tbl := lw_at lw_m9 190 rfl
theorem q2172 : (Jvm.Cond.stringRef "DairyBookModel" (179 : Nat) "serve") ∈ lw_tbl := lw_at lw_m9 191 rfl
theorem q2173 : (Jvm.Cond.stringRef "DairyBookModel" (181 : Nat) "dry") ∈ lw_tbl := lw_at lw_m9 192 rfl
theorem q2174 : (Jvm.Cond.stringRef "DairyBookModel" (183 : Nat) "sell") ∈ lw_tbl := lw_at lw_m9 193 rfl
theorem q2175 : (Jvm.Cond.stringRef "DairyBookModel" (185 : Nat) "bonus") ∈ lw_tbl := lw_at lw_m9 194 rfl
theorem q2176 : (Jvm.Cond.methodLink "DairyBookModel" (191 : Nat) ({ cls := "java/lang/String", name := "length", desc := "()I" } : Jvm.MethodName)) ∈ lw_all := lw_g (lw_at lw_m9 195 rfl) rfl
theorem q2177 : (Jvm.Cond.methodLink "DairyBookModel" (194 : Nat) ({ cls := "java/lang/String", name := "charAt", desc := "(I)C" } : Jvm.MethodName)) ∈ lw_all := lw_g (lw_at lw_m9 196 rfl) rfl
theorem q2178 : (Jvm.Cond.methodLink "DairyBookModel" (207 : Nat) ({ cls := "DairyBookModel", name := "skips", desc := "(I)Z" } : Jvm.MethodName)) ∈ lw_all := lw_g (lw_at lw_m9 197 rfl) rfl
theorem q2179 : (Jvm.Cond.privateMethod ({ cls := "DairyBookModel", name := "skips", desc := "(I)Z" } : Jvm.MethodName)) ∈ lw_tbl := lw_at lw_m9 198 rfl
theorem q2180 : (Jvm.Cond.instanceMethod ({ cls := "DairyBookModel", name := "skips", desc := "(I)Z" } : Jvm.MethodName)) ∈ lw_all := lw_g (lw_at lw_m9 199 rfl) rfl
theorem q2181 : (Jvm.Cond.code ({ cls := "DairyBookModel", name := "skips", desc := "(I)Z" } : Jvm.MethodName) prog_15_method_58_code (3 : Nat) (Option.some Jvm.ClassFile.FieldType.boolean)) ∈ lw_all := lw_g (lw_at lw_m9 200 rfl) rfl
theorem q2182 : (Jvm.Cond.methodLink "DairyBookModel" (210 : Nat) ({ cls := "DairyBookModel", name := "number", desc := "()Z" } : Jvm.MethodName)) ∈ lw_all := lw_g (lw_at lw_m9 201 rfl) rfl
theorem q2183 : (Jvm.Cond.privateMethod ({ cls := "DairyBookModel", name := "number", desc := "()Z" } : Jvm.MethodName)) ∈ lw_tbl := lw_at lw_m9 202 rfl
theorem q2184 : (Jvm.Cond.instanceMethod ({ cls := "DairyBookModel", name := "number", desc := "()Z" } : Jvm.MethodName)) ∈ lw_all := lw_g (lw_at lw_m9 203 rfl) rfl
theorem q2185 : (Jvm.Cond.code ({ cls := "DairyBookModel", name := "number", desc := "()Z" } : Jvm.MethodName) prog_15_method_62_code (2 : Nat) (Option.some Jvm.ClassFile.FieldType.boolean)) ∈ lw_all := lw_g (lw_at lw_m9 204 rfl) rfl
theorem q2187 : (Jvm.Cond.instanceMethod ({ cls := "DairyBookModel", name := "account", desc := "(I)I" } : Jvm.MethodName)) ∈ lw_all := lw_g (lw_at lw_m9 206 rfl) rfl
theorem q2188 : (Jvm.Cond.selects "DairyBookModel" ({ cls := "DairyBookModel", name := "account", desc := "(I)I" } : Jvm.MethodName) ({ cls := "DairyBookModel", name := "account", desc := "(I)I" } : Jvm.MethodName)) ∈ lw_all := lw_g (lw_at lw_m9 207 rfl) rfl
theorem q2189 : (Jvm.Cond.code ({ cls := "DairyBookModel", name := "account", desc := "(I)I" } : Jvm.MethodName) prog_15_method_68_code (2 : Nat) (Option.some Jvm.ClassFile.FieldType.int)) ∈ lw_all := lw_g (lw_at lw_m9 208 rfl) rfl
theorem q2190 : (Jvm.Cond.methodLink "DairyBookModel" (219 : Nat) ({ cls := "DairyBookModel", name := "cowsThat", desc := "(I)I" } : Jvm.MethodName)) ∈ lw_all := lw_g (lw_at lw_m9 209 rfl) rfl
theorem q2191 : (Jvm.Cond.privateMethod ({ cls := "DairyBookModel", name := "cowsThat", desc := "(I)I" } : Jvm.MethodName)) ∈ lw_tbl := lw_at lw_m9 210 rfl
theorem q2192 : (Jvm.Cond.instanceMethod ({ cls := "DairyBookModel", name := "cowsThat", desc := "(I)I" } : Jvm.MethodName)) ∈ lw_all := lw_g (lw_at lw_m9 211 rfl) rfl
theorem q2193 : (Jvm.Cond.code ({ cls := "DairyBookModel", name := "cowsThat", desc := "(I)I" } : Jvm.MethodName) prog_15_method_67_code (4 : Nat) (Option.some Jvm.ClassFile.FieldType.int)) ∈ lw_all := lw_g (lw_at lw_m9 212 rfl) rfl
theorem q2194 : (Jvm.Cond.methodLink "DairyBookModel" (222 : Nat) ({ cls := "DairyBookModel", name := "sums", desc := "(I)I" } : Jvm.MethodName)) ∈ lw_all := lw_g (lw_at lw_m9 213 rfl) rfl
theorem q2195 : (Jvm.Cond.privateMethod ({ cls := "DairyBookModel", name := "sums", desc := "(I)I" } : Jvm.MethodName)) ∈ lw_tbl := lw_at lw_m9 214 rfl
theorem q2196 : (Jvm.Cond.instanceMethod ({ cls := "DairyBookModel", name := "sums", desc := "(I)I" } : Jvm.MethodName)) ∈ lw_all := lw_g (lw_at lw_m9 215 rfl) rfl
theorem q2197 : (Jvm.Cond.code ({ cls := "DairyBookModel", name := "sums", desc := "(I)I" } : Jvm.MethodName) prog_15_method_66_code (4 : Nat) (Option.some Jvm.ClassFile.FieldType.int)) ∈ lw_all := lw_g (lw_at lw_m9 216 rfl) rfl
theorem q2199 : (Jvm.Cond.instanceMethod ({ cls := "DairyBookModel", name := "bestCow", desc := "()I" } : Jvm.MethodName)) ∈ lw_all := lw_g (lw_at lw_m9 218 rfl) rfl
theorem q2200 : (Jvm.Cond.selects "DairyBookModel" ({ cls := "DairyBookModel", name := "bestCow", desc := "()I" } : Jvm.MethodName) ({ cls := "DairyBookModel", name := "bestCow", desc := "()I" } : Jvm.MethodName)) ∈ lw_all := lw_g (lw_at lw_m9 219 rfl) rfl
theorem q2201 : (Jvm.Cond.code ({ cls := "DairyBookModel", name := "bestCow", desc := "()I" } : Jvm.MethodName) prog_15_method_69_code (3 : Nat) (Option.some Jvm.ClassFile.FieldType.int)) ∈ lw_all := lw_g (lw_at lw_m9 220 rfl) rfl
theorem q2203 : (Jvm.Cond.instanceMethod ({ cls := "DairyBookModel", name := "share", desc := "()D" } : Jvm.MethodName)) ∈ lw_all := lw_g (lw_at lw_m9 222 rfl) rfl
theorem q2204 : (Jvm.Cond.selects "DairyBookModel" ({ cls := "DairyBookModel", name := "share", desc := "()D" } : Jvm.MethodName) ({ cls := "DairyBookModel", name := "share", desc := "()D" } : Jvm.MethodName)) ∈ lw_all := lw_g (lw_at lw_m9 223 rfl) rfl
theorem q2205 : (Jvm.Cond.code ({ cls := "DairyBookModel", name := "share", desc := "()D" } : Jvm.MethodName) prog_15_method_70_code (2 : Nat) (Option.some Jvm.ClassFile.FieldType.double)) ∈ lw_all := lw_g (lw_at lw_m9 224 rfl) rfl
theorem q2230 : (Jvm.Cond.castable "DairyBookModel" "java/lang/Object") ∈ lw_tbl := lw_at lw_m10 9 rfl
theorem in_X4 : ∀ w ∈ wsX40, w ∈ lw_all := lw_in wsX40 [1823, 1825, 1827, 1829, 1831, 1833, 1835, 1837, 1839, 1841, 1843, 1845, 1847, 1849, 1851, 1853] (by decide +kernel) (by decide +kernel)
